/-! MendReaderModel -/
set_option maxRecDepth 100000
def RX3 : String := "MendReaderModel"
def TX3 : u_T := fun k => match k with
  | 0 => ("MendReaderModel", "tokens", "I", false)
  | 1 => ("MendReaderModel", "fence", "[Z", true)
  | 2 => ("MendReaderModel", "prices", "[I", true)
  | 3 => ("MendReaderModel", "turnedPrice", "I", false)
  | 4 => ("MendReaderModel", "runPrice", "I", false)
  | 5 => ("MendReaderModel", "names", "I", false)
  | 6 => ("MendReaderModel", "start", "I", false)
  | 7 => ("MendReaderModel", "rules", "I", false)
  | 8 => ("MendReaderModel", "ruleName", "[I", true)
  | 9 => ("MendReaderModel", "ruleMany", "[I", true)
  | 10 => ("MendReaderModel", "symbols", "[I", true)
  | 11 => ("MendReaderModel", "forms", "[I", true)
  | 12 => ("MendReaderModel", "formRow", "[I", true)
  | 13 => ("MendReaderModel", "fences", "Z", false)
  | 14 => ("MendReaderModel", "size", "I", false)
  | 15 => ("MendReaderModel", "text", "[I", true)
  | 16 => ("MendReaderModel", "isFresh", "Z", false)
  | 17 => ("MendReaderModel", "which", "I", false)
  | 18 => ("MendReaderModel", "onlyFrom", "I", false)
  | 19 => ("MendReaderModel", "onlyTo", "I", false)
  | 20 => ("MendReaderModel", "isRead", "Z", false)
  | 21 => ("MendReaderModel", "readPrice", "I", false)
  | 22 => ("MendReaderModel", "slips", "I", false)
  | 23 => ("MendReaderModel", "slipRow", "[I", true)
  | 24 => ("MendReaderModel", "words", "I", false)
  | 25 => ("MendReaderModel", "word", "[I", true)
  | 26 => ("MendReaderModel", "nodes", "I", false)
  | 27 => ("MendReaderModel", "nodeRow", "[I", true)
  | 28 => ("MendReaderModel", "knots", "I", false)
  | 29 => ("MendReaderModel", "knotSort", "[I", true)
  | 30 => ("MendReaderModel", "knotPlace", "[I", true)
  | 31 => ("MendReaderModel", "knotForm", "[I", true)
  | 32 => ("MendReaderModel", "realAt", "[I", true)
  | 33 => ("MendReaderModel", "mode", "I", false)
  | 34 => ("MendReaderModel", "length", "I", false)
  | 35 => ("MendReaderModel", "outKind", "I", false)
  | 36 => ("MendReaderModel", "outAt", "I", false)
  | 37 => ("MendReaderModel", "outWhat", "I", false)
  | 38 => ("MendReaderModel", "skip", "[I", true)
  | 39 => ("MendReaderModel", "skipBy", "[I", true)
  | 40 => ("MendReaderModel", "reads", "[I", true)
  | 41 => ("MendReaderModel", "readFrom", "[I", true)
  | 42 => ("MendReaderModel", "readKind", "[I", true)
  | 43 => ("MendReaderModel", "readForm", "[I", true)
  | 44 => ("MendReaderModel", "costs", "[J", true)
  | 45 => ("MendReaderModel", "firsts", "[J", true)
  | 46 => ("MendReaderModel", "pile", "I", false)
  | 47 => ("MendReaderModel", "pileSymbol", "[I", true)
  | 48 => ("MendReaderModel", "pileFrom", "[I", true)
  | 49 => ("MendReaderModel", "pileTo", "[I", true)
  | 50 => ("MendReaderModel", "pileNode", "[I", true)
  | 51 => ("MendReaderModel", "shelfKind", "[I", true)
  | 52 => ("MendReaderModel", "shelfMany", "[I", true)
  | 53 => ("MendReaderModel", "shelfRow", "[I", true)
  | 54 => ("MendReaderModel", "reached", "[I", true)
  | _ => ("MendReaderModel", "next", "[I", true)
def tyX3 : Nat → FieldType := fun k => match k with
  | 0 => .int
  | 1 => .array .boolean
  | 2 => .array .int
  | 3 => .int
  | 4 => .int
  | 5 => .int
  | 6 => .int
  | 7 => .int
  | 8 => .array .int
  | 9 => .array .int
  | 10 => .array .int
  | 11 => .array .int
  | 12 => .array .int
  | 13 => .boolean
  | 14 => .int
  | 15 => .array .int
  | 16 => .boolean
  | 17 => .int
  | 18 => .int
  | 19 => .int
  | 20 => .boolean
  | 21 => .int
  | 22 => .int
  | 23 => .array .int
  | 24 => .int
  | 25 => .array .int
  | 26 => .int
  | 27 => .array .int
  | 28 => .int
  | 29 => .array .int
  | 30 => .array .int
  | 31 => .array .int
  | 32 => .array .int
  | 33 => .int
  | 34 => .int
  | 35 => .int
  | 36 => .int
  | 37 => .int
  | 38 => .array .int
  | 39 => .array .int
  | 40 => .array .int
  | 41 => .array .int
  | 42 => .array .int
  | 43 => .array .int
  | 44 => .array .long
  | 45 => .array .long
  | 46 => .int
  | 47 => .array .int
  | 48 => .array .int
  | 49 => .array .int
  | 50 => .array .int
  | 51 => .array .int
  | 52 => .array .int
  | 53 => .array .int
  | 54 => .array .int
  | _ => .array .int
abbrev wsX30 : List Cond := u_ws RX3 TX3 56
set_option maxRecDepth 100000 in
theorem nmX3 : ∀ a, a < 56 → ∀ b, b < 56 → a ≠ b → (TX3 a).2.1 ≠ (TX3 b).2.1 := by decide +kernel
set_option maxRecDepth 100000 in
theorem tyX3_ok : ∀ k, k < 56 → parseFieldDescriptor (TX3 k).2.2.1 = some (tyX3 k) := by decide +kernel
abbrev cX3_init : ByteArray := prog_19_method_1_code
def yX3_init : MethodName := ⟨RX3, "<init>", "()V"⟩
def dkwX3_init_12 : List UInt8 := [42, 16, 52, 188, 10, 181, 0, 116, 42, 16, 52, 188, 10, 181, 0, 119, 177]
abbrev dktX3_init_12 : List UInt8 := dkwX3_init_12 ++ []
def dkwX3_init_11 : List UInt8 := [16, 6, 188, 10, 181, 0, 107, 42, 16, 6, 188, 10, 181, 0, 110, 42, 17, 37, 128, 188, 10, 181, 0, 113]
abbrev dktX3_init_11 : List UInt8 := dkwX3_init_11 ++ dktX3_init_12
def dkwX3_init_10 : List UInt8 := [188, 10, 181, 0, 98, 42, 17, 2, 188, 188, 10, 181, 0, 101, 42, 17, 2, 188, 188, 10, 181, 0, 104, 42]
abbrev dktX3_init_10 : List UInt8 := dkwX3_init_10 ++ dktX3_init_11
def dkwX3_init_9 : List UInt8 := [181, 0, 87, 42, 18, 91, 188, 11, 181, 0, 92, 42, 17, 2, 188, 188, 10, 181, 0, 95, 42, 17, 2, 188]
abbrev dktX3_init_9 : List UInt8 := dkwX3_init_9 ++ dktX3_init_10
def dkwX3_init_8 : List UInt8 := [17, 126, 192, 188, 10, 181, 0, 81, 42, 17, 126, 192, 188, 10, 181, 0, 84, 42, 17, 84, 128, 188, 11]
abbrev dktX3_init_8 : List UInt8 := dkwX3_init_8 ++ dktX3_init_9
def dkwX3_init_7 : List UInt8 := [188, 10, 181, 0, 72, 42, 17, 126, 192, 188, 10, 181, 0, 75, 42, 17, 126, 192, 188, 10, 181, 0, 78, 42]
abbrev dktX3_init_7 : List UInt8 := dkwX3_init_7 ++ dktX3_init_8
def dkwX3_init_6 : List UInt8 := [181, 0, 63, 42, 16, 12, 188, 10, 181, 0, 66, 42, 17, 0, 144, 188, 10, 181, 0, 69, 42, 17, 0, 144]
abbrev dktX3_init_6 : List UInt8 := dkwX3_init_6 ++ dktX3_init_7
def dkwX3_init_5 : List UInt8 := [181, 0, 54, 42, 16, 52, 188, 10, 181, 0, 57, 42, 16, 52, 188, 10, 181, 0, 60, 42, 16, 52, 188, 10]
abbrev dktX3_init_5 : List UInt8 := dkwX3_init_5 ++ dktX3_init_6
def dkwX3_init_4 : List UInt8 := [17, 6, 64, 188, 10, 181, 0, 48, 42, 17, 1, 64, 188, 10, 181, 0, 51, 42, 17, 2, 8, 188, 10]
abbrev dktX3_init_4 : List UInt8 := dkwX3_init_4 ++ dktX3_init_5
def dkwX3_init_3 : List UInt8 := [181, 0, 36, 42, 16, 11, 188, 10, 181, 0, 39, 42, 16, 252, 181, 0, 42, 42, 16, 252, 181, 0, 45, 42]
abbrev dktX3_init_3 : List UInt8 := dkwX3_init_3 ++ dktX3_init_4
def dkwX3_init_2 : List UInt8 := [181, 0, 27, 42, 16, 72, 188, 10, 181, 0, 30, 42, 5, 188, 10, 181, 0, 33, 42, 16, 24, 188, 10]
abbrev dktX3_init_2 : List UInt8 := dkwX3_init_2 ++ dktX3_init_3
def dkwX3_init_1 : List UInt8 := [181, 0, 17, 42, 16, 15, 181, 0, 21, 42, 16, 24, 188, 10, 181, 0, 24, 42, 16, 24, 188, 10]
abbrev dktX3_init_1 : List UInt8 := dkwX3_init_1 ++ dktX3_init_2
def dkwX3_init_0 : List UInt8 := [42, 183, 0, 1, 42, 16, 12, 188, 4, 181, 0, 7, 42, 16, 36, 188, 10, 181, 0, 13, 42, 16, 10]
abbrev dktX3_init_0 : List UInt8 := dkwX3_init_0 ++ dktX3_init_1
theorem dksX3_init_0 : cX3_init.data.toList.drop 0 = dktX3_init_0 := by decide +kernel
theorem dksX3_init_1 : cX3_init.data.toList.drop 23 = dktX3_init_1 := dk_seg dksX3_init_0 23 rfl rfl
theorem dksX3_init_2 : cX3_init.data.toList.drop 45 = dktX3_init_2 := dk_seg dksX3_init_1 22 rfl rfl
theorem dksX3_init_3 : cX3_init.data.toList.drop 68 = dktX3_init_3 := dk_seg dksX3_init_2 23 rfl rfl
theorem dksX3_init_4 : cX3_init.data.toList.drop 92 = dktX3_init_4 := dk_seg dksX3_init_3 24 rfl rfl
theorem dksX3_init_5 : cX3_init.data.toList.drop 115 = dktX3_init_5 := dk_seg dksX3_init_4 23 rfl rfl
theorem dksX3_init_6 : cX3_init.data.toList.drop 139 = dktX3_init_6 := dk_seg dksX3_init_5 24 rfl rfl
theorem dksX3_init_7 : cX3_init.data.toList.drop 163 = dktX3_init_7 := dk_seg dksX3_init_6 24 rfl rfl
theorem dksX3_init_8 : cX3_init.data.toList.drop 187 = dktX3_init_8 := dk_seg dksX3_init_7 24 rfl rfl
theorem dksX3_init_9 : cX3_init.data.toList.drop 210 = dktX3_init_9 := dk_seg dksX3_init_8 23 rfl rfl
theorem dksX3_init_10 : cX3_init.data.toList.drop 234 = dktX3_init_10 := dk_seg dksX3_init_9 24 rfl rfl
theorem dksX3_init_11 : cX3_init.data.toList.drop 258 = dktX3_init_11 := dk_seg dksX3_init_10 24 rfl rfl
theorem dksX3_init_12 : cX3_init.data.toList.drop 282 = dktX3_init_12 := dk_seg dksX3_init_11 24 rfl rfl
theorem dX3_init_0 : decode cX3_init 0 = .ok (.aload_n 0, 1) := dk_42 (dk_at dksX3_init_0 0 rfl rfl)
theorem dX3_init_1 : decode cX3_init 1 = .ok (.invokespecial 1, 3) := dk_183 0 1 (dk_at dksX3_init_0 1 rfl rfl)
theorem dX3_init_4 : decode cX3_init 4 = .ok (.aload_n 0, 1) := dk_42 (dk_at dksX3_init_0 4 rfl rfl)
theorem dX3_init_5 : decode cX3_init 5 = .ok (.bipush 12, 2) := dk_16 12 (dk_at dksX3_init_0 5 rfl rfl)
theorem dX3_init_7 : decode cX3_init 7 = .ok (.newarray .boolean, 2) := dk_188_4 (dk_at dksX3_init_0 7 rfl rfl)
theorem dX3_init_9 : decode cX3_init 9 = .ok (.putfield 7, 3) := dk_181 0 7 (dk_at dksX3_init_0 9 rfl rfl)
theorem dX3_init_12 : decode cX3_init 12 = .ok (.aload_n 0, 1) := dk_42 (dk_at dksX3_init_0 12 rfl rfl)
theorem dX3_init_13 : decode cX3_init 13 = .ok (.bipush 36, 2) := dk_16 36 (dk_at dksX3_init_0 13 rfl rfl)
theorem dX3_init_15 : decode cX3_init 15 = .ok (.newarray .int, 2) := dk_188_10 (dk_at dksX3_init_0 15 rfl rfl)
theorem dX3_init_17 : decode cX3_init 17 = .ok (.putfield 13, 3) := dk_181 0 13 (dk_at dksX3_init_0 17 rfl rfl)
theorem dX3_init_20 : decode cX3_init 20 = .ok (.aload_n 0, 1) := dk_42 (dk_at dksX3_init_0 20 rfl rfl)
theorem dX3_init_21 : decode cX3_init 21 = .ok (.bipush 10, 2) := dk_16 10 (dk_at dksX3_init_0 21 rfl rfl)
theorem dX3_init_23 : decode cX3_init 23 = .ok (.putfield 17, 3) := dk_181 0 17 (dk_at dksX3_init_1 0 rfl rfl)
theorem dX3_init_26 : decode cX3_init 26 = .ok (.aload_n 0, 1) := dk_42 (dk_at dksX3_init_1 3 rfl rfl)
theorem dX3_init_27 : decode cX3_init 27 = .ok (.bipush 15, 2) := dk_16 15 (dk_at dksX3_init_1 4 rfl rfl)
theorem dX3_init_29 : decode cX3_init 29 = .ok (.putfield 21, 3) := dk_181 0 21 (dk_at dksX3_init_1 6 rfl rfl)
theorem dX3_init_32 : decode cX3_init 32 = .ok (.aload_n 0, 1) := dk_42 (dk_at dksX3_init_1 9 rfl rfl)
theorem dX3_init_33 : decode cX3_init 33 = .ok (.bipush 24, 2) := dk_16 24 (dk_at dksX3_init_1 10 rfl rfl)
theorem dX3_init_35 : decode cX3_init 35 = .ok (.newarray .int, 2) := dk_188_10 (dk_at dksX3_init_1 12 rfl rfl)
theorem dX3_init_37 : decode cX3_init 37 = .ok (.putfield 24, 3) := dk_181 0 24 (dk_at dksX3_init_1 14 rfl rfl)
theorem dX3_init_40 : decode cX3_init 40 = .ok (.aload_n 0, 1) := dk_42 (dk_at dksX3_init_1 17 rfl rfl)
theorem dX3_init_41 : decode cX3_init 41 = .ok (.bipush 24, 2) := dk_16 24 (dk_at dksX3_init_1 18 rfl rfl)
theorem dX3_init_43 : decode cX3_init 43 = .ok (.newarray .int, 2) := dk_188_10 (dk_at dksX3_init_1 20 rfl rfl)
theorem dX3_init_45 : decode cX3_init 45 = .ok (.putfield 27, 3) := dk_181 0 27 (dk_at dksX3_init_2 0 rfl rfl)
theorem dX3_init_48 : decode cX3_init 48 = .ok (.aload_n 0, 1) := dk_42 (dk_at dksX3_init_2 3 rfl rfl)
theorem dX3_init_49 : decode cX3_init 49 = .ok (.bipush 72, 2) := dk_16 72 (dk_at dksX3_init_2 4 rfl rfl)
theorem dX3_init_51 : decode cX3_init 51 = .ok (.newarray .int, 2) := dk_188_10 (dk_at dksX3_init_2 6 rfl rfl)
theorem dX3_init_53 : decode cX3_init 53 = .ok (.putfield 30, 3) := dk_181 0 30 (dk_at dksX3_init_2 8 rfl rfl)
theorem dX3_init_56 : decode cX3_init 56 = .ok (.aload_n 0, 1) := dk_42 (dk_at dksX3_init_2 11 rfl rfl)
theorem dX3_init_57 : decode cX3_init 57 = .ok (.iconst 2, 1) := dk_5 (dk_at dksX3_init_2 12 rfl rfl)
theorem dX3_init_58 : decode cX3_init 58 = .ok (.newarray .int, 2) := dk_188_10 (dk_at dksX3_init_2 13 rfl rfl)
theorem dX3_init_60 : decode cX3_init 60 = .ok (.putfield 33, 3) := dk_181 0 33 (dk_at dksX3_init_2 15 rfl rfl)
theorem dX3_init_63 : decode cX3_init 63 = .ok (.aload_n 0, 1) := dk_42 (dk_at dksX3_init_2 18 rfl rfl)
theorem dX3_init_64 : decode cX3_init 64 = .ok (.bipush 24, 2) := dk_16 24 (dk_at dksX3_init_2 19 rfl rfl)
theorem dX3_init_66 : decode cX3_init 66 = .ok (.newarray .int, 2) := dk_188_10 (dk_at dksX3_init_2 21 rfl rfl)
theorem dX3_init_68 : decode cX3_init 68 = .ok (.putfield 36, 3) := dk_181 0 36 (dk_at dksX3_init_3 0 rfl rfl)
theorem dX3_init_71 : decode cX3_init 71 = .ok (.aload_n 0, 1) := dk_42 (dk_at dksX3_init_3 3 rfl rfl)
theorem dX3_init_72 : decode cX3_init 72 = .ok (.bipush 11, 2) := dk_16 11 (dk_at dksX3_init_3 4 rfl rfl)
theorem dX3_init_74 : decode cX3_init 74 = .ok (.newarray .int, 2) := dk_188_10 (dk_at dksX3_init_3 6 rfl rfl)
theorem dX3_init_76 : decode cX3_init 76 = .ok (.putfield 39, 3) := dk_181 0 39 (dk_at dksX3_init_3 8 rfl rfl)
theorem dX3_init_79 : decode cX3_init 79 = .ok (.aload_n 0, 1) := dk_42 (dk_at dksX3_init_3 11 rfl rfl)
theorem dX3_init_80 : decode cX3_init 80 = .ok (.bipush (-4), 2) := dk_16 252 (dk_at dksX3_init_3 12 rfl rfl)
theorem dX3_init_82 : decode cX3_init 82 = .ok (.putfield 42, 3) := dk_181 0 42 (dk_at dksX3_init_3 14 rfl rfl)
theorem dX3_init_85 : decode cX3_init 85 = .ok (.aload_n 0, 1) := dk_42 (dk_at dksX3_init_3 17 rfl rfl)
theorem dX3_init_86 : decode cX3_init 86 = .ok (.bipush (-4), 2) := dk_16 252 (dk_at dksX3_init_3 18 rfl rfl)
theorem dX3_init_88 : decode cX3_init 88 = .ok (.putfield 45, 3) := dk_181 0 45 (dk_at dksX3_init_3 20 rfl rfl)
theorem dX3_init_91 : decode cX3_init 91 = .ok (.aload_n 0, 1) := dk_42 (dk_at dksX3_init_3 23 rfl rfl)
theorem dX3_init_92 : decode cX3_init 92 = .ok (.sipush 1600, 3) := dk_17 6 64 (dk_at dksX3_init_4 0 rfl rfl)
theorem dX3_init_95 : decode cX3_init 95 = .ok (.newarray .int, 2) := dk_188_10 (dk_at dksX3_init_4 3 rfl rfl)
theorem dX3_init_97 : decode cX3_init 97 = .ok (.putfield 48, 3) := dk_181 0 48 (dk_at dksX3_init_4 5 rfl rfl)
theorem dX3_init_100 : decode cX3_init 100 = .ok (.aload_n 0, 1) := dk_42 (dk_at dksX3_init_4 8 rfl rfl)
theorem dX3_init_101 : decode cX3_init 101 = .ok (.sipush 320, 3) := dk_17 1 64 (dk_at dksX3_init_4 9 rfl rfl)
theorem dX3_init_104 : decode cX3_init 104 = .ok (.newarray .int, 2) := dk_188_10 (dk_at dksX3_init_4 12 rfl rfl)
theorem dX3_init_106 : decode cX3_init 106 = .ok (.putfield 51, 3) := dk_181 0 51 (dk_at dksX3_init_4 14 rfl rfl)
theorem dX3_init_109 : decode cX3_init 109 = .ok (.aload_n 0, 1) := dk_42 (dk_at dksX3_init_4 17 rfl rfl)
theorem dX3_init_110 : decode cX3_init 110 = .ok (.sipush 520, 3) := dk_17 2 8 (dk_at dksX3_init_4 18 rfl rfl)
theorem dX3_init_113 : decode cX3_init 113 = .ok (.newarray .int, 2) := dk_188_10 (dk_at dksX3_init_4 21 rfl rfl)
theorem dX3_init_115 : decode cX3_init 115 = .ok (.putfield 54, 3) := dk_181 0 54 (dk_at dksX3_init_5 0 rfl rfl)
theorem dX3_init_118 : decode cX3_init 118 = .ok (.aload_n 0, 1) := dk_42 (dk_at dksX3_init_5 3 rfl rfl)
theorem dX3_init_119 : decode cX3_init 119 = .ok (.bipush 52, 2) := dk_16 52 (dk_at dksX3_init_5 4 rfl rfl)
theorem dX3_init_121 : decode cX3_init 121 = .ok (.newarray .int, 2) := dk_188_10 (dk_at dksX3_init_5 6 rfl rfl)
theorem dX3_init_123 : decode cX3_init 123 = .ok (.putfield 57, 3) := dk_181 0 57 (dk_at dksX3_init_5 8 rfl rfl)
theorem dX3_init_126 : decode cX3_init 126 = .ok (.aload_n 0, 1) := dk_42 (dk_at dksX3_init_5 11 rfl rfl)
theorem dX3_init_127 : decode cX3_init 127 = .ok (.bipush 52, 2) := dk_16 52 (dk_at dksX3_init_5 12 rfl rfl)
theorem dX3_init_129 : decode cX3_init 129 = .ok (.newarray .int, 2) := dk_188_10 (dk_at dksX3_init_5 14 rfl rfl)
theorem dX3_init_131 : decode cX3_init 131 = .ok (.putfield 60, 3) := dk_181 0 60 (dk_at dksX3_init_5 16 rfl rfl)
theorem dX3_init_134 : decode cX3_init 134 = .ok (.aload_n 0, 1) := dk_42 (dk_at dksX3_init_5 19 rfl rfl)
theorem dX3_init_135 : decode cX3_init 135 = .ok (.bipush 52, 2) := dk_16 52 (dk_at dksX3_init_5 20 rfl rfl)
theorem dX3_init_137 : decode cX3_init 137 = .ok (.newarray .int, 2) := dk_188_10 (dk_at dksX3_init_5 22 rfl rfl)
theorem dX3_init_139 : decode cX3_init 139 = .ok (.putfield 63, 3) := dk_181 0 63 (dk_at dksX3_init_6 0 rfl rfl)
theorem dX3_init_142 : decode cX3_init 142 = .ok (.aload_n 0, 1) := dk_42 (dk_at dksX3_init_6 3 rfl rfl)
theorem dX3_init_143 : decode cX3_init 143 = .ok (.bipush 12, 2) := dk_16 12 (dk_at dksX3_init_6 4 rfl rfl)
theorem dX3_init_145 : decode cX3_init 145 = .ok (.newarray .int, 2) := dk_188_10 (dk_at dksX3_init_6 6 rfl rfl)
theorem dX3_init_147 : decode cX3_init 147 = .ok (.putfield 66, 3) := dk_181 0 66 (dk_at dksX3_init_6 8 rfl rfl)
theorem dX3_init_150 : decode cX3_init 150 = .ok (.aload_n 0, 1) := dk_42 (dk_at dksX3_init_6 11 rfl rfl)
theorem dX3_init_151 : decode cX3_init 151 = .ok (.sipush 144, 3) := dk_17 0 144 (dk_at dksX3_init_6 12 rfl rfl)
theorem dX3_init_154 : decode cX3_init 154 = .ok (.newarray .int, 2) := dk_188_10 (dk_at dksX3_init_6 15 rfl rfl)
theorem dX3_init_156 : decode cX3_init 156 = .ok (.putfield 69, 3) := dk_181 0 69 (dk_at dksX3_init_6 17 rfl rfl)
theorem dX3_init_159 : decode cX3_init 159 = .ok (.aload_n 0, 1) := dk_42 (dk_at dksX3_init_6 20 rfl rfl)
theorem dX3_init_160 : decode cX3_init 160 = .ok (.sipush 144, 3) := dk_17 0 144 (dk_at dksX3_init_6 21 rfl rfl)
theorem dX3_init_163 : decode cX3_init 163 = .ok (.newarray .int, 2) := dk_188_10 (dk_at dksX3_init_7 0 rfl rfl)
theorem dX3_init_165 : decode cX3_init 165 = .ok (.putfield 72, 3) := dk_181 0 72 (dk_at dksX3_init_7 2 rfl rfl)
theorem dX3_init_168 : decode cX3_init 168 = .ok (.aload_n 0, 1) := dk_42 (dk_at dksX3_init_7 5 rfl rfl)
theorem dX3_init_169 : decode cX3_init 169 = .ok (.sipush 32448, 3) := dk_17 126 192 (dk_at dksX3_init_7 6 rfl rfl)
theorem dX3_init_172 : decode cX3_init 172 = .ok (.newarray .int, 2) := dk_188_10 (dk_at dksX3_init_7 9 rfl rfl)
theorem dX3_init_174 : decode cX3_init 174 = .ok (.putfield 75, 3) := dk_181 0 75 (dk_at dksX3_init_7 11 rfl rfl)
theorem dX3_init_177 : decode cX3_init 177 = .ok (.aload_n 0, 1) := dk_42 (dk_at dksX3_init_7 14 rfl rfl)
theorem dX3_init_178 : decode cX3_init 178 = .ok (.sipush 32448, 3) := dk_17 126 192 (dk_at dksX3_init_7 15 rfl rfl)
theorem dX3_init_181 : decode cX3_init 181 = .ok (.newarray .int, 2) := dk_188_10 (dk_at dksX3_init_7 18 rfl rfl)
theorem dX3_init_183 : decode cX3_init 183 = .ok (.putfield 78, 3) := dk_181 0 78 (dk_at dksX3_init_7 20 rfl rfl)
theorem dX3_init_186 : decode cX3_init 186 = .ok (.aload_n 0, 1) := dk_42 (dk_at dksX3_init_7 23 rfl rfl)
theorem dX3_init_187 : decode cX3_init 187 = .ok (.sipush 32448, 3) := dk_17 126 192 (dk_at dksX3_init_8 0 rfl rfl)
theorem dX3_init_190 : decode cX3_init 190 = .ok (.newarray .int, 2) := dk_188_10 (dk_at dksX3_init_8 3 rfl rfl)
theorem dX3_init_192 : decode cX3_init 192 = .ok (.putfield 81, 3) := dk_181 0 81 (dk_at dksX3_init_8 5 rfl rfl)
theorem dX3_init_195 : decode cX3_init 195 = .ok (.aload_n 0, 1) := dk_42 (dk_at dksX3_init_8 8 rfl rfl)
theorem dX3_init_196 : decode cX3_init 196 = .ok (.sipush 32448, 3) := dk_17 126 192 (dk_at dksX3_init_8 9 rfl rfl)
theorem dX3_init_199 : decode cX3_init 199 = .ok (.newarray .int, 2) := dk_188_10 (dk_at dksX3_init_8 12 rfl rfl)
theorem dX3_init_201 : decode cX3_init 201 = .ok (.putfield 84, 3) := dk_181 0 84 (dk_at dksX3_init_8 14 rfl rfl)
theorem dX3_init_204 : decode cX3_init 204 = .ok (.aload_n 0, 1) := dk_42 (dk_at dksX3_init_8 17 rfl rfl)
theorem dX3_init_205 : decode cX3_init 205 = .ok (.sipush 21632, 3) := dk_17 84 128 (dk_at dksX3_init_8 18 rfl rfl)
theorem dX3_init_208 : decode cX3_init 208 = .ok (.newarray .long, 2) := dk_188_11 (dk_at dksX3_init_8 21 rfl rfl)
theorem dX3_init_210 : decode cX3_init 210 = .ok (.putfield 87, 3) := dk_181 0 87 (dk_at dksX3_init_9 0 rfl rfl)
theorem dX3_init_213 : decode cX3_init 213 = .ok (.aload_n 0, 1) := dk_42 (dk_at dksX3_init_9 3 rfl rfl)
theorem dX3_init_214 : decode cX3_init 214 = .ok (.ldc 91, 2) := dk_18 91 (dk_at dksX3_init_9 4 rfl rfl)
theorem dX3_init_216 : decode cX3_init 216 = .ok (.newarray .long, 2) := dk_188_11 (dk_at dksX3_init_9 6 rfl rfl)
theorem dX3_init_218 : decode cX3_init 218 = .ok (.putfield 92, 3) := dk_181 0 92 (dk_at dksX3_init_9 8 rfl rfl)
theorem dX3_init_221 : decode cX3_init 221 = .ok (.aload_n 0, 1) := dk_42 (dk_at dksX3_init_9 11 rfl rfl)
theorem dX3_init_222 : decode cX3_init 222 = .ok (.sipush 700, 3) := dk_17 2 188 (dk_at dksX3_init_9 12 rfl rfl)
theorem dX3_init_225 : decode cX3_init 225 = .ok (.newarray .int, 2) := dk_188_10 (dk_at dksX3_init_9 15 rfl rfl)
theorem dX3_init_227 : decode cX3_init 227 = .ok (.putfield 95, 3) := dk_181 0 95 (dk_at dksX3_init_9 17 rfl rfl)
theorem dX3_init_230 : decode cX3_init 230 = .ok (.aload_n 0, 1) := dk_42 (dk_at dksX3_init_9 20 rfl rfl)
theorem dX3_init_231 : decode cX3_init 231 = .ok (.sipush 700, 3) := dk_17 2 188 (dk_at dksX3_init_9 21 rfl rfl)
theorem dX3_init_234 : decode cX3_init 234 = .ok (.newarray .int, 2) := dk_188_10 (dk_at dksX3_init_10 0 rfl rfl)
theorem dX3_init_236 : decode cX3_init 236 = .ok (.putfield 98, 3) := dk_181 0 98 (dk_at dksX3_init_10 2 rfl rfl)
theorem dX3_init_239 : decode cX3_init 239 = .ok (.aload_n 0, 1) := dk_42 (dk_at dksX3_init_10 5 rfl rfl)
theorem dX3_init_240 : decode cX3_init 240 = .ok (.sipush 700, 3) := dk_17 2 188 (dk_at dksX3_init_10 6 rfl rfl)
theorem dX3_init_243 : decode cX3_init 243 = .ok (.newarray .int, 2) := dk_188_10 (dk_at dksX3_init_10 9 rfl rfl)
theorem dX3_init_245 : decode cX3_init 245 = .ok (.putfield 101, 3) := dk_181 0 101 (dk_at dksX3_init_10 11 rfl rfl)
theorem dX3_init_248 : decode cX3_init 248 = .ok (.aload_n 0, 1) := dk_42 (dk_at dksX3_init_10 14 rfl rfl)
theorem dX3_init_249 : decode cX3_init 249 = .ok (.sipush 700, 3) := dk_17 2 188 (dk_at dksX3_init_10 15 rfl rfl)
theorem dX3_init_252 : decode cX3_init 252 = .ok (.newarray .int, 2) := dk_188_10 (dk_at dksX3_init_10 18 rfl rfl)
theorem dX3_init_254 : decode cX3_init 254 = .ok (.putfield 104, 3) := dk_181 0 104 (dk_at dksX3_init_10 20 rfl rfl)
theorem dX3_init_257 : decode cX3_init 257 = .ok (.aload_n 0, 1) := dk_42 (dk_at dksX3_init_10 23 rfl rfl)
theorem dX3_init_258 : decode cX3_init 258 = .ok (.bipush 6, 2) := dk_16 6 (dk_at dksX3_init_11 0 rfl rfl)
theorem dX3_init_260 : decode cX3_init 260 = .ok (.newarray .int, 2) := dk_188_10 (dk_at dksX3_init_11 2 rfl rfl)
theorem dX3_init_262 : decode cX3_init 262 = .ok (.putfield 107, 3) := dk_181 0 107 (dk_at dksX3_init_11 4 rfl rfl)
theorem dX3_init_265 : decode cX3_init 265 = .ok (.aload_n 0, 1) := dk_42 (dk_at dksX3_init_11 7 rfl rfl)
theorem dX3_init_266 : decode cX3_init 266 = .ok (.bipush 6, 2) := dk_16 6 (dk_at dksX3_init_11 8 rfl rfl)
theorem dX3_init_268 : decode cX3_init 268 = .ok (.newarray .int, 2) := dk_188_10 (dk_at dksX3_init_11 10 rfl rfl)
theorem dX3_init_270 : decode cX3_init 270 = .ok (.putfield 110, 3) := dk_181 0 110 (dk_at dksX3_init_11 12 rfl rfl)
theorem dX3_init_273 : decode cX3_init 273 = .ok (.aload_n 0, 1) := dk_42 (dk_at dksX3_init_11 15 rfl rfl)
theorem dX3_init_274 : decode cX3_init 274 = .ok (.sipush 9600, 3) := dk_17 37 128 (dk_at dksX3_init_11 16 rfl rfl)
theorem dX3_init_277 : decode cX3_init 277 = .ok (.newarray .int, 2) := dk_188_10 (dk_at dksX3_init_11 19 rfl rfl)
theorem dX3_init_279 : decode cX3_init 279 = .ok (.putfield 113, 3) := dk_181 0 113 (dk_at dksX3_init_11 21 rfl rfl)
theorem dX3_init_282 : decode cX3_init 282 = .ok (.aload_n 0, 1) := dk_42 (dk_at dksX3_init_12 0 rfl rfl)
theorem dX3_init_283 : decode cX3_init 283 = .ok (.bipush 52, 2) := dk_16 52 (dk_at dksX3_init_12 1 rfl rfl)
theorem dX3_init_285 : decode cX3_init 285 = .ok (.newarray .int, 2) := dk_188_10 (dk_at dksX3_init_12 3 rfl rfl)
theorem dX3_init_287 : decode cX3_init 287 = .ok (.putfield 116, 3) := dk_181 0 116 (dk_at dksX3_init_12 5 rfl rfl)
theorem dX3_init_290 : decode cX3_init 290 = .ok (.aload_n 0, 1) := dk_42 (dk_at dksX3_init_12 8 rfl rfl)
theorem dX3_init_291 : decode cX3_init 291 = .ok (.bipush 52, 2) := dk_16 52 (dk_at dksX3_init_12 9 rfl rfl)
theorem dX3_init_293 : decode cX3_init 293 = .ok (.newarray .int, 2) := dk_188_10 (dk_at dksX3_init_12 11 rfl rfl)
theorem dX3_init_295 : decode cX3_init 295 = .ok (.putfield 119, 3) := dk_181 0 119 (dk_at dksX3_init_12 13 rfl rfl)
theorem dX3_init_298 : decode cX3_init 298 = .ok (.return_, 1) := dk_177 (dk_at dksX3_init_12 16 rfl rfl)
abbrev cX3_token : ByteArray := prog_19_method_4_code
def yX3_token : MethodName := ⟨RX3, "token", "(Z)I"⟩
def dkwX3_token_3 : List UInt8 := [42, 3, 181, 0, 125, 42, 180, 0, 122, 4, 100, 172]
abbrev dktX3_token_3 : List UInt8 := dkwX3_token_3 ++ []
def dkwX3_token_2 : List UInt8 := [42, 180, 0, 13, 16, 24, 42, 180, 0, 122, 96, 16, 12, 79, 42, 89, 180, 0, 122, 4, 96, 181, 0, 122]
abbrev dktX3_token_2 : List UInt8 := dkwX3_token_2 ++ dktX3_token_3
def dkwX3_token_1 : List UInt8 := [180, 0, 13, 42, 180, 0, 122, 16, 10, 79, 42, 180, 0, 13, 16, 12, 42, 180, 0, 122, 96, 16, 10, 79]
abbrev dktX3_token_1 : List UInt8 := dkwX3_token_1 ++ dktX3_token_2
def dkwX3_token_0 : List UInt8 := [42, 180, 0, 122, 16, 12, 160, 0, 6, 16, 254, 172, 42, 180, 0, 7, 42, 180, 0, 122, 27, 84, 42]
abbrev dktX3_token_0 : List UInt8 := dkwX3_token_0 ++ dktX3_token_1
theorem dksX3_token_0 : cX3_token.data.toList.drop 0 = dktX3_token_0 := by decide +kernel
theorem dksX3_token_1 : cX3_token.data.toList.drop 23 = dktX3_token_1 := dk_seg dksX3_token_0 23 rfl rfl
theorem dksX3_token_2 : cX3_token.data.toList.drop 47 = dktX3_token_2 := dk_seg dksX3_token_1 24 rfl rfl
theorem dksX3_token_3 : cX3_token.data.toList.drop 71 = dktX3_token_3 := dk_seg dksX3_token_2 24 rfl rfl
theorem dX3_token_0 : decode cX3_token 0 = .ok (.aload_n 0, 1) := dk_42 (dk_at dksX3_token_0 0 rfl rfl)
theorem dX3_token_1 : decode cX3_token 1 = .ok (.getfield 122, 3) := dk_180 0 122 (dk_at dksX3_token_0 1 rfl rfl)
theorem dX3_token_4 : decode cX3_token 4 = .ok (.bipush 12, 2) := dk_16 12 (dk_at dksX3_token_0 4 rfl rfl)
theorem dX3_token_6 : decode cX3_token 6 = .ok (.if_icmp .ne 6, 3) := dk_160 0 6 (dk_at dksX3_token_0 6 rfl rfl)
theorem dX3_token_9 : decode cX3_token 9 = .ok (.bipush (-2), 2) := dk_16 254 (dk_at dksX3_token_0 9 rfl rfl)
theorem dX3_token_11 : decode cX3_token 11 = .ok (.ireturn, 1) := dk_172 (dk_at dksX3_token_0 11 rfl rfl)
theorem dX3_token_12 : decode cX3_token 12 = .ok (.aload_n 0, 1) := dk_42 (dk_at dksX3_token_0 12 rfl rfl)
theorem dX3_token_13 : decode cX3_token 13 = .ok (.getfield 7, 3) := dk_180 0 7 (dk_at dksX3_token_0 13 rfl rfl)
theorem dX3_token_16 : decode cX3_token 16 = .ok (.aload_n 0, 1) := dk_42 (dk_at dksX3_token_0 16 rfl rfl)
theorem dX3_token_17 : decode cX3_token 17 = .ok (.getfield 122, 3) := dk_180 0 122 (dk_at dksX3_token_0 17 rfl rfl)
theorem dX3_token_20 : decode cX3_token 20 = .ok (.iload_n 1, 1) := dk_27 (dk_at dksX3_token_0 20 rfl rfl)
theorem dX3_token_21 : decode cX3_token 21 = .ok (.bastore, 1) := dk_84 (dk_at dksX3_token_0 21 rfl rfl)
theorem dX3_token_22 : decode cX3_token 22 = .ok (.aload_n 0, 1) := dk_42 (dk_at dksX3_token_0 22 rfl rfl)
theorem dX3_token_23 : decode cX3_token 23 = .ok (.getfield 13, 3) := dk_180 0 13 (dk_at dksX3_token_1 0 rfl rfl)
theorem dX3_token_26 : decode cX3_token 26 = .ok (.aload_n 0, 1) := dk_42 (dk_at dksX3_token_1 3 rfl rfl)
theorem dX3_token_27 : decode cX3_token 27 = .ok (.getfield 122, 3) := dk_180 0 122 (dk_at dksX3_token_1 4 rfl rfl)
theorem dX3_token_30 : decode cX3_token 30 = .ok (.bipush 10, 2) := dk_16 10 (dk_at dksX3_token_1 7 rfl rfl)
theorem dX3_token_32 : decode cX3_token 32 = .ok (.iastore, 1) := dk_79 (dk_at dksX3_token_1 9 rfl rfl)
theorem dX3_token_33 : decode cX3_token 33 = .ok (.aload_n 0, 1) := dk_42 (dk_at dksX3_token_1 10 rfl rfl)
theorem dX3_token_34 : decode cX3_token 34 = .ok (.getfield 13, 3) := dk_180 0 13 (dk_at dksX3_token_1 11 rfl rfl)
theorem dX3_token_37 : decode cX3_token 37 = .ok (.bipush 12, 2) := dk_16 12 (dk_at dksX3_token_1 14 rfl rfl)
theorem dX3_token_39 : decode cX3_token 39 = .ok (.aload_n 0, 1) := dk_42 (dk_at dksX3_token_1 16 rfl rfl)
theorem dX3_token_40 : decode cX3_token 40 = .ok (.getfield 122, 3) := dk_180 0 122 (dk_at dksX3_token_1 17 rfl rfl)
theorem dX3_token_43 : decode cX3_token 43 = .ok (.iadd, 1) := dk_96 (dk_at dksX3_token_1 20 rfl rfl)
theorem dX3_token_44 : decode cX3_token 44 = .ok (.bipush 10, 2) := dk_16 10 (dk_at dksX3_token_1 21 rfl rfl)
theorem dX3_token_46 : decode cX3_token 46 = .ok (.iastore, 1) := dk_79 (dk_at dksX3_token_1 23 rfl rfl)
theorem dX3_token_47 : decode cX3_token 47 = .ok (.aload_n 0, 1) := dk_42 (dk_at dksX3_token_2 0 rfl rfl)
theorem dX3_token_48 : decode cX3_token 48 = .ok (.getfield 13, 3) := dk_180 0 13 (dk_at dksX3_token_2 1 rfl rfl)
theorem dX3_token_51 : decode cX3_token 51 = .ok (.bipush 24, 2) := dk_16 24 (dk_at dksX3_token_2 4 rfl rfl)
theorem dX3_token_53 : decode cX3_token 53 = .ok (.aload_n 0, 1) := dk_42 (dk_at dksX3_token_2 6 rfl rfl)
theorem dX3_token_54 : decode cX3_token 54 = .ok (.getfield 122, 3) := dk_180 0 122 (dk_at dksX3_token_2 7 rfl rfl)
theorem dX3_token_57 : decode cX3_token 57 = .ok (.iadd, 1) := dk_96 (dk_at dksX3_token_2 10 rfl rfl)
theorem dX3_token_58 : decode cX3_token 58 = .ok (.bipush 12, 2) := dk_16 12 (dk_at dksX3_token_2 11 rfl rfl)
theorem dX3_token_60 : decode cX3_token 60 = .ok (.iastore, 1) := dk_79 (dk_at dksX3_token_2 13 rfl rfl)
theorem dX3_token_61 : decode cX3_token 61 = .ok (.aload_n 0, 1) := dk_42 (dk_at dksX3_token_2 14 rfl rfl)
theorem dX3_token_62 : decode cX3_token 62 = .ok (.dup, 1) := dk_89 (dk_at dksX3_token_2 15 rfl rfl)
theorem dX3_token_63 : decode cX3_token 63 = .ok (.getfield 122, 3) := dk_180 0 122 (dk_at dksX3_token_2 16 rfl rfl)
theorem dX3_token_66 : decode cX3_token 66 = .ok (.iconst 1, 1) := dk_4 (dk_at dksX3_token_2 19 rfl rfl)
theorem dX3_token_67 : decode cX3_token 67 = .ok (.iadd, 1) := dk_96 (dk_at dksX3_token_2 20 rfl rfl)
theorem dX3_token_68 : decode cX3_token 68 = .ok (.putfield 122, 3) := dk_181 0 122 (dk_at dksX3_token_2 21 rfl rfl)
theorem dX3_token_71 : decode cX3_token 71 = .ok (.aload_n 0, 1) := dk_42 (dk_at dksX3_token_3 0 rfl rfl)
theorem dX3_token_72 : decode cX3_token 72 = .ok (.iconst 0, 1) := dk_3 (dk_at dksX3_token_3 1 rfl rfl)
theorem dX3_token_73 : decode cX3_token 73 = .ok (.putfield 125, 3) := dk_181 0 125 (dk_at dksX3_token_3 2 rfl rfl)
theorem dX3_token_76 : decode cX3_token 76 = .ok (.aload_n 0, 1) := dk_42 (dk_at dksX3_token_3 5 rfl rfl)
theorem dX3_token_77 : decode cX3_token 77 = .ok (.getfield 122, 3) := dk_180 0 122 (dk_at dksX3_token_3 6 rfl rfl)
theorem dX3_token_80 : decode cX3_token 80 = .ok (.iconst 1, 1) := dk_4 (dk_at dksX3_token_3 9 rfl rfl)
theorem dX3_token_81 : decode cX3_token 81 = .ok (.isub, 1) := dk_100 (dk_at dksX3_token_3 10 rfl rfl)
theorem dX3_token_82 : decode cX3_token 82 = .ok (.ireturn, 1) := dk_172 (dk_at dksX3_token_3 11 rfl rfl)
abbrev cX3_name : ByteArray := prog_19_method_5_code
def yX3_name : MethodName := ⟨RX3, "name", "()I"⟩
def dkwX3_name_1 : List UInt8 := [181, 0, 125, 42, 180, 0, 129, 4, 100, 172]
abbrev dktX3_name_1 : List UInt8 := dkwX3_name_1 ++ []
def dkwX3_name_0 : List UInt8 := [42, 180, 0, 129, 16, 8, 160, 0, 6, 16, 254, 172, 42, 89, 180, 0, 129, 4, 96, 181, 0, 129, 42, 3]
abbrev dktX3_name_0 : List UInt8 := dkwX3_name_0 ++ dktX3_name_1
theorem dksX3_name_0 : cX3_name.data.toList.drop 0 = dktX3_name_0 := by decide +kernel
theorem dksX3_name_1 : cX3_name.data.toList.drop 24 = dktX3_name_1 := dk_seg dksX3_name_0 24 rfl rfl
theorem dX3_name_0 : decode cX3_name 0 = .ok (.aload_n 0, 1) := dk_42 (dk_at dksX3_name_0 0 rfl rfl)
theorem dX3_name_1 : decode cX3_name 1 = .ok (.getfield 129, 3) := dk_180 0 129 (dk_at dksX3_name_0 1 rfl rfl)
theorem dX3_name_4 : decode cX3_name 4 = .ok (.bipush 8, 2) := dk_16 8 (dk_at dksX3_name_0 4 rfl rfl)
theorem dX3_name_6 : decode cX3_name 6 = .ok (.if_icmp .ne 6, 3) := dk_160 0 6 (dk_at dksX3_name_0 6 rfl rfl)
theorem dX3_name_9 : decode cX3_name 9 = .ok (.bipush (-2), 2) := dk_16 254 (dk_at dksX3_name_0 9 rfl rfl)
theorem dX3_name_11 : decode cX3_name 11 = .ok (.ireturn, 1) := dk_172 (dk_at dksX3_name_0 11 rfl rfl)
theorem dX3_name_12 : decode cX3_name 12 = .ok (.aload_n 0, 1) := dk_42 (dk_at dksX3_name_0 12 rfl rfl)
theorem dX3_name_13 : decode cX3_name 13 = .ok (.dup, 1) := dk_89 (dk_at dksX3_name_0 13 rfl rfl)
theorem dX3_name_14 : decode cX3_name 14 = .ok (.getfield 129, 3) := dk_180 0 129 (dk_at dksX3_name_0 14 rfl rfl)
theorem dX3_name_17 : decode cX3_name 17 = .ok (.iconst 1, 1) := dk_4 (dk_at dksX3_name_0 17 rfl rfl)
theorem dX3_name_18 : decode cX3_name 18 = .ok (.iadd, 1) := dk_96 (dk_at dksX3_name_0 18 rfl rfl)
theorem dX3_name_19 : decode cX3_name 19 = .ok (.putfield 129, 3) := dk_181 0 129 (dk_at dksX3_name_0 19 rfl rfl)
theorem dX3_name_22 : decode cX3_name 22 = .ok (.aload_n 0, 1) := dk_42 (dk_at dksX3_name_0 22 rfl rfl)
theorem dX3_name_23 : decode cX3_name 23 = .ok (.iconst 0, 1) := dk_3 (dk_at dksX3_name_0 23 rfl rfl)
theorem dX3_name_24 : decode cX3_name 24 = .ok (.putfield 125, 3) := dk_181 0 125 (dk_at dksX3_name_1 0 rfl rfl)
theorem dX3_name_27 : decode cX3_name 27 = .ok (.aload_n 0, 1) := dk_42 (dk_at dksX3_name_1 3 rfl rfl)
theorem dX3_name_28 : decode cX3_name 28 = .ok (.getfield 129, 3) := dk_180 0 129 (dk_at dksX3_name_1 4 rfl rfl)
theorem dX3_name_31 : decode cX3_name 31 = .ok (.iconst 1, 1) := dk_4 (dk_at dksX3_name_1 7 rfl rfl)
theorem dX3_name_32 : decode cX3_name 32 = .ok (.isub, 1) := dk_100 (dk_at dksX3_name_1 8 rfl rfl)
theorem dX3_name_33 : decode cX3_name 33 = .ok (.ireturn, 1) := dk_172 (dk_at dksX3_name_1 9 rfl rfl)
abbrev cX3_rule : ByteArray := prog_19_method_8_code
def yX3_rule : MethodName := ⟨RX3, "rule", "(I)I"⟩
def dkwX3_rule_2 : List UInt8 := [4, 96, 181, 0, 140, 42, 3, 181, 0, 125, 42, 180, 0, 140, 4, 100, 172]
abbrev dktX3_rule_2 : List UInt8 := dkwX3_rule_2 ++ []
def dkwX3_rule_1 : List UInt8 := [180, 0, 24, 42, 180, 0, 140, 27, 79, 42, 180, 0, 27, 42, 180, 0, 140, 3, 79, 42, 89, 180, 0, 140]
abbrev dktX3_rule_1 : List UInt8 := dkwX3_rule_1 ++ dktX3_rule_2
def dkwX3_rule_0 : List UInt8 := [42, 27, 182, 0, 136, 154, 0, 5, 2, 172, 42, 180, 0, 140, 16, 24, 160, 0, 6, 16, 254, 172, 42]
abbrev dktX3_rule_0 : List UInt8 := dkwX3_rule_0 ++ dktX3_rule_1
theorem dksX3_rule_0 : cX3_rule.data.toList.drop 0 = dktX3_rule_0 := by decide +kernel
theorem dksX3_rule_1 : cX3_rule.data.toList.drop 23 = dktX3_rule_1 := dk_seg dksX3_rule_0 23 rfl rfl
theorem dksX3_rule_2 : cX3_rule.data.toList.drop 47 = dktX3_rule_2 := dk_seg dksX3_rule_1 24 rfl rfl
theorem dX3_rule_0 : decode cX3_rule 0 = .ok (.aload_n 0, 1) := dk_42 (dk_at dksX3_rule_0 0 rfl rfl)
theorem dX3_rule_1 : decode cX3_rule 1 = .ok (.iload_n 1, 1) := dk_27 (dk_at dksX3_rule_0 1 rfl rfl)
theorem dX3_rule_2 : decode cX3_rule 2 = .ok (.invokevirtual 136, 3) := dk_182 0 136 (dk_at dksX3_rule_0 2 rfl rfl)
theorem dX3_rule_5 : decode cX3_rule 5 = .ok (.ifCond .ne 5, 3) := dk_154 0 5 (dk_at dksX3_rule_0 5 rfl rfl)
theorem dX3_rule_8 : decode cX3_rule 8 = .ok (.iconst (-1), 1) := dk_2 (dk_at dksX3_rule_0 8 rfl rfl)
theorem dX3_rule_9 : decode cX3_rule 9 = .ok (.ireturn, 1) := dk_172 (dk_at dksX3_rule_0 9 rfl rfl)
theorem dX3_rule_10 : decode cX3_rule 10 = .ok (.aload_n 0, 1) := dk_42 (dk_at dksX3_rule_0 10 rfl rfl)
theorem dX3_rule_11 : decode cX3_rule 11 = .ok (.getfield 140, 3) := dk_180 0 140 (dk_at dksX3_rule_0 11 rfl rfl)
theorem dX3_rule_14 : decode cX3_rule 14 = .ok (.bipush 24, 2) := dk_16 24 (dk_at dksX3_rule_0 14 rfl rfl)
theorem dX3_rule_16 : decode cX3_rule 16 = .ok (.if_icmp .ne 6, 3) := dk_160 0 6 (dk_at dksX3_rule_0 16 rfl rfl)
theorem dX3_rule_19 : decode cX3_rule 19 = .ok (.bipush (-2), 2) := dk_16 254 (dk_at dksX3_rule_0 19 rfl rfl)
theorem dX3_rule_21 : decode cX3_rule 21 = .ok (.ireturn, 1) := dk_172 (dk_at dksX3_rule_0 21 rfl rfl)
theorem dX3_rule_22 : decode cX3_rule 22 = .ok (.aload_n 0, 1) := dk_42 (dk_at dksX3_rule_0 22 rfl rfl)
theorem dX3_rule_23 : decode cX3_rule 23 = .ok (.getfield 24, 3) := dk_180 0 24 (dk_at dksX3_rule_1 0 rfl rfl)
theorem dX3_rule_26 : decode cX3_rule 26 = .ok (.aload_n 0, 1) := dk_42 (dk_at dksX3_rule_1 3 rfl rfl)
theorem dX3_rule_27 : decode cX3_rule 27 = .ok (.getfield 140, 3) := dk_180 0 140 (dk_at dksX3_rule_1 4 rfl rfl)
theorem dX3_rule_30 : decode cX3_rule 30 = .ok (.iload_n 1, 1) := dk_27 (dk_at dksX3_rule_1 7 rfl rfl)
theorem dX3_rule_31 : decode cX3_rule 31 = .ok (.iastore, 1) := dk_79 (dk_at dksX3_rule_1 8 rfl rfl)
theorem dX3_rule_32 : decode cX3_rule 32 = .ok (.aload_n 0, 1) := dk_42 (dk_at dksX3_rule_1 9 rfl rfl)
theorem dX3_rule_33 : decode cX3_rule 33 = .ok (.getfield 27, 3) := dk_180 0 27 (dk_at dksX3_rule_1 10 rfl rfl)
theorem dX3_rule_36 : decode cX3_rule 36 = .ok (.aload_n 0, 1) := dk_42 (dk_at dksX3_rule_1 13 rfl rfl)
theorem dX3_rule_37 : decode cX3_rule 37 = .ok (.getfield 140, 3) := dk_180 0 140 (dk_at dksX3_rule_1 14 rfl rfl)
theorem dX3_rule_40 : decode cX3_rule 40 = .ok (.iconst 0, 1) := dk_3 (dk_at dksX3_rule_1 17 rfl rfl)
theorem dX3_rule_41 : decode cX3_rule 41 = .ok (.iastore, 1) := dk_79 (dk_at dksX3_rule_1 18 rfl rfl)
theorem dX3_rule_42 : decode cX3_rule 42 = .ok (.aload_n 0, 1) := dk_42 (dk_at dksX3_rule_1 19 rfl rfl)
theorem dX3_rule_43 : decode cX3_rule 43 = .ok (.dup, 1) := dk_89 (dk_at dksX3_rule_1 20 rfl rfl)
theorem dX3_rule_44 : decode cX3_rule 44 = .ok (.getfield 140, 3) := dk_180 0 140 (dk_at dksX3_rule_1 21 rfl rfl)
theorem dX3_rule_47 : decode cX3_rule 47 = .ok (.iconst 1, 1) := dk_4 (dk_at dksX3_rule_2 0 rfl rfl)
theorem dX3_rule_48 : decode cX3_rule 48 = .ok (.iadd, 1) := dk_96 (dk_at dksX3_rule_2 1 rfl rfl)
theorem dX3_rule_49 : decode cX3_rule 49 = .ok (.putfield 140, 3) := dk_181 0 140 (dk_at dksX3_rule_2 2 rfl rfl)
theorem dX3_rule_52 : decode cX3_rule 52 = .ok (.aload_n 0, 1) := dk_42 (dk_at dksX3_rule_2 5 rfl rfl)
theorem dX3_rule_53 : decode cX3_rule 53 = .ok (.iconst 0, 1) := dk_3 (dk_at dksX3_rule_2 6 rfl rfl)
theorem dX3_rule_54 : decode cX3_rule 54 = .ok (.putfield 125, 3) := dk_181 0 125 (dk_at dksX3_rule_2 7 rfl rfl)
theorem dX3_rule_57 : decode cX3_rule 57 = .ok (.aload_n 0, 1) := dk_42 (dk_at dksX3_rule_2 10 rfl rfl)
theorem dX3_rule_58 : decode cX3_rule 58 = .ok (.getfield 140, 3) := dk_180 0 140 (dk_at dksX3_rule_2 11 rfl rfl)
theorem dX3_rule_61 : decode cX3_rule 61 = .ok (.iconst 1, 1) := dk_4 (dk_at dksX3_rule_2 14 rfl rfl)
theorem dX3_rule_62 : decode cX3_rule 62 = .ok (.isub, 1) := dk_100 (dk_at dksX3_rule_2 15 rfl rfl)
theorem dX3_rule_63 : decode cX3_rule 63 = .ok (.ireturn, 1) := dk_172 (dk_at dksX3_rule_2 16 rfl rfl)
abbrev cX3_isName : ByteArray := prog_19_method_7_code
def yX3_isName : MethodName := ⟨RX3, "isName", "(I)Z"⟩
def dkwX3_isName_0 : List UInt8 := [27, 133, 9, 42, 180, 0, 129, 4, 100, 133, 184, 0, 132, 172]
abbrev dktX3_isName_0 : List UInt8 := dkwX3_isName_0 ++ []
theorem dksX3_isName_0 : cX3_isName.data.toList.drop 0 = dktX3_isName_0 := by decide +kernel
theorem dX3_isName_0 : decode cX3_isName 0 = .ok (.iload_n 1, 1) := dk_27 (dk_at dksX3_isName_0 0 rfl rfl)
theorem dX3_isName_1 : decode cX3_isName 1 = .ok (.i2l, 1) := dk_133 (dk_at dksX3_isName_0 1 rfl rfl)
theorem dX3_isName_2 : decode cX3_isName 2 = .ok (.lconst 0, 1) := dk_9 (dk_at dksX3_isName_0 2 rfl rfl)
theorem dX3_isName_3 : decode cX3_isName 3 = .ok (.aload_n 0, 1) := dk_42 (dk_at dksX3_isName_0 3 rfl rfl)
theorem dX3_isName_4 : decode cX3_isName 4 = .ok (.getfield 129, 3) := dk_180 0 129 (dk_at dksX3_isName_0 4 rfl rfl)
theorem dX3_isName_7 : decode cX3_isName 7 = .ok (.iconst 1, 1) := dk_4 (dk_at dksX3_isName_0 7 rfl rfl)
theorem dX3_isName_8 : decode cX3_isName 8 = .ok (.isub, 1) := dk_100 (dk_at dksX3_isName_0 8 rfl rfl)
theorem dX3_isName_9 : decode cX3_isName 9 = .ok (.i2l, 1) := dk_133 (dk_at dksX3_isName_0 9 rfl rfl)
theorem dX3_isName_10 : decode cX3_isName 10 = .ok (.invokestatic 132, 3) := dk_184 0 132 (dk_at dksX3_isName_0 10 rfl rfl)
theorem dX3_isName_13 : decode cX3_isName 13 = .ok (.ireturn, 1) := dk_172 (dk_at dksX3_isName_0 13 rfl rfl)
abbrev cX3_in : ByteArray := prog_19_method_3_code
def yX3_in : MethodName := ⟨RX3, "in", "(JJJ)Z"⟩
def dkwX3_in_0 : List UInt8 := [30, 32, 148, 155, 0, 14, 30, 22, 4, 148, 157, 0, 7, 4, 167, 0, 4, 3, 172]
abbrev dktX3_in_0 : List UInt8 := dkwX3_in_0 ++ []
theorem dksX3_in_0 : cX3_in.data.toList.drop 0 = dktX3_in_0 := by decide +kernel
theorem dX3_in_0 : decode cX3_in 0 = .ok (.lload_n 0, 1) := dk_30 (dk_at dksX3_in_0 0 rfl rfl)
theorem dX3_in_1 : decode cX3_in 1 = .ok (.lload_n 2, 1) := dk_32 (dk_at dksX3_in_0 1 rfl rfl)
theorem dX3_in_2 : decode cX3_in 2 = .ok (.lcmp, 1) := dk_148 (dk_at dksX3_in_0 2 rfl rfl)
theorem dX3_in_3 : decode cX3_in 3 = .ok (.ifCond .lt 14, 3) := dk_155 0 14 (dk_at dksX3_in_0 3 rfl rfl)
theorem dX3_in_6 : decode cX3_in 6 = .ok (.lload_n 0, 1) := dk_30 (dk_at dksX3_in_0 6 rfl rfl)
theorem dX3_in_7 : decode cX3_in 7 = .ok (.lload 4, 2) := dk_22 4 (dk_at dksX3_in_0 7 rfl rfl)
theorem dX3_in_9 : decode cX3_in 9 = .ok (.lcmp, 1) := dk_148 (dk_at dksX3_in_0 9 rfl rfl)
theorem dX3_in_10 : decode cX3_in 10 = .ok (.ifCond .gt 7, 3) := dk_157 0 7 (dk_at dksX3_in_0 10 rfl rfl)
theorem dX3_in_13 : decode cX3_in 13 = .ok (.iconst 1, 1) := dk_4 (dk_at dksX3_in_0 13 rfl rfl)
theorem dX3_in_14 : decode cX3_in 14 = .ok (.goto 4, 3) := dk_167 0 4 (dk_at dksX3_in_0 14 rfl rfl)
theorem dX3_in_17 : decode cX3_in 17 = .ok (.iconst 0, 1) := dk_3 (dk_at dksX3_in_0 17 rfl rfl)
theorem dX3_in_18 : decode cX3_in 18 = .ok (.ireturn, 1) := dk_172 (dk_at dksX3_in_0 18 rfl rfl)
abbrev cX3_symbol : ByteArray := prog_19_method_9_code
def yX3_symbol : MethodName := ⟨RX3, "symbol", "(III)I"⟩
def dkwX3_symbol_4 : List UInt8 := [180, 0, 27, 27, 92, 46, 4, 96, 79, 42, 3, 181, 0, 125, 42, 180, 0, 27, 27, 46, 172]
abbrev dktX3_symbol_4 : List UInt8 := dkwX3_symbol_4 ++ []
def dkwX3_symbol_3 : List UInt8 := [104, 42, 180, 0, 27, 27, 46, 96, 28, 154, 0, 7, 29, 167, 0, 7, 16, 100, 29, 96, 79, 42]
abbrev dktX3_symbol_3 : List UInt8 := dkwX3_symbol_3 ++ dktX3_symbol_4
def dkwX3_symbol_2 : List UInt8 := [154, 0, 5, 2, 172, 42, 180, 0, 27, 27, 46, 6, 160, 0, 6, 16, 254, 172, 42, 180, 0, 30, 6, 27]
abbrev dktX3_symbol_2 : List UInt8 := dkwX3_symbol_2 ++ dktX3_symbol_3
def dkwX3_symbol_1 : List UInt8 := [160, 0, 26, 28, 154, 0, 14, 42, 29, 182, 0, 143, 154, 0, 16, 167, 0, 11, 42, 29, 182, 0, 136]
abbrev dktX3_symbol_1 : List UInt8 := dkwX3_symbol_1 ++ dktX3_symbol_2
def dkwX3_symbol_0 : List UInt8 := [27, 133, 9, 42, 180, 0, 140, 4, 100, 133, 184, 0, 132, 153, 0, 35, 28, 153, 0, 8, 28, 4]
abbrev dktX3_symbol_0 : List UInt8 := dkwX3_symbol_0 ++ dktX3_symbol_1
theorem dksX3_symbol_0 : cX3_symbol.data.toList.drop 0 = dktX3_symbol_0 := by decide +kernel
theorem dksX3_symbol_1 : cX3_symbol.data.toList.drop 22 = dktX3_symbol_1 := dk_seg dksX3_symbol_0 22 rfl rfl
theorem dksX3_symbol_2 : cX3_symbol.data.toList.drop 45 = dktX3_symbol_2 := dk_seg dksX3_symbol_1 23 rfl rfl
theorem dksX3_symbol_3 : cX3_symbol.data.toList.drop 69 = dktX3_symbol_3 := dk_seg dksX3_symbol_2 24 rfl rfl
theorem dksX3_symbol_4 : cX3_symbol.data.toList.drop 91 = dktX3_symbol_4 := dk_seg dksX3_symbol_3 22 rfl rfl
theorem dX3_symbol_0 : decode cX3_symbol 0 = .ok (.iload_n 1, 1) := dk_27 (dk_at dksX3_symbol_0 0 rfl rfl)
theorem dX3_symbol_1 : decode cX3_symbol 1 = .ok (.i2l, 1) := dk_133 (dk_at dksX3_symbol_0 1 rfl rfl)
theorem dX3_symbol_2 : decode cX3_symbol 2 = .ok (.lconst 0, 1) := dk_9 (dk_at dksX3_symbol_0 2 rfl rfl)
theorem dX3_symbol_3 : decode cX3_symbol 3 = .ok (.aload_n 0, 1) := dk_42 (dk_at dksX3_symbol_0 3 rfl rfl)
theorem dX3_symbol_4 : decode cX3_symbol 4 = .ok (.getfield 140, 3) := dk_180 0 140 (dk_at dksX3_symbol_0 4 rfl rfl)
theorem dX3_symbol_7 : decode cX3_symbol 7 = .ok (.iconst 1, 1) := dk_4 (dk_at dksX3_symbol_0 7 rfl rfl)
theorem dX3_symbol_8 : decode cX3_symbol 8 = .ok (.isub, 1) := dk_100 (dk_at dksX3_symbol_0 8 rfl rfl)
theorem dX3_symbol_9 : decode cX3_symbol 9 = .ok (.i2l, 1) := dk_133 (dk_at dksX3_symbol_0 9 rfl rfl)
theorem dX3_symbol_10 : decode cX3_symbol 10 = .ok (.invokestatic 132, 3) := dk_184 0 132 (dk_at dksX3_symbol_0 10 rfl rfl)
theorem dX3_symbol_13 : decode cX3_symbol 13 = .ok (.ifCond .eq 35, 3) := dk_153 0 35 (dk_at dksX3_symbol_0 13 rfl rfl)
theorem dX3_symbol_16 : decode cX3_symbol 16 = .ok (.iload_n 2, 1) := dk_28 (dk_at dksX3_symbol_0 16 rfl rfl)
theorem dX3_symbol_17 : decode cX3_symbol 17 = .ok (.ifCond .eq 8, 3) := dk_153 0 8 (dk_at dksX3_symbol_0 17 rfl rfl)
theorem dX3_symbol_20 : decode cX3_symbol 20 = .ok (.iload_n 2, 1) := dk_28 (dk_at dksX3_symbol_0 20 rfl rfl)
theorem dX3_symbol_21 : decode cX3_symbol 21 = .ok (.iconst 1, 1) := dk_4 (dk_at dksX3_symbol_0 21 rfl rfl)
theorem dX3_symbol_22 : decode cX3_symbol 22 = .ok (.if_icmp .ne 26, 3) := dk_160 0 26 (dk_at dksX3_symbol_1 0 rfl rfl)
theorem dX3_symbol_25 : decode cX3_symbol 25 = .ok (.iload_n 2, 1) := dk_28 (dk_at dksX3_symbol_1 3 rfl rfl)
theorem dX3_symbol_26 : decode cX3_symbol 26 = .ok (.ifCond .ne 14, 3) := dk_154 0 14 (dk_at dksX3_symbol_1 4 rfl rfl)
theorem dX3_symbol_29 : decode cX3_symbol 29 = .ok (.aload_n 0, 1) := dk_42 (dk_at dksX3_symbol_1 7 rfl rfl)
theorem dX3_symbol_30 : decode cX3_symbol 30 = .ok (.iload_n 3, 1) := dk_29 (dk_at dksX3_symbol_1 8 rfl rfl)
theorem dX3_symbol_31 : decode cX3_symbol 31 = .ok (.invokevirtual 143, 3) := dk_182 0 143 (dk_at dksX3_symbol_1 9 rfl rfl)
theorem dX3_symbol_34 : decode cX3_symbol 34 = .ok (.ifCond .ne 16, 3) := dk_154 0 16 (dk_at dksX3_symbol_1 12 rfl rfl)
theorem dX3_symbol_37 : decode cX3_symbol 37 = .ok (.goto 11, 3) := dk_167 0 11 (dk_at dksX3_symbol_1 15 rfl rfl)
theorem dX3_symbol_40 : decode cX3_symbol 40 = .ok (.aload_n 0, 1) := dk_42 (dk_at dksX3_symbol_1 18 rfl rfl)
theorem dX3_symbol_41 : decode cX3_symbol 41 = .ok (.iload_n 3, 1) := dk_29 (dk_at dksX3_symbol_1 19 rfl rfl)
theorem dX3_symbol_42 : decode cX3_symbol 42 = .ok (.invokevirtual 136, 3) := dk_182 0 136 (dk_at dksX3_symbol_1 20 rfl rfl)
theorem dX3_symbol_45 : decode cX3_symbol 45 = .ok (.ifCond .ne 5, 3) := dk_154 0 5 (dk_at dksX3_symbol_2 0 rfl rfl)
theorem dX3_symbol_48 : decode cX3_symbol 48 = .ok (.iconst (-1), 1) := dk_2 (dk_at dksX3_symbol_2 3 rfl rfl)
theorem dX3_symbol_49 : decode cX3_symbol 49 = .ok (.ireturn, 1) := dk_172 (dk_at dksX3_symbol_2 4 rfl rfl)
theorem dX3_symbol_50 : decode cX3_symbol 50 = .ok (.aload_n 0, 1) := dk_42 (dk_at dksX3_symbol_2 5 rfl rfl)
theorem dX3_symbol_51 : decode cX3_symbol 51 = .ok (.getfield 27, 3) := dk_180 0 27 (dk_at dksX3_symbol_2 6 rfl rfl)
theorem dX3_symbol_54 : decode cX3_symbol 54 = .ok (.iload_n 1, 1) := dk_27 (dk_at dksX3_symbol_2 9 rfl rfl)
theorem dX3_symbol_55 : decode cX3_symbol 55 = .ok (.iaload, 1) := dk_46 (dk_at dksX3_symbol_2 10 rfl rfl)
theorem dX3_symbol_56 : decode cX3_symbol 56 = .ok (.iconst 3, 1) := dk_6 (dk_at dksX3_symbol_2 11 rfl rfl)
theorem dX3_symbol_57 : decode cX3_symbol 57 = .ok (.if_icmp .ne 6, 3) := dk_160 0 6 (dk_at dksX3_symbol_2 12 rfl rfl)
theorem dX3_symbol_60 : decode cX3_symbol 60 = .ok (.bipush (-2), 2) := dk_16 254 (dk_at dksX3_symbol_2 15 rfl rfl)
theorem dX3_symbol_62 : decode cX3_symbol 62 = .ok (.ireturn, 1) := dk_172 (dk_at dksX3_symbol_2 17 rfl rfl)
theorem dX3_symbol_63 : decode cX3_symbol 63 = .ok (.aload_n 0, 1) := dk_42 (dk_at dksX3_symbol_2 18 rfl rfl)
theorem dX3_symbol_64 : decode cX3_symbol 64 = .ok (.getfield 30, 3) := dk_180 0 30 (dk_at dksX3_symbol_2 19 rfl rfl)
theorem dX3_symbol_67 : decode cX3_symbol 67 = .ok (.iconst 3, 1) := dk_6 (dk_at dksX3_symbol_2 22 rfl rfl)
theorem dX3_symbol_68 : decode cX3_symbol 68 = .ok (.iload_n 1, 1) := dk_27 (dk_at dksX3_symbol_2 23 rfl rfl)
theorem dX3_symbol_69 : decode cX3_symbol 69 = .ok (.imul, 1) := dk_104 (dk_at dksX3_symbol_3 0 rfl rfl)
theorem dX3_symbol_70 : decode cX3_symbol 70 = .ok (.aload_n 0, 1) := dk_42 (dk_at dksX3_symbol_3 1 rfl rfl)
theorem dX3_symbol_71 : decode cX3_symbol 71 = .ok (.getfield 27, 3) := dk_180 0 27 (dk_at dksX3_symbol_3 2 rfl rfl)
theorem dX3_symbol_74 : decode cX3_symbol 74 = .ok (.iload_n 1, 1) := dk_27 (dk_at dksX3_symbol_3 5 rfl rfl)
theorem dX3_symbol_75 : decode cX3_symbol 75 = .ok (.iaload, 1) := dk_46 (dk_at dksX3_symbol_3 6 rfl rfl)
theorem dX3_symbol_76 : decode cX3_symbol 76 = .ok (.iadd, 1) := dk_96 (dk_at dksX3_symbol_3 7 rfl rfl)
theorem dX3_symbol_77 : decode cX3_symbol 77 = .ok (.iload_n 2, 1) := dk_28 (dk_at dksX3_symbol_3 8 rfl rfl)
theorem dX3_symbol_78 : decode cX3_symbol 78 = .ok (.ifCond .ne 7, 3) := dk_154 0 7 (dk_at dksX3_symbol_3 9 rfl rfl)
theorem dX3_symbol_81 : decode cX3_symbol 81 = .ok (.iload_n 3, 1) := dk_29 (dk_at dksX3_symbol_3 12 rfl rfl)
theorem dX3_symbol_82 : decode cX3_symbol 82 = .ok (.goto 7, 3) := dk_167 0 7 (dk_at dksX3_symbol_3 13 rfl rfl)
theorem dX3_symbol_85 : decode cX3_symbol 85 = .ok (.bipush 100, 2) := dk_16 100 (dk_at dksX3_symbol_3 16 rfl rfl)
theorem dX3_symbol_87 : decode cX3_symbol 87 = .ok (.iload_n 3, 1) := dk_29 (dk_at dksX3_symbol_3 18 rfl rfl)
theorem dX3_symbol_88 : decode cX3_symbol 88 = .ok (.iadd, 1) := dk_96 (dk_at dksX3_symbol_3 19 rfl rfl)
theorem dX3_symbol_89 : decode cX3_symbol 89 = .ok (.iastore, 1) := dk_79 (dk_at dksX3_symbol_3 20 rfl rfl)
theorem dX3_symbol_90 : decode cX3_symbol 90 = .ok (.aload_n 0, 1) := dk_42 (dk_at dksX3_symbol_3 21 rfl rfl)
theorem dX3_symbol_91 : decode cX3_symbol 91 = .ok (.getfield 27, 3) := dk_180 0 27 (dk_at dksX3_symbol_4 0 rfl rfl)
theorem dX3_symbol_94 : decode cX3_symbol 94 = .ok (.iload_n 1, 1) := dk_27 (dk_at dksX3_symbol_4 3 rfl rfl)
theorem dX3_symbol_95 : decode cX3_symbol 95 = .ok (.dup2, 1) := dk_92 (dk_at dksX3_symbol_4 4 rfl rfl)
theorem dX3_symbol_96 : decode cX3_symbol 96 = .ok (.iaload, 1) := dk_46 (dk_at dksX3_symbol_4 5 rfl rfl)
theorem dX3_symbol_97 : decode cX3_symbol 97 = .ok (.iconst 1, 1) := dk_4 (dk_at dksX3_symbol_4 6 rfl rfl)
theorem dX3_symbol_98 : decode cX3_symbol 98 = .ok (.iadd, 1) := dk_96 (dk_at dksX3_symbol_4 7 rfl rfl)
theorem dX3_symbol_99 : decode cX3_symbol 99 = .ok (.iastore, 1) := dk_79 (dk_at dksX3_symbol_4 8 rfl rfl)
theorem dX3_symbol_100 : decode cX3_symbol 100 = .ok (.aload_n 0, 1) := dk_42 (dk_at dksX3_symbol_4 9 rfl rfl)
theorem dX3_symbol_101 : decode cX3_symbol 101 = .ok (.iconst 0, 1) := dk_3 (dk_at dksX3_symbol_4 10 rfl rfl)
theorem dX3_symbol_102 : decode cX3_symbol 102 = .ok (.putfield 125, 3) := dk_181 0 125 (dk_at dksX3_symbol_4 11 rfl rfl)
theorem dX3_symbol_105 : decode cX3_symbol 105 = .ok (.aload_n 0, 1) := dk_42 (dk_at dksX3_symbol_4 14 rfl rfl)
theorem dX3_symbol_106 : decode cX3_symbol 106 = .ok (.getfield 27, 3) := dk_180 0 27 (dk_at dksX3_symbol_4 15 rfl rfl)
theorem dX3_symbol_109 : decode cX3_symbol 109 = .ok (.iload_n 1, 1) := dk_27 (dk_at dksX3_symbol_4 18 rfl rfl)
theorem dX3_symbol_110 : decode cX3_symbol 110 = .ok (.iaload, 1) := dk_46 (dk_at dksX3_symbol_4 19 rfl rfl)
theorem dX3_symbol_111 : decode cX3_symbol 111 = .ok (.ireturn, 1) := dk_172 (dk_at dksX3_symbol_4 20 rfl rfl)
abbrev cX3_isToken : ByteArray := prog_19_method_6_code
def yX3_isToken : MethodName := ⟨RX3, "isToken", "(I)Z"⟩
def dkwX3_isToken_0 : List UInt8 := [27, 133, 9, 42, 180, 0, 122, 4, 100, 133, 184, 0, 132, 172]
abbrev dktX3_isToken_0 : List UInt8 := dkwX3_isToken_0 ++ []
theorem dksX3_isToken_0 : cX3_isToken.data.toList.drop 0 = dktX3_isToken_0 := by decide +kernel
theorem dX3_isToken_0 : decode cX3_isToken 0 = .ok (.iload_n 1, 1) := dk_27 (dk_at dksX3_isToken_0 0 rfl rfl)
theorem dX3_isToken_1 : decode cX3_isToken 1 = .ok (.i2l, 1) := dk_133 (dk_at dksX3_isToken_0 1 rfl rfl)
theorem dX3_isToken_2 : decode cX3_isToken 2 = .ok (.lconst 0, 1) := dk_9 (dk_at dksX3_isToken_0 2 rfl rfl)
theorem dX3_isToken_3 : decode cX3_isToken 3 = .ok (.aload_n 0, 1) := dk_42 (dk_at dksX3_isToken_0 3 rfl rfl)
theorem dX3_isToken_4 : decode cX3_isToken 4 = .ok (.getfield 122, 3) := dk_180 0 122 (dk_at dksX3_isToken_0 4 rfl rfl)
theorem dX3_isToken_7 : decode cX3_isToken 7 = .ok (.iconst 1, 1) := dk_4 (dk_at dksX3_isToken_0 7 rfl rfl)
theorem dX3_isToken_8 : decode cX3_isToken 8 = .ok (.isub, 1) := dk_100 (dk_at dksX3_isToken_0 8 rfl rfl)
theorem dX3_isToken_9 : decode cX3_isToken 9 = .ok (.i2l, 1) := dk_133 (dk_at dksX3_isToken_0 9 rfl rfl)
theorem dX3_isToken_10 : decode cX3_isToken 10 = .ok (.invokestatic 132, 3) := dk_184 0 132 (dk_at dksX3_isToken_0 10 rfl rfl)
theorem dX3_isToken_13 : decode cX3_isToken 13 = .ok (.ireturn, 1) := dk_172 (dk_at dksX3_isToken_0 13 rfl rfl)
abbrev cX3_start : ByteArray := prog_19_method_10_code
def yX3_start : MethodName := ⟨RX3, "start", "(I)I"⟩
def dkwX3_start_1 : List UInt8 := [181, 0, 125, 28, 172]
abbrev dktX3_start_1 : List UInt8 := dkwX3_start_1 ++ []
def dkwX3_start_0 : List UInt8 := [42, 27, 182, 0, 136, 154, 0, 5, 2, 172, 42, 180, 0, 146, 61, 42, 27, 181, 0, 146, 42, 3]
abbrev dktX3_start_0 : List UInt8 := dkwX3_start_0 ++ dktX3_start_1
theorem dksX3_start_0 : cX3_start.data.toList.drop 0 = dktX3_start_0 := by decide +kernel
theorem dksX3_start_1 : cX3_start.data.toList.drop 22 = dktX3_start_1 := dk_seg dksX3_start_0 22 rfl rfl
theorem dX3_start_0 : decode cX3_start 0 = .ok (.aload_n 0, 1) := dk_42 (dk_at dksX3_start_0 0 rfl rfl)
theorem dX3_start_1 : decode cX3_start 1 = .ok (.iload_n 1, 1) := dk_27 (dk_at dksX3_start_0 1 rfl rfl)
theorem dX3_start_2 : decode cX3_start 2 = .ok (.invokevirtual 136, 3) := dk_182 0 136 (dk_at dksX3_start_0 2 rfl rfl)
theorem dX3_start_5 : decode cX3_start 5 = .ok (.ifCond .ne 5, 3) := dk_154 0 5 (dk_at dksX3_start_0 5 rfl rfl)
theorem dX3_start_8 : decode cX3_start 8 = .ok (.iconst (-1), 1) := dk_2 (dk_at dksX3_start_0 8 rfl rfl)
theorem dX3_start_9 : decode cX3_start 9 = .ok (.ireturn, 1) := dk_172 (dk_at dksX3_start_0 9 rfl rfl)
theorem dX3_start_10 : decode cX3_start 10 = .ok (.aload_n 0, 1) := dk_42 (dk_at dksX3_start_0 10 rfl rfl)
theorem dX3_start_11 : decode cX3_start 11 = .ok (.getfield 146, 3) := dk_180 0 146 (dk_at dksX3_start_0 11 rfl rfl)
theorem dX3_start_14 : decode cX3_start 14 = .ok (.istore_n 2, 1) := dk_61 (dk_at dksX3_start_0 14 rfl rfl)
theorem dX3_start_15 : decode cX3_start 15 = .ok (.aload_n 0, 1) := dk_42 (dk_at dksX3_start_0 15 rfl rfl)
theorem dX3_start_16 : decode cX3_start 16 = .ok (.iload_n 1, 1) := dk_27 (dk_at dksX3_start_0 16 rfl rfl)
theorem dX3_start_17 : decode cX3_start 17 = .ok (.putfield 146, 3) := dk_181 0 146 (dk_at dksX3_start_0 17 rfl rfl)
theorem dX3_start_20 : decode cX3_start 20 = .ok (.aload_n 0, 1) := dk_42 (dk_at dksX3_start_0 20 rfl rfl)
theorem dX3_start_21 : decode cX3_start 21 = .ok (.iconst 0, 1) := dk_3 (dk_at dksX3_start_0 21 rfl rfl)
theorem dX3_start_22 : decode cX3_start 22 = .ok (.putfield 125, 3) := dk_181 0 125 (dk_at dksX3_start_1 0 rfl rfl)
theorem dX3_start_25 : decode cX3_start 25 = .ok (.iload_n 2, 1) := dk_28 (dk_at dksX3_start_1 3 rfl rfl)
theorem dX3_start_26 : decode cX3_start 26 = .ok (.ireturn, 1) := dk_172 (dk_at dksX3_start_1 4 rfl rfl)
abbrev cX3_price : ByteArray := prog_19_method_11_code
def yX3_price : MethodName := ⟨RX3, "price", "(III)I"⟩
def dkwX3_price_4 : List UInt8 := [54, 4, 42, 29, 181, 0, 17, 167, 0, 14, 42, 180, 0, 21, 54, 4, 42, 29, 181, 0, 21, 21, 4, 172]
abbrev dktX3_price_4 : List UInt8 := dkwX3_price_4 ++ []
def dkwX3_price_3 : List UInt8 := [180, 0, 13, 16, 12, 27, 104, 28, 96, 29, 79, 167, 0, 33, 27, 6, 160, 0, 17, 42, 180, 0, 17]
abbrev dktX3_price_3 : List UInt8 := dkwX3_price_3 ++ dktX3_price_4
def dkwX3_price_2 : List UInt8 := [181, 0, 125, 27, 6, 162, 0, 31, 42, 180, 0, 13, 16, 12, 27, 104, 28, 96, 46, 54, 4, 42]
abbrev dktX3_price_2 : List UInt8 := dkwX3_price_2 ++ dktX3_price_3
def dkwX3_price_1 : List UInt8 := [27, 6, 162, 0, 14, 42, 28, 182, 0, 143, 154, 0, 12, 167, 0, 7, 28, 153, 0, 5, 2, 172, 42, 3]
abbrev dktX3_price_1 : List UInt8 := dkwX3_price_1 ++ dktX3_price_2
def dkwX3_price_0 : List UInt8 := [29, 133, 10, 20, 0, 149, 184, 0, 132, 153, 0, 35, 27, 133, 9, 20, 0, 151, 184, 0, 132, 153, 0, 23]
abbrev dktX3_price_0 : List UInt8 := dkwX3_price_0 ++ dktX3_price_1
theorem dksX3_price_0 : cX3_price.data.toList.drop 0 = dktX3_price_0 := by decide +kernel
theorem dksX3_price_1 : cX3_price.data.toList.drop 24 = dktX3_price_1 := dk_seg dksX3_price_0 24 rfl rfl
theorem dksX3_price_2 : cX3_price.data.toList.drop 48 = dktX3_price_2 := dk_seg dksX3_price_1 24 rfl rfl
theorem dksX3_price_3 : cX3_price.data.toList.drop 70 = dktX3_price_3 := dk_seg dksX3_price_2 22 rfl rfl
theorem dksX3_price_4 : cX3_price.data.toList.drop 93 = dktX3_price_4 := dk_seg dksX3_price_3 23 rfl rfl
theorem dX3_price_0 : decode cX3_price 0 = .ok (.iload_n 3, 1) := dk_29 (dk_at dksX3_price_0 0 rfl rfl)
theorem dX3_price_1 : decode cX3_price 1 = .ok (.i2l, 1) := dk_133 (dk_at dksX3_price_0 1 rfl rfl)
theorem dX3_price_2 : decode cX3_price 2 = .ok (.lconst 1, 1) := dk_10 (dk_at dksX3_price_0 2 rfl rfl)
theorem dX3_price_3 : decode cX3_price 3 = .ok (.ldc2_w 149, 3) := dk_20 0 149 (dk_at dksX3_price_0 3 rfl rfl)
theorem dX3_price_6 : decode cX3_price 6 = .ok (.invokestatic 132, 3) := dk_184 0 132 (dk_at dksX3_price_0 6 rfl rfl)
theorem dX3_price_9 : decode cX3_price 9 = .ok (.ifCond .eq 35, 3) := dk_153 0 35 (dk_at dksX3_price_0 9 rfl rfl)
theorem dX3_price_12 : decode cX3_price 12 = .ok (.iload_n 1, 1) := dk_27 (dk_at dksX3_price_0 12 rfl rfl)
theorem dX3_price_13 : decode cX3_price 13 = .ok (.i2l, 1) := dk_133 (dk_at dksX3_price_0 13 rfl rfl)
theorem dX3_price_14 : decode cX3_price 14 = .ok (.lconst 0, 1) := dk_9 (dk_at dksX3_price_0 14 rfl rfl)
theorem dX3_price_15 : decode cX3_price 15 = .ok (.ldc2_w 151, 3) := dk_20 0 151 (dk_at dksX3_price_0 15 rfl rfl)
theorem dX3_price_18 : decode cX3_price 18 = .ok (.invokestatic 132, 3) := dk_184 0 132 (dk_at dksX3_price_0 18 rfl rfl)
theorem dX3_price_21 : decode cX3_price 21 = .ok (.ifCond .eq 23, 3) := dk_153 0 23 (dk_at dksX3_price_0 21 rfl rfl)
theorem dX3_price_24 : decode cX3_price 24 = .ok (.iload_n 1, 1) := dk_27 (dk_at dksX3_price_1 0 rfl rfl)
theorem dX3_price_25 : decode cX3_price 25 = .ok (.iconst 3, 1) := dk_6 (dk_at dksX3_price_1 1 rfl rfl)
theorem dX3_price_26 : decode cX3_price 26 = .ok (.if_icmp .ge 14, 3) := dk_162 0 14 (dk_at dksX3_price_1 2 rfl rfl)
theorem dX3_price_29 : decode cX3_price 29 = .ok (.aload_n 0, 1) := dk_42 (dk_at dksX3_price_1 5 rfl rfl)
theorem dX3_price_30 : decode cX3_price 30 = .ok (.iload_n 2, 1) := dk_28 (dk_at dksX3_price_1 6 rfl rfl)
theorem dX3_price_31 : decode cX3_price 31 = .ok (.invokevirtual 143, 3) := dk_182 0 143 (dk_at dksX3_price_1 7 rfl rfl)
theorem dX3_price_34 : decode cX3_price 34 = .ok (.ifCond .ne 12, 3) := dk_154 0 12 (dk_at dksX3_price_1 10 rfl rfl)
theorem dX3_price_37 : decode cX3_price 37 = .ok (.goto 7, 3) := dk_167 0 7 (dk_at dksX3_price_1 13 rfl rfl)
theorem dX3_price_40 : decode cX3_price 40 = .ok (.iload_n 2, 1) := dk_28 (dk_at dksX3_price_1 16 rfl rfl)
theorem dX3_price_41 : decode cX3_price 41 = .ok (.ifCond .eq 5, 3) := dk_153 0 5 (dk_at dksX3_price_1 17 rfl rfl)
theorem dX3_price_44 : decode cX3_price 44 = .ok (.iconst (-1), 1) := dk_2 (dk_at dksX3_price_1 20 rfl rfl)
theorem dX3_price_45 : decode cX3_price 45 = .ok (.ireturn, 1) := dk_172 (dk_at dksX3_price_1 21 rfl rfl)
theorem dX3_price_46 : decode cX3_price 46 = .ok (.aload_n 0, 1) := dk_42 (dk_at dksX3_price_1 22 rfl rfl)
theorem dX3_price_47 : decode cX3_price 47 = .ok (.iconst 0, 1) := dk_3 (dk_at dksX3_price_1 23 rfl rfl)
theorem dX3_price_48 : decode cX3_price 48 = .ok (.putfield 125, 3) := dk_181 0 125 (dk_at dksX3_price_2 0 rfl rfl)
theorem dX3_price_51 : decode cX3_price 51 = .ok (.iload_n 1, 1) := dk_27 (dk_at dksX3_price_2 3 rfl rfl)
theorem dX3_price_52 : decode cX3_price 52 = .ok (.iconst 3, 1) := dk_6 (dk_at dksX3_price_2 4 rfl rfl)
theorem dX3_price_53 : decode cX3_price 53 = .ok (.if_icmp .ge 31, 3) := dk_162 0 31 (dk_at dksX3_price_2 5 rfl rfl)
theorem dX3_price_56 : decode cX3_price 56 = .ok (.aload_n 0, 1) := dk_42 (dk_at dksX3_price_2 8 rfl rfl)
theorem dX3_price_57 : decode cX3_price 57 = .ok (.getfield 13, 3) := dk_180 0 13 (dk_at dksX3_price_2 9 rfl rfl)
theorem dX3_price_60 : decode cX3_price 60 = .ok (.bipush 12, 2) := dk_16 12 (dk_at dksX3_price_2 12 rfl rfl)
theorem dX3_price_62 : decode cX3_price 62 = .ok (.iload_n 1, 1) := dk_27 (dk_at dksX3_price_2 14 rfl rfl)
theorem dX3_price_63 : decode cX3_price 63 = .ok (.imul, 1) := dk_104 (dk_at dksX3_price_2 15 rfl rfl)
theorem dX3_price_64 : decode cX3_price 64 = .ok (.iload_n 2, 1) := dk_28 (dk_at dksX3_price_2 16 rfl rfl)
theorem dX3_price_65 : decode cX3_price 65 = .ok (.iadd, 1) := dk_96 (dk_at dksX3_price_2 17 rfl rfl)
theorem dX3_price_66 : decode cX3_price 66 = .ok (.iaload, 1) := dk_46 (dk_at dksX3_price_2 18 rfl rfl)
theorem dX3_price_67 : decode cX3_price 67 = .ok (.istore 4, 2) := dk_54 4 (dk_at dksX3_price_2 19 rfl rfl)
theorem dX3_price_69 : decode cX3_price 69 = .ok (.aload_n 0, 1) := dk_42 (dk_at dksX3_price_2 21 rfl rfl)
theorem dX3_price_70 : decode cX3_price 70 = .ok (.getfield 13, 3) := dk_180 0 13 (dk_at dksX3_price_3 0 rfl rfl)
theorem dX3_price_73 : decode cX3_price 73 = .ok (.bipush 12, 2) := dk_16 12 (dk_at dksX3_price_3 3 rfl rfl)
theorem dX3_price_75 : decode cX3_price 75 = .ok (.iload_n 1, 1) := dk_27 (dk_at dksX3_price_3 5 rfl rfl)
theorem dX3_price_76 : decode cX3_price 76 = .ok (.imul, 1) := dk_104 (dk_at dksX3_price_3 6 rfl rfl)
theorem dX3_price_77 : decode cX3_price 77 = .ok (.iload_n 2, 1) := dk_28 (dk_at dksX3_price_3 7 rfl rfl)
theorem dX3_price_78 : decode cX3_price 78 = .ok (.iadd, 1) := dk_96 (dk_at dksX3_price_3 8 rfl rfl)
theorem dX3_price_79 : decode cX3_price 79 = .ok (.iload_n 3, 1) := dk_29 (dk_at dksX3_price_3 9 rfl rfl)
theorem dX3_price_80 : decode cX3_price 80 = .ok (.iastore, 1) := dk_79 (dk_at dksX3_price_3 10 rfl rfl)
theorem dX3_price_81 : decode cX3_price 81 = .ok (.goto 33, 3) := dk_167 0 33 (dk_at dksX3_price_3 11 rfl rfl)
theorem dX3_price_84 : decode cX3_price 84 = .ok (.iload_n 1, 1) := dk_27 (dk_at dksX3_price_3 14 rfl rfl)
theorem dX3_price_85 : decode cX3_price 85 = .ok (.iconst 3, 1) := dk_6 (dk_at dksX3_price_3 15 rfl rfl)
theorem dX3_price_86 : decode cX3_price 86 = .ok (.if_icmp .ne 17, 3) := dk_160 0 17 (dk_at dksX3_price_3 16 rfl rfl)
theorem dX3_price_89 : decode cX3_price 89 = .ok (.aload_n 0, 1) := dk_42 (dk_at dksX3_price_3 19 rfl rfl)
theorem dX3_price_90 : decode cX3_price 90 = .ok (.getfield 17, 3) := dk_180 0 17 (dk_at dksX3_price_3 20 rfl rfl)
theorem dX3_price_93 : decode cX3_price 93 = .ok (.istore 4, 2) := dk_54 4 (dk_at dksX3_price_4 0 rfl rfl)
theorem dX3_price_95 : decode cX3_price 95 = .ok (.aload_n 0, 1) := dk_42 (dk_at dksX3_price_4 2 rfl rfl)
theorem dX3_price_96 : decode cX3_price 96 = .ok (.iload_n 3, 1) := dk_29 (dk_at dksX3_price_4 3 rfl rfl)
theorem dX3_price_97 : decode cX3_price 97 = .ok (.putfield 17, 3) := dk_181 0 17 (dk_at dksX3_price_4 4 rfl rfl)
theorem dX3_price_100 : decode cX3_price 100 = .ok (.goto 14, 3) := dk_167 0 14 (dk_at dksX3_price_4 7 rfl rfl)
theorem dX3_price_103 : decode cX3_price 103 = .ok (.aload_n 0, 1) := dk_42 (dk_at dksX3_price_4 10 rfl rfl)
theorem dX3_price_104 : decode cX3_price 104 = .ok (.getfield 21, 3) := dk_180 0 21 (dk_at dksX3_price_4 11 rfl rfl)
theorem dX3_price_107 : decode cX3_price 107 = .ok (.istore 4, 2) := dk_54 4 (dk_at dksX3_price_4 14 rfl rfl)
theorem dX3_price_109 : decode cX3_price 109 = .ok (.aload_n 0, 1) := dk_42 (dk_at dksX3_price_4 16 rfl rfl)
theorem dX3_price_110 : decode cX3_price 110 = .ok (.iload_n 3, 1) := dk_29 (dk_at dksX3_price_4 17 rfl rfl)
theorem dX3_price_111 : decode cX3_price 111 = .ok (.putfield 21, 3) := dk_181 0 21 (dk_at dksX3_price_4 18 rfl rfl)
theorem dX3_price_114 : decode cX3_price 114 = .ok (.iload 4, 2) := dk_21 4 (dk_at dksX3_price_4 21 rfl rfl)
theorem dX3_price_116 : decode cX3_price 116 = .ok (.ireturn, 1) := dk_172 (dk_at dksX3_price_4 23 rfl rfl)
abbrev cX3_form : ByteArray := prog_19_method_12_code
def yX3_form : MethodName := ⟨RX3, "form", "(IIIII)I"⟩
def dkwX3_form_6 : List UInt8 := [172]
abbrev dktX3_form_6 : List UInt8 := dkwX3_form_6 ++ []
def dkwX3_form_5 : List UInt8 := [79, 42, 180, 0, 33, 27, 92, 46, 4, 96, 79, 42, 3, 181, 0, 125, 42, 180, 0, 33, 27, 46, 4, 100]
abbrev dktX3_form_5 : List UInt8 := dkwX3_form_5 ++ dktX3_form_6
def dkwX3_form_4 : List UInt8 := [96, 29, 79, 42, 180, 0, 36, 21, 6, 5, 96, 21, 4, 79, 42, 180, 0, 36, 21, 6, 6, 96, 21, 5]
abbrev dktX3_form_4 : List UInt8 := dkwX3_form_4 ++ dktX3_form_5
def dkwX3_form_3 : List UInt8 := [180, 0, 33, 27, 46, 104, 96, 54, 6, 42, 180, 0, 36, 21, 6, 28, 79, 42, 180, 0, 36, 21, 6, 4]
abbrev dktX3_form_3 : List UInt8 := dkwX3_form_3 ++ dktX3_form_4
def dkwX3_form_2 : List UInt8 := [154, 0, 5, 2, 172, 42, 180, 0, 33, 27, 46, 6, 160, 0, 6, 16, 254, 172, 16, 12, 27, 104, 7, 42]
abbrev dktX3_form_2 : List UInt8 := dkwX3_form_2 ++ dktX3_form_3
def dkwX3_form_1 : List UInt8 := [153, 0, 25, 42, 21, 4, 182, 0, 143, 153, 0, 16, 21, 5, 133, 10, 20, 0, 149, 184, 0, 132]
abbrev dktX3_form_1 : List UInt8 := dkwX3_form_1 ++ dktX3_form_2
def dkwX3_form_0 : List UInt8 := [27, 153, 0, 8, 27, 4, 160, 0, 41, 42, 28, 182, 0, 143, 153, 0, 33, 42, 29, 182, 0, 143]
abbrev dktX3_form_0 : List UInt8 := dkwX3_form_0 ++ dktX3_form_1
theorem dksX3_form_0 : cX3_form.data.toList.drop 0 = dktX3_form_0 := by decide +kernel
theorem dksX3_form_1 : cX3_form.data.toList.drop 22 = dktX3_form_1 := dk_seg dksX3_form_0 22 rfl rfl
theorem dksX3_form_2 : cX3_form.data.toList.drop 44 = dktX3_form_2 := dk_seg dksX3_form_1 22 rfl rfl
theorem dksX3_form_3 : cX3_form.data.toList.drop 68 = dktX3_form_3 := dk_seg dksX3_form_2 24 rfl rfl
theorem dksX3_form_4 : cX3_form.data.toList.drop 92 = dktX3_form_4 := dk_seg dksX3_form_3 24 rfl rfl
theorem dksX3_form_5 : cX3_form.data.toList.drop 116 = dktX3_form_5 := dk_seg dksX3_form_4 24 rfl rfl
theorem dksX3_form_6 : cX3_form.data.toList.drop 140 = dktX3_form_6 := dk_seg dksX3_form_5 24 rfl rfl
theorem dX3_form_0 : decode cX3_form 0 = .ok (.iload_n 1, 1) := dk_27 (dk_at dksX3_form_0 0 rfl rfl)
theorem dX3_form_1 : decode cX3_form 1 = .ok (.ifCond .eq 8, 3) := dk_153 0 8 (dk_at dksX3_form_0 1 rfl rfl)
theorem dX3_form_4 : decode cX3_form 4 = .ok (.iload_n 1, 1) := dk_27 (dk_at dksX3_form_0 4 rfl rfl)
theorem dX3_form_5 : decode cX3_form 5 = .ok (.iconst 1, 1) := dk_4 (dk_at dksX3_form_0 5 rfl rfl)
theorem dX3_form_6 : decode cX3_form 6 = .ok (.if_icmp .ne 41, 3) := dk_160 0 41 (dk_at dksX3_form_0 6 rfl rfl)
theorem dX3_form_9 : decode cX3_form 9 = .ok (.aload_n 0, 1) := dk_42 (dk_at dksX3_form_0 9 rfl rfl)
theorem dX3_form_10 : decode cX3_form 10 = .ok (.iload_n 2, 1) := dk_28 (dk_at dksX3_form_0 10 rfl rfl)
theorem dX3_form_11 : decode cX3_form 11 = .ok (.invokevirtual 143, 3) := dk_182 0 143 (dk_at dksX3_form_0 11 rfl rfl)
theorem dX3_form_14 : decode cX3_form 14 = .ok (.ifCond .eq 33, 3) := dk_153 0 33 (dk_at dksX3_form_0 14 rfl rfl)
theorem dX3_form_17 : decode cX3_form 17 = .ok (.aload_n 0, 1) := dk_42 (dk_at dksX3_form_0 17 rfl rfl)
theorem dX3_form_18 : decode cX3_form 18 = .ok (.iload_n 3, 1) := dk_29 (dk_at dksX3_form_0 18 rfl rfl)
theorem dX3_form_19 : decode cX3_form 19 = .ok (.invokevirtual 143, 3) := dk_182 0 143 (dk_at dksX3_form_0 19 rfl rfl)
theorem dX3_form_22 : decode cX3_form 22 = .ok (.ifCond .eq 25, 3) := dk_153 0 25 (dk_at dksX3_form_1 0 rfl rfl)
theorem dX3_form_25 : decode cX3_form 25 = .ok (.aload_n 0, 1) := dk_42 (dk_at dksX3_form_1 3 rfl rfl)
theorem dX3_form_26 : decode cX3_form 26 = .ok (.iload 4, 2) := dk_21 4 (dk_at dksX3_form_1 4 rfl rfl)
theorem dX3_form_28 : decode cX3_form 28 = .ok (.invokevirtual 143, 3) := dk_182 0 143 (dk_at dksX3_form_1 6 rfl rfl)
theorem dX3_form_31 : decode cX3_form 31 = .ok (.ifCond .eq 16, 3) := dk_153 0 16 (dk_at dksX3_form_1 9 rfl rfl)
theorem dX3_form_34 : decode cX3_form 34 = .ok (.iload 5, 2) := dk_21 5 (dk_at dksX3_form_1 12 rfl rfl)
theorem dX3_form_36 : decode cX3_form 36 = .ok (.i2l, 1) := dk_133 (dk_at dksX3_form_1 14 rfl rfl)
theorem dX3_form_37 : decode cX3_form 37 = .ok (.lconst 1, 1) := dk_10 (dk_at dksX3_form_1 15 rfl rfl)
theorem dX3_form_38 : decode cX3_form 38 = .ok (.ldc2_w 149, 3) := dk_20 0 149 (dk_at dksX3_form_1 16 rfl rfl)
theorem dX3_form_41 : decode cX3_form 41 = .ok (.invokestatic 132, 3) := dk_184 0 132 (dk_at dksX3_form_1 19 rfl rfl)
theorem dX3_form_44 : decode cX3_form 44 = .ok (.ifCond .ne 5, 3) := dk_154 0 5 (dk_at dksX3_form_2 0 rfl rfl)
theorem dX3_form_47 : decode cX3_form 47 = .ok (.iconst (-1), 1) := dk_2 (dk_at dksX3_form_2 3 rfl rfl)
theorem dX3_form_48 : decode cX3_form 48 = .ok (.ireturn, 1) := dk_172 (dk_at dksX3_form_2 4 rfl rfl)
theorem dX3_form_49 : decode cX3_form 49 = .ok (.aload_n 0, 1) := dk_42 (dk_at dksX3_form_2 5 rfl rfl)
theorem dX3_form_50 : decode cX3_form 50 = .ok (.getfield 33, 3) := dk_180 0 33 (dk_at dksX3_form_2 6 rfl rfl)
theorem dX3_form_53 : decode cX3_form 53 = .ok (.iload_n 1, 1) := dk_27 (dk_at dksX3_form_2 9 rfl rfl)
theorem dX3_form_54 : decode cX3_form 54 = .ok (.iaload, 1) := dk_46 (dk_at dksX3_form_2 10 rfl rfl)
theorem dX3_form_55 : decode cX3_form 55 = .ok (.iconst 3, 1) := dk_6 (dk_at dksX3_form_2 11 rfl rfl)
theorem dX3_form_56 : decode cX3_form 56 = .ok (.if_icmp .ne 6, 3) := dk_160 0 6 (dk_at dksX3_form_2 12 rfl rfl)
theorem dX3_form_59 : decode cX3_form 59 = .ok (.bipush (-2), 2) := dk_16 254 (dk_at dksX3_form_2 15 rfl rfl)
theorem dX3_form_61 : decode cX3_form 61 = .ok (.ireturn, 1) := dk_172 (dk_at dksX3_form_2 17 rfl rfl)
theorem dX3_form_62 : decode cX3_form 62 = .ok (.bipush 12, 2) := dk_16 12 (dk_at dksX3_form_2 18 rfl rfl)
theorem dX3_form_64 : decode cX3_form 64 = .ok (.iload_n 1, 1) := dk_27 (dk_at dksX3_form_2 20 rfl rfl)
theorem dX3_form_65 : decode cX3_form 65 = .ok (.imul, 1) := dk_104 (dk_at dksX3_form_2 21 rfl rfl)
theorem dX3_form_66 : decode cX3_form 66 = .ok (.iconst 4, 1) := dk_7 (dk_at dksX3_form_2 22 rfl rfl)
theorem dX3_form_67 : decode cX3_form 67 = .ok (.aload_n 0, 1) := dk_42 (dk_at dksX3_form_2 23 rfl rfl)
theorem dX3_form_68 : decode cX3_form 68 = .ok (.getfield 33, 3) := dk_180 0 33 (dk_at dksX3_form_3 0 rfl rfl)
theorem dX3_form_71 : decode cX3_form 71 = .ok (.iload_n 1, 1) := dk_27 (dk_at dksX3_form_3 3 rfl rfl)
theorem dX3_form_72 : decode cX3_form 72 = .ok (.iaload, 1) := dk_46 (dk_at dksX3_form_3 4 rfl rfl)
theorem dX3_form_73 : decode cX3_form 73 = .ok (.imul, 1) := dk_104 (dk_at dksX3_form_3 5 rfl rfl)
theorem dX3_form_74 : decode cX3_form 74 = .ok (.iadd, 1) := dk_96 (dk_at dksX3_form_3 6 rfl rfl)
theorem dX3_form_75 : decode cX3_form 75 = .ok (.istore 6, 2) := dk_54 6 (dk_at dksX3_form_3 7 rfl rfl)
theorem dX3_form_77 : decode cX3_form 77 = .ok (.aload_n 0, 1) := dk_42 (dk_at dksX3_form_3 9 rfl rfl)
theorem dX3_form_78 : decode cX3_form 78 = .ok (.getfield 36, 3) := dk_180 0 36 (dk_at dksX3_form_3 10 rfl rfl)
theorem dX3_form_81 : decode cX3_form 81 = .ok (.iload 6, 2) := dk_21 6 (dk_at dksX3_form_3 13 rfl rfl)
theorem dX3_form_83 : decode cX3_form 83 = .ok (.iload_n 2, 1) := dk_28 (dk_at dksX3_form_3 15 rfl rfl)
theorem dX3_form_84 : decode cX3_form 84 = .ok (.iastore, 1) := dk_79 (dk_at dksX3_form_3 16 rfl rfl)
theorem dX3_form_85 : decode cX3_form 85 = .ok (.aload_n 0, 1) := dk_42 (dk_at dksX3_form_3 17 rfl rfl)
theorem dX3_form_86 : decode cX3_form 86 = .ok (.getfield 36, 3) := dk_180 0 36 (dk_at dksX3_form_3 18 rfl rfl)
theorem dX3_form_89 : decode cX3_form 89 = .ok (.iload 6, 2) := dk_21 6 (dk_at dksX3_form_3 21 rfl rfl)
theorem dX3_form_91 : decode cX3_form 91 = .ok (.iconst 1, 1) := dk_4 (dk_at dksX3_form_3 23 rfl rfl)
theorem dX3_form_92 : decode cX3_form 92 = .ok (.iadd, 1) := dk_96 (dk_at dksX3_form_4 0 rfl rfl)
theorem dX3_form_93 : decode cX3_form 93 = .ok (.iload_n 3, 1) := dk_29 (dk_at dksX3_form_4 1 rfl rfl)
theorem dX3_form_94 : decode cX3_form 94 = .ok (.iastore, 1) := dk_79 (dk_at dksX3_form_4 2 rfl rfl)
theorem dX3_form_95 : decode cX3_form 95 = .ok (.aload_n 0, 1) := dk_42 (dk_at dksX3_form_4 3 rfl rfl)
theorem dX3_form_96 : decode cX3_form 96 = .ok (.getfield 36, 3) := dk_180 0 36 (dk_at dksX3_form_4 4 rfl rfl)
theorem dX3_form_99 : decode cX3_form 99 = .ok (.iload 6, 2) := dk_21 6 (dk_at dksX3_form_4 7 rfl rfl)
theorem dX3_form_101 : decode cX3_form 101 = .ok (.iconst 2, 1) := dk_5 (dk_at dksX3_form_4 9 rfl rfl)
theorem dX3_form_102 : decode cX3_form 102 = .ok (.iadd, 1) := dk_96 (dk_at dksX3_form_4 10 rfl rfl)
theorem dX3_form_103 : decode cX3_form 103 = .ok (.iload 4, 2) := dk_21 4 (dk_at dksX3_form_4 11 rfl rfl)
theorem dX3_form_105 : decode cX3_form 105 = .ok (.iastore, 1) := dk_79 (dk_at dksX3_form_4 13 rfl rfl)
theorem dX3_form_106 : decode cX3_form 106 = .ok (.aload_n 0, 1) := dk_42 (dk_at dksX3_form_4 14 rfl rfl)
theorem dX3_form_107 : decode cX3_form 107 = .ok (.getfield 36, 3) := dk_180 0 36 (dk_at dksX3_form_4 15 rfl rfl)
theorem dX3_form_110 : decode cX3_form 110 = .ok (.iload 6, 2) := dk_21 6 (dk_at dksX3_form_4 18 rfl rfl)
theorem dX3_form_112 : decode cX3_form 112 = .ok (.iconst 3, 1) := dk_6 (dk_at dksX3_form_4 20 rfl rfl)
theorem dX3_form_113 : decode cX3_form 113 = .ok (.iadd, 1) := dk_96 (dk_at dksX3_form_4 21 rfl rfl)
theorem dX3_form_114 : decode cX3_form 114 = .ok (.iload 5, 2) := dk_21 5 (dk_at dksX3_form_4 22 rfl rfl)
theorem dX3_form_116 : decode cX3_form 116 = .ok (.iastore, 1) := dk_79 (dk_at dksX3_form_5 0 rfl rfl)
theorem dX3_form_117 : decode cX3_form 117 = .ok (.aload_n 0, 1) := dk_42 (dk_at dksX3_form_5 1 rfl rfl)
theorem dX3_form_118 : decode cX3_form 118 = .ok (.getfield 33, 3) := dk_180 0 33 (dk_at dksX3_form_5 2 rfl rfl)
theorem dX3_form_121 : decode cX3_form 121 = .ok (.iload_n 1, 1) := dk_27 (dk_at dksX3_form_5 5 rfl rfl)
theorem dX3_form_122 : decode cX3_form 122 = .ok (.dup2, 1) := dk_92 (dk_at dksX3_form_5 6 rfl rfl)
theorem dX3_form_123 : decode cX3_form 123 = .ok (.iaload, 1) := dk_46 (dk_at dksX3_form_5 7 rfl rfl)
theorem dX3_form_124 : decode cX3_form 124 = .ok (.iconst 1, 1) := dk_4 (dk_at dksX3_form_5 8 rfl rfl)
theorem dX3_form_125 : decode cX3_form 125 = .ok (.iadd, 1) := dk_96 (dk_at dksX3_form_5 9 rfl rfl)
theorem dX3_form_126 : decode cX3_form 126 = .ok (.iastore, 1) := dk_79 (dk_at dksX3_form_5 10 rfl rfl)
theorem dX3_form_127 : decode cX3_form 127 = .ok (.aload_n 0, 1) := dk_42 (dk_at dksX3_form_5 11 rfl rfl)
theorem dX3_form_128 : decode cX3_form 128 = .ok (.iconst 0, 1) := dk_3 (dk_at dksX3_form_5 12 rfl rfl)
theorem dX3_form_129 : decode cX3_form 129 = .ok (.putfield 125, 3) := dk_181 0 125 (dk_at dksX3_form_5 13 rfl rfl)
theorem dX3_form_132 : decode cX3_form 132 = .ok (.aload_n 0, 1) := dk_42 (dk_at dksX3_form_5 16 rfl rfl)
theorem dX3_form_133 : decode cX3_form 133 = .ok (.getfield 33, 3) := dk_180 0 33 (dk_at dksX3_form_5 17 rfl rfl)
theorem dX3_form_136 : decode cX3_form 136 = .ok (.iload_n 1, 1) := dk_27 (dk_at dksX3_form_5 20 rfl rfl)
theorem dX3_form_137 : decode cX3_form 137 = .ok (.iaload, 1) := dk_46 (dk_at dksX3_form_5 21 rfl rfl)
theorem dX3_form_138 : decode cX3_form 138 = .ok (.iconst 1, 1) := dk_4 (dk_at dksX3_form_5 22 rfl rfl)
theorem dX3_form_139 : decode cX3_form 139 = .ok (.isub, 1) := dk_100 (dk_at dksX3_form_5 23 rfl rfl)
theorem dX3_form_140 : decode cX3_form 140 = .ok (.ireturn, 1) := dk_172 (dk_at dksX3_form_6 0 rfl rfl)
abbrev cX3_fences : ByteArray := prog_19_method_13_code
def yX3_fences : MethodName := ⟨RX3, "fences", "(Z)I"⟩
def dkwX3_fences_1 : List UInt8 := [172]
abbrev dktX3_fences_1 : List UInt8 := dkwX3_fences_1 ++ []
def dkwX3_fences_0 : List UInt8 := [42, 180, 0, 153, 153, 0, 7, 4, 167, 0, 4, 3, 61, 42, 27, 181, 0, 153, 42, 3, 181, 0, 125, 28]
abbrev dktX3_fences_0 : List UInt8 := dkwX3_fences_0 ++ dktX3_fences_1
theorem dksX3_fences_0 : cX3_fences.data.toList.drop 0 = dktX3_fences_0 := by decide +kernel
theorem dksX3_fences_1 : cX3_fences.data.toList.drop 24 = dktX3_fences_1 := dk_seg dksX3_fences_0 24 rfl rfl
theorem dX3_fences_0 : decode cX3_fences 0 = .ok (.aload_n 0, 1) := dk_42 (dk_at dksX3_fences_0 0 rfl rfl)
theorem dX3_fences_1 : decode cX3_fences 1 = .ok (.getfield 153, 3) := dk_180 0 153 (dk_at dksX3_fences_0 1 rfl rfl)
theorem dX3_fences_4 : decode cX3_fences 4 = .ok (.ifCond .eq 7, 3) := dk_153 0 7 (dk_at dksX3_fences_0 4 rfl rfl)
theorem dX3_fences_7 : decode cX3_fences 7 = .ok (.iconst 1, 1) := dk_4 (dk_at dksX3_fences_0 7 rfl rfl)
theorem dX3_fences_8 : decode cX3_fences 8 = .ok (.goto 4, 3) := dk_167 0 4 (dk_at dksX3_fences_0 8 rfl rfl)
theorem dX3_fences_11 : decode cX3_fences 11 = .ok (.iconst 0, 1) := dk_3 (dk_at dksX3_fences_0 11 rfl rfl)
theorem dX3_fences_12 : decode cX3_fences 12 = .ok (.istore_n 2, 1) := dk_61 (dk_at dksX3_fences_0 12 rfl rfl)
theorem dX3_fences_13 : decode cX3_fences 13 = .ok (.aload_n 0, 1) := dk_42 (dk_at dksX3_fences_0 13 rfl rfl)
theorem dX3_fences_14 : decode cX3_fences 14 = .ok (.iload_n 1, 1) := dk_27 (dk_at dksX3_fences_0 14 rfl rfl)
theorem dX3_fences_15 : decode cX3_fences 15 = .ok (.putfield 153, 3) := dk_181 0 153 (dk_at dksX3_fences_0 15 rfl rfl)
theorem dX3_fences_18 : decode cX3_fences 18 = .ok (.aload_n 0, 1) := dk_42 (dk_at dksX3_fences_0 18 rfl rfl)
theorem dX3_fences_19 : decode cX3_fences 19 = .ok (.iconst 0, 1) := dk_3 (dk_at dksX3_fences_0 19 rfl rfl)
theorem dX3_fences_20 : decode cX3_fences 20 = .ok (.putfield 125, 3) := dk_181 0 125 (dk_at dksX3_fences_0 20 rfl rfl)
theorem dX3_fences_23 : decode cX3_fences 23 = .ok (.iload_n 2, 1) := dk_28 (dk_at dksX3_fences_0 23 rfl rfl)
theorem dX3_fences_24 : decode cX3_fences 24 = .ok (.ireturn, 1) := dk_172 (dk_at dksX3_fences_1 0 rfl rfl)
abbrev cX3_put : ByteArray := prog_19_method_14_code
def yX3_put : MethodName := ⟨RX3, "put", "(II)I"⟩
def dkwX3_put_3 : List UInt8 := [28, 79, 42, 89, 180, 0, 156, 4, 96, 181, 0, 156, 42, 3, 181, 0, 125, 42, 180, 0, 156, 172]
abbrev dktX3_put_3 : List UInt8 := dkwX3_put_3 ++ []
def dkwX3_put_2 : List UInt8 := [180, 0, 39, 29, 42, 180, 0, 39, 29, 4, 100, 46, 79, 132, 3, 255, 167, 255, 234, 42, 180, 0, 39, 27]
abbrev dktX3_put_2 : List UInt8 := dkwX3_put_2 ++ dktX3_put_3
def dkwX3_put_1 : List UInt8 := [42, 180, 0, 156, 16, 10, 160, 0, 6, 16, 254, 172, 42, 180, 0, 156, 62, 29, 27, 164, 0, 23, 42]
abbrev dktX3_put_1 : List UInt8 := dkwX3_put_1 ++ dktX3_put_2
def dkwX3_put_0 : List UInt8 := [27, 133, 9, 42, 180, 0, 156, 133, 184, 0, 132, 153, 0, 11, 42, 28, 182, 0, 143, 154, 0, 5, 2, 172]
abbrev dktX3_put_0 : List UInt8 := dkwX3_put_0 ++ dktX3_put_1
theorem dksX3_put_0 : cX3_put.data.toList.drop 0 = dktX3_put_0 := by decide +kernel
theorem dksX3_put_1 : cX3_put.data.toList.drop 24 = dktX3_put_1 := dk_seg dksX3_put_0 24 rfl rfl
theorem dksX3_put_2 : cX3_put.data.toList.drop 47 = dktX3_put_2 := dk_seg dksX3_put_1 23 rfl rfl
theorem dksX3_put_3 : cX3_put.data.toList.drop 71 = dktX3_put_3 := dk_seg dksX3_put_2 24 rfl rfl
theorem dX3_put_0 : decode cX3_put 0 = .ok (.iload_n 1, 1) := dk_27 (dk_at dksX3_put_0 0 rfl rfl)
theorem dX3_put_1 : decode cX3_put 1 = .ok (.i2l, 1) := dk_133 (dk_at dksX3_put_0 1 rfl rfl)
theorem dX3_put_2 : decode cX3_put 2 = .ok (.lconst 0, 1) := dk_9 (dk_at dksX3_put_0 2 rfl rfl)
theorem dX3_put_3 : decode cX3_put 3 = .ok (.aload_n 0, 1) := dk_42 (dk_at dksX3_put_0 3 rfl rfl)
theorem dX3_put_4 : decode cX3_put 4 = .ok (.getfield 156, 3) := dk_180 0 156 (dk_at dksX3_put_0 4 rfl rfl)
theorem dX3_put_7 : decode cX3_put 7 = .ok (.i2l, 1) := dk_133 (dk_at dksX3_put_0 7 rfl rfl)
theorem dX3_put_8 : decode cX3_put 8 = .ok (.invokestatic 132, 3) := dk_184 0 132 (dk_at dksX3_put_0 8 rfl rfl)
theorem dX3_put_11 : decode cX3_put 11 = .ok (.ifCond .eq 11, 3) := dk_153 0 11 (dk_at dksX3_put_0 11 rfl rfl)
theorem dX3_put_14 : decode cX3_put 14 = .ok (.aload_n 0, 1) := dk_42 (dk_at dksX3_put_0 14 rfl rfl)
theorem dX3_put_15 : decode cX3_put 15 = .ok (.iload_n 2, 1) := dk_28 (dk_at dksX3_put_0 15 rfl rfl)
theorem dX3_put_16 : decode cX3_put 16 = .ok (.invokevirtual 143, 3) := dk_182 0 143 (dk_at dksX3_put_0 16 rfl rfl)
theorem dX3_put_19 : decode cX3_put 19 = .ok (.ifCond .ne 5, 3) := dk_154 0 5 (dk_at dksX3_put_0 19 rfl rfl)
theorem dX3_put_22 : decode cX3_put 22 = .ok (.iconst (-1), 1) := dk_2 (dk_at dksX3_put_0 22 rfl rfl)
theorem dX3_put_23 : decode cX3_put 23 = .ok (.ireturn, 1) := dk_172 (dk_at dksX3_put_0 23 rfl rfl)
theorem dX3_put_24 : decode cX3_put 24 = .ok (.aload_n 0, 1) := dk_42 (dk_at dksX3_put_1 0 rfl rfl)
theorem dX3_put_25 : decode cX3_put 25 = .ok (.getfield 156, 3) := dk_180 0 156 (dk_at dksX3_put_1 1 rfl rfl)
theorem dX3_put_28 : decode cX3_put 28 = .ok (.bipush 10, 2) := dk_16 10 (dk_at dksX3_put_1 4 rfl rfl)
theorem dX3_put_30 : decode cX3_put 30 = .ok (.if_icmp .ne 6, 3) := dk_160 0 6 (dk_at dksX3_put_1 6 rfl rfl)
theorem dX3_put_33 : decode cX3_put 33 = .ok (.bipush (-2), 2) := dk_16 254 (dk_at dksX3_put_1 9 rfl rfl)
theorem dX3_put_35 : decode cX3_put 35 = .ok (.ireturn, 1) := dk_172 (dk_at dksX3_put_1 11 rfl rfl)
theorem dX3_put_36 : decode cX3_put 36 = .ok (.aload_n 0, 1) := dk_42 (dk_at dksX3_put_1 12 rfl rfl)
theorem dX3_put_37 : decode cX3_put 37 = .ok (.getfield 156, 3) := dk_180 0 156 (dk_at dksX3_put_1 13 rfl rfl)
theorem dX3_put_40 : decode cX3_put 40 = .ok (.istore_n 3, 1) := dk_62 (dk_at dksX3_put_1 16 rfl rfl)
theorem dX3_put_41 : decode cX3_put 41 = .ok (.iload_n 3, 1) := dk_29 (dk_at dksX3_put_1 17 rfl rfl)
theorem dX3_put_42 : decode cX3_put 42 = .ok (.iload_n 1, 1) := dk_27 (dk_at dksX3_put_1 18 rfl rfl)
theorem dX3_put_43 : decode cX3_put 43 = .ok (.if_icmp .le 23, 3) := dk_164 0 23 (dk_at dksX3_put_1 19 rfl rfl)
theorem dX3_put_46 : decode cX3_put 46 = .ok (.aload_n 0, 1) := dk_42 (dk_at dksX3_put_1 22 rfl rfl)
theorem dX3_put_47 : decode cX3_put 47 = .ok (.getfield 39, 3) := dk_180 0 39 (dk_at dksX3_put_2 0 rfl rfl)
theorem dX3_put_50 : decode cX3_put 50 = .ok (.iload_n 3, 1) := dk_29 (dk_at dksX3_put_2 3 rfl rfl)
theorem dX3_put_51 : decode cX3_put 51 = .ok (.aload_n 0, 1) := dk_42 (dk_at dksX3_put_2 4 rfl rfl)
theorem dX3_put_52 : decode cX3_put 52 = .ok (.getfield 39, 3) := dk_180 0 39 (dk_at dksX3_put_2 5 rfl rfl)
theorem dX3_put_55 : decode cX3_put 55 = .ok (.iload_n 3, 1) := dk_29 (dk_at dksX3_put_2 8 rfl rfl)
theorem dX3_put_56 : decode cX3_put 56 = .ok (.iconst 1, 1) := dk_4 (dk_at dksX3_put_2 9 rfl rfl)
theorem dX3_put_57 : decode cX3_put 57 = .ok (.isub, 1) := dk_100 (dk_at dksX3_put_2 10 rfl rfl)
theorem dX3_put_58 : decode cX3_put 58 = .ok (.iaload, 1) := dk_46 (dk_at dksX3_put_2 11 rfl rfl)
theorem dX3_put_59 : decode cX3_put 59 = .ok (.iastore, 1) := dk_79 (dk_at dksX3_put_2 12 rfl rfl)
theorem dX3_put_60 : decode cX3_put 60 = .ok (.iinc 3 (-1), 3) := dk_132 3 255 (dk_at dksX3_put_2 13 rfl rfl)
theorem dX3_put_63 : decode cX3_put 63 = .ok (.goto (-22), 3) := dk_167 255 234 (dk_at dksX3_put_2 16 rfl rfl)
theorem dX3_put_66 : decode cX3_put 66 = .ok (.aload_n 0, 1) := dk_42 (dk_at dksX3_put_2 19 rfl rfl)
theorem dX3_put_67 : decode cX3_put 67 = .ok (.getfield 39, 3) := dk_180 0 39 (dk_at dksX3_put_2 20 rfl rfl)
theorem dX3_put_70 : decode cX3_put 70 = .ok (.iload_n 1, 1) := dk_27 (dk_at dksX3_put_2 23 rfl rfl)
theorem dX3_put_71 : decode cX3_put 71 = .ok (.iload_n 2, 1) := dk_28 (dk_at dksX3_put_3 0 rfl rfl)
theorem dX3_put_72 : decode cX3_put 72 = .ok (.iastore, 1) := dk_79 (dk_at dksX3_put_3 1 rfl rfl)
theorem dX3_put_73 : decode cX3_put 73 = .ok (.aload_n 0, 1) := dk_42 (dk_at dksX3_put_3 2 rfl rfl)
theorem dX3_put_74 : decode cX3_put 74 = .ok (.dup, 1) := dk_89 (dk_at dksX3_put_3 3 rfl rfl)
theorem dX3_put_75 : decode cX3_put 75 = .ok (.getfield 156, 3) := dk_180 0 156 (dk_at dksX3_put_3 4 rfl rfl)
theorem dX3_put_78 : decode cX3_put 78 = .ok (.iconst 1, 1) := dk_4 (dk_at dksX3_put_3 7 rfl rfl)
theorem dX3_put_79 : decode cX3_put 79 = .ok (.iadd, 1) := dk_96 (dk_at dksX3_put_3 8 rfl rfl)
theorem dX3_put_80 : decode cX3_put 80 = .ok (.putfield 156, 3) := dk_181 0 156 (dk_at dksX3_put_3 9 rfl rfl)
theorem dX3_put_83 : decode cX3_put 83 = .ok (.aload_n 0, 1) := dk_42 (dk_at dksX3_put_3 12 rfl rfl)
theorem dX3_put_84 : decode cX3_put 84 = .ok (.iconst 0, 1) := dk_3 (dk_at dksX3_put_3 13 rfl rfl)
theorem dX3_put_85 : decode cX3_put 85 = .ok (.putfield 125, 3) := dk_181 0 125 (dk_at dksX3_put_3 14 rfl rfl)
theorem dX3_put_88 : decode cX3_put 88 = .ok (.aload_n 0, 1) := dk_42 (dk_at dksX3_put_3 17 rfl rfl)
theorem dX3_put_89 : decode cX3_put 89 = .ok (.getfield 156, 3) := dk_180 0 156 (dk_at dksX3_put_3 18 rfl rfl)
theorem dX3_put_92 : decode cX3_put 92 = .ok (.ireturn, 1) := dk_172 (dk_at dksX3_put_3 21 rfl rfl)
abbrev cX3_take : ByteArray := prog_19_method_15_code
def yX3_take : MethodName := ⟨RX3, "take", "(I)I"⟩
def dkwX3_take_2 : List UInt8 := [4, 96, 46, 79, 132, 2, 1, 167, 255, 231, 42, 3, 181, 0, 125, 42, 180, 0, 156, 172]
abbrev dktX3_take_2 : List UInt8 := dkwX3_take_2 ++ []
def dkwX3_take_1 : List UInt8 := [100, 181, 0, 156, 27, 61, 28, 42, 180, 0, 156, 162, 0, 23, 42, 180, 0, 39, 28, 42, 180, 0, 39, 28]
abbrev dktX3_take_1 : List UInt8 := dkwX3_take_1 ++ dktX3_take_2
def dkwX3_take_0 : List UInt8 := [27, 133, 9, 42, 180, 0, 156, 4, 100, 133, 184, 0, 132, 154, 0, 5, 2, 172, 42, 89, 180, 0, 156, 4]
abbrev dktX3_take_0 : List UInt8 := dkwX3_take_0 ++ dktX3_take_1
theorem dksX3_take_0 : cX3_take.data.toList.drop 0 = dktX3_take_0 := by decide +kernel
theorem dksX3_take_1 : cX3_take.data.toList.drop 24 = dktX3_take_1 := dk_seg dksX3_take_0 24 rfl rfl
theorem dksX3_take_2 : cX3_take.data.toList.drop 48 = dktX3_take_2 := dk_seg dksX3_take_1 24 rfl rfl
theorem dX3_take_0 : decode cX3_take 0 = .ok (.iload_n 1, 1) := dk_27 (dk_at dksX3_take_0 0 rfl rfl)
theorem dX3_take_1 : decode cX3_take 1 = .ok (.i2l, 1) := dk_133 (dk_at dksX3_take_0 1 rfl rfl)
theorem dX3_take_2 : decode cX3_take 2 = .ok (.lconst 0, 1) := dk_9 (dk_at dksX3_take_0 2 rfl rfl)
theorem dX3_take_3 : decode cX3_take 3 = .ok (.aload_n 0, 1) := dk_42 (dk_at dksX3_take_0 3 rfl rfl)
theorem dX3_take_4 : decode cX3_take 4 = .ok (.getfield 156, 3) := dk_180 0 156 (dk_at dksX3_take_0 4 rfl rfl)
theorem dX3_take_7 : decode cX3_take 7 = .ok (.iconst 1, 1) := dk_4 (dk_at dksX3_take_0 7 rfl rfl)
theorem dX3_take_8 : decode cX3_take 8 = .ok (.isub, 1) := dk_100 (dk_at dksX3_take_0 8 rfl rfl)
theorem dX3_take_9 : decode cX3_take 9 = .ok (.i2l, 1) := dk_133 (dk_at dksX3_take_0 9 rfl rfl)
theorem dX3_take_10 : decode cX3_take 10 = .ok (.invokestatic 132, 3) := dk_184 0 132 (dk_at dksX3_take_0 10 rfl rfl)
theorem dX3_take_13 : decode cX3_take 13 = .ok (.ifCond .ne 5, 3) := dk_154 0 5 (dk_at dksX3_take_0 13 rfl rfl)
theorem dX3_take_16 : decode cX3_take 16 = .ok (.iconst (-1), 1) := dk_2 (dk_at dksX3_take_0 16 rfl rfl)
theorem dX3_take_17 : decode cX3_take 17 = .ok (.ireturn, 1) := dk_172 (dk_at dksX3_take_0 17 rfl rfl)
theorem dX3_take_18 : decode cX3_take 18 = .ok (.aload_n 0, 1) := dk_42 (dk_at dksX3_take_0 18 rfl rfl)
theorem dX3_take_19 : decode cX3_take 19 = .ok (.dup, 1) := dk_89 (dk_at dksX3_take_0 19 rfl rfl)
theorem dX3_take_20 : decode cX3_take 20 = .ok (.getfield 156, 3) := dk_180 0 156 (dk_at dksX3_take_0 20 rfl rfl)
theorem dX3_take_23 : decode cX3_take 23 = .ok (.iconst 1, 1) := dk_4 (dk_at dksX3_take_0 23 rfl rfl)
theorem dX3_take_24 : decode cX3_take 24 = .ok (.isub, 1) := dk_100 (dk_at dksX3_take_1 0 rfl rfl)
theorem dX3_take_25 : decode cX3_take 25 = .ok (.putfield 156, 3) := dk_181 0 156 (dk_at dksX3_take_1 1 rfl rfl)
theorem dX3_take_28 : decode cX3_take 28 = .ok (.iload_n 1, 1) := dk_27 (dk_at dksX3_take_1 4 rfl rfl)
theorem dX3_take_29 : decode cX3_take 29 = .ok (.istore_n 2, 1) := dk_61 (dk_at dksX3_take_1 5 rfl rfl)
theorem dX3_take_30 : decode cX3_take 30 = .ok (.iload_n 2, 1) := dk_28 (dk_at dksX3_take_1 6 rfl rfl)
theorem dX3_take_31 : decode cX3_take 31 = .ok (.aload_n 0, 1) := dk_42 (dk_at dksX3_take_1 7 rfl rfl)
theorem dX3_take_32 : decode cX3_take 32 = .ok (.getfield 156, 3) := dk_180 0 156 (dk_at dksX3_take_1 8 rfl rfl)
theorem dX3_take_35 : decode cX3_take 35 = .ok (.if_icmp .ge 23, 3) := dk_162 0 23 (dk_at dksX3_take_1 11 rfl rfl)
theorem dX3_take_38 : decode cX3_take 38 = .ok (.aload_n 0, 1) := dk_42 (dk_at dksX3_take_1 14 rfl rfl)
theorem dX3_take_39 : decode cX3_take 39 = .ok (.getfield 39, 3) := dk_180 0 39 (dk_at dksX3_take_1 15 rfl rfl)
theorem dX3_take_42 : decode cX3_take 42 = .ok (.iload_n 2, 1) := dk_28 (dk_at dksX3_take_1 18 rfl rfl)
theorem dX3_take_43 : decode cX3_take 43 = .ok (.aload_n 0, 1) := dk_42 (dk_at dksX3_take_1 19 rfl rfl)
theorem dX3_take_44 : decode cX3_take 44 = .ok (.getfield 39, 3) := dk_180 0 39 (dk_at dksX3_take_1 20 rfl rfl)
theorem dX3_take_47 : decode cX3_take 47 = .ok (.iload_n 2, 1) := dk_28 (dk_at dksX3_take_1 23 rfl rfl)
theorem dX3_take_48 : decode cX3_take 48 = .ok (.iconst 1, 1) := dk_4 (dk_at dksX3_take_2 0 rfl rfl)
theorem dX3_take_49 : decode cX3_take 49 = .ok (.iadd, 1) := dk_96 (dk_at dksX3_take_2 1 rfl rfl)
theorem dX3_take_50 : decode cX3_take 50 = .ok (.iaload, 1) := dk_46 (dk_at dksX3_take_2 2 rfl rfl)
theorem dX3_take_51 : decode cX3_take 51 = .ok (.iastore, 1) := dk_79 (dk_at dksX3_take_2 3 rfl rfl)
theorem dX3_take_52 : decode cX3_take 52 = .ok (.iinc 2 1, 3) := dk_132 2 1 (dk_at dksX3_take_2 4 rfl rfl)
theorem dX3_take_55 : decode cX3_take 55 = .ok (.goto (-25), 3) := dk_167 255 231 (dk_at dksX3_take_2 7 rfl rfl)
theorem dX3_take_58 : decode cX3_take 58 = .ok (.aload_n 0, 1) := dk_42 (dk_at dksX3_take_2 10 rfl rfl)
theorem dX3_take_59 : decode cX3_take 59 = .ok (.iconst 0, 1) := dk_3 (dk_at dksX3_take_2 11 rfl rfl)
theorem dX3_take_60 : decode cX3_take 60 = .ok (.putfield 125, 3) := dk_181 0 125 (dk_at dksX3_take_2 12 rfl rfl)
theorem dX3_take_63 : decode cX3_take 63 = .ok (.aload_n 0, 1) := dk_42 (dk_at dksX3_take_2 15 rfl rfl)
theorem dX3_take_64 : decode cX3_take 64 = .ok (.getfield 156, 3) := dk_180 0 156 (dk_at dksX3_take_2 16 rfl rfl)
theorem dX3_take_67 : decode cX3_take 67 = .ok (.ireturn, 1) := dk_172 (dk_at dksX3_take_2 19 rfl rfl)
abbrev cX3_at : ByteArray := prog_19_method_16_code
def yX3_at : MethodName := ⟨RX3, "at", "(I)I"⟩
def dkwX3_at_1 : List UInt8 := [167, 0, 4, 2, 172]
abbrev dktX3_at_1 : List UInt8 := dkwX3_at_1 ++ []
def dkwX3_at_0 : List UInt8 := [27, 133, 9, 42, 180, 0, 156, 4, 100, 133, 184, 0, 132, 153, 0, 12, 42, 180, 0, 39, 27, 46]
abbrev dktX3_at_0 : List UInt8 := dkwX3_at_0 ++ dktX3_at_1
theorem dksX3_at_0 : cX3_at.data.toList.drop 0 = dktX3_at_0 := by decide +kernel
theorem dksX3_at_1 : cX3_at.data.toList.drop 22 = dktX3_at_1 := dk_seg dksX3_at_0 22 rfl rfl
theorem dX3_at_0 : decode cX3_at 0 = .ok (.iload_n 1, 1) := dk_27 (dk_at dksX3_at_0 0 rfl rfl)
theorem dX3_at_1 : decode cX3_at 1 = .ok (.i2l, 1) := dk_133 (dk_at dksX3_at_0 1 rfl rfl)
theorem dX3_at_2 : decode cX3_at 2 = .ok (.lconst 0, 1) := dk_9 (dk_at dksX3_at_0 2 rfl rfl)
theorem dX3_at_3 : decode cX3_at 3 = .ok (.aload_n 0, 1) := dk_42 (dk_at dksX3_at_0 3 rfl rfl)
theorem dX3_at_4 : decode cX3_at 4 = .ok (.getfield 156, 3) := dk_180 0 156 (dk_at dksX3_at_0 4 rfl rfl)
theorem dX3_at_7 : decode cX3_at 7 = .ok (.iconst 1, 1) := dk_4 (dk_at dksX3_at_0 7 rfl rfl)
theorem dX3_at_8 : decode cX3_at 8 = .ok (.isub, 1) := dk_100 (dk_at dksX3_at_0 8 rfl rfl)
theorem dX3_at_9 : decode cX3_at 9 = .ok (.i2l, 1) := dk_133 (dk_at dksX3_at_0 9 rfl rfl)
theorem dX3_at_10 : decode cX3_at 10 = .ok (.invokestatic 132, 3) := dk_184 0 132 (dk_at dksX3_at_0 10 rfl rfl)
theorem dX3_at_13 : decode cX3_at 13 = .ok (.ifCond .eq 12, 3) := dk_153 0 12 (dk_at dksX3_at_0 13 rfl rfl)
theorem dX3_at_16 : decode cX3_at 16 = .ok (.aload_n 0, 1) := dk_42 (dk_at dksX3_at_0 16 rfl rfl)
theorem dX3_at_17 : decode cX3_at 17 = .ok (.getfield 39, 3) := dk_180 0 39 (dk_at dksX3_at_0 17 rfl rfl)
theorem dX3_at_20 : decode cX3_at 20 = .ok (.iload_n 1, 1) := dk_27 (dk_at dksX3_at_0 20 rfl rfl)
theorem dX3_at_21 : decode cX3_at 21 = .ok (.iaload, 1) := dk_46 (dk_at dksX3_at_0 21 rfl rfl)
theorem dX3_at_22 : decode cX3_at 22 = .ok (.goto 4, 3) := dk_167 0 4 (dk_at dksX3_at_1 0 rfl rfl)
theorem dX3_at_25 : decode cX3_at 25 = .ok (.iconst (-1), 1) := dk_2 (dk_at dksX3_at_1 3 rfl rfl)
theorem dX3_at_26 : decode cX3_at 26 = .ok (.ireturn, 1) := dk_172 (dk_at dksX3_at_1 4 rfl rfl)
abbrev cX3_read : ByteArray := prog_19_method_45_code
def yX3_read : MethodName := ⟨RX3, "read", "()I"⟩
def dkwX3_read_0 : List UInt8 := [42, 180, 0, 129, 154, 0, 8, 16, 253, 167, 0, 8, 42, 3, 182, 1, 42, 172]
abbrev dktX3_read_0 : List UInt8 := dkwX3_read_0 ++ []
theorem dksX3_read_0 : cX3_read.data.toList.drop 0 = dktX3_read_0 := by decide +kernel
theorem dX3_read_0 : decode cX3_read 0 = .ok (.aload_n 0, 1) := dk_42 (dk_at dksX3_read_0 0 rfl rfl)
theorem dX3_read_1 : decode cX3_read 1 = .ok (.getfield 129, 3) := dk_180 0 129 (dk_at dksX3_read_0 1 rfl rfl)
theorem dX3_read_4 : decode cX3_read 4 = .ok (.ifCond .ne 8, 3) := dk_154 0 8 (dk_at dksX3_read_0 4 rfl rfl)
theorem dX3_read_7 : decode cX3_read 7 = .ok (.bipush (-3), 2) := dk_16 253 (dk_at dksX3_read_0 7 rfl rfl)
theorem dX3_read_9 : decode cX3_read 9 = .ok (.goto 8, 3) := dk_167 0 8 (dk_at dksX3_read_0 9 rfl rfl)
theorem dX3_read_12 : decode cX3_read 12 = .ok (.aload_n 0, 1) := dk_42 (dk_at dksX3_read_0 12 rfl rfl)
theorem dX3_read_13 : decode cX3_read 13 = .ok (.iconst 0, 1) := dk_3 (dk_at dksX3_read_0 13 rfl rfl)
theorem dX3_read_14 : decode cX3_read 14 = .ok (.invokevirtual 298, 3) := dk_182 1 42 (dk_at dksX3_read_0 14 rfl rfl)
theorem dX3_read_17 : decode cX3_read 17 = .ok (.ireturn, 1) := dk_172 (dk_at dksX3_read_0 17 rfl rfl)
abbrev cX3_mends : ByteArray := prog_19_method_44_code
def yX3_mends : MethodName := ⟨RX3, "mends", "(I)I"⟩
def dkwX3_mends_4 : List UInt8 := [20, 0, 226, 113, 20, 0, 149, 148, 157, 0, 8, 42, 28, 182, 1, 39, 42, 180, 0, 45, 172]
abbrev dktX3_mends_4 : List UInt8 := dkwX3_mends_4 ++ []
def dkwX3_mends_3 : List UInt8 := [154, 0, 6, 16, 252, 172, 42, 28, 182, 1, 35, 66, 42, 33, 20, 0, 226, 109, 136, 181, 0, 45, 33]
abbrev dktX3_mends_3 : List UInt8 := dkwX3_mends_3 ++ dktX3_mends_4
def dkwX3_mends_2 : List UInt8 := [28, 16, 252, 159, 0, 7, 4, 167, 0, 4, 3, 181, 1, 32, 42, 16, 252, 181, 0, 45, 42, 180, 1, 32]
abbrev dktX3_mends_2 : List UInt8 := dkwX3_mends_2 ++ dktX3_mends_3
def dkwX3_mends_1 : List UInt8 := [181, 0, 250, 42, 3, 181, 1, 4, 42, 3, 181, 1, 7, 42, 4, 181, 0, 125, 42, 182, 1, 28, 61, 42]
abbrev dktX3_mends_1 : List UInt8 := dkwX3_mends_1 ++ dktX3_mends_2
def dkwX3_mends_0 : List UInt8 := [42, 16, 252, 181, 0, 169, 42, 27, 42, 180, 0, 156, 182, 1, 25, 42, 27, 181, 0, 42, 42, 3]
abbrev dktX3_mends_0 : List UInt8 := dkwX3_mends_0 ++ dktX3_mends_1
theorem dksX3_mends_0 : cX3_mends.data.toList.drop 0 = dktX3_mends_0 := by decide +kernel
theorem dksX3_mends_1 : cX3_mends.data.toList.drop 22 = dktX3_mends_1 := dk_seg dksX3_mends_0 22 rfl rfl
theorem dksX3_mends_2 : cX3_mends.data.toList.drop 46 = dktX3_mends_2 := dk_seg dksX3_mends_1 24 rfl rfl
theorem dksX3_mends_3 : cX3_mends.data.toList.drop 70 = dktX3_mends_3 := dk_seg dksX3_mends_2 24 rfl rfl
theorem dksX3_mends_4 : cX3_mends.data.toList.drop 93 = dktX3_mends_4 := dk_seg dksX3_mends_3 23 rfl rfl
theorem dX3_mends_0 : decode cX3_mends 0 = .ok (.aload_n 0, 1) := dk_42 (dk_at dksX3_mends_0 0 rfl rfl)
theorem dX3_mends_1 : decode cX3_mends 1 = .ok (.bipush (-4), 2) := dk_16 252 (dk_at dksX3_mends_0 1 rfl rfl)
theorem dX3_mends_3 : decode cX3_mends 3 = .ok (.putfield 169, 3) := dk_181 0 169 (dk_at dksX3_mends_0 3 rfl rfl)
theorem dX3_mends_6 : decode cX3_mends 6 = .ok (.aload_n 0, 1) := dk_42 (dk_at dksX3_mends_0 6 rfl rfl)
theorem dX3_mends_7 : decode cX3_mends 7 = .ok (.iload_n 1, 1) := dk_27 (dk_at dksX3_mends_0 7 rfl rfl)
theorem dX3_mends_8 : decode cX3_mends 8 = .ok (.aload_n 0, 1) := dk_42 (dk_at dksX3_mends_0 8 rfl rfl)
theorem dX3_mends_9 : decode cX3_mends 9 = .ok (.getfield 156, 3) := dk_180 0 156 (dk_at dksX3_mends_0 9 rfl rfl)
theorem dX3_mends_12 : decode cX3_mends 12 = .ok (.invokevirtual 281, 3) := dk_182 1 25 (dk_at dksX3_mends_0 12 rfl rfl)
theorem dX3_mends_15 : decode cX3_mends 15 = .ok (.aload_n 0, 1) := dk_42 (dk_at dksX3_mends_0 15 rfl rfl)
theorem dX3_mends_16 : decode cX3_mends 16 = .ok (.iload_n 1, 1) := dk_27 (dk_at dksX3_mends_0 16 rfl rfl)
theorem dX3_mends_17 : decode cX3_mends 17 = .ok (.putfield 42, 3) := dk_181 0 42 (dk_at dksX3_mends_0 17 rfl rfl)
theorem dX3_mends_20 : decode cX3_mends 20 = .ok (.aload_n 0, 1) := dk_42 (dk_at dksX3_mends_0 20 rfl rfl)
theorem dX3_mends_21 : decode cX3_mends 21 = .ok (.iconst 0, 1) := dk_3 (dk_at dksX3_mends_0 21 rfl rfl)
theorem dX3_mends_22 : decode cX3_mends 22 = .ok (.putfield 250, 3) := dk_181 0 250 (dk_at dksX3_mends_1 0 rfl rfl)
theorem dX3_mends_25 : decode cX3_mends 25 = .ok (.aload_n 0, 1) := dk_42 (dk_at dksX3_mends_1 3 rfl rfl)
theorem dX3_mends_26 : decode cX3_mends 26 = .ok (.iconst 0, 1) := dk_3 (dk_at dksX3_mends_1 4 rfl rfl)
theorem dX3_mends_27 : decode cX3_mends 27 = .ok (.putfield 260, 3) := dk_181 1 4 (dk_at dksX3_mends_1 5 rfl rfl)
theorem dX3_mends_30 : decode cX3_mends 30 = .ok (.aload_n 0, 1) := dk_42 (dk_at dksX3_mends_1 8 rfl rfl)
theorem dX3_mends_31 : decode cX3_mends 31 = .ok (.iconst 0, 1) := dk_3 (dk_at dksX3_mends_1 9 rfl rfl)
theorem dX3_mends_32 : decode cX3_mends 32 = .ok (.putfield 263, 3) := dk_181 1 7 (dk_at dksX3_mends_1 10 rfl rfl)
theorem dX3_mends_35 : decode cX3_mends 35 = .ok (.aload_n 0, 1) := dk_42 (dk_at dksX3_mends_1 13 rfl rfl)
theorem dX3_mends_36 : decode cX3_mends 36 = .ok (.iconst 1, 1) := dk_4 (dk_at dksX3_mends_1 14 rfl rfl)
theorem dX3_mends_37 : decode cX3_mends 37 = .ok (.putfield 125, 3) := dk_181 0 125 (dk_at dksX3_mends_1 15 rfl rfl)
theorem dX3_mends_40 : decode cX3_mends 40 = .ok (.aload_n 0, 1) := dk_42 (dk_at dksX3_mends_1 18 rfl rfl)
theorem dX3_mends_41 : decode cX3_mends 41 = .ok (.invokevirtual 284, 3) := dk_182 1 28 (dk_at dksX3_mends_1 19 rfl rfl)
theorem dX3_mends_44 : decode cX3_mends 44 = .ok (.istore_n 2, 1) := dk_61 (dk_at dksX3_mends_1 22 rfl rfl)
theorem dX3_mends_45 : decode cX3_mends 45 = .ok (.aload_n 0, 1) := dk_42 (dk_at dksX3_mends_1 23 rfl rfl)
theorem dX3_mends_46 : decode cX3_mends 46 = .ok (.iload_n 2, 1) := dk_28 (dk_at dksX3_mends_2 0 rfl rfl)
theorem dX3_mends_47 : decode cX3_mends 47 = .ok (.bipush (-4), 2) := dk_16 252 (dk_at dksX3_mends_2 1 rfl rfl)
theorem dX3_mends_49 : decode cX3_mends 49 = .ok (.if_icmp .eq 7, 3) := dk_159 0 7 (dk_at dksX3_mends_2 3 rfl rfl)
theorem dX3_mends_52 : decode cX3_mends 52 = .ok (.iconst 1, 1) := dk_4 (dk_at dksX3_mends_2 6 rfl rfl)
theorem dX3_mends_53 : decode cX3_mends 53 = .ok (.goto 4, 3) := dk_167 0 4 (dk_at dksX3_mends_2 7 rfl rfl)
theorem dX3_mends_56 : decode cX3_mends 56 = .ok (.iconst 0, 1) := dk_3 (dk_at dksX3_mends_2 10 rfl rfl)
theorem dX3_mends_57 : decode cX3_mends 57 = .ok (.putfield 288, 3) := dk_181 1 32 (dk_at dksX3_mends_2 11 rfl rfl)
theorem dX3_mends_60 : decode cX3_mends 60 = .ok (.aload_n 0, 1) := dk_42 (dk_at dksX3_mends_2 14 rfl rfl)
theorem dX3_mends_61 : decode cX3_mends 61 = .ok (.bipush (-4), 2) := dk_16 252 (dk_at dksX3_mends_2 15 rfl rfl)
theorem dX3_mends_63 : decode cX3_mends 63 = .ok (.putfield 45, 3) := dk_181 0 45 (dk_at dksX3_mends_2 17 rfl rfl)
theorem dX3_mends_66 : decode cX3_mends 66 = .ok (.aload_n 0, 1) := dk_42 (dk_at dksX3_mends_2 20 rfl rfl)
theorem dX3_mends_67 : decode cX3_mends 67 = .ok (.getfield 288, 3) := dk_180 1 32 (dk_at dksX3_mends_2 21 rfl rfl)
theorem dX3_mends_70 : decode cX3_mends 70 = .ok (.ifCond .ne 6, 3) := dk_154 0 6 (dk_at dksX3_mends_3 0 rfl rfl)
theorem dX3_mends_73 : decode cX3_mends 73 = .ok (.bipush (-4), 2) := dk_16 252 (dk_at dksX3_mends_3 3 rfl rfl)
theorem dX3_mends_75 : decode cX3_mends 75 = .ok (.ireturn, 1) := dk_172 (dk_at dksX3_mends_3 5 rfl rfl)
theorem dX3_mends_76 : decode cX3_mends 76 = .ok (.aload_n 0, 1) := dk_42 (dk_at dksX3_mends_3 6 rfl rfl)
theorem dX3_mends_77 : decode cX3_mends 77 = .ok (.iload_n 2, 1) := dk_28 (dk_at dksX3_mends_3 7 rfl rfl)
theorem dX3_mends_78 : decode cX3_mends 78 = .ok (.invokevirtual 291, 3) := dk_182 1 35 (dk_at dksX3_mends_3 8 rfl rfl)
theorem dX3_mends_81 : decode cX3_mends 81 = .ok (.lstore_n 3, 1) := dk_66 (dk_at dksX3_mends_3 11 rfl rfl)
theorem dX3_mends_82 : decode cX3_mends 82 = .ok (.aload_n 0, 1) := dk_42 (dk_at dksX3_mends_3 12 rfl rfl)
theorem dX3_mends_83 : decode cX3_mends 83 = .ok (.lload_n 3, 1) := dk_33 (dk_at dksX3_mends_3 13 rfl rfl)
theorem dX3_mends_84 : decode cX3_mends 84 = .ok (.ldc2_w 226, 3) := dk_20 0 226 (dk_at dksX3_mends_3 14 rfl rfl)
theorem dX3_mends_87 : decode cX3_mends 87 = .ok (.ldiv, 1) := dk_109 (dk_at dksX3_mends_3 17 rfl rfl)
theorem dX3_mends_88 : decode cX3_mends 88 = .ok (.l2i, 1) := dk_136 (dk_at dksX3_mends_3 18 rfl rfl)
theorem dX3_mends_89 : decode cX3_mends 89 = .ok (.putfield 45, 3) := dk_181 0 45 (dk_at dksX3_mends_3 19 rfl rfl)
theorem dX3_mends_92 : decode cX3_mends 92 = .ok (.lload_n 3, 1) := dk_33 (dk_at dksX3_mends_3 22 rfl rfl)
theorem dX3_mends_93 : decode cX3_mends 93 = .ok (.ldc2_w 226, 3) := dk_20 0 226 (dk_at dksX3_mends_4 0 rfl rfl)
theorem dX3_mends_96 : decode cX3_mends 96 = .ok (.lrem, 1) := dk_113 (dk_at dksX3_mends_4 3 rfl rfl)
theorem dX3_mends_97 : decode cX3_mends 97 = .ok (.ldc2_w 149, 3) := dk_20 0 149 (dk_at dksX3_mends_4 4 rfl rfl)
theorem dX3_mends_100 : decode cX3_mends 100 = .ok (.lcmp, 1) := dk_148 (dk_at dksX3_mends_4 7 rfl rfl)
theorem dX3_mends_101 : decode cX3_mends 101 = .ok (.ifCond .gt 8, 3) := dk_157 0 8 (dk_at dksX3_mends_4 8 rfl rfl)
theorem dX3_mends_104 : decode cX3_mends 104 = .ok (.aload_n 0, 1) := dk_42 (dk_at dksX3_mends_4 11 rfl rfl)
theorem dX3_mends_105 : decode cX3_mends 105 = .ok (.iload_n 2, 1) := dk_28 (dk_at dksX3_mends_4 12 rfl rfl)
theorem dX3_mends_106 : decode cX3_mends 106 = .ok (.invokevirtual 295, 3) := dk_182 1 39 (dk_at dksX3_mends_4 13 rfl rfl)
theorem dX3_mends_109 : decode cX3_mends 109 = .ok (.aload_n 0, 1) := dk_42 (dk_at dksX3_mends_4 16 rfl rfl)
theorem dX3_mends_110 : decode cX3_mends 110 = .ok (.getfield 45, 3) := dk_180 0 45 (dk_at dksX3_mends_4 17 rfl rfl)
theorem dX3_mends_113 : decode cX3_mends 113 = .ok (.ireturn, 1) := dk_172 (dk_at dksX3_mends_4 20 rfl rfl)
abbrev cX3_layAll : ByteArray := prog_19_method_43_code
def yX3_layAll : MethodName := ⟨RX3, "layAll", "(II)V"⟩
def dkwX3_layAll_0 : List UInt8 := [42, 27, 181, 0, 166, 42, 28, 182, 1, 19, 42, 182, 1, 22, 177]
abbrev dktX3_layAll_0 : List UInt8 := dkwX3_layAll_0 ++ []
theorem dksX3_layAll_0 : cX3_layAll.data.toList.drop 0 = dktX3_layAll_0 := by decide +kernel
theorem dX3_layAll_0 : decode cX3_layAll 0 = .ok (.aload_n 0, 1) := dk_42 (dk_at dksX3_layAll_0 0 rfl rfl)
theorem dX3_layAll_1 : decode cX3_layAll 1 = .ok (.iload_n 1, 1) := dk_27 (dk_at dksX3_layAll_0 1 rfl rfl)
theorem dX3_layAll_2 : decode cX3_layAll 2 = .ok (.putfield 166, 3) := dk_181 0 166 (dk_at dksX3_layAll_0 2 rfl rfl)
theorem dX3_layAll_5 : decode cX3_layAll 5 = .ok (.aload_n 0, 1) := dk_42 (dk_at dksX3_layAll_0 5 rfl rfl)
theorem dX3_layAll_6 : decode cX3_layAll 6 = .ok (.iload_n 2, 1) := dk_28 (dk_at dksX3_layAll_0 6 rfl rfl)
theorem dX3_layAll_7 : decode cX3_layAll 7 = .ok (.invokevirtual 275, 3) := dk_182 1 19 (dk_at dksX3_layAll_0 7 rfl rfl)
theorem dX3_layAll_10 : decode cX3_layAll 10 = .ok (.aload_n 0, 1) := dk_42 (dk_at dksX3_layAll_0 10 rfl rfl)
theorem dX3_layAll_11 : decode cX3_layAll 11 = .ok (.invokevirtual 278, 3) := dk_182 1 22 (dk_at dksX3_layAll_0 11 rfl rfl)
theorem dX3_layAll_14 : decode cX3_layAll 14 = .ok (.return_, 1) := dk_177 (dk_at dksX3_layAll_0 14 rfl rfl)
abbrev cX3_layReads : ByteArray := prog_19_method_28_code
def yX3_layReads : MethodName := ⟨RX3, "layReads", "(I)V"⟩
def dkwX3_layReads_2 : List UInt8 := [163, 0, 14, 42, 28, 182, 0, 221, 132, 2, 1, 167, 255, 243, 177]
abbrev dktX3_layReads_2 : List UInt8 := dkwX3_layReads_2 ++ []
def dkwX3_layReads_1 : List UInt8 := [104, 162, 0, 17, 42, 180, 0, 75, 28, 18, 191, 79, 132, 2, 1, 167, 255, 233, 3, 61, 28, 27]
abbrev dktX3_layReads_1 : List UInt8 := dkwX3_layReads_1 ++ dktX3_layReads_2
def dkwX3_layReads_0 : List UInt8 := [42, 27, 181, 0, 192, 42, 27, 182, 0, 214, 42, 182, 0, 218, 3, 61, 28, 17, 10, 144, 42, 180, 0, 122]
abbrev dktX3_layReads_0 : List UInt8 := dkwX3_layReads_0 ++ dktX3_layReads_1
theorem dksX3_layReads_0 : cX3_layReads.data.toList.drop 0 = dktX3_layReads_0 := by decide +kernel
theorem dksX3_layReads_1 : cX3_layReads.data.toList.drop 24 = dktX3_layReads_1 := dk_seg dksX3_layReads_0 24 rfl rfl
theorem dksX3_layReads_2 : cX3_layReads.data.toList.drop 46 = dktX3_layReads_2 := dk_seg dksX3_layReads_1 22 rfl rfl
theorem dX3_layReads_0 : decode cX3_layReads 0 = .ok (.aload_n 0, 1) := dk_42 (dk_at dksX3_layReads_0 0 rfl rfl)
theorem dX3_layReads_1 : decode cX3_layReads 1 = .ok (.iload_n 1, 1) := dk_27 (dk_at dksX3_layReads_0 1 rfl rfl)
theorem dX3_layReads_2 : decode cX3_layReads 2 = .ok (.putfield 192, 3) := dk_181 0 192 (dk_at dksX3_layReads_0 2 rfl rfl)
theorem dX3_layReads_5 : decode cX3_layReads 5 = .ok (.aload_n 0, 1) := dk_42 (dk_at dksX3_layReads_0 5 rfl rfl)
theorem dX3_layReads_6 : decode cX3_layReads 6 = .ok (.iload_n 1, 1) := dk_27 (dk_at dksX3_layReads_0 6 rfl rfl)
theorem dX3_layReads_7 : decode cX3_layReads 7 = .ok (.invokevirtual 214, 3) := dk_182 0 214 (dk_at dksX3_layReads_0 7 rfl rfl)
theorem dX3_layReads_10 : decode cX3_layReads 10 = .ok (.aload_n 0, 1) := dk_42 (dk_at dksX3_layReads_0 10 rfl rfl)
theorem dX3_layReads_11 : decode cX3_layReads 11 = .ok (.invokevirtual 218, 3) := dk_182 0 218 (dk_at dksX3_layReads_0 11 rfl rfl)
theorem dX3_layReads_14 : decode cX3_layReads 14 = .ok (.iconst 0, 1) := dk_3 (dk_at dksX3_layReads_0 14 rfl rfl)
theorem dX3_layReads_15 : decode cX3_layReads 15 = .ok (.istore_n 2, 1) := dk_61 (dk_at dksX3_layReads_0 15 rfl rfl)
theorem dX3_layReads_16 : decode cX3_layReads 16 = .ok (.iload_n 2, 1) := dk_28 (dk_at dksX3_layReads_0 16 rfl rfl)
theorem dX3_layReads_17 : decode cX3_layReads 17 = .ok (.sipush 2704, 3) := dk_17 10 144 (dk_at dksX3_layReads_0 17 rfl rfl)
theorem dX3_layReads_20 : decode cX3_layReads 20 = .ok (.aload_n 0, 1) := dk_42 (dk_at dksX3_layReads_0 20 rfl rfl)
theorem dX3_layReads_21 : decode cX3_layReads 21 = .ok (.getfield 122, 3) := dk_180 0 122 (dk_at dksX3_layReads_0 21 rfl rfl)
theorem dX3_layReads_24 : decode cX3_layReads 24 = .ok (.imul, 1) := dk_104 (dk_at dksX3_layReads_1 0 rfl rfl)
theorem dX3_layReads_25 : decode cX3_layReads 25 = .ok (.if_icmp .ge 17, 3) := dk_162 0 17 (dk_at dksX3_layReads_1 1 rfl rfl)
theorem dX3_layReads_28 : decode cX3_layReads 28 = .ok (.aload_n 0, 1) := dk_42 (dk_at dksX3_layReads_1 4 rfl rfl)
theorem dX3_layReads_29 : decode cX3_layReads 29 = .ok (.getfield 75, 3) := dk_180 0 75 (dk_at dksX3_layReads_1 5 rfl rfl)
theorem dX3_layReads_32 : decode cX3_layReads 32 = .ok (.iload_n 2, 1) := dk_28 (dk_at dksX3_layReads_1 8 rfl rfl)
theorem dX3_layReads_33 : decode cX3_layReads 33 = .ok (.ldc 191, 2) := dk_18 191 (dk_at dksX3_layReads_1 9 rfl rfl)
theorem dX3_layReads_35 : decode cX3_layReads 35 = .ok (.iastore, 1) := dk_79 (dk_at dksX3_layReads_1 11 rfl rfl)
theorem dX3_layReads_36 : decode cX3_layReads 36 = .ok (.iinc 2 1, 3) := dk_132 2 1 (dk_at dksX3_layReads_1 12 rfl rfl)
theorem dX3_layReads_39 : decode cX3_layReads 39 = .ok (.goto (-23), 3) := dk_167 255 233 (dk_at dksX3_layReads_1 15 rfl rfl)
theorem dX3_layReads_42 : decode cX3_layReads 42 = .ok (.iconst 0, 1) := dk_3 (dk_at dksX3_layReads_1 18 rfl rfl)
theorem dX3_layReads_43 : decode cX3_layReads 43 = .ok (.istore_n 2, 1) := dk_61 (dk_at dksX3_layReads_1 19 rfl rfl)
theorem dX3_layReads_44 : decode cX3_layReads 44 = .ok (.iload_n 2, 1) := dk_28 (dk_at dksX3_layReads_1 20 rfl rfl)
theorem dX3_layReads_45 : decode cX3_layReads 45 = .ok (.iload_n 1, 1) := dk_27 (dk_at dksX3_layReads_1 21 rfl rfl)
theorem dX3_layReads_46 : decode cX3_layReads 46 = .ok (.if_icmp .gt 14, 3) := dk_163 0 14 (dk_at dksX3_layReads_2 0 rfl rfl)
theorem dX3_layReads_49 : decode cX3_layReads 49 = .ok (.aload_n 0, 1) := dk_42 (dk_at dksX3_layReads_2 3 rfl rfl)
theorem dX3_layReads_50 : decode cX3_layReads 50 = .ok (.iload_n 2, 1) := dk_28 (dk_at dksX3_layReads_2 4 rfl rfl)
theorem dX3_layReads_51 : decode cX3_layReads 51 = .ok (.invokevirtual 221, 3) := dk_182 0 221 (dk_at dksX3_layReads_2 5 rfl rfl)
theorem dX3_layReads_54 : decode cX3_layReads 54 = .ok (.iinc 2 1, 3) := dk_132 2 1 (dk_at dksX3_layReads_2 8 rfl rfl)
theorem dX3_layReads_57 : decode cX3_layReads 57 = .ok (.goto (-13), 3) := dk_167 255 243 (dk_at dksX3_layReads_2 11 rfl rfl)
theorem dX3_layReads_60 : decode cX3_layReads 60 = .ok (.return_, 1) := dk_177 (dk_at dksX3_layReads_2 14 rfl rfl)
abbrev cX3_layKnots : ByteArray := prog_19_method_18_code
def yX3_layKnots : MethodName := ⟨RX3, "layKnots", "(I)V"⟩
def dkwX3_layKnots_5 : List UInt8 := [182, 0, 162, 132, 4, 1, 167, 255, 205, 132, 2, 1, 167, 255, 134, 177]
abbrev dktX3_layKnots_5 : List UInt8 := dkwX3_layKnots_5 ++ []
def dkwX3_layKnots_4 : List UInt8 := [180, 0, 36, 7, 21, 4, 104, 5, 96, 46, 42, 180, 0, 39, 28, 46, 160, 0, 11, 42, 5, 28, 21, 4]
abbrev dktX3_layKnots_4 : List UInt8 := dkwX3_layKnots_4 ++ dktX3_layKnots_5
def dkwX3_layKnots_3 : List UInt8 := [54, 4, 21, 4, 42, 180, 0, 33, 3, 46, 162, 0, 46, 28, 27, 162, 0, 41, 29, 154, 0, 37, 42]
abbrev dktX3_layKnots_3 : List UInt8 := dkwX3_layKnots_3 ++ dktX3_layKnots_4
def dkwX3_layKnots_2 : List UInt8 := [167, 0, 4, 3, 62, 28, 27, 4, 100, 162, 0, 14, 29, 154, 0, 10, 42, 4, 28, 3, 182, 0, 162, 3]
abbrev dktX3_layKnots_2 : List UInt8 := dkwX3_layKnots_2 ++ dktX3_layKnots_3
def dkwX3_layKnots_1 : List UInt8 := [28, 3, 182, 0, 162, 42, 180, 0, 166, 5, 159, 0, 11, 42, 180, 0, 166, 7, 160, 0, 7, 4]
abbrev dktX3_layKnots_1 : List UInt8 := dkwX3_layKnots_1 ++ dktX3_layKnots_2
def dkwX3_layKnots_0 : List UInt8 := [42, 3, 181, 0, 159, 3, 61, 28, 27, 163, 0, 123, 42, 180, 0, 66, 28, 42, 180, 0, 159, 79, 42, 3]
abbrev dktX3_layKnots_0 : List UInt8 := dkwX3_layKnots_0 ++ dktX3_layKnots_1
theorem dksX3_layKnots_0 : cX3_layKnots.data.toList.drop 0 = dktX3_layKnots_0 := by decide +kernel
theorem dksX3_layKnots_1 : cX3_layKnots.data.toList.drop 24 = dktX3_layKnots_1 := dk_seg dksX3_layKnots_0 24 rfl rfl
theorem dksX3_layKnots_2 : cX3_layKnots.data.toList.drop 46 = dktX3_layKnots_2 := dk_seg dksX3_layKnots_1 22 rfl rfl
theorem dksX3_layKnots_3 : cX3_layKnots.data.toList.drop 70 = dktX3_layKnots_3 := dk_seg dksX3_layKnots_2 24 rfl rfl
theorem dksX3_layKnots_4 : cX3_layKnots.data.toList.drop 93 = dktX3_layKnots_4 := dk_seg dksX3_layKnots_3 23 rfl rfl
theorem dksX3_layKnots_5 : cX3_layKnots.data.toList.drop 117 = dktX3_layKnots_5 := dk_seg dksX3_layKnots_4 24 rfl rfl
theorem dX3_layKnots_0 : decode cX3_layKnots 0 = .ok (.aload_n 0, 1) := dk_42 (dk_at dksX3_layKnots_0 0 rfl rfl)
theorem dX3_layKnots_1 : decode cX3_layKnots 1 = .ok (.iconst 0, 1) := dk_3 (dk_at dksX3_layKnots_0 1 rfl rfl)
theorem dX3_layKnots_2 : decode cX3_layKnots 2 = .ok (.putfield 159, 3) := dk_181 0 159 (dk_at dksX3_layKnots_0 2 rfl rfl)
theorem dX3_layKnots_5 : decode cX3_layKnots 5 = .ok (.iconst 0, 1) := dk_3 (dk_at dksX3_layKnots_0 5 rfl rfl)
theorem dX3_layKnots_6 : decode cX3_layKnots 6 = .ok (.istore_n 2, 1) := dk_61 (dk_at dksX3_layKnots_0 6 rfl rfl)
theorem dX3_layKnots_7 : decode cX3_layKnots 7 = .ok (.iload_n 2, 1) := dk_28 (dk_at dksX3_layKnots_0 7 rfl rfl)
theorem dX3_layKnots_8 : decode cX3_layKnots 8 = .ok (.iload_n 1, 1) := dk_27 (dk_at dksX3_layKnots_0 8 rfl rfl)
theorem dX3_layKnots_9 : decode cX3_layKnots 9 = .ok (.if_icmp .gt 123, 3) := dk_163 0 123 (dk_at dksX3_layKnots_0 9 rfl rfl)
theorem dX3_layKnots_12 : decode cX3_layKnots 12 = .ok (.aload_n 0, 1) := dk_42 (dk_at dksX3_layKnots_0 12 rfl rfl)
theorem dX3_layKnots_13 : decode cX3_layKnots 13 = .ok (.getfield 66, 3) := dk_180 0 66 (dk_at dksX3_layKnots_0 13 rfl rfl)
theorem dX3_layKnots_16 : decode cX3_layKnots 16 = .ok (.iload_n 2, 1) := dk_28 (dk_at dksX3_layKnots_0 16 rfl rfl)
theorem dX3_layKnots_17 : decode cX3_layKnots 17 = .ok (.aload_n 0, 1) := dk_42 (dk_at dksX3_layKnots_0 17 rfl rfl)
theorem dX3_layKnots_18 : decode cX3_layKnots 18 = .ok (.getfield 159, 3) := dk_180 0 159 (dk_at dksX3_layKnots_0 18 rfl rfl)
theorem dX3_layKnots_21 : decode cX3_layKnots 21 = .ok (.iastore, 1) := dk_79 (dk_at dksX3_layKnots_0 21 rfl rfl)
theorem dX3_layKnots_22 : decode cX3_layKnots 22 = .ok (.aload_n 0, 1) := dk_42 (dk_at dksX3_layKnots_0 22 rfl rfl)
theorem dX3_layKnots_23 : decode cX3_layKnots 23 = .ok (.iconst 0, 1) := dk_3 (dk_at dksX3_layKnots_0 23 rfl rfl)
theorem dX3_layKnots_24 : decode cX3_layKnots 24 = .ok (.iload_n 2, 1) := dk_28 (dk_at dksX3_layKnots_1 0 rfl rfl)
theorem dX3_layKnots_25 : decode cX3_layKnots 25 = .ok (.iconst 0, 1) := dk_3 (dk_at dksX3_layKnots_1 1 rfl rfl)
theorem dX3_layKnots_26 : decode cX3_layKnots 26 = .ok (.invokevirtual 162, 3) := dk_182 0 162 (dk_at dksX3_layKnots_1 2 rfl rfl)
theorem dX3_layKnots_29 : decode cX3_layKnots 29 = .ok (.aload_n 0, 1) := dk_42 (dk_at dksX3_layKnots_1 5 rfl rfl)
theorem dX3_layKnots_30 : decode cX3_layKnots 30 = .ok (.getfield 166, 3) := dk_180 0 166 (dk_at dksX3_layKnots_1 6 rfl rfl)
theorem dX3_layKnots_33 : decode cX3_layKnots 33 = .ok (.iconst 2, 1) := dk_5 (dk_at dksX3_layKnots_1 9 rfl rfl)
theorem dX3_layKnots_34 : decode cX3_layKnots 34 = .ok (.if_icmp .eq 11, 3) := dk_159 0 11 (dk_at dksX3_layKnots_1 10 rfl rfl)
theorem dX3_layKnots_37 : decode cX3_layKnots 37 = .ok (.aload_n 0, 1) := dk_42 (dk_at dksX3_layKnots_1 13 rfl rfl)
theorem dX3_layKnots_38 : decode cX3_layKnots 38 = .ok (.getfield 166, 3) := dk_180 0 166 (dk_at dksX3_layKnots_1 14 rfl rfl)
theorem dX3_layKnots_41 : decode cX3_layKnots 41 = .ok (.iconst 4, 1) := dk_7 (dk_at dksX3_layKnots_1 17 rfl rfl)
theorem dX3_layKnots_42 : decode cX3_layKnots 42 = .ok (.if_icmp .ne 7, 3) := dk_160 0 7 (dk_at dksX3_layKnots_1 18 rfl rfl)
theorem dX3_layKnots_45 : decode cX3_layKnots 45 = .ok (.iconst 1, 1) := dk_4 (dk_at dksX3_layKnots_1 21 rfl rfl)
theorem dX3_layKnots_46 : decode cX3_layKnots 46 = .ok (.goto 4, 3) := dk_167 0 4 (dk_at dksX3_layKnots_2 0 rfl rfl)
theorem dX3_layKnots_49 : decode cX3_layKnots 49 = .ok (.iconst 0, 1) := dk_3 (dk_at dksX3_layKnots_2 3 rfl rfl)
theorem dX3_layKnots_50 : decode cX3_layKnots 50 = .ok (.istore_n 3, 1) := dk_62 (dk_at dksX3_layKnots_2 4 rfl rfl)
theorem dX3_layKnots_51 : decode cX3_layKnots 51 = .ok (.iload_n 2, 1) := dk_28 (dk_at dksX3_layKnots_2 5 rfl rfl)
theorem dX3_layKnots_52 : decode cX3_layKnots 52 = .ok (.iload_n 1, 1) := dk_27 (dk_at dksX3_layKnots_2 6 rfl rfl)
theorem dX3_layKnots_53 : decode cX3_layKnots 53 = .ok (.iconst 1, 1) := dk_4 (dk_at dksX3_layKnots_2 7 rfl rfl)
theorem dX3_layKnots_54 : decode cX3_layKnots 54 = .ok (.isub, 1) := dk_100 (dk_at dksX3_layKnots_2 8 rfl rfl)
theorem dX3_layKnots_55 : decode cX3_layKnots 55 = .ok (.if_icmp .ge 14, 3) := dk_162 0 14 (dk_at dksX3_layKnots_2 9 rfl rfl)
theorem dX3_layKnots_58 : decode cX3_layKnots 58 = .ok (.iload_n 3, 1) := dk_29 (dk_at dksX3_layKnots_2 12 rfl rfl)
theorem dX3_layKnots_59 : decode cX3_layKnots 59 = .ok (.ifCond .ne 10, 3) := dk_154 0 10 (dk_at dksX3_layKnots_2 13 rfl rfl)
theorem dX3_layKnots_62 : decode cX3_layKnots 62 = .ok (.aload_n 0, 1) := dk_42 (dk_at dksX3_layKnots_2 16 rfl rfl)
theorem dX3_layKnots_63 : decode cX3_layKnots 63 = .ok (.iconst 1, 1) := dk_4 (dk_at dksX3_layKnots_2 17 rfl rfl)
theorem dX3_layKnots_64 : decode cX3_layKnots 64 = .ok (.iload_n 2, 1) := dk_28 (dk_at dksX3_layKnots_2 18 rfl rfl)
theorem dX3_layKnots_65 : decode cX3_layKnots 65 = .ok (.iconst 0, 1) := dk_3 (dk_at dksX3_layKnots_2 19 rfl rfl)
theorem dX3_layKnots_66 : decode cX3_layKnots 66 = .ok (.invokevirtual 162, 3) := dk_182 0 162 (dk_at dksX3_layKnots_2 20 rfl rfl)
theorem dX3_layKnots_69 : decode cX3_layKnots 69 = .ok (.iconst 0, 1) := dk_3 (dk_at dksX3_layKnots_2 23 rfl rfl)
theorem dX3_layKnots_70 : decode cX3_layKnots 70 = .ok (.istore 4, 2) := dk_54 4 (dk_at dksX3_layKnots_3 0 rfl rfl)
theorem dX3_layKnots_72 : decode cX3_layKnots 72 = .ok (.iload 4, 2) := dk_21 4 (dk_at dksX3_layKnots_3 2 rfl rfl)
theorem dX3_layKnots_74 : decode cX3_layKnots 74 = .ok (.aload_n 0, 1) := dk_42 (dk_at dksX3_layKnots_3 4 rfl rfl)
theorem dX3_layKnots_75 : decode cX3_layKnots 75 = .ok (.getfield 33, 3) := dk_180 0 33 (dk_at dksX3_layKnots_3 5 rfl rfl)
theorem dX3_layKnots_78 : decode cX3_layKnots 78 = .ok (.iconst 0, 1) := dk_3 (dk_at dksX3_layKnots_3 8 rfl rfl)
theorem dX3_layKnots_79 : decode cX3_layKnots 79 = .ok (.iaload, 1) := dk_46 (dk_at dksX3_layKnots_3 9 rfl rfl)
theorem dX3_layKnots_80 : decode cX3_layKnots 80 = .ok (.if_icmp .ge 46, 3) := dk_162 0 46 (dk_at dksX3_layKnots_3 10 rfl rfl)
theorem dX3_layKnots_83 : decode cX3_layKnots 83 = .ok (.iload_n 2, 1) := dk_28 (dk_at dksX3_layKnots_3 13 rfl rfl)
theorem dX3_layKnots_84 : decode cX3_layKnots 84 = .ok (.iload_n 1, 1) := dk_27 (dk_at dksX3_layKnots_3 14 rfl rfl)
theorem dX3_layKnots_85 : decode cX3_layKnots 85 = .ok (.if_icmp .ge 41, 3) := dk_162 0 41 (dk_at dksX3_layKnots_3 15 rfl rfl)
theorem dX3_layKnots_88 : decode cX3_layKnots 88 = .ok (.iload_n 3, 1) := dk_29 (dk_at dksX3_layKnots_3 18 rfl rfl)
theorem dX3_layKnots_89 : decode cX3_layKnots 89 = .ok (.ifCond .ne 37, 3) := dk_154 0 37 (dk_at dksX3_layKnots_3 19 rfl rfl)
theorem dX3_layKnots_92 : decode cX3_layKnots 92 = .ok (.aload_n 0, 1) := dk_42 (dk_at dksX3_layKnots_3 22 rfl rfl)
theorem dX3_layKnots_93 : decode cX3_layKnots 93 = .ok (.getfield 36, 3) := dk_180 0 36 (dk_at dksX3_layKnots_4 0 rfl rfl)
theorem dX3_layKnots_96 : decode cX3_layKnots 96 = .ok (.iconst 4, 1) := dk_7 (dk_at dksX3_layKnots_4 3 rfl rfl)
theorem dX3_layKnots_97 : decode cX3_layKnots 97 = .ok (.iload 4, 2) := dk_21 4 (dk_at dksX3_layKnots_4 4 rfl rfl)
theorem dX3_layKnots_99 : decode cX3_layKnots 99 = .ok (.imul, 1) := dk_104 (dk_at dksX3_layKnots_4 6 rfl rfl)
theorem dX3_layKnots_100 : decode cX3_layKnots 100 = .ok (.iconst 2, 1) := dk_5 (dk_at dksX3_layKnots_4 7 rfl rfl)
theorem dX3_layKnots_101 : decode cX3_layKnots 101 = .ok (.iadd, 1) := dk_96 (dk_at dksX3_layKnots_4 8 rfl rfl)
theorem dX3_layKnots_102 : decode cX3_layKnots 102 = .ok (.iaload, 1) := dk_46 (dk_at dksX3_layKnots_4 9 rfl rfl)
theorem dX3_layKnots_103 : decode cX3_layKnots 103 = .ok (.aload_n 0, 1) := dk_42 (dk_at dksX3_layKnots_4 10 rfl rfl)
theorem dX3_layKnots_104 : decode cX3_layKnots 104 = .ok (.getfield 39, 3) := dk_180 0 39 (dk_at dksX3_layKnots_4 11 rfl rfl)
theorem dX3_layKnots_107 : decode cX3_layKnots 107 = .ok (.iload_n 2, 1) := dk_28 (dk_at dksX3_layKnots_4 14 rfl rfl)
theorem dX3_layKnots_108 : decode cX3_layKnots 108 = .ok (.iaload, 1) := dk_46 (dk_at dksX3_layKnots_4 15 rfl rfl)
theorem dX3_layKnots_109 : decode cX3_layKnots 109 = .ok (.if_icmp .ne 11, 3) := dk_160 0 11 (dk_at dksX3_layKnots_4 16 rfl rfl)
theorem dX3_layKnots_112 : decode cX3_layKnots 112 = .ok (.aload_n 0, 1) := dk_42 (dk_at dksX3_layKnots_4 19 rfl rfl)
theorem dX3_layKnots_113 : decode cX3_layKnots 113 = .ok (.iconst 2, 1) := dk_5 (dk_at dksX3_layKnots_4 20 rfl rfl)
theorem dX3_layKnots_114 : decode cX3_layKnots 114 = .ok (.iload_n 2, 1) := dk_28 (dk_at dksX3_layKnots_4 21 rfl rfl)
theorem dX3_layKnots_115 : decode cX3_layKnots 115 = .ok (.iload 4, 2) := dk_21 4 (dk_at dksX3_layKnots_4 22 rfl rfl)
theorem dX3_layKnots_117 : decode cX3_layKnots 117 = .ok (.invokevirtual 162, 3) := dk_182 0 162 (dk_at dksX3_layKnots_5 0 rfl rfl)
theorem dX3_layKnots_120 : decode cX3_layKnots 120 = .ok (.iinc 4 1, 3) := dk_132 4 1 (dk_at dksX3_layKnots_5 3 rfl rfl)
theorem dX3_layKnots_123 : decode cX3_layKnots 123 = .ok (.goto (-51), 3) := dk_167 255 205 (dk_at dksX3_layKnots_5 6 rfl rfl)
theorem dX3_layKnots_126 : decode cX3_layKnots 126 = .ok (.iinc 2 1, 3) := dk_132 2 1 (dk_at dksX3_layKnots_5 9 rfl rfl)
theorem dX3_layKnots_129 : decode cX3_layKnots 129 = .ok (.goto (-122), 3) := dk_167 255 134 (dk_at dksX3_layKnots_5 12 rfl rfl)
theorem dX3_layKnots_132 : decode cX3_layKnots 132 = .ok (.return_, 1) := dk_177 (dk_at dksX3_layKnots_5 15 rfl rfl)
abbrev cX3_knot : ByteArray := prog_19_method_17_code
def yX3_knot : MethodName := ⟨RX3, "knot", "(III)V"⟩
def dkwX3_knot_1 : List UInt8 := [42, 180, 0, 159, 29, 79, 42, 89, 180, 0, 159, 4, 96, 181, 0, 159, 177]
abbrev dktX3_knot_1 : List UInt8 := dkwX3_knot_1 ++ []
def dkwX3_knot_0 : List UInt8 := [42, 180, 0, 57, 42, 180, 0, 159, 27, 79, 42, 180, 0, 60, 42, 180, 0, 159, 28, 79, 42, 180, 0, 63]
abbrev dktX3_knot_0 : List UInt8 := dkwX3_knot_0 ++ dktX3_knot_1
theorem dksX3_knot_0 : cX3_knot.data.toList.drop 0 = dktX3_knot_0 := by decide +kernel
theorem dksX3_knot_1 : cX3_knot.data.toList.drop 24 = dktX3_knot_1 := dk_seg dksX3_knot_0 24 rfl rfl
theorem dX3_knot_0 : decode cX3_knot 0 = .ok (.aload_n 0, 1) := dk_42 (dk_at dksX3_knot_0 0 rfl rfl)
theorem dX3_knot_1 : decode cX3_knot 1 = .ok (.getfield 57, 3) := dk_180 0 57 (dk_at dksX3_knot_0 1 rfl rfl)
theorem dX3_knot_4 : decode cX3_knot 4 = .ok (.aload_n 0, 1) := dk_42 (dk_at dksX3_knot_0 4 rfl rfl)
theorem dX3_knot_5 : decode cX3_knot 5 = .ok (.getfield 159, 3) := dk_180 0 159 (dk_at dksX3_knot_0 5 rfl rfl)
theorem dX3_knot_8 : decode cX3_knot 8 = .ok (.iload_n 1, 1) := dk_27 (dk_at dksX3_knot_0 8 rfl rfl)
theorem dX3_knot_9 : decode cX3_knot 9 = .ok (.iastore, 1) := dk_79 (dk_at dksX3_knot_0 9 rfl rfl)
theorem dX3_knot_10 : decode cX3_knot 10 = .ok (.aload_n 0, 1) := dk_42 (dk_at dksX3_knot_0 10 rfl rfl)
theorem dX3_knot_11 : decode cX3_knot 11 = .ok (.getfield 60, 3) := dk_180 0 60 (dk_at dksX3_knot_0 11 rfl rfl)
theorem dX3_knot_14 : decode cX3_knot 14 = .ok (.aload_n 0, 1) := dk_42 (dk_at dksX3_knot_0 14 rfl rfl)
theorem dX3_knot_15 : decode cX3_knot 15 = .ok (.getfield 159, 3) := dk_180 0 159 (dk_at dksX3_knot_0 15 rfl rfl)
theorem dX3_knot_18 : decode cX3_knot 18 = .ok (.iload_n 2, 1) := dk_28 (dk_at dksX3_knot_0 18 rfl rfl)
theorem dX3_knot_19 : decode cX3_knot 19 = .ok (.iastore, 1) := dk_79 (dk_at dksX3_knot_0 19 rfl rfl)
theorem dX3_knot_20 : decode cX3_knot 20 = .ok (.aload_n 0, 1) := dk_42 (dk_at dksX3_knot_0 20 rfl rfl)
theorem dX3_knot_21 : decode cX3_knot 21 = .ok (.getfield 63, 3) := dk_180 0 63 (dk_at dksX3_knot_0 21 rfl rfl)
theorem dX3_knot_24 : decode cX3_knot 24 = .ok (.aload_n 0, 1) := dk_42 (dk_at dksX3_knot_1 0 rfl rfl)
theorem dX3_knot_25 : decode cX3_knot 25 = .ok (.getfield 159, 3) := dk_180 0 159 (dk_at dksX3_knot_1 1 rfl rfl)
theorem dX3_knot_28 : decode cX3_knot 28 = .ok (.iload_n 3, 1) := dk_29 (dk_at dksX3_knot_1 4 rfl rfl)
theorem dX3_knot_29 : decode cX3_knot 29 = .ok (.iastore, 1) := dk_79 (dk_at dksX3_knot_1 5 rfl rfl)
theorem dX3_knot_30 : decode cX3_knot 30 = .ok (.aload_n 0, 1) := dk_42 (dk_at dksX3_knot_1 6 rfl rfl)
theorem dX3_knot_31 : decode cX3_knot 31 = .ok (.dup, 1) := dk_89 (dk_at dksX3_knot_1 7 rfl rfl)
theorem dX3_knot_32 : decode cX3_knot 32 = .ok (.getfield 159, 3) := dk_180 0 159 (dk_at dksX3_knot_1 8 rfl rfl)
theorem dX3_knot_35 : decode cX3_knot 35 = .ok (.iconst 1, 1) := dk_4 (dk_at dksX3_knot_1 11 rfl rfl)
theorem dX3_knot_36 : decode cX3_knot 36 = .ok (.iadd, 1) := dk_96 (dk_at dksX3_knot_1 12 rfl rfl)
theorem dX3_knot_37 : decode cX3_knot 37 = .ok (.putfield 159, 3) := dk_181 0 159 (dk_at dksX3_knot_1 13 rfl rfl)
theorem dX3_knot_40 : decode cX3_knot 40 = .ok (.return_, 1) := dk_177 (dk_at dksX3_knot_1 16 rfl rfl)
abbrev cX3_laySkips : ByteArray := prog_19_method_22_code
def yX3_laySkips : MethodName := ⟨RX3, "laySkips", "()V"⟩
def dkwX3_laySkips_7 : List UInt8 := [132, 2, 255, 167, 255, 145, 132, 1, 1, 167, 255, 115, 177]
abbrev dktX3_laySkips_7 : List UInt8 := dkwX3_laySkips_7 ++ []
def dkwX3_laySkips_6 : List UInt8 := [21, 5, 21, 4, 96, 79, 42, 180, 0, 72, 16, 12, 28, 104, 27, 96, 29, 79, 132, 3, 1, 167, 255, 157]
abbrev dktX3_laySkips_6 : List UInt8 := dkwX3_laySkips_6 ++ dktX3_laySkips_7
def dkwX3_laySkips_5 : List UInt8 := [180, 0, 69, 16, 12, 28, 104, 27, 96, 46, 162, 0, 31, 42, 180, 0, 69, 16, 12, 28, 104, 27, 96]
abbrev dktX3_laySkips_5 : List UInt8 := dkwX3_laySkips_5 ++ dktX3_laySkips_6
def dkwX3_laySkips_4 : List UInt8 := [167, 0, 9, 42, 28, 29, 182, 0, 195, 54, 5, 21, 5, 18, 191, 159, 0, 50, 21, 5, 21, 4, 96, 42]
abbrev dktX3_laySkips_4 : List UInt8 := dkwX3_laySkips_4 ++ dktX3_laySkips_5
def dkwX3_laySkips_3 : List UInt8 := [180, 0, 69, 16, 12, 28, 29, 96, 104, 27, 96, 46, 54, 4, 21, 4, 18, 191, 160, 0, 8, 18, 191]
abbrev dktX3_laySkips_3 : List UInt8 := dkwX3_laySkips_3 ++ dktX3_laySkips_4
def dkwX3_laySkips_2 : List UInt8 := [27, 96, 3, 79, 27, 4, 100, 61, 28, 155, 0, 113, 4, 62, 28, 29, 96, 27, 163, 0, 98, 42]
abbrev dktX3_laySkips_2 : List UInt8 := dkwX3_laySkips_2 ++ dktX3_laySkips_3
def dkwX3_laySkips_1 : List UInt8 := [132, 1, 1, 167, 255, 231, 3, 60, 27, 42, 180, 0, 192, 163, 0, 139, 42, 180, 0, 69, 16, 12, 27, 104]
abbrev dktX3_laySkips_1 : List UInt8 := dkwX3_laySkips_1 ++ dktX3_laySkips_2
def dkwX3_laySkips_0 : List UInt8 := [3, 60, 27, 17, 0, 144, 162, 0, 24, 42, 180, 0, 69, 27, 18, 191, 79, 42, 180, 0, 72, 27, 3, 79]
abbrev dktX3_laySkips_0 : List UInt8 := dkwX3_laySkips_0 ++ dktX3_laySkips_1
theorem dksX3_laySkips_0 : cX3_laySkips.data.toList.drop 0 = dktX3_laySkips_0 := by decide +kernel
theorem dksX3_laySkips_1 : cX3_laySkips.data.toList.drop 24 = dktX3_laySkips_1 := dk_seg dksX3_laySkips_0 24 rfl rfl
theorem dksX3_laySkips_2 : cX3_laySkips.data.toList.drop 48 = dktX3_laySkips_2 := dk_seg dksX3_laySkips_1 24 rfl rfl
theorem dksX3_laySkips_3 : cX3_laySkips.data.toList.drop 70 = dktX3_laySkips_3 := dk_seg dksX3_laySkips_2 22 rfl rfl
theorem dksX3_laySkips_4 : cX3_laySkips.data.toList.drop 93 = dktX3_laySkips_4 := dk_seg dksX3_laySkips_3 23 rfl rfl
theorem dksX3_laySkips_5 : cX3_laySkips.data.toList.drop 117 = dktX3_laySkips_5 := dk_seg dksX3_laySkips_4 24 rfl rfl
theorem dksX3_laySkips_6 : cX3_laySkips.data.toList.drop 140 = dktX3_laySkips_6 := dk_seg dksX3_laySkips_5 23 rfl rfl
theorem dksX3_laySkips_7 : cX3_laySkips.data.toList.drop 164 = dktX3_laySkips_7 := dk_seg dksX3_laySkips_6 24 rfl rfl
theorem dX3_laySkips_0 : decode cX3_laySkips 0 = .ok (.iconst 0, 1) := dk_3 (dk_at dksX3_laySkips_0 0 rfl rfl)
theorem dX3_laySkips_1 : decode cX3_laySkips 1 = .ok (.istore_n 1, 1) := dk_60 (dk_at dksX3_laySkips_0 1 rfl rfl)
theorem dX3_laySkips_2 : decode cX3_laySkips 2 = .ok (.iload_n 1, 1) := dk_27 (dk_at dksX3_laySkips_0 2 rfl rfl)
theorem dX3_laySkips_3 : decode cX3_laySkips 3 = .ok (.sipush 144, 3) := dk_17 0 144 (dk_at dksX3_laySkips_0 3 rfl rfl)
theorem dX3_laySkips_6 : decode cX3_laySkips 6 = .ok (.if_icmp .ge 24, 3) := dk_162 0 24 (dk_at dksX3_laySkips_0 6 rfl rfl)
theorem dX3_laySkips_9 : decode cX3_laySkips 9 = .ok (.aload_n 0, 1) := dk_42 (dk_at dksX3_laySkips_0 9 rfl rfl)
theorem dX3_laySkips_10 : decode cX3_laySkips 10 = .ok (.getfield 69, 3) := dk_180 0 69 (dk_at dksX3_laySkips_0 10 rfl rfl)
theorem dX3_laySkips_13 : decode cX3_laySkips 13 = .ok (.iload_n 1, 1) := dk_27 (dk_at dksX3_laySkips_0 13 rfl rfl)
theorem dX3_laySkips_14 : decode cX3_laySkips 14 = .ok (.ldc 191, 2) := dk_18 191 (dk_at dksX3_laySkips_0 14 rfl rfl)
theorem dX3_laySkips_16 : decode cX3_laySkips 16 = .ok (.iastore, 1) := dk_79 (dk_at dksX3_laySkips_0 16 rfl rfl)
theorem dX3_laySkips_17 : decode cX3_laySkips 17 = .ok (.aload_n 0, 1) := dk_42 (dk_at dksX3_laySkips_0 17 rfl rfl)
theorem dX3_laySkips_18 : decode cX3_laySkips 18 = .ok (.getfield 72, 3) := dk_180 0 72 (dk_at dksX3_laySkips_0 18 rfl rfl)
theorem dX3_laySkips_21 : decode cX3_laySkips 21 = .ok (.iload_n 1, 1) := dk_27 (dk_at dksX3_laySkips_0 21 rfl rfl)
theorem dX3_laySkips_22 : decode cX3_laySkips 22 = .ok (.iconst 0, 1) := dk_3 (dk_at dksX3_laySkips_0 22 rfl rfl)
theorem dX3_laySkips_23 : decode cX3_laySkips 23 = .ok (.iastore, 1) := dk_79 (dk_at dksX3_laySkips_0 23 rfl rfl)
theorem dX3_laySkips_24 : decode cX3_laySkips 24 = .ok (.iinc 1 1, 3) := dk_132 1 1 (dk_at dksX3_laySkips_1 0 rfl rfl)
theorem dX3_laySkips_27 : decode cX3_laySkips 27 = .ok (.goto (-25), 3) := dk_167 255 231 (dk_at dksX3_laySkips_1 3 rfl rfl)
theorem dX3_laySkips_30 : decode cX3_laySkips 30 = .ok (.iconst 0, 1) := dk_3 (dk_at dksX3_laySkips_1 6 rfl rfl)
theorem dX3_laySkips_31 : decode cX3_laySkips 31 = .ok (.istore_n 1, 1) := dk_60 (dk_at dksX3_laySkips_1 7 rfl rfl)
theorem dX3_laySkips_32 : decode cX3_laySkips 32 = .ok (.iload_n 1, 1) := dk_27 (dk_at dksX3_laySkips_1 8 rfl rfl)
theorem dX3_laySkips_33 : decode cX3_laySkips 33 = .ok (.aload_n 0, 1) := dk_42 (dk_at dksX3_laySkips_1 9 rfl rfl)
theorem dX3_laySkips_34 : decode cX3_laySkips 34 = .ok (.getfield 192, 3) := dk_180 0 192 (dk_at dksX3_laySkips_1 10 rfl rfl)
theorem dX3_laySkips_37 : decode cX3_laySkips 37 = .ok (.if_icmp .gt 139, 3) := dk_163 0 139 (dk_at dksX3_laySkips_1 13 rfl rfl)
theorem dX3_laySkips_40 : decode cX3_laySkips 40 = .ok (.aload_n 0, 1) := dk_42 (dk_at dksX3_laySkips_1 16 rfl rfl)
theorem dX3_laySkips_41 : decode cX3_laySkips 41 = .ok (.getfield 69, 3) := dk_180 0 69 (dk_at dksX3_laySkips_1 17 rfl rfl)
theorem dX3_laySkips_44 : decode cX3_laySkips 44 = .ok (.bipush 12, 2) := dk_16 12 (dk_at dksX3_laySkips_1 20 rfl rfl)
theorem dX3_laySkips_46 : decode cX3_laySkips 46 = .ok (.iload_n 1, 1) := dk_27 (dk_at dksX3_laySkips_1 22 rfl rfl)
theorem dX3_laySkips_47 : decode cX3_laySkips 47 = .ok (.imul, 1) := dk_104 (dk_at dksX3_laySkips_1 23 rfl rfl)
theorem dX3_laySkips_48 : decode cX3_laySkips 48 = .ok (.iload_n 1, 1) := dk_27 (dk_at dksX3_laySkips_2 0 rfl rfl)
theorem dX3_laySkips_49 : decode cX3_laySkips 49 = .ok (.iadd, 1) := dk_96 (dk_at dksX3_laySkips_2 1 rfl rfl)
theorem dX3_laySkips_50 : decode cX3_laySkips 50 = .ok (.iconst 0, 1) := dk_3 (dk_at dksX3_laySkips_2 2 rfl rfl)
theorem dX3_laySkips_51 : decode cX3_laySkips 51 = .ok (.iastore, 1) := dk_79 (dk_at dksX3_laySkips_2 3 rfl rfl)
theorem dX3_laySkips_52 : decode cX3_laySkips 52 = .ok (.iload_n 1, 1) := dk_27 (dk_at dksX3_laySkips_2 4 rfl rfl)
theorem dX3_laySkips_53 : decode cX3_laySkips 53 = .ok (.iconst 1, 1) := dk_4 (dk_at dksX3_laySkips_2 5 rfl rfl)
theorem dX3_laySkips_54 : decode cX3_laySkips 54 = .ok (.isub, 1) := dk_100 (dk_at dksX3_laySkips_2 6 rfl rfl)
theorem dX3_laySkips_55 : decode cX3_laySkips 55 = .ok (.istore_n 2, 1) := dk_61 (dk_at dksX3_laySkips_2 7 rfl rfl)
theorem dX3_laySkips_56 : decode cX3_laySkips 56 = .ok (.iload_n 2, 1) := dk_28 (dk_at dksX3_laySkips_2 8 rfl rfl)
theorem dX3_laySkips_57 : decode cX3_laySkips 57 = .ok (.ifCond .lt 113, 3) := dk_155 0 113 (dk_at dksX3_laySkips_2 9 rfl rfl)
theorem dX3_laySkips_60 : decode cX3_laySkips 60 = .ok (.iconst 1, 1) := dk_4 (dk_at dksX3_laySkips_2 12 rfl rfl)
theorem dX3_laySkips_61 : decode cX3_laySkips 61 = .ok (.istore_n 3, 1) := dk_62 (dk_at dksX3_laySkips_2 13 rfl rfl)
theorem dX3_laySkips_62 : decode cX3_laySkips 62 = .ok (.iload_n 2, 1) := dk_28 (dk_at dksX3_laySkips_2 14 rfl rfl)
theorem dX3_laySkips_63 : decode cX3_laySkips 63 = .ok (.iload_n 3, 1) := dk_29 (dk_at dksX3_laySkips_2 15 rfl rfl)
theorem dX3_laySkips_64 : decode cX3_laySkips 64 = .ok (.iadd, 1) := dk_96 (dk_at dksX3_laySkips_2 16 rfl rfl)
theorem dX3_laySkips_65 : decode cX3_laySkips 65 = .ok (.iload_n 1, 1) := dk_27 (dk_at dksX3_laySkips_2 17 rfl rfl)
theorem dX3_laySkips_66 : decode cX3_laySkips 66 = .ok (.if_icmp .gt 98, 3) := dk_163 0 98 (dk_at dksX3_laySkips_2 18 rfl rfl)
theorem dX3_laySkips_69 : decode cX3_laySkips 69 = .ok (.aload_n 0, 1) := dk_42 (dk_at dksX3_laySkips_2 21 rfl rfl)
theorem dX3_laySkips_70 : decode cX3_laySkips 70 = .ok (.getfield 69, 3) := dk_180 0 69 (dk_at dksX3_laySkips_3 0 rfl rfl)
theorem dX3_laySkips_73 : decode cX3_laySkips 73 = .ok (.bipush 12, 2) := dk_16 12 (dk_at dksX3_laySkips_3 3 rfl rfl)
theorem dX3_laySkips_75 : decode cX3_laySkips 75 = .ok (.iload_n 2, 1) := dk_28 (dk_at dksX3_laySkips_3 5 rfl rfl)
theorem dX3_laySkips_76 : decode cX3_laySkips 76 = .ok (.iload_n 3, 1) := dk_29 (dk_at dksX3_laySkips_3 6 rfl rfl)
theorem dX3_laySkips_77 : decode cX3_laySkips 77 = .ok (.iadd, 1) := dk_96 (dk_at dksX3_laySkips_3 7 rfl rfl)
theorem dX3_laySkips_78 : decode cX3_laySkips 78 = .ok (.imul, 1) := dk_104 (dk_at dksX3_laySkips_3 8 rfl rfl)
theorem dX3_laySkips_79 : decode cX3_laySkips 79 = .ok (.iload_n 1, 1) := dk_27 (dk_at dksX3_laySkips_3 9 rfl rfl)
theorem dX3_laySkips_80 : decode cX3_laySkips 80 = .ok (.iadd, 1) := dk_96 (dk_at dksX3_laySkips_3 10 rfl rfl)
theorem dX3_laySkips_81 : decode cX3_laySkips 81 = .ok (.iaload, 1) := dk_46 (dk_at dksX3_laySkips_3 11 rfl rfl)
theorem dX3_laySkips_82 : decode cX3_laySkips 82 = .ok (.istore 4, 2) := dk_54 4 (dk_at dksX3_laySkips_3 12 rfl rfl)
theorem dX3_laySkips_84 : decode cX3_laySkips 84 = .ok (.iload 4, 2) := dk_21 4 (dk_at dksX3_laySkips_3 14 rfl rfl)
theorem dX3_laySkips_86 : decode cX3_laySkips 86 = .ok (.ldc 191, 2) := dk_18 191 (dk_at dksX3_laySkips_3 16 rfl rfl)
theorem dX3_laySkips_88 : decode cX3_laySkips 88 = .ok (.if_icmp .ne 8, 3) := dk_160 0 8 (dk_at dksX3_laySkips_3 18 rfl rfl)
theorem dX3_laySkips_91 : decode cX3_laySkips 91 = .ok (.ldc 191, 2) := dk_18 191 (dk_at dksX3_laySkips_3 21 rfl rfl)
theorem dX3_laySkips_93 : decode cX3_laySkips 93 = .ok (.goto 9, 3) := dk_167 0 9 (dk_at dksX3_laySkips_4 0 rfl rfl)
theorem dX3_laySkips_96 : decode cX3_laySkips 96 = .ok (.aload_n 0, 1) := dk_42 (dk_at dksX3_laySkips_4 3 rfl rfl)
theorem dX3_laySkips_97 : decode cX3_laySkips 97 = .ok (.iload_n 2, 1) := dk_28 (dk_at dksX3_laySkips_4 4 rfl rfl)
theorem dX3_laySkips_98 : decode cX3_laySkips 98 = .ok (.iload_n 3, 1) := dk_29 (dk_at dksX3_laySkips_4 5 rfl rfl)
theorem dX3_laySkips_99 : decode cX3_laySkips 99 = .ok (.invokevirtual 195, 3) := dk_182 0 195 (dk_at dksX3_laySkips_4 6 rfl rfl)
theorem dX3_laySkips_102 : decode cX3_laySkips 102 = .ok (.istore 5, 2) := dk_54 5 (dk_at dksX3_laySkips_4 9 rfl rfl)
theorem dX3_laySkips_104 : decode cX3_laySkips 104 = .ok (.iload 5, 2) := dk_21 5 (dk_at dksX3_laySkips_4 11 rfl rfl)
theorem dX3_laySkips_106 : decode cX3_laySkips 106 = .ok (.ldc 191, 2) := dk_18 191 (dk_at dksX3_laySkips_4 13 rfl rfl)
theorem dX3_laySkips_108 : decode cX3_laySkips 108 = .ok (.if_icmp .eq 50, 3) := dk_159 0 50 (dk_at dksX3_laySkips_4 15 rfl rfl)
theorem dX3_laySkips_111 : decode cX3_laySkips 111 = .ok (.iload 5, 2) := dk_21 5 (dk_at dksX3_laySkips_4 18 rfl rfl)
theorem dX3_laySkips_113 : decode cX3_laySkips 113 = .ok (.iload 4, 2) := dk_21 4 (dk_at dksX3_laySkips_4 20 rfl rfl)
theorem dX3_laySkips_115 : decode cX3_laySkips 115 = .ok (.iadd, 1) := dk_96 (dk_at dksX3_laySkips_4 22 rfl rfl)
theorem dX3_laySkips_116 : decode cX3_laySkips 116 = .ok (.aload_n 0, 1) := dk_42 (dk_at dksX3_laySkips_4 23 rfl rfl)
theorem dX3_laySkips_117 : decode cX3_laySkips 117 = .ok (.getfield 69, 3) := dk_180 0 69 (dk_at dksX3_laySkips_5 0 rfl rfl)
theorem dX3_laySkips_120 : decode cX3_laySkips 120 = .ok (.bipush 12, 2) := dk_16 12 (dk_at dksX3_laySkips_5 3 rfl rfl)
theorem dX3_laySkips_122 : decode cX3_laySkips 122 = .ok (.iload_n 2, 1) := dk_28 (dk_at dksX3_laySkips_5 5 rfl rfl)
theorem dX3_laySkips_123 : decode cX3_laySkips 123 = .ok (.imul, 1) := dk_104 (dk_at dksX3_laySkips_5 6 rfl rfl)
theorem dX3_laySkips_124 : decode cX3_laySkips 124 = .ok (.iload_n 1, 1) := dk_27 (dk_at dksX3_laySkips_5 7 rfl rfl)
theorem dX3_laySkips_125 : decode cX3_laySkips 125 = .ok (.iadd, 1) := dk_96 (dk_at dksX3_laySkips_5 8 rfl rfl)
theorem dX3_laySkips_126 : decode cX3_laySkips 126 = .ok (.iaload, 1) := dk_46 (dk_at dksX3_laySkips_5 9 rfl rfl)
theorem dX3_laySkips_127 : decode cX3_laySkips 127 = .ok (.if_icmp .ge 31, 3) := dk_162 0 31 (dk_at dksX3_laySkips_5 10 rfl rfl)
theorem dX3_laySkips_130 : decode cX3_laySkips 130 = .ok (.aload_n 0, 1) := dk_42 (dk_at dksX3_laySkips_5 13 rfl rfl)
theorem dX3_laySkips_131 : decode cX3_laySkips 131 = .ok (.getfield 69, 3) := dk_180 0 69 (dk_at dksX3_laySkips_5 14 rfl rfl)
theorem dX3_laySkips_134 : decode cX3_laySkips 134 = .ok (.bipush 12, 2) := dk_16 12 (dk_at dksX3_laySkips_5 17 rfl rfl)
theorem dX3_laySkips_136 : decode cX3_laySkips 136 = .ok (.iload_n 2, 1) := dk_28 (dk_at dksX3_laySkips_5 19 rfl rfl)
theorem dX3_laySkips_137 : decode cX3_laySkips 137 = .ok (.imul, 1) := dk_104 (dk_at dksX3_laySkips_5 20 rfl rfl)
theorem dX3_laySkips_138 : decode cX3_laySkips 138 = .ok (.iload_n 1, 1) := dk_27 (dk_at dksX3_laySkips_5 21 rfl rfl)
theorem dX3_laySkips_139 : decode cX3_laySkips 139 = .ok (.iadd, 1) := dk_96 (dk_at dksX3_laySkips_5 22 rfl rfl)
theorem dX3_laySkips_140 : decode cX3_laySkips 140 = .ok (.iload 5, 2) := dk_21 5 (dk_at dksX3_laySkips_6 0 rfl rfl)
theorem dX3_laySkips_142 : decode cX3_laySkips 142 = .ok (.iload 4, 2) := dk_21 4 (dk_at dksX3_laySkips_6 2 rfl rfl)
theorem dX3_laySkips_144 : decode cX3_laySkips 144 = .ok (.iadd, 1) := dk_96 (dk_at dksX3_laySkips_6 4 rfl rfl)
theorem dX3_laySkips_145 : decode cX3_laySkips 145 = .ok (.iastore, 1) := dk_79 (dk_at dksX3_laySkips_6 5 rfl rfl)
theorem dX3_laySkips_146 : decode cX3_laySkips 146 = .ok (.aload_n 0, 1) := dk_42 (dk_at dksX3_laySkips_6 6 rfl rfl)
theorem dX3_laySkips_147 : decode cX3_laySkips 147 = .ok (.getfield 72, 3) := dk_180 0 72 (dk_at dksX3_laySkips_6 7 rfl rfl)
theorem dX3_laySkips_150 : decode cX3_laySkips 150 = .ok (.bipush 12, 2) := dk_16 12 (dk_at dksX3_laySkips_6 10 rfl rfl)
theorem dX3_laySkips_152 : decode cX3_laySkips 152 = .ok (.iload_n 2, 1) := dk_28 (dk_at dksX3_laySkips_6 12 rfl rfl)
theorem dX3_laySkips_153 : decode cX3_laySkips 153 = .ok (.imul, 1) := dk_104 (dk_at dksX3_laySkips_6 13 rfl rfl)
theorem dX3_laySkips_154 : decode cX3_laySkips 154 = .ok (.iload_n 1, 1) := dk_27 (dk_at dksX3_laySkips_6 14 rfl rfl)
theorem dX3_laySkips_155 : decode cX3_laySkips 155 = .ok (.iadd, 1) := dk_96 (dk_at dksX3_laySkips_6 15 rfl rfl)
theorem dX3_laySkips_156 : decode cX3_laySkips 156 = .ok (.iload_n 3, 1) := dk_29 (dk_at dksX3_laySkips_6 16 rfl rfl)
theorem dX3_laySkips_157 : decode cX3_laySkips 157 = .ok (.iastore, 1) := dk_79 (dk_at dksX3_laySkips_6 17 rfl rfl)
theorem dX3_laySkips_158 : decode cX3_laySkips 158 = .ok (.iinc 3 1, 3) := dk_132 3 1 (dk_at dksX3_laySkips_6 18 rfl rfl)
theorem dX3_laySkips_161 : decode cX3_laySkips 161 = .ok (.goto (-99), 3) := dk_167 255 157 (dk_at dksX3_laySkips_6 21 rfl rfl)
theorem dX3_laySkips_164 : decode cX3_laySkips 164 = .ok (.iinc 2 (-1), 3) := dk_132 2 255 (dk_at dksX3_laySkips_7 0 rfl rfl)
theorem dX3_laySkips_167 : decode cX3_laySkips 167 = .ok (.goto (-111), 3) := dk_167 255 145 (dk_at dksX3_laySkips_7 3 rfl rfl)
theorem dX3_laySkips_170 : decode cX3_laySkips 170 = .ok (.iinc 1 1, 3) := dk_132 1 1 (dk_at dksX3_laySkips_7 6 rfl rfl)
theorem dX3_laySkips_173 : decode cX3_laySkips 173 = .ok (.goto (-141), 3) := dk_167 255 115 (dk_at dksX3_laySkips_7 9 rfl rfl)
theorem dX3_laySkips_176 : decode cX3_laySkips 176 = .ok (.return_, 1) := dk_177 (dk_at dksX3_laySkips_7 12 rfl rfl)
abbrev cX3_skipPrice : ByteArray := prog_19_method_21_code
def yX3_skipPrice : MethodName := ⟨RX3, "skipPrice", "(II)I"⟩
def dkwX3_skipPrice_2 : List UInt8 := [180, 0, 39, 27, 46, 96, 46, 167, 0, 9, 42, 180, 0, 21, 28, 96, 172]
abbrev dktX3_skipPrice_2 : List UInt8 := dkwX3_skipPrice_2 ++ []
def dkwX3_skipPrice_1 : List UInt8 := [28, 182, 0, 187, 154, 0, 6, 18, 191, 172, 28, 4, 160, 0, 20, 42, 180, 0, 13, 16, 12, 42]
abbrev dktX3_skipPrice_1 : List UInt8 := dkwX3_skipPrice_1 ++ dktX3_skipPrice_2
def dkwX3_skipPrice_0 : List UInt8 := [42, 28, 4, 160, 0, 8, 16, 6, 167, 0, 5, 16, 7, 27, 28, 28, 4, 160, 0, 7, 3, 167, 0, 4]
abbrev dktX3_skipPrice_0 : List UInt8 := dkwX3_skipPrice_0 ++ dktX3_skipPrice_1
theorem dksX3_skipPrice_0 : cX3_skipPrice.data.toList.drop 0 = dktX3_skipPrice_0 := by decide +kernel
theorem dksX3_skipPrice_1 : cX3_skipPrice.data.toList.drop 24 = dktX3_skipPrice_1 := dk_seg dksX3_skipPrice_0 24 rfl rfl
theorem dksX3_skipPrice_2 : cX3_skipPrice.data.toList.drop 46 = dktX3_skipPrice_2 := dk_seg dksX3_skipPrice_1 22 rfl rfl
theorem dX3_skipPrice_0 : decode cX3_skipPrice 0 = .ok (.aload_n 0, 1) := dk_42 (dk_at dksX3_skipPrice_0 0 rfl rfl)
theorem dX3_skipPrice_1 : decode cX3_skipPrice 1 = .ok (.iload_n 2, 1) := dk_28 (dk_at dksX3_skipPrice_0 1 rfl rfl)
theorem dX3_skipPrice_2 : decode cX3_skipPrice 2 = .ok (.iconst 1, 1) := dk_4 (dk_at dksX3_skipPrice_0 2 rfl rfl)
theorem dX3_skipPrice_3 : decode cX3_skipPrice 3 = .ok (.if_icmp .ne 8, 3) := dk_160 0 8 (dk_at dksX3_skipPrice_0 3 rfl rfl)
theorem dX3_skipPrice_6 : decode cX3_skipPrice 6 = .ok (.bipush 6, 2) := dk_16 6 (dk_at dksX3_skipPrice_0 6 rfl rfl)
theorem dX3_skipPrice_8 : decode cX3_skipPrice 8 = .ok (.goto 5, 3) := dk_167 0 5 (dk_at dksX3_skipPrice_0 8 rfl rfl)
theorem dX3_skipPrice_11 : decode cX3_skipPrice 11 = .ok (.bipush 7, 2) := dk_16 7 (dk_at dksX3_skipPrice_0 11 rfl rfl)
theorem dX3_skipPrice_13 : decode cX3_skipPrice 13 = .ok (.iload_n 1, 1) := dk_27 (dk_at dksX3_skipPrice_0 13 rfl rfl)
theorem dX3_skipPrice_14 : decode cX3_skipPrice 14 = .ok (.iload_n 2, 1) := dk_28 (dk_at dksX3_skipPrice_0 14 rfl rfl)
theorem dX3_skipPrice_15 : decode cX3_skipPrice 15 = .ok (.iload_n 2, 1) := dk_28 (dk_at dksX3_skipPrice_0 15 rfl rfl)
theorem dX3_skipPrice_16 : decode cX3_skipPrice 16 = .ok (.iconst 1, 1) := dk_4 (dk_at dksX3_skipPrice_0 16 rfl rfl)
theorem dX3_skipPrice_17 : decode cX3_skipPrice 17 = .ok (.if_icmp .ne 7, 3) := dk_160 0 7 (dk_at dksX3_skipPrice_0 17 rfl rfl)
theorem dX3_skipPrice_20 : decode cX3_skipPrice 20 = .ok (.iconst 0, 1) := dk_3 (dk_at dksX3_skipPrice_0 20 rfl rfl)
theorem dX3_skipPrice_21 : decode cX3_skipPrice 21 = .ok (.goto 4, 3) := dk_167 0 4 (dk_at dksX3_skipPrice_0 21 rfl rfl)
theorem dX3_skipPrice_24 : decode cX3_skipPrice 24 = .ok (.iload_n 2, 1) := dk_28 (dk_at dksX3_skipPrice_1 0 rfl rfl)
theorem dX3_skipPrice_25 : decode cX3_skipPrice 25 = .ok (.invokevirtual 187, 3) := dk_182 0 187 (dk_at dksX3_skipPrice_1 1 rfl rfl)
theorem dX3_skipPrice_28 : decode cX3_skipPrice 28 = .ok (.ifCond .ne 6, 3) := dk_154 0 6 (dk_at dksX3_skipPrice_1 4 rfl rfl)
theorem dX3_skipPrice_31 : decode cX3_skipPrice 31 = .ok (.ldc 191, 2) := dk_18 191 (dk_at dksX3_skipPrice_1 7 rfl rfl)
theorem dX3_skipPrice_33 : decode cX3_skipPrice 33 = .ok (.ireturn, 1) := dk_172 (dk_at dksX3_skipPrice_1 9 rfl rfl)
theorem dX3_skipPrice_34 : decode cX3_skipPrice 34 = .ok (.iload_n 2, 1) := dk_28 (dk_at dksX3_skipPrice_1 10 rfl rfl)
theorem dX3_skipPrice_35 : decode cX3_skipPrice 35 = .ok (.iconst 1, 1) := dk_4 (dk_at dksX3_skipPrice_1 11 rfl rfl)
theorem dX3_skipPrice_36 : decode cX3_skipPrice 36 = .ok (.if_icmp .ne 20, 3) := dk_160 0 20 (dk_at dksX3_skipPrice_1 12 rfl rfl)
theorem dX3_skipPrice_39 : decode cX3_skipPrice 39 = .ok (.aload_n 0, 1) := dk_42 (dk_at dksX3_skipPrice_1 15 rfl rfl)
theorem dX3_skipPrice_40 : decode cX3_skipPrice 40 = .ok (.getfield 13, 3) := dk_180 0 13 (dk_at dksX3_skipPrice_1 16 rfl rfl)
theorem dX3_skipPrice_43 : decode cX3_skipPrice 43 = .ok (.bipush 12, 2) := dk_16 12 (dk_at dksX3_skipPrice_1 19 rfl rfl)
theorem dX3_skipPrice_45 : decode cX3_skipPrice 45 = .ok (.aload_n 0, 1) := dk_42 (dk_at dksX3_skipPrice_1 21 rfl rfl)
theorem dX3_skipPrice_46 : decode cX3_skipPrice 46 = .ok (.getfield 39, 3) := dk_180 0 39 (dk_at dksX3_skipPrice_2 0 rfl rfl)
theorem dX3_skipPrice_49 : decode cX3_skipPrice 49 = .ok (.iload_n 1, 1) := dk_27 (dk_at dksX3_skipPrice_2 3 rfl rfl)
theorem dX3_skipPrice_50 : decode cX3_skipPrice 50 = .ok (.iaload, 1) := dk_46 (dk_at dksX3_skipPrice_2 4 rfl rfl)
theorem dX3_skipPrice_51 : decode cX3_skipPrice 51 = .ok (.iadd, 1) := dk_96 (dk_at dksX3_skipPrice_2 5 rfl rfl)
theorem dX3_skipPrice_52 : decode cX3_skipPrice 52 = .ok (.iaload, 1) := dk_46 (dk_at dksX3_skipPrice_2 6 rfl rfl)
theorem dX3_skipPrice_53 : decode cX3_skipPrice 53 = .ok (.goto 9, 3) := dk_167 0 9 (dk_at dksX3_skipPrice_2 7 rfl rfl)
theorem dX3_skipPrice_56 : decode cX3_skipPrice 56 = .ok (.aload_n 0, 1) := dk_42 (dk_at dksX3_skipPrice_2 10 rfl rfl)
theorem dX3_skipPrice_57 : decode cX3_skipPrice 57 = .ok (.getfield 21, 3) := dk_180 0 21 (dk_at dksX3_skipPrice_2 11 rfl rfl)
theorem dX3_skipPrice_60 : decode cX3_skipPrice 60 = .ok (.iload_n 2, 1) := dk_28 (dk_at dksX3_skipPrice_2 14 rfl rfl)
theorem dX3_skipPrice_61 : decode cX3_skipPrice 61 = .ok (.iadd, 1) := dk_96 (dk_at dksX3_skipPrice_2 15 rfl rfl)
theorem dX3_skipPrice_62 : decode cX3_skipPrice 62 = .ok (.ireturn, 1) := dk_172 (dk_at dksX3_skipPrice_2 16 rfl rfl)
abbrev cX3_mayBe : ByteArray := prog_19_method_20_code
def yX3_mayBe : MethodName := ⟨RX3, "mayBe", "(IIII)Z"⟩
def dkwX3_mayBe_5 : List UInt8 := [163, 0, 7, 4, 167, 0, 4, 3, 172]
abbrev dktX3_mayBe_5 : List UInt8 := dkwX3_mayBe_5 ++ []
def dkwX3_mayBe_4 : List UInt8 := [42, 180, 0, 166, 4, 160, 0, 21, 28, 42, 180, 0, 181, 161, 0, 17, 28, 29, 96, 42, 180, 0, 184]
abbrev dktX3_mayBe_4 : List UInt8 := dkwX3_mayBe_4 ++ dktX3_mayBe_5
def dkwX3_mayBe_3 : List UInt8 := [182, 0, 178, 154, 0, 7, 4, 167, 0, 4, 3, 54, 5, 132, 6, 1, 167, 255, 219, 21, 5, 153, 0, 33]
abbrev dktX3_mayBe_3 : List UInt8 := dkwX3_mayBe_3 ++ dktX3_mayBe_4
def dkwX3_mayBe_2 : List UInt8 := [54, 6, 21, 6, 28, 29, 96, 162, 0, 35, 21, 5, 153, 0, 21, 42, 42, 180, 0, 39, 21, 6, 46]
abbrev dktX3_mayBe_2 : List UInt8 := dkwX3_mayBe_2 ++ dktX3_mayBe_3
def dkwX3_mayBe_1 : List UInt8 := [28, 42, 180, 0, 172, 160, 0, 14, 21, 4, 42, 180, 0, 175, 160, 0, 5, 3, 172, 4, 54, 5, 28]
abbrev dktX3_mayBe_1 : List UInt8 := dkwX3_mayBe_1 ++ dktX3_mayBe_2
def dkwX3_mayBe_0 : List UInt8 := [42, 180, 0, 166, 5, 159, 0, 36, 42, 180, 0, 166, 7, 159, 0, 28, 27, 42, 180, 0, 169, 160, 0, 22]
abbrev dktX3_mayBe_0 : List UInt8 := dkwX3_mayBe_0 ++ dktX3_mayBe_1
theorem dksX3_mayBe_0 : cX3_mayBe.data.toList.drop 0 = dktX3_mayBe_0 := by decide +kernel
theorem dksX3_mayBe_1 : cX3_mayBe.data.toList.drop 24 = dktX3_mayBe_1 := dk_seg dksX3_mayBe_0 24 rfl rfl
theorem dksX3_mayBe_2 : cX3_mayBe.data.toList.drop 47 = dktX3_mayBe_2 := dk_seg dksX3_mayBe_1 23 rfl rfl
theorem dksX3_mayBe_3 : cX3_mayBe.data.toList.drop 70 = dktX3_mayBe_3 := dk_seg dksX3_mayBe_2 23 rfl rfl
theorem dksX3_mayBe_4 : cX3_mayBe.data.toList.drop 94 = dktX3_mayBe_4 := dk_seg dksX3_mayBe_3 24 rfl rfl
theorem dksX3_mayBe_5 : cX3_mayBe.data.toList.drop 117 = dktX3_mayBe_5 := dk_seg dksX3_mayBe_4 23 rfl rfl
theorem dX3_mayBe_0 : decode cX3_mayBe 0 = .ok (.aload_n 0, 1) := dk_42 (dk_at dksX3_mayBe_0 0 rfl rfl)
theorem dX3_mayBe_1 : decode cX3_mayBe 1 = .ok (.getfield 166, 3) := dk_180 0 166 (dk_at dksX3_mayBe_0 1 rfl rfl)
theorem dX3_mayBe_4 : decode cX3_mayBe 4 = .ok (.iconst 2, 1) := dk_5 (dk_at dksX3_mayBe_0 4 rfl rfl)
theorem dX3_mayBe_5 : decode cX3_mayBe 5 = .ok (.if_icmp .eq 36, 3) := dk_159 0 36 (dk_at dksX3_mayBe_0 5 rfl rfl)
theorem dX3_mayBe_8 : decode cX3_mayBe 8 = .ok (.aload_n 0, 1) := dk_42 (dk_at dksX3_mayBe_0 8 rfl rfl)
theorem dX3_mayBe_9 : decode cX3_mayBe 9 = .ok (.getfield 166, 3) := dk_180 0 166 (dk_at dksX3_mayBe_0 9 rfl rfl)
theorem dX3_mayBe_12 : decode cX3_mayBe 12 = .ok (.iconst 4, 1) := dk_7 (dk_at dksX3_mayBe_0 12 rfl rfl)
theorem dX3_mayBe_13 : decode cX3_mayBe 13 = .ok (.if_icmp .eq 28, 3) := dk_159 0 28 (dk_at dksX3_mayBe_0 13 rfl rfl)
theorem dX3_mayBe_16 : decode cX3_mayBe 16 = .ok (.iload_n 1, 1) := dk_27 (dk_at dksX3_mayBe_0 16 rfl rfl)
theorem dX3_mayBe_17 : decode cX3_mayBe 17 = .ok (.aload_n 0, 1) := dk_42 (dk_at dksX3_mayBe_0 17 rfl rfl)
theorem dX3_mayBe_18 : decode cX3_mayBe 18 = .ok (.getfield 169, 3) := dk_180 0 169 (dk_at dksX3_mayBe_0 18 rfl rfl)
theorem dX3_mayBe_21 : decode cX3_mayBe 21 = .ok (.if_icmp .ne 22, 3) := dk_160 0 22 (dk_at dksX3_mayBe_0 21 rfl rfl)
theorem dX3_mayBe_24 : decode cX3_mayBe 24 = .ok (.iload_n 2, 1) := dk_28 (dk_at dksX3_mayBe_1 0 rfl rfl)
theorem dX3_mayBe_25 : decode cX3_mayBe 25 = .ok (.aload_n 0, 1) := dk_42 (dk_at dksX3_mayBe_1 1 rfl rfl)
theorem dX3_mayBe_26 : decode cX3_mayBe 26 = .ok (.getfield 172, 3) := dk_180 0 172 (dk_at dksX3_mayBe_1 2 rfl rfl)
theorem dX3_mayBe_29 : decode cX3_mayBe 29 = .ok (.if_icmp .ne 14, 3) := dk_160 0 14 (dk_at dksX3_mayBe_1 5 rfl rfl)
theorem dX3_mayBe_32 : decode cX3_mayBe 32 = .ok (.iload 4, 2) := dk_21 4 (dk_at dksX3_mayBe_1 8 rfl rfl)
theorem dX3_mayBe_34 : decode cX3_mayBe 34 = .ok (.aload_n 0, 1) := dk_42 (dk_at dksX3_mayBe_1 10 rfl rfl)
theorem dX3_mayBe_35 : decode cX3_mayBe 35 = .ok (.getfield 175, 3) := dk_180 0 175 (dk_at dksX3_mayBe_1 11 rfl rfl)
theorem dX3_mayBe_38 : decode cX3_mayBe 38 = .ok (.if_icmp .ne 5, 3) := dk_160 0 5 (dk_at dksX3_mayBe_1 14 rfl rfl)
theorem dX3_mayBe_41 : decode cX3_mayBe 41 = .ok (.iconst 0, 1) := dk_3 (dk_at dksX3_mayBe_1 17 rfl rfl)
theorem dX3_mayBe_42 : decode cX3_mayBe 42 = .ok (.ireturn, 1) := dk_172 (dk_at dksX3_mayBe_1 18 rfl rfl)
theorem dX3_mayBe_43 : decode cX3_mayBe 43 = .ok (.iconst 1, 1) := dk_4 (dk_at dksX3_mayBe_1 19 rfl rfl)
theorem dX3_mayBe_44 : decode cX3_mayBe 44 = .ok (.istore 5, 2) := dk_54 5 (dk_at dksX3_mayBe_1 20 rfl rfl)
theorem dX3_mayBe_46 : decode cX3_mayBe 46 = .ok (.iload_n 2, 1) := dk_28 (dk_at dksX3_mayBe_1 22 rfl rfl)
theorem dX3_mayBe_47 : decode cX3_mayBe 47 = .ok (.istore 6, 2) := dk_54 6 (dk_at dksX3_mayBe_2 0 rfl rfl)
theorem dX3_mayBe_49 : decode cX3_mayBe 49 = .ok (.iload 6, 2) := dk_21 6 (dk_at dksX3_mayBe_2 2 rfl rfl)
theorem dX3_mayBe_51 : decode cX3_mayBe 51 = .ok (.iload_n 2, 1) := dk_28 (dk_at dksX3_mayBe_2 4 rfl rfl)
theorem dX3_mayBe_52 : decode cX3_mayBe 52 = .ok (.iload_n 3, 1) := dk_29 (dk_at dksX3_mayBe_2 5 rfl rfl)
theorem dX3_mayBe_53 : decode cX3_mayBe 53 = .ok (.iadd, 1) := dk_96 (dk_at dksX3_mayBe_2 6 rfl rfl)
theorem dX3_mayBe_54 : decode cX3_mayBe 54 = .ok (.if_icmp .ge 35, 3) := dk_162 0 35 (dk_at dksX3_mayBe_2 7 rfl rfl)
theorem dX3_mayBe_57 : decode cX3_mayBe 57 = .ok (.iload 5, 2) := dk_21 5 (dk_at dksX3_mayBe_2 10 rfl rfl)
theorem dX3_mayBe_59 : decode cX3_mayBe 59 = .ok (.ifCond .eq 21, 3) := dk_153 0 21 (dk_at dksX3_mayBe_2 12 rfl rfl)
theorem dX3_mayBe_62 : decode cX3_mayBe 62 = .ok (.aload_n 0, 1) := dk_42 (dk_at dksX3_mayBe_2 15 rfl rfl)
theorem dX3_mayBe_63 : decode cX3_mayBe 63 = .ok (.aload_n 0, 1) := dk_42 (dk_at dksX3_mayBe_2 16 rfl rfl)
theorem dX3_mayBe_64 : decode cX3_mayBe 64 = .ok (.getfield 39, 3) := dk_180 0 39 (dk_at dksX3_mayBe_2 17 rfl rfl)
theorem dX3_mayBe_67 : decode cX3_mayBe 67 = .ok (.iload 6, 2) := dk_21 6 (dk_at dksX3_mayBe_2 20 rfl rfl)
theorem dX3_mayBe_69 : decode cX3_mayBe 69 = .ok (.iaload, 1) := dk_46 (dk_at dksX3_mayBe_2 22 rfl rfl)
theorem dX3_mayBe_70 : decode cX3_mayBe 70 = .ok (.invokevirtual 178, 3) := dk_182 0 178 (dk_at dksX3_mayBe_3 0 rfl rfl)
theorem dX3_mayBe_73 : decode cX3_mayBe 73 = .ok (.ifCond .ne 7, 3) := dk_154 0 7 (dk_at dksX3_mayBe_3 3 rfl rfl)
theorem dX3_mayBe_76 : decode cX3_mayBe 76 = .ok (.iconst 1, 1) := dk_4 (dk_at dksX3_mayBe_3 6 rfl rfl)
theorem dX3_mayBe_77 : decode cX3_mayBe 77 = .ok (.goto 4, 3) := dk_167 0 4 (dk_at dksX3_mayBe_3 7 rfl rfl)
theorem dX3_mayBe_80 : decode cX3_mayBe 80 = .ok (.iconst 0, 1) := dk_3 (dk_at dksX3_mayBe_3 10 rfl rfl)
theorem dX3_mayBe_81 : decode cX3_mayBe 81 = .ok (.istore 5, 2) := dk_54 5 (dk_at dksX3_mayBe_3 11 rfl rfl)
theorem dX3_mayBe_83 : decode cX3_mayBe 83 = .ok (.iinc 6 1, 3) := dk_132 6 1 (dk_at dksX3_mayBe_3 13 rfl rfl)
theorem dX3_mayBe_86 : decode cX3_mayBe 86 = .ok (.goto (-37), 3) := dk_167 255 219 (dk_at dksX3_mayBe_3 16 rfl rfl)
theorem dX3_mayBe_89 : decode cX3_mayBe 89 = .ok (.iload 5, 2) := dk_21 5 (dk_at dksX3_mayBe_3 19 rfl rfl)
theorem dX3_mayBe_91 : decode cX3_mayBe 91 = .ok (.ifCond .eq 33, 3) := dk_153 0 33 (dk_at dksX3_mayBe_3 21 rfl rfl)
theorem dX3_mayBe_94 : decode cX3_mayBe 94 = .ok (.aload_n 0, 1) := dk_42 (dk_at dksX3_mayBe_4 0 rfl rfl)
theorem dX3_mayBe_95 : decode cX3_mayBe 95 = .ok (.getfield 166, 3) := dk_180 0 166 (dk_at dksX3_mayBe_4 1 rfl rfl)
theorem dX3_mayBe_98 : decode cX3_mayBe 98 = .ok (.iconst 1, 1) := dk_4 (dk_at dksX3_mayBe_4 4 rfl rfl)
theorem dX3_mayBe_99 : decode cX3_mayBe 99 = .ok (.if_icmp .ne 21, 3) := dk_160 0 21 (dk_at dksX3_mayBe_4 5 rfl rfl)
theorem dX3_mayBe_102 : decode cX3_mayBe 102 = .ok (.iload_n 2, 1) := dk_28 (dk_at dksX3_mayBe_4 8 rfl rfl)
theorem dX3_mayBe_103 : decode cX3_mayBe 103 = .ok (.aload_n 0, 1) := dk_42 (dk_at dksX3_mayBe_4 9 rfl rfl)
theorem dX3_mayBe_104 : decode cX3_mayBe 104 = .ok (.getfield 181, 3) := dk_180 0 181 (dk_at dksX3_mayBe_4 10 rfl rfl)
theorem dX3_mayBe_107 : decode cX3_mayBe 107 = .ok (.if_icmp .lt 17, 3) := dk_161 0 17 (dk_at dksX3_mayBe_4 13 rfl rfl)
theorem dX3_mayBe_110 : decode cX3_mayBe 110 = .ok (.iload_n 2, 1) := dk_28 (dk_at dksX3_mayBe_4 16 rfl rfl)
theorem dX3_mayBe_111 : decode cX3_mayBe 111 = .ok (.iload_n 3, 1) := dk_29 (dk_at dksX3_mayBe_4 17 rfl rfl)
theorem dX3_mayBe_112 : decode cX3_mayBe 112 = .ok (.iadd, 1) := dk_96 (dk_at dksX3_mayBe_4 18 rfl rfl)
theorem dX3_mayBe_113 : decode cX3_mayBe 113 = .ok (.aload_n 0, 1) := dk_42 (dk_at dksX3_mayBe_4 19 rfl rfl)
theorem dX3_mayBe_114 : decode cX3_mayBe 114 = .ok (.getfield 184, 3) := dk_180 0 184 (dk_at dksX3_mayBe_4 20 rfl rfl)
theorem dX3_mayBe_117 : decode cX3_mayBe 117 = .ok (.if_icmp .gt 7, 3) := dk_163 0 7 (dk_at dksX3_mayBe_5 0 rfl rfl)
theorem dX3_mayBe_120 : decode cX3_mayBe 120 = .ok (.iconst 1, 1) := dk_4 (dk_at dksX3_mayBe_5 3 rfl rfl)
theorem dX3_mayBe_121 : decode cX3_mayBe 121 = .ok (.goto 4, 3) := dk_167 0 4 (dk_at dksX3_mayBe_5 4 rfl rfl)
theorem dX3_mayBe_124 : decode cX3_mayBe 124 = .ok (.iconst 0, 1) := dk_3 (dk_at dksX3_mayBe_5 7 rfl rfl)
theorem dX3_mayBe_125 : decode cX3_mayBe 125 = .ok (.ireturn, 1) := dk_172 (dk_at dksX3_mayBe_5 8 rfl rfl)
abbrev cX3_isFenced : ByteArray := prog_19_method_19_code
def yX3_isFenced : MethodName := ⟨RX3, "isFenced", "(I)Z"⟩
def dkwX3_isFenced_0 : List UInt8 := [42, 180, 0, 153, 153, 0, 16, 42, 180, 0, 7, 27, 51, 153, 0, 7, 4, 167, 0, 4, 3, 172]
abbrev dktX3_isFenced_0 : List UInt8 := dkwX3_isFenced_0 ++ []
theorem dksX3_isFenced_0 : cX3_isFenced.data.toList.drop 0 = dktX3_isFenced_0 := by decide +kernel
theorem dX3_isFenced_0 : decode cX3_isFenced 0 = .ok (.aload_n 0, 1) := dk_42 (dk_at dksX3_isFenced_0 0 rfl rfl)
theorem dX3_isFenced_1 : decode cX3_isFenced 1 = .ok (.getfield 153, 3) := dk_180 0 153 (dk_at dksX3_isFenced_0 1 rfl rfl)
theorem dX3_isFenced_4 : decode cX3_isFenced 4 = .ok (.ifCond .eq 16, 3) := dk_153 0 16 (dk_at dksX3_isFenced_0 4 rfl rfl)
theorem dX3_isFenced_7 : decode cX3_isFenced 7 = .ok (.aload_n 0, 1) := dk_42 (dk_at dksX3_isFenced_0 7 rfl rfl)
theorem dX3_isFenced_8 : decode cX3_isFenced 8 = .ok (.getfield 7, 3) := dk_180 0 7 (dk_at dksX3_isFenced_0 8 rfl rfl)
theorem dX3_isFenced_11 : decode cX3_isFenced 11 = .ok (.iload_n 1, 1) := dk_27 (dk_at dksX3_isFenced_0 11 rfl rfl)
theorem dX3_isFenced_12 : decode cX3_isFenced 12 = .ok (.baload, 1) := dk_51 (dk_at dksX3_isFenced_0 12 rfl rfl)
theorem dX3_isFenced_13 : decode cX3_isFenced 13 = .ok (.ifCond .eq 7, 3) := dk_153 0 7 (dk_at dksX3_isFenced_0 13 rfl rfl)
theorem dX3_isFenced_16 : decode cX3_isFenced 16 = .ok (.iconst 1, 1) := dk_4 (dk_at dksX3_isFenced_0 16 rfl rfl)
theorem dX3_isFenced_17 : decode cX3_isFenced 17 = .ok (.goto 4, 3) := dk_167 0 4 (dk_at dksX3_isFenced_0 17 rfl rfl)
theorem dX3_isFenced_20 : decode cX3_isFenced 20 = .ok (.iconst 0, 1) := dk_3 (dk_at dksX3_isFenced_0 20 rfl rfl)
theorem dX3_isFenced_21 : decode cX3_isFenced 21 = .ok (.ireturn, 1) := dk_172 (dk_at dksX3_isFenced_0 21 rfl rfl)
abbrev cX3_laySteps : ByteArray := prog_19_method_26_code
def yX3_laySteps : MethodName := ⟨RX3, "laySteps", "(I)V"⟩
def dkwX3_laySteps_23 : List UInt8 := [182, 0, 206, 132, 5, 1, 167, 255, 146, 177]
abbrev dktX3_laySteps_23 : List UInt8 := dkwX3_laySteps_23 ++ []
def dkwX3_laySteps_22 : List UInt8 := [46, 28, 42, 180, 0, 66, 27, 5, 96, 46, 42, 180, 0, 36, 21, 6, 6, 96, 46, 8, 21, 5]
abbrev dktX3_laySteps_22 : List UInt8 := dkwX3_laySteps_22 ++ dktX3_laySteps_23
def dkwX3_laySteps_21 : List UInt8 := [154, 0, 49, 42, 8, 27, 5, 21, 5, 182, 0, 187, 153, 0, 37, 42, 42, 180, 0, 36, 21, 6, 5, 96]
abbrev dktX3_laySteps_21 : List UInt8 := dkwX3_laySteps_21 ++ dktX3_laySteps_22
def dkwX3_laySteps_20 : List UInt8 := [21, 6, 4, 96, 46, 21, 4, 160, 0, 65, 42, 42, 180, 0, 36, 21, 6, 5, 96, 46, 182, 0, 178]
abbrev dktX3_laySteps_20 : List UInt8 := dkwX3_laySteps_20 ++ dktX3_laySteps_21
def dkwX3_laySteps_19 : List UInt8 := [16, 12, 7, 21, 5, 104, 96, 54, 6, 42, 180, 0, 36, 21, 6, 46, 29, 160, 0, 79, 42, 180, 0, 36]
abbrev dktX3_laySteps_19 : List UInt8 := dkwX3_laySteps_19 ++ dktX3_laySteps_20
def dkwX3_laySteps_18 : List UInt8 := [27, 5, 96, 46, 3, 3, 3, 182, 0, 206, 3, 54, 5, 21, 5, 42, 180, 0, 33, 4, 46, 162, 0, 105]
abbrev dktX3_laySteps_18 : List UInt8 := dkwX3_laySteps_18 ++ dktX3_laySteps_19
def dkwX3_laySteps_17 : List UInt8 := [159, 0, 34, 42, 180, 0, 166, 7, 159, 0, 26, 42, 29, 42, 4, 27, 3, 182, 0, 210, 42, 180, 0, 66]
abbrev dktX3_laySteps_17 : List UInt8 := dkwX3_laySteps_17 ++ dktX3_laySteps_18
def dkwX3_laySteps_16 : List UInt8 := [182, 0, 210, 42, 180, 0, 17, 6, 3, 182, 0, 206, 21, 4, 29, 159, 0, 42, 42, 180, 0, 166, 5]
abbrev dktX3_laySteps_16 : List UInt8 := dkwX3_laySteps_16 ++ dktX3_laySteps_17
def dkwX3_laySteps_15 : List UInt8 := [159, 0, 34, 42, 6, 27, 5, 3, 182, 0, 187, 153, 0, 23, 42, 21, 4, 28, 42, 4, 27, 3]
abbrev dktX3_laySteps_15 : List UInt8 := dkwX3_laySteps_15 ++ dktX3_laySteps_16
def dkwX3_laySteps_14 : List UInt8 := [4, 96, 42, 180, 0, 192, 160, 0, 4, 177, 42, 180, 0, 39, 27, 4, 96, 46, 54, 4, 21, 4, 29]
abbrev dktX3_laySteps_14 : List UInt8 := dkwX3_laySteps_14 ++ dktX3_laySteps_15
def dkwX3_laySteps_13 : List UInt8 := [182, 0, 210, 42, 180, 0, 66, 27, 4, 96, 46, 3, 3, 3, 182, 0, 206, 132, 4, 1, 167, 255, 88, 27]
abbrev dktX3_laySteps_13 : List UInt8 := dkwX3_laySteps_13 ++ dktX3_laySteps_14
def dkwX3_laySteps_12 : List UInt8 := [180, 0, 166, 5, 159, 0, 36, 42, 180, 0, 166, 7, 159, 0, 28, 42, 21, 6, 42, 5, 27, 21, 4]
abbrev dktX3_laySteps_12 : List UInt8 := dkwX3_laySteps_12 ++ dktX3_laySteps_13
def dkwX3_laySteps_11 : List UInt8 := [96, 46, 7, 21, 4, 182, 0, 206, 42, 180, 0, 36, 7, 21, 4, 104, 5, 96, 46, 29, 160, 0, 44, 42]
abbrev dktX3_laySteps_11 : List UInt8 := dkwX3_laySteps_11 ++ dktX3_laySteps_12
def dkwX3_laySteps_10 : List UInt8 := [153, 0, 32, 42, 21, 5, 28, 42, 5, 27, 21, 4, 182, 0, 210, 42, 180, 0, 36, 7, 21, 4, 104, 6]
abbrev dktX3_laySteps_10 : List UInt8 := dkwX3_laySteps_10 ++ dktX3_laySteps_11
def dkwX3_laySteps_9 : List UInt8 := [182, 0, 178, 154, 0, 53, 42, 21, 6, 182, 0, 178, 154, 0, 44, 42, 7, 27, 4, 21, 4, 182, 0, 187]
abbrev dktX3_laySteps_9 : List UInt8 := dkwX3_laySteps_9 ++ dktX3_laySteps_10
def dkwX3_laySteps_8 : List UInt8 := [96, 46, 54, 6, 42, 180, 0, 36, 7, 21, 4, 104, 5, 96, 46, 29, 160, 0, 62, 42, 21, 5]
abbrev dktX3_laySteps_8 : List UInt8 := dkwX3_laySteps_8 ++ dktX3_laySteps_9
def dkwX3_laySteps_7 : List UInt8 := [46, 162, 0, 163, 42, 180, 0, 36, 7, 21, 4, 104, 46, 54, 5, 42, 180, 0, 36, 7, 21, 4, 104, 4]
abbrev dktX3_laySteps_7 : List UInt8 := dkwX3_laySteps_7 ++ dktX3_laySteps_8
def dkwX3_laySteps_6 : List UInt8 := [29, 96, 46, 5, 3, 182, 0, 206, 132, 4, 1, 167, 255, 191, 3, 54, 4, 21, 4, 42, 180, 0, 33, 3]
abbrev dktX3_laySteps_6 : List UInt8 := dkwX3_laySteps_6 ++ dktX3_laySteps_7
def dkwX3_laySteps_5 : List UInt8 := [182, 0, 187, 153, 0, 29, 42, 21, 4, 28, 42, 180, 0, 66, 27, 4, 96, 46, 42, 180, 0, 13, 16, 24]
abbrev dktX3_laySteps_5 : List UInt8 := dkwX3_laySteps_5 ++ dktX3_laySteps_6
def dkwX3_laySteps_4 : List UInt8 := [162, 0, 62, 21, 4, 29, 159, 0, 50, 42, 21, 4, 182, 0, 178, 154, 0, 41, 42, 5, 27, 4, 21, 4]
abbrev dktX3_laySteps_4 : List UInt8 := dkwX3_laySteps_4 ++ dktX3_laySteps_5
def dkwX3_laySteps_3 : List UInt8 := [180, 0, 66, 27, 4, 96, 46, 3, 3, 3, 182, 0, 206, 3, 54, 4, 21, 4, 42, 180, 0, 122]
abbrev dktX3_laySteps_3 : List UInt8 := dkwX3_laySteps_3 ++ dktX3_laySteps_4
def dkwX3_laySteps_2 : List UInt8 := [167, 255, 219, 27, 42, 180, 0, 192, 160, 0, 4, 177, 42, 180, 0, 39, 27, 46, 62, 42, 29, 28, 42]
abbrev dktX3_laySteps_2 : List UInt8 := dkwX3_laySteps_2 ++ dktX3_laySteps_3
def dkwX3_laySteps_1 : List UInt8 := [54, 4, 21, 4, 18, 191, 159, 0, 14, 42, 29, 28, 28, 21, 4, 4, 3, 182, 0, 206, 132, 3, 1]
abbrev dktX3_laySteps_1 : List UInt8 := dkwX3_laySteps_1 ++ dktX3_laySteps_2
def dkwX3_laySteps_0 : List UInt8 := [42, 180, 0, 66, 27, 46, 61, 3, 62, 29, 42, 180, 0, 122, 162, 0, 35, 42, 27, 29, 182, 0, 203]
abbrev dktX3_laySteps_0 : List UInt8 := dkwX3_laySteps_0 ++ dktX3_laySteps_1
theorem dksX3_laySteps_0 : cX3_laySteps.data.toList.drop 0 = dktX3_laySteps_0 := by decide +kernel
theorem dksX3_laySteps_1 : cX3_laySteps.data.toList.drop 23 = dktX3_laySteps_1 := dk_seg dksX3_laySteps_0 23 rfl rfl
theorem dksX3_laySteps_2 : cX3_laySteps.data.toList.drop 46 = dktX3_laySteps_2 := dk_seg dksX3_laySteps_1 23 rfl rfl
theorem dksX3_laySteps_3 : cX3_laySteps.data.toList.drop 69 = dktX3_laySteps_3 := dk_seg dksX3_laySteps_2 23 rfl rfl
theorem dksX3_laySteps_4 : cX3_laySteps.data.toList.drop 91 = dktX3_laySteps_4 := dk_seg dksX3_laySteps_3 22 rfl rfl
theorem dksX3_laySteps_5 : cX3_laySteps.data.toList.drop 115 = dktX3_laySteps_5 := dk_seg dksX3_laySteps_4 24 rfl rfl
theorem dksX3_laySteps_6 : cX3_laySteps.data.toList.drop 139 = dktX3_laySteps_6 := dk_seg dksX3_laySteps_5 24 rfl rfl
theorem dksX3_laySteps_7 : cX3_laySteps.data.toList.drop 163 = dktX3_laySteps_7 := dk_seg dksX3_laySteps_6 24 rfl rfl
theorem dksX3_laySteps_8 : cX3_laySteps.data.toList.drop 187 = dktX3_laySteps_8 := dk_seg dksX3_laySteps_7 24 rfl rfl
theorem dksX3_laySteps_9 : cX3_laySteps.data.toList.drop 209 = dktX3_laySteps_9 := dk_seg dksX3_laySteps_8 22 rfl rfl
theorem dksX3_laySteps_10 : cX3_laySteps.data.toList.drop 233 = dktX3_laySteps_10 := dk_seg dksX3_laySteps_9 24 rfl rfl
theorem dksX3_laySteps_11 : cX3_laySteps.data.toList.drop 257 = dktX3_laySteps_11 := dk_seg dksX3_laySteps_10 24 rfl rfl
theorem dksX3_laySteps_12 : cX3_laySteps.data.toList.drop 281 = dktX3_laySteps_12 := dk_seg dksX3_laySteps_11 24 rfl rfl
theorem dksX3_laySteps_13 : cX3_laySteps.data.toList.drop 304 = dktX3_laySteps_13 := dk_seg dksX3_laySteps_12 23 rfl rfl
theorem dksX3_laySteps_14 : cX3_laySteps.data.toList.drop 328 = dktX3_laySteps_14 := dk_seg dksX3_laySteps_13 24 rfl rfl
theorem dksX3_laySteps_15 : cX3_laySteps.data.toList.drop 351 = dktX3_laySteps_15 := dk_seg dksX3_laySteps_14 23 rfl rfl
theorem dksX3_laySteps_16 : cX3_laySteps.data.toList.drop 373 = dktX3_laySteps_16 := dk_seg dksX3_laySteps_15 22 rfl rfl
theorem dksX3_laySteps_17 : cX3_laySteps.data.toList.drop 396 = dktX3_laySteps_17 := dk_seg dksX3_laySteps_16 23 rfl rfl
theorem dksX3_laySteps_18 : cX3_laySteps.data.toList.drop 420 = dktX3_laySteps_18 := dk_seg dksX3_laySteps_17 24 rfl rfl
theorem dksX3_laySteps_19 : cX3_laySteps.data.toList.drop 444 = dktX3_laySteps_19 := dk_seg dksX3_laySteps_18 24 rfl rfl
theorem dksX3_laySteps_20 : cX3_laySteps.data.toList.drop 468 = dktX3_laySteps_20 := dk_seg dksX3_laySteps_19 24 rfl rfl
theorem dksX3_laySteps_21 : cX3_laySteps.data.toList.drop 491 = dktX3_laySteps_21 := dk_seg dksX3_laySteps_20 23 rfl rfl
theorem dksX3_laySteps_22 : cX3_laySteps.data.toList.drop 515 = dktX3_laySteps_22 := dk_seg dksX3_laySteps_21 24 rfl rfl
theorem dksX3_laySteps_23 : cX3_laySteps.data.toList.drop 537 = dktX3_laySteps_23 := dk_seg dksX3_laySteps_22 22 rfl rfl
theorem dX3_laySteps_0 : decode cX3_laySteps 0 = .ok (.aload_n 0, 1) := dk_42 (dk_at dksX3_laySteps_0 0 rfl rfl)
theorem dX3_laySteps_1 : decode cX3_laySteps 1 = .ok (.getfield 66, 3) := dk_180 0 66 (dk_at dksX3_laySteps_0 1 rfl rfl)
theorem dX3_laySteps_4 : decode cX3_laySteps 4 = .ok (.iload_n 1, 1) := dk_27 (dk_at dksX3_laySteps_0 4 rfl rfl)
theorem dX3_laySteps_5 : decode cX3_laySteps 5 = .ok (.iaload, 1) := dk_46 (dk_at dksX3_laySteps_0 5 rfl rfl)
theorem dX3_laySteps_6 : decode cX3_laySteps 6 = .ok (.istore_n 2, 1) := dk_61 (dk_at dksX3_laySteps_0 6 rfl rfl)
theorem dX3_laySteps_7 : decode cX3_laySteps 7 = .ok (.iconst 0, 1) := dk_3 (dk_at dksX3_laySteps_0 7 rfl rfl)
theorem dX3_laySteps_8 : decode cX3_laySteps 8 = .ok (.istore_n 3, 1) := dk_62 (dk_at dksX3_laySteps_0 8 rfl rfl)
theorem dX3_laySteps_9 : decode cX3_laySteps 9 = .ok (.iload_n 3, 1) := dk_29 (dk_at dksX3_laySteps_0 9 rfl rfl)
theorem dX3_laySteps_10 : decode cX3_laySteps 10 = .ok (.aload_n 0, 1) := dk_42 (dk_at dksX3_laySteps_0 10 rfl rfl)
theorem dX3_laySteps_11 : decode cX3_laySteps 11 = .ok (.getfield 122, 3) := dk_180 0 122 (dk_at dksX3_laySteps_0 11 rfl rfl)
theorem dX3_laySteps_14 : decode cX3_laySteps 14 = .ok (.if_icmp .ge 35, 3) := dk_162 0 35 (dk_at dksX3_laySteps_0 14 rfl rfl)
theorem dX3_laySteps_17 : decode cX3_laySteps 17 = .ok (.aload_n 0, 1) := dk_42 (dk_at dksX3_laySteps_0 17 rfl rfl)
theorem dX3_laySteps_18 : decode cX3_laySteps 18 = .ok (.iload_n 1, 1) := dk_27 (dk_at dksX3_laySteps_0 18 rfl rfl)
theorem dX3_laySteps_19 : decode cX3_laySteps 19 = .ok (.iload_n 3, 1) := dk_29 (dk_at dksX3_laySteps_0 19 rfl rfl)
theorem dX3_laySteps_20 : decode cX3_laySteps 20 = .ok (.invokevirtual 203, 3) := dk_182 0 203 (dk_at dksX3_laySteps_0 20 rfl rfl)
theorem dX3_laySteps_23 : decode cX3_laySteps 23 = .ok (.istore 4, 2) := dk_54 4 (dk_at dksX3_laySteps_1 0 rfl rfl)
theorem dX3_laySteps_25 : decode cX3_laySteps 25 = .ok (.iload 4, 2) := dk_21 4 (dk_at dksX3_laySteps_1 2 rfl rfl)
theorem dX3_laySteps_27 : decode cX3_laySteps 27 = .ok (.ldc 191, 2) := dk_18 191 (dk_at dksX3_laySteps_1 4 rfl rfl)
theorem dX3_laySteps_29 : decode cX3_laySteps 29 = .ok (.if_icmp .eq 14, 3) := dk_159 0 14 (dk_at dksX3_laySteps_1 6 rfl rfl)
theorem dX3_laySteps_32 : decode cX3_laySteps 32 = .ok (.aload_n 0, 1) := dk_42 (dk_at dksX3_laySteps_1 9 rfl rfl)
theorem dX3_laySteps_33 : decode cX3_laySteps 33 = .ok (.iload_n 3, 1) := dk_29 (dk_at dksX3_laySteps_1 10 rfl rfl)
theorem dX3_laySteps_34 : decode cX3_laySteps 34 = .ok (.iload_n 2, 1) := dk_28 (dk_at dksX3_laySteps_1 11 rfl rfl)
theorem dX3_laySteps_35 : decode cX3_laySteps 35 = .ok (.iload_n 2, 1) := dk_28 (dk_at dksX3_laySteps_1 12 rfl rfl)
theorem dX3_laySteps_36 : decode cX3_laySteps 36 = .ok (.iload 4, 2) := dk_21 4 (dk_at dksX3_laySteps_1 13 rfl rfl)
theorem dX3_laySteps_38 : decode cX3_laySteps 38 = .ok (.iconst 1, 1) := dk_4 (dk_at dksX3_laySteps_1 15 rfl rfl)
theorem dX3_laySteps_39 : decode cX3_laySteps 39 = .ok (.iconst 0, 1) := dk_3 (dk_at dksX3_laySteps_1 16 rfl rfl)
theorem dX3_laySteps_40 : decode cX3_laySteps 40 = .ok (.invokevirtual 206, 3) := dk_182 0 206 (dk_at dksX3_laySteps_1 17 rfl rfl)
theorem dX3_laySteps_43 : decode cX3_laySteps 43 = .ok (.iinc 3 1, 3) := dk_132 3 1 (dk_at dksX3_laySteps_1 20 rfl rfl)
theorem dX3_laySteps_46 : decode cX3_laySteps 46 = .ok (.goto (-37), 3) := dk_167 255 219 (dk_at dksX3_laySteps_2 0 rfl rfl)
theorem dX3_laySteps_49 : decode cX3_laySteps 49 = .ok (.iload_n 1, 1) := dk_27 (dk_at dksX3_laySteps_2 3 rfl rfl)
theorem dX3_laySteps_50 : decode cX3_laySteps 50 = .ok (.aload_n 0, 1) := dk_42 (dk_at dksX3_laySteps_2 4 rfl rfl)
theorem dX3_laySteps_51 : decode cX3_laySteps 51 = .ok (.getfield 192, 3) := dk_180 0 192 (dk_at dksX3_laySteps_2 5 rfl rfl)
theorem dX3_laySteps_54 : decode cX3_laySteps 54 = .ok (.if_icmp .ne 4, 3) := dk_160 0 4 (dk_at dksX3_laySteps_2 8 rfl rfl)
theorem dX3_laySteps_57 : decode cX3_laySteps 57 = .ok (.return_, 1) := dk_177 (dk_at dksX3_laySteps_2 11 rfl rfl)
theorem dX3_laySteps_58 : decode cX3_laySteps 58 = .ok (.aload_n 0, 1) := dk_42 (dk_at dksX3_laySteps_2 12 rfl rfl)
theorem dX3_laySteps_59 : decode cX3_laySteps 59 = .ok (.getfield 39, 3) := dk_180 0 39 (dk_at dksX3_laySteps_2 13 rfl rfl)
theorem dX3_laySteps_62 : decode cX3_laySteps 62 = .ok (.iload_n 1, 1) := dk_27 (dk_at dksX3_laySteps_2 16 rfl rfl)
theorem dX3_laySteps_63 : decode cX3_laySteps 63 = .ok (.iaload, 1) := dk_46 (dk_at dksX3_laySteps_2 17 rfl rfl)
theorem dX3_laySteps_64 : decode cX3_laySteps 64 = .ok (.istore_n 3, 1) := dk_62 (dk_at dksX3_laySteps_2 18 rfl rfl)
theorem dX3_laySteps_65 : decode cX3_laySteps 65 = .ok (.aload_n 0, 1) := dk_42 (dk_at dksX3_laySteps_2 19 rfl rfl)
theorem dX3_laySteps_66 : decode cX3_laySteps 66 = .ok (.iload_n 3, 1) := dk_29 (dk_at dksX3_laySteps_2 20 rfl rfl)
theorem dX3_laySteps_67 : decode cX3_laySteps 67 = .ok (.iload_n 2, 1) := dk_28 (dk_at dksX3_laySteps_2 21 rfl rfl)
theorem dX3_laySteps_68 : decode cX3_laySteps 68 = .ok (.aload_n 0, 1) := dk_42 (dk_at dksX3_laySteps_2 22 rfl rfl)
theorem dX3_laySteps_69 : decode cX3_laySteps 69 = .ok (.getfield 66, 3) := dk_180 0 66 (dk_at dksX3_laySteps_3 0 rfl rfl)
theorem dX3_laySteps_72 : decode cX3_laySteps 72 = .ok (.iload_n 1, 1) := dk_27 (dk_at dksX3_laySteps_3 3 rfl rfl)
theorem dX3_laySteps_73 : decode cX3_laySteps 73 = .ok (.iconst 1, 1) := dk_4 (dk_at dksX3_laySteps_3 4 rfl rfl)
theorem dX3_laySteps_74 : decode cX3_laySteps 74 = .ok (.iadd, 1) := dk_96 (dk_at dksX3_laySteps_3 5 rfl rfl)
theorem dX3_laySteps_75 : decode cX3_laySteps 75 = .ok (.iaload, 1) := dk_46 (dk_at dksX3_laySteps_3 6 rfl rfl)
theorem dX3_laySteps_76 : decode cX3_laySteps 76 = .ok (.iconst 0, 1) := dk_3 (dk_at dksX3_laySteps_3 7 rfl rfl)
theorem dX3_laySteps_77 : decode cX3_laySteps 77 = .ok (.iconst 0, 1) := dk_3 (dk_at dksX3_laySteps_3 8 rfl rfl)
theorem dX3_laySteps_78 : decode cX3_laySteps 78 = .ok (.iconst 0, 1) := dk_3 (dk_at dksX3_laySteps_3 9 rfl rfl)
theorem dX3_laySteps_79 : decode cX3_laySteps 79 = .ok (.invokevirtual 206, 3) := dk_182 0 206 (dk_at dksX3_laySteps_3 10 rfl rfl)
theorem dX3_laySteps_82 : decode cX3_laySteps 82 = .ok (.iconst 0, 1) := dk_3 (dk_at dksX3_laySteps_3 13 rfl rfl)
theorem dX3_laySteps_83 : decode cX3_laySteps 83 = .ok (.istore 4, 2) := dk_54 4 (dk_at dksX3_laySteps_3 14 rfl rfl)
theorem dX3_laySteps_85 : decode cX3_laySteps 85 = .ok (.iload 4, 2) := dk_21 4 (dk_at dksX3_laySteps_3 16 rfl rfl)
theorem dX3_laySteps_87 : decode cX3_laySteps 87 = .ok (.aload_n 0, 1) := dk_42 (dk_at dksX3_laySteps_3 18 rfl rfl)
theorem dX3_laySteps_88 : decode cX3_laySteps 88 = .ok (.getfield 122, 3) := dk_180 0 122 (dk_at dksX3_laySteps_3 19 rfl rfl)
theorem dX3_laySteps_91 : decode cX3_laySteps 91 = .ok (.if_icmp .ge 62, 3) := dk_162 0 62 (dk_at dksX3_laySteps_4 0 rfl rfl)
theorem dX3_laySteps_94 : decode cX3_laySteps 94 = .ok (.iload 4, 2) := dk_21 4 (dk_at dksX3_laySteps_4 3 rfl rfl)
theorem dX3_laySteps_96 : decode cX3_laySteps 96 = .ok (.iload_n 3, 1) := dk_29 (dk_at dksX3_laySteps_4 5 rfl rfl)
theorem dX3_laySteps_97 : decode cX3_laySteps 97 = .ok (.if_icmp .eq 50, 3) := dk_159 0 50 (dk_at dksX3_laySteps_4 6 rfl rfl)
theorem dX3_laySteps_100 : decode cX3_laySteps 100 = .ok (.aload_n 0, 1) := dk_42 (dk_at dksX3_laySteps_4 9 rfl rfl)
theorem dX3_laySteps_101 : decode cX3_laySteps 101 = .ok (.iload 4, 2) := dk_21 4 (dk_at dksX3_laySteps_4 10 rfl rfl)
theorem dX3_laySteps_103 : decode cX3_laySteps 103 = .ok (.invokevirtual 178, 3) := dk_182 0 178 (dk_at dksX3_laySteps_4 12 rfl rfl)
theorem dX3_laySteps_106 : decode cX3_laySteps 106 = .ok (.ifCond .ne 41, 3) := dk_154 0 41 (dk_at dksX3_laySteps_4 15 rfl rfl)
theorem dX3_laySteps_109 : decode cX3_laySteps 109 = .ok (.aload_n 0, 1) := dk_42 (dk_at dksX3_laySteps_4 18 rfl rfl)
theorem dX3_laySteps_110 : decode cX3_laySteps 110 = .ok (.iconst 2, 1) := dk_5 (dk_at dksX3_laySteps_4 19 rfl rfl)
theorem dX3_laySteps_111 : decode cX3_laySteps 111 = .ok (.iload_n 1, 1) := dk_27 (dk_at dksX3_laySteps_4 20 rfl rfl)
theorem dX3_laySteps_112 : decode cX3_laySteps 112 = .ok (.iconst 1, 1) := dk_4 (dk_at dksX3_laySteps_4 21 rfl rfl)
theorem dX3_laySteps_113 : decode cX3_laySteps 113 = .ok (.iload 4, 2) := dk_21 4 (dk_at dksX3_laySteps_4 22 rfl rfl)
theorem dX3_laySteps_115 : decode cX3_laySteps 115 = .ok (.invokevirtual 187, 3) := dk_182 0 187 (dk_at dksX3_laySteps_5 0 rfl rfl)
theorem dX3_laySteps_118 : decode cX3_laySteps 118 = .ok (.ifCond .eq 29, 3) := dk_153 0 29 (dk_at dksX3_laySteps_5 3 rfl rfl)
theorem dX3_laySteps_121 : decode cX3_laySteps 121 = .ok (.aload_n 0, 1) := dk_42 (dk_at dksX3_laySteps_5 6 rfl rfl)
theorem dX3_laySteps_122 : decode cX3_laySteps 122 = .ok (.iload 4, 2) := dk_21 4 (dk_at dksX3_laySteps_5 7 rfl rfl)
theorem dX3_laySteps_124 : decode cX3_laySteps 124 = .ok (.iload_n 2, 1) := dk_28 (dk_at dksX3_laySteps_5 9 rfl rfl)
theorem dX3_laySteps_125 : decode cX3_laySteps 125 = .ok (.aload_n 0, 1) := dk_42 (dk_at dksX3_laySteps_5 10 rfl rfl)
theorem dX3_laySteps_126 : decode cX3_laySteps 126 = .ok (.getfield 66, 3) := dk_180 0 66 (dk_at dksX3_laySteps_5 11 rfl rfl)
theorem dX3_laySteps_129 : decode cX3_laySteps 129 = .ok (.iload_n 1, 1) := dk_27 (dk_at dksX3_laySteps_5 14 rfl rfl)
theorem dX3_laySteps_130 : decode cX3_laySteps 130 = .ok (.iconst 1, 1) := dk_4 (dk_at dksX3_laySteps_5 15 rfl rfl)
theorem dX3_laySteps_131 : decode cX3_laySteps 131 = .ok (.iadd, 1) := dk_96 (dk_at dksX3_laySteps_5 16 rfl rfl)
theorem dX3_laySteps_132 : decode cX3_laySteps 132 = .ok (.iaload, 1) := dk_46 (dk_at dksX3_laySteps_5 17 rfl rfl)
theorem dX3_laySteps_133 : decode cX3_laySteps 133 = .ok (.aload_n 0, 1) := dk_42 (dk_at dksX3_laySteps_5 18 rfl rfl)
theorem dX3_laySteps_134 : decode cX3_laySteps 134 = .ok (.getfield 13, 3) := dk_180 0 13 (dk_at dksX3_laySteps_5 19 rfl rfl)
theorem dX3_laySteps_137 : decode cX3_laySteps 137 = .ok (.bipush 24, 2) := dk_16 24 (dk_at dksX3_laySteps_5 22 rfl rfl)
theorem dX3_laySteps_139 : decode cX3_laySteps 139 = .ok (.iload_n 3, 1) := dk_29 (dk_at dksX3_laySteps_6 0 rfl rfl)
theorem dX3_laySteps_140 : decode cX3_laySteps 140 = .ok (.iadd, 1) := dk_96 (dk_at dksX3_laySteps_6 1 rfl rfl)
theorem dX3_laySteps_141 : decode cX3_laySteps 141 = .ok (.iaload, 1) := dk_46 (dk_at dksX3_laySteps_6 2 rfl rfl)
theorem dX3_laySteps_142 : decode cX3_laySteps 142 = .ok (.iconst 2, 1) := dk_5 (dk_at dksX3_laySteps_6 3 rfl rfl)
theorem dX3_laySteps_143 : decode cX3_laySteps 143 = .ok (.iconst 0, 1) := dk_3 (dk_at dksX3_laySteps_6 4 rfl rfl)
theorem dX3_laySteps_144 : decode cX3_laySteps 144 = .ok (.invokevirtual 206, 3) := dk_182 0 206 (dk_at dksX3_laySteps_6 5 rfl rfl)
theorem dX3_laySteps_147 : decode cX3_laySteps 147 = .ok (.iinc 4 1, 3) := dk_132 4 1 (dk_at dksX3_laySteps_6 8 rfl rfl)
theorem dX3_laySteps_150 : decode cX3_laySteps 150 = .ok (.goto (-65), 3) := dk_167 255 191 (dk_at dksX3_laySteps_6 11 rfl rfl)
theorem dX3_laySteps_153 : decode cX3_laySteps 153 = .ok (.iconst 0, 1) := dk_3 (dk_at dksX3_laySteps_6 14 rfl rfl)
theorem dX3_laySteps_154 : decode cX3_laySteps 154 = .ok (.istore 4, 2) := dk_54 4 (dk_at dksX3_laySteps_6 15 rfl rfl)
theorem dX3_laySteps_156 : decode cX3_laySteps 156 = .ok (.iload 4, 2) := dk_21 4 (dk_at dksX3_laySteps_6 17 rfl rfl)
theorem dX3_laySteps_158 : decode cX3_laySteps 158 = .ok (.aload_n 0, 1) := dk_42 (dk_at dksX3_laySteps_6 19 rfl rfl)
theorem dX3_laySteps_159 : decode cX3_laySteps 159 = .ok (.getfield 33, 3) := dk_180 0 33 (dk_at dksX3_laySteps_6 20 rfl rfl)
theorem dX3_laySteps_162 : decode cX3_laySteps 162 = .ok (.iconst 0, 1) := dk_3 (dk_at dksX3_laySteps_6 23 rfl rfl)
theorem dX3_laySteps_163 : decode cX3_laySteps 163 = .ok (.iaload, 1) := dk_46 (dk_at dksX3_laySteps_7 0 rfl rfl)
theorem dX3_laySteps_164 : decode cX3_laySteps 164 = .ok (.if_icmp .ge 163, 3) := dk_162 0 163 (dk_at dksX3_laySteps_7 1 rfl rfl)
theorem dX3_laySteps_167 : decode cX3_laySteps 167 = .ok (.aload_n 0, 1) := dk_42 (dk_at dksX3_laySteps_7 4 rfl rfl)
theorem dX3_laySteps_168 : decode cX3_laySteps 168 = .ok (.getfield 36, 3) := dk_180 0 36 (dk_at dksX3_laySteps_7 5 rfl rfl)
theorem dX3_laySteps_171 : decode cX3_laySteps 171 = .ok (.iconst 4, 1) := dk_7 (dk_at dksX3_laySteps_7 8 rfl rfl)
theorem dX3_laySteps_172 : decode cX3_laySteps 172 = .ok (.iload 4, 2) := dk_21 4 (dk_at dksX3_laySteps_7 9 rfl rfl)
theorem dX3_laySteps_174 : decode cX3_laySteps 174 = .ok (.imul, 1) := dk_104 (dk_at dksX3_laySteps_7 11 rfl rfl)
theorem dX3_laySteps_175 : decode cX3_laySteps 175 = .ok (.iaload, 1) := dk_46 (dk_at dksX3_laySteps_7 12 rfl rfl)
theorem dX3_laySteps_176 : decode cX3_laySteps 176 = .ok (.istore 5, 2) := dk_54 5 (dk_at dksX3_laySteps_7 13 rfl rfl)
theorem dX3_laySteps_178 : decode cX3_laySteps 178 = .ok (.aload_n 0, 1) := dk_42 (dk_at dksX3_laySteps_7 15 rfl rfl)
theorem dX3_laySteps_179 : decode cX3_laySteps 179 = .ok (.getfield 36, 3) := dk_180 0 36 (dk_at dksX3_laySteps_7 16 rfl rfl)
theorem dX3_laySteps_182 : decode cX3_laySteps 182 = .ok (.iconst 4, 1) := dk_7 (dk_at dksX3_laySteps_7 19 rfl rfl)
theorem dX3_laySteps_183 : decode cX3_laySteps 183 = .ok (.iload 4, 2) := dk_21 4 (dk_at dksX3_laySteps_7 20 rfl rfl)
theorem dX3_laySteps_185 : decode cX3_laySteps 185 = .ok (.imul, 1) := dk_104 (dk_at dksX3_laySteps_7 22 rfl rfl)
theorem dX3_laySteps_186 : decode cX3_laySteps 186 = .ok (.iconst 1, 1) := dk_4 (dk_at dksX3_laySteps_7 23 rfl rfl)
theorem dX3_laySteps_187 : decode cX3_laySteps 187 = .ok (.iadd, 1) := dk_96 (dk_at dksX3_laySteps_8 0 rfl rfl)
theorem dX3_laySteps_188 : decode cX3_laySteps 188 = .ok (.iaload, 1) := dk_46 (dk_at dksX3_laySteps_8 1 rfl rfl)
theorem dX3_laySteps_189 : decode cX3_laySteps 189 = .ok (.istore 6, 2) := dk_54 6 (dk_at dksX3_laySteps_8 2 rfl rfl)
theorem dX3_laySteps_191 : decode cX3_laySteps 191 = .ok (.aload_n 0, 1) := dk_42 (dk_at dksX3_laySteps_8 4 rfl rfl)
theorem dX3_laySteps_192 : decode cX3_laySteps 192 = .ok (.getfield 36, 3) := dk_180 0 36 (dk_at dksX3_laySteps_8 5 rfl rfl)
theorem dX3_laySteps_195 : decode cX3_laySteps 195 = .ok (.iconst 4, 1) := dk_7 (dk_at dksX3_laySteps_8 8 rfl rfl)
theorem dX3_laySteps_196 : decode cX3_laySteps 196 = .ok (.iload 4, 2) := dk_21 4 (dk_at dksX3_laySteps_8 9 rfl rfl)
theorem dX3_laySteps_198 : decode cX3_laySteps 198 = .ok (.imul, 1) := dk_104 (dk_at dksX3_laySteps_8 11 rfl rfl)
theorem dX3_laySteps_199 : decode cX3_laySteps 199 = .ok (.iconst 2, 1) := dk_5 (dk_at dksX3_laySteps_8 12 rfl rfl)
theorem dX3_laySteps_200 : decode cX3_laySteps 200 = .ok (.iadd, 1) := dk_96 (dk_at dksX3_laySteps_8 13 rfl rfl)
theorem dX3_laySteps_201 : decode cX3_laySteps 201 = .ok (.iaload, 1) := dk_46 (dk_at dksX3_laySteps_8 14 rfl rfl)
theorem dX3_laySteps_202 : decode cX3_laySteps 202 = .ok (.iload_n 3, 1) := dk_29 (dk_at dksX3_laySteps_8 15 rfl rfl)
theorem dX3_laySteps_203 : decode cX3_laySteps 203 = .ok (.if_icmp .ne 62, 3) := dk_160 0 62 (dk_at dksX3_laySteps_8 16 rfl rfl)
theorem dX3_laySteps_206 : decode cX3_laySteps 206 = .ok (.aload_n 0, 1) := dk_42 (dk_at dksX3_laySteps_8 19 rfl rfl)
theorem dX3_laySteps_207 : decode cX3_laySteps 207 = .ok (.iload 5, 2) := dk_21 5 (dk_at dksX3_laySteps_8 20 rfl rfl)
theorem dX3_laySteps_209 : decode cX3_laySteps 209 = .ok (.invokevirtual 178, 3) := dk_182 0 178 (dk_at dksX3_laySteps_9 0 rfl rfl)
theorem dX3_laySteps_212 : decode cX3_laySteps 212 = .ok (.ifCond .ne 53, 3) := dk_154 0 53 (dk_at dksX3_laySteps_9 3 rfl rfl)
theorem dX3_laySteps_215 : decode cX3_laySteps 215 = .ok (.aload_n 0, 1) := dk_42 (dk_at dksX3_laySteps_9 6 rfl rfl)
theorem dX3_laySteps_216 : decode cX3_laySteps 216 = .ok (.iload 6, 2) := dk_21 6 (dk_at dksX3_laySteps_9 7 rfl rfl)
theorem dX3_laySteps_218 : decode cX3_laySteps 218 = .ok (.invokevirtual 178, 3) := dk_182 0 178 (dk_at dksX3_laySteps_9 9 rfl rfl)
theorem dX3_laySteps_221 : decode cX3_laySteps 221 = .ok (.ifCond .ne 44, 3) := dk_154 0 44 (dk_at dksX3_laySteps_9 12 rfl rfl)
theorem dX3_laySteps_224 : decode cX3_laySteps 224 = .ok (.aload_n 0, 1) := dk_42 (dk_at dksX3_laySteps_9 15 rfl rfl)
theorem dX3_laySteps_225 : decode cX3_laySteps 225 = .ok (.iconst 4, 1) := dk_7 (dk_at dksX3_laySteps_9 16 rfl rfl)
theorem dX3_laySteps_226 : decode cX3_laySteps 226 = .ok (.iload_n 1, 1) := dk_27 (dk_at dksX3_laySteps_9 17 rfl rfl)
theorem dX3_laySteps_227 : decode cX3_laySteps 227 = .ok (.iconst 1, 1) := dk_4 (dk_at dksX3_laySteps_9 18 rfl rfl)
theorem dX3_laySteps_228 : decode cX3_laySteps 228 = .ok (.iload 4, 2) := dk_21 4 (dk_at dksX3_laySteps_9 19 rfl rfl)
theorem dX3_laySteps_230 : decode cX3_laySteps 230 = .ok (.invokevirtual 187, 3) := dk_182 0 187 (dk_at dksX3_laySteps_9 21 rfl rfl)
theorem dX3_laySteps_233 : decode cX3_laySteps 233 = .ok (.ifCond .eq 32, 3) := dk_153 0 32 (dk_at dksX3_laySteps_10 0 rfl rfl)
theorem dX3_laySteps_236 : decode cX3_laySteps 236 = .ok (.aload_n 0, 1) := dk_42 (dk_at dksX3_laySteps_10 3 rfl rfl)
theorem dX3_laySteps_237 : decode cX3_laySteps 237 = .ok (.iload 5, 2) := dk_21 5 (dk_at dksX3_laySteps_10 4 rfl rfl)
theorem dX3_laySteps_239 : decode cX3_laySteps 239 = .ok (.iload_n 2, 1) := dk_28 (dk_at dksX3_laySteps_10 6 rfl rfl)
theorem dX3_laySteps_240 : decode cX3_laySteps 240 = .ok (.aload_n 0, 1) := dk_42 (dk_at dksX3_laySteps_10 7 rfl rfl)
theorem dX3_laySteps_241 : decode cX3_laySteps 241 = .ok (.iconst 2, 1) := dk_5 (dk_at dksX3_laySteps_10 8 rfl rfl)
theorem dX3_laySteps_242 : decode cX3_laySteps 242 = .ok (.iload_n 1, 1) := dk_27 (dk_at dksX3_laySteps_10 9 rfl rfl)
theorem dX3_laySteps_243 : decode cX3_laySteps 243 = .ok (.iload 4, 2) := dk_21 4 (dk_at dksX3_laySteps_10 10 rfl rfl)
theorem dX3_laySteps_245 : decode cX3_laySteps 245 = .ok (.invokevirtual 210, 3) := dk_182 0 210 (dk_at dksX3_laySteps_10 12 rfl rfl)
theorem dX3_laySteps_248 : decode cX3_laySteps 248 = .ok (.aload_n 0, 1) := dk_42 (dk_at dksX3_laySteps_10 15 rfl rfl)
theorem dX3_laySteps_249 : decode cX3_laySteps 249 = .ok (.getfield 36, 3) := dk_180 0 36 (dk_at dksX3_laySteps_10 16 rfl rfl)
theorem dX3_laySteps_252 : decode cX3_laySteps 252 = .ok (.iconst 4, 1) := dk_7 (dk_at dksX3_laySteps_10 19 rfl rfl)
theorem dX3_laySteps_253 : decode cX3_laySteps 253 = .ok (.iload 4, 2) := dk_21 4 (dk_at dksX3_laySteps_10 20 rfl rfl)
theorem dX3_laySteps_255 : decode cX3_laySteps 255 = .ok (.imul, 1) := dk_104 (dk_at dksX3_laySteps_10 22 rfl rfl)
theorem dX3_laySteps_256 : decode cX3_laySteps 256 = .ok (.iconst 3, 1) := dk_6 (dk_at dksX3_laySteps_10 23 rfl rfl)
theorem dX3_laySteps_257 : decode cX3_laySteps 257 = .ok (.iadd, 1) := dk_96 (dk_at dksX3_laySteps_11 0 rfl rfl)
theorem dX3_laySteps_258 : decode cX3_laySteps 258 = .ok (.iaload, 1) := dk_46 (dk_at dksX3_laySteps_11 1 rfl rfl)
theorem dX3_laySteps_259 : decode cX3_laySteps 259 = .ok (.iconst 4, 1) := dk_7 (dk_at dksX3_laySteps_11 2 rfl rfl)
theorem dX3_laySteps_260 : decode cX3_laySteps 260 = .ok (.iload 4, 2) := dk_21 4 (dk_at dksX3_laySteps_11 3 rfl rfl)
theorem dX3_laySteps_262 : decode cX3_laySteps 262 = .ok (.invokevirtual 206, 3) := dk_182 0 206 (dk_at dksX3_laySteps_11 5 rfl rfl)
theorem dX3_laySteps_265 : decode cX3_laySteps 265 = .ok (.aload_n 0, 1) := dk_42 (dk_at dksX3_laySteps_11 8 rfl rfl)
theorem dX3_laySteps_266 : decode cX3_laySteps 266 = .ok (.getfield 36, 3) := dk_180 0 36 (dk_at dksX3_laySteps_11 9 rfl rfl)
theorem dX3_laySteps_269 : decode cX3_laySteps 269 = .ok (.iconst 4, 1) := dk_7 (dk_at dksX3_laySteps_11 12 rfl rfl)
theorem dX3_laySteps_270 : decode cX3_laySteps 270 = .ok (.iload 4, 2) := dk_21 4 (dk_at dksX3_laySteps_11 13 rfl rfl)
theorem dX3_laySteps_272 : decode cX3_laySteps 272 = .ok (.imul, 1) := dk_104 (dk_at dksX3_laySteps_11 15 rfl rfl)
theorem dX3_laySteps_273 : decode cX3_laySteps 273 = .ok (.iconst 2, 1) := dk_5 (dk_at dksX3_laySteps_11 16 rfl rfl)
theorem dX3_laySteps_274 : decode cX3_laySteps 274 = .ok (.iadd, 1) := dk_96 (dk_at dksX3_laySteps_11 17 rfl rfl)
theorem dX3_laySteps_275 : decode cX3_laySteps 275 = .ok (.iaload, 1) := dk_46 (dk_at dksX3_laySteps_11 18 rfl rfl)
theorem dX3_laySteps_276 : decode cX3_laySteps 276 = .ok (.iload_n 3, 1) := dk_29 (dk_at dksX3_laySteps_11 19 rfl rfl)
theorem dX3_laySteps_277 : decode cX3_laySteps 277 = .ok (.if_icmp .ne 44, 3) := dk_160 0 44 (dk_at dksX3_laySteps_11 20 rfl rfl)
theorem dX3_laySteps_280 : decode cX3_laySteps 280 = .ok (.aload_n 0, 1) := dk_42 (dk_at dksX3_laySteps_11 23 rfl rfl)
theorem dX3_laySteps_281 : decode cX3_laySteps 281 = .ok (.getfield 166, 3) := dk_180 0 166 (dk_at dksX3_laySteps_12 0 rfl rfl)
theorem dX3_laySteps_284 : decode cX3_laySteps 284 = .ok (.iconst 2, 1) := dk_5 (dk_at dksX3_laySteps_12 3 rfl rfl)
theorem dX3_laySteps_285 : decode cX3_laySteps 285 = .ok (.if_icmp .eq 36, 3) := dk_159 0 36 (dk_at dksX3_laySteps_12 4 rfl rfl)
theorem dX3_laySteps_288 : decode cX3_laySteps 288 = .ok (.aload_n 0, 1) := dk_42 (dk_at dksX3_laySteps_12 7 rfl rfl)
theorem dX3_laySteps_289 : decode cX3_laySteps 289 = .ok (.getfield 166, 3) := dk_180 0 166 (dk_at dksX3_laySteps_12 8 rfl rfl)
theorem dX3_laySteps_292 : decode cX3_laySteps 292 = .ok (.iconst 4, 1) := dk_7 (dk_at dksX3_laySteps_12 11 rfl rfl)
theorem dX3_laySteps_293 : decode cX3_laySteps 293 = .ok (.if_icmp .eq 28, 3) := dk_159 0 28 (dk_at dksX3_laySteps_12 12 rfl rfl)
theorem dX3_laySteps_296 : decode cX3_laySteps 296 = .ok (.aload_n 0, 1) := dk_42 (dk_at dksX3_laySteps_12 15 rfl rfl)
theorem dX3_laySteps_297 : decode cX3_laySteps 297 = .ok (.iload 6, 2) := dk_21 6 (dk_at dksX3_laySteps_12 16 rfl rfl)
theorem dX3_laySteps_299 : decode cX3_laySteps 299 = .ok (.aload_n 0, 1) := dk_42 (dk_at dksX3_laySteps_12 18 rfl rfl)
theorem dX3_laySteps_300 : decode cX3_laySteps 300 = .ok (.iconst 2, 1) := dk_5 (dk_at dksX3_laySteps_12 19 rfl rfl)
theorem dX3_laySteps_301 : decode cX3_laySteps 301 = .ok (.iload_n 1, 1) := dk_27 (dk_at dksX3_laySteps_12 20 rfl rfl)
theorem dX3_laySteps_302 : decode cX3_laySteps 302 = .ok (.iload 4, 2) := dk_21 4 (dk_at dksX3_laySteps_12 21 rfl rfl)
theorem dX3_laySteps_304 : decode cX3_laySteps 304 = .ok (.invokevirtual 210, 3) := dk_182 0 210 (dk_at dksX3_laySteps_13 0 rfl rfl)
theorem dX3_laySteps_307 : decode cX3_laySteps 307 = .ok (.aload_n 0, 1) := dk_42 (dk_at dksX3_laySteps_13 3 rfl rfl)
theorem dX3_laySteps_308 : decode cX3_laySteps 308 = .ok (.getfield 66, 3) := dk_180 0 66 (dk_at dksX3_laySteps_13 4 rfl rfl)
theorem dX3_laySteps_311 : decode cX3_laySteps 311 = .ok (.iload_n 1, 1) := dk_27 (dk_at dksX3_laySteps_13 7 rfl rfl)
theorem dX3_laySteps_312 : decode cX3_laySteps 312 = .ok (.iconst 1, 1) := dk_4 (dk_at dksX3_laySteps_13 8 rfl rfl)
theorem dX3_laySteps_313 : decode cX3_laySteps 313 = .ok (.iadd, 1) := dk_96 (dk_at dksX3_laySteps_13 9 rfl rfl)
theorem dX3_laySteps_314 : decode cX3_laySteps 314 = .ok (.iaload, 1) := dk_46 (dk_at dksX3_laySteps_13 10 rfl rfl)
theorem dX3_laySteps_315 : decode cX3_laySteps 315 = .ok (.iconst 0, 1) := dk_3 (dk_at dksX3_laySteps_13 11 rfl rfl)
theorem dX3_laySteps_316 : decode cX3_laySteps 316 = .ok (.iconst 0, 1) := dk_3 (dk_at dksX3_laySteps_13 12 rfl rfl)
theorem dX3_laySteps_317 : decode cX3_laySteps 317 = .ok (.iconst 0, 1) := dk_3 (dk_at dksX3_laySteps_13 13 rfl rfl)
theorem dX3_laySteps_318 : decode cX3_laySteps 318 = .ok (.invokevirtual 206, 3) := dk_182 0 206 (dk_at dksX3_laySteps_13 14 rfl rfl)
theorem dX3_laySteps_321 : decode cX3_laySteps 321 = .ok (.iinc 4 1, 3) := dk_132 4 1 (dk_at dksX3_laySteps_13 17 rfl rfl)
theorem dX3_laySteps_324 : decode cX3_laySteps 324 = .ok (.goto (-168), 3) := dk_167 255 88 (dk_at dksX3_laySteps_13 20 rfl rfl)
theorem dX3_laySteps_327 : decode cX3_laySteps 327 = .ok (.iload_n 1, 1) := dk_27 (dk_at dksX3_laySteps_13 23 rfl rfl)
theorem dX3_laySteps_328 : decode cX3_laySteps 328 = .ok (.iconst 1, 1) := dk_4 (dk_at dksX3_laySteps_14 0 rfl rfl)
theorem dX3_laySteps_329 : decode cX3_laySteps 329 = .ok (.iadd, 1) := dk_96 (dk_at dksX3_laySteps_14 1 rfl rfl)
theorem dX3_laySteps_330 : decode cX3_laySteps 330 = .ok (.aload_n 0, 1) := dk_42 (dk_at dksX3_laySteps_14 2 rfl rfl)
theorem dX3_laySteps_331 : decode cX3_laySteps 331 = .ok (.getfield 192, 3) := dk_180 0 192 (dk_at dksX3_laySteps_14 3 rfl rfl)
theorem dX3_laySteps_334 : decode cX3_laySteps 334 = .ok (.if_icmp .ne 4, 3) := dk_160 0 4 (dk_at dksX3_laySteps_14 6 rfl rfl)
theorem dX3_laySteps_337 : decode cX3_laySteps 337 = .ok (.return_, 1) := dk_177 (dk_at dksX3_laySteps_14 9 rfl rfl)
theorem dX3_laySteps_338 : decode cX3_laySteps 338 = .ok (.aload_n 0, 1) := dk_42 (dk_at dksX3_laySteps_14 10 rfl rfl)
theorem dX3_laySteps_339 : decode cX3_laySteps 339 = .ok (.getfield 39, 3) := dk_180 0 39 (dk_at dksX3_laySteps_14 11 rfl rfl)
theorem dX3_laySteps_342 : decode cX3_laySteps 342 = .ok (.iload_n 1, 1) := dk_27 (dk_at dksX3_laySteps_14 14 rfl rfl)
theorem dX3_laySteps_343 : decode cX3_laySteps 343 = .ok (.iconst 1, 1) := dk_4 (dk_at dksX3_laySteps_14 15 rfl rfl)
theorem dX3_laySteps_344 : decode cX3_laySteps 344 = .ok (.iadd, 1) := dk_96 (dk_at dksX3_laySteps_14 16 rfl rfl)
theorem dX3_laySteps_345 : decode cX3_laySteps 345 = .ok (.iaload, 1) := dk_46 (dk_at dksX3_laySteps_14 17 rfl rfl)
theorem dX3_laySteps_346 : decode cX3_laySteps 346 = .ok (.istore 4, 2) := dk_54 4 (dk_at dksX3_laySteps_14 18 rfl rfl)
theorem dX3_laySteps_348 : decode cX3_laySteps 348 = .ok (.iload 4, 2) := dk_21 4 (dk_at dksX3_laySteps_14 20 rfl rfl)
theorem dX3_laySteps_350 : decode cX3_laySteps 350 = .ok (.iload_n 3, 1) := dk_29 (dk_at dksX3_laySteps_14 22 rfl rfl)
theorem dX3_laySteps_351 : decode cX3_laySteps 351 = .ok (.if_icmp .eq 34, 3) := dk_159 0 34 (dk_at dksX3_laySteps_15 0 rfl rfl)
theorem dX3_laySteps_354 : decode cX3_laySteps 354 = .ok (.aload_n 0, 1) := dk_42 (dk_at dksX3_laySteps_15 3 rfl rfl)
theorem dX3_laySteps_355 : decode cX3_laySteps 355 = .ok (.iconst 3, 1) := dk_6 (dk_at dksX3_laySteps_15 4 rfl rfl)
theorem dX3_laySteps_356 : decode cX3_laySteps 356 = .ok (.iload_n 1, 1) := dk_27 (dk_at dksX3_laySteps_15 5 rfl rfl)
theorem dX3_laySteps_357 : decode cX3_laySteps 357 = .ok (.iconst 2, 1) := dk_5 (dk_at dksX3_laySteps_15 6 rfl rfl)
theorem dX3_laySteps_358 : decode cX3_laySteps 358 = .ok (.iconst 0, 1) := dk_3 (dk_at dksX3_laySteps_15 7 rfl rfl)
theorem dX3_laySteps_359 : decode cX3_laySteps 359 = .ok (.invokevirtual 187, 3) := dk_182 0 187 (dk_at dksX3_laySteps_15 8 rfl rfl)
theorem dX3_laySteps_362 : decode cX3_laySteps 362 = .ok (.ifCond .eq 23, 3) := dk_153 0 23 (dk_at dksX3_laySteps_15 11 rfl rfl)
theorem dX3_laySteps_365 : decode cX3_laySteps 365 = .ok (.aload_n 0, 1) := dk_42 (dk_at dksX3_laySteps_15 14 rfl rfl)
theorem dX3_laySteps_366 : decode cX3_laySteps 366 = .ok (.iload 4, 2) := dk_21 4 (dk_at dksX3_laySteps_15 15 rfl rfl)
theorem dX3_laySteps_368 : decode cX3_laySteps 368 = .ok (.iload_n 2, 1) := dk_28 (dk_at dksX3_laySteps_15 17 rfl rfl)
theorem dX3_laySteps_369 : decode cX3_laySteps 369 = .ok (.aload_n 0, 1) := dk_42 (dk_at dksX3_laySteps_15 18 rfl rfl)
theorem dX3_laySteps_370 : decode cX3_laySteps 370 = .ok (.iconst 1, 1) := dk_4 (dk_at dksX3_laySteps_15 19 rfl rfl)
theorem dX3_laySteps_371 : decode cX3_laySteps 371 = .ok (.iload_n 1, 1) := dk_27 (dk_at dksX3_laySteps_15 20 rfl rfl)
theorem dX3_laySteps_372 : decode cX3_laySteps 372 = .ok (.iconst 0, 1) := dk_3 (dk_at dksX3_laySteps_15 21 rfl rfl)
theorem dX3_laySteps_373 : decode cX3_laySteps 373 = .ok (.invokevirtual 210, 3) := dk_182 0 210 (dk_at dksX3_laySteps_16 0 rfl rfl)
theorem dX3_laySteps_376 : decode cX3_laySteps 376 = .ok (.aload_n 0, 1) := dk_42 (dk_at dksX3_laySteps_16 3 rfl rfl)
theorem dX3_laySteps_377 : decode cX3_laySteps 377 = .ok (.getfield 17, 3) := dk_180 0 17 (dk_at dksX3_laySteps_16 4 rfl rfl)
theorem dX3_laySteps_380 : decode cX3_laySteps 380 = .ok (.iconst 3, 1) := dk_6 (dk_at dksX3_laySteps_16 7 rfl rfl)
theorem dX3_laySteps_381 : decode cX3_laySteps 381 = .ok (.iconst 0, 1) := dk_3 (dk_at dksX3_laySteps_16 8 rfl rfl)
theorem dX3_laySteps_382 : decode cX3_laySteps 382 = .ok (.invokevirtual 206, 3) := dk_182 0 206 (dk_at dksX3_laySteps_16 9 rfl rfl)
theorem dX3_laySteps_385 : decode cX3_laySteps 385 = .ok (.iload 4, 2) := dk_21 4 (dk_at dksX3_laySteps_16 12 rfl rfl)
theorem dX3_laySteps_387 : decode cX3_laySteps 387 = .ok (.iload_n 3, 1) := dk_29 (dk_at dksX3_laySteps_16 14 rfl rfl)
theorem dX3_laySteps_388 : decode cX3_laySteps 388 = .ok (.if_icmp .eq 42, 3) := dk_159 0 42 (dk_at dksX3_laySteps_16 15 rfl rfl)
theorem dX3_laySteps_391 : decode cX3_laySteps 391 = .ok (.aload_n 0, 1) := dk_42 (dk_at dksX3_laySteps_16 18 rfl rfl)
theorem dX3_laySteps_392 : decode cX3_laySteps 392 = .ok (.getfield 166, 3) := dk_180 0 166 (dk_at dksX3_laySteps_16 19 rfl rfl)
theorem dX3_laySteps_395 : decode cX3_laySteps 395 = .ok (.iconst 2, 1) := dk_5 (dk_at dksX3_laySteps_16 22 rfl rfl)
theorem dX3_laySteps_396 : decode cX3_laySteps 396 = .ok (.if_icmp .eq 34, 3) := dk_159 0 34 (dk_at dksX3_laySteps_17 0 rfl rfl)
theorem dX3_laySteps_399 : decode cX3_laySteps 399 = .ok (.aload_n 0, 1) := dk_42 (dk_at dksX3_laySteps_17 3 rfl rfl)
theorem dX3_laySteps_400 : decode cX3_laySteps 400 = .ok (.getfield 166, 3) := dk_180 0 166 (dk_at dksX3_laySteps_17 4 rfl rfl)
theorem dX3_laySteps_403 : decode cX3_laySteps 403 = .ok (.iconst 4, 1) := dk_7 (dk_at dksX3_laySteps_17 7 rfl rfl)
theorem dX3_laySteps_404 : decode cX3_laySteps 404 = .ok (.if_icmp .eq 26, 3) := dk_159 0 26 (dk_at dksX3_laySteps_17 8 rfl rfl)
theorem dX3_laySteps_407 : decode cX3_laySteps 407 = .ok (.aload_n 0, 1) := dk_42 (dk_at dksX3_laySteps_17 11 rfl rfl)
theorem dX3_laySteps_408 : decode cX3_laySteps 408 = .ok (.iload_n 3, 1) := dk_29 (dk_at dksX3_laySteps_17 12 rfl rfl)
theorem dX3_laySteps_409 : decode cX3_laySteps 409 = .ok (.aload_n 0, 1) := dk_42 (dk_at dksX3_laySteps_17 13 rfl rfl)
theorem dX3_laySteps_410 : decode cX3_laySteps 410 = .ok (.iconst 1, 1) := dk_4 (dk_at dksX3_laySteps_17 14 rfl rfl)
theorem dX3_laySteps_411 : decode cX3_laySteps 411 = .ok (.iload_n 1, 1) := dk_27 (dk_at dksX3_laySteps_17 15 rfl rfl)
theorem dX3_laySteps_412 : decode cX3_laySteps 412 = .ok (.iconst 0, 1) := dk_3 (dk_at dksX3_laySteps_17 16 rfl rfl)
theorem dX3_laySteps_413 : decode cX3_laySteps 413 = .ok (.invokevirtual 210, 3) := dk_182 0 210 (dk_at dksX3_laySteps_17 17 rfl rfl)
theorem dX3_laySteps_416 : decode cX3_laySteps 416 = .ok (.aload_n 0, 1) := dk_42 (dk_at dksX3_laySteps_17 20 rfl rfl)
theorem dX3_laySteps_417 : decode cX3_laySteps 417 = .ok (.getfield 66, 3) := dk_180 0 66 (dk_at dksX3_laySteps_17 21 rfl rfl)
theorem dX3_laySteps_420 : decode cX3_laySteps 420 = .ok (.iload_n 1, 1) := dk_27 (dk_at dksX3_laySteps_18 0 rfl rfl)
theorem dX3_laySteps_421 : decode cX3_laySteps 421 = .ok (.iconst 2, 1) := dk_5 (dk_at dksX3_laySteps_18 1 rfl rfl)
theorem dX3_laySteps_422 : decode cX3_laySteps 422 = .ok (.iadd, 1) := dk_96 (dk_at dksX3_laySteps_18 2 rfl rfl)
theorem dX3_laySteps_423 : decode cX3_laySteps 423 = .ok (.iaload, 1) := dk_46 (dk_at dksX3_laySteps_18 3 rfl rfl)
theorem dX3_laySteps_424 : decode cX3_laySteps 424 = .ok (.iconst 0, 1) := dk_3 (dk_at dksX3_laySteps_18 4 rfl rfl)
theorem dX3_laySteps_425 : decode cX3_laySteps 425 = .ok (.iconst 0, 1) := dk_3 (dk_at dksX3_laySteps_18 5 rfl rfl)
theorem dX3_laySteps_426 : decode cX3_laySteps 426 = .ok (.iconst 0, 1) := dk_3 (dk_at dksX3_laySteps_18 6 rfl rfl)
theorem dX3_laySteps_427 : decode cX3_laySteps 427 = .ok (.invokevirtual 206, 3) := dk_182 0 206 (dk_at dksX3_laySteps_18 7 rfl rfl)
theorem dX3_laySteps_430 : decode cX3_laySteps 430 = .ok (.iconst 0, 1) := dk_3 (dk_at dksX3_laySteps_18 10 rfl rfl)
theorem dX3_laySteps_431 : decode cX3_laySteps 431 = .ok (.istore 5, 2) := dk_54 5 (dk_at dksX3_laySteps_18 11 rfl rfl)
theorem dX3_laySteps_433 : decode cX3_laySteps 433 = .ok (.iload 5, 2) := dk_21 5 (dk_at dksX3_laySteps_18 13 rfl rfl)
theorem dX3_laySteps_435 : decode cX3_laySteps 435 = .ok (.aload_n 0, 1) := dk_42 (dk_at dksX3_laySteps_18 15 rfl rfl)
theorem dX3_laySteps_436 : decode cX3_laySteps 436 = .ok (.getfield 33, 3) := dk_180 0 33 (dk_at dksX3_laySteps_18 16 rfl rfl)
theorem dX3_laySteps_439 : decode cX3_laySteps 439 = .ok (.iconst 1, 1) := dk_4 (dk_at dksX3_laySteps_18 19 rfl rfl)
theorem dX3_laySteps_440 : decode cX3_laySteps 440 = .ok (.iaload, 1) := dk_46 (dk_at dksX3_laySteps_18 20 rfl rfl)
theorem dX3_laySteps_441 : decode cX3_laySteps 441 = .ok (.if_icmp .ge 105, 3) := dk_162 0 105 (dk_at dksX3_laySteps_18 21 rfl rfl)
theorem dX3_laySteps_444 : decode cX3_laySteps 444 = .ok (.bipush 12, 2) := dk_16 12 (dk_at dksX3_laySteps_19 0 rfl rfl)
theorem dX3_laySteps_446 : decode cX3_laySteps 446 = .ok (.iconst 4, 1) := dk_7 (dk_at dksX3_laySteps_19 2 rfl rfl)
theorem dX3_laySteps_447 : decode cX3_laySteps 447 = .ok (.iload 5, 2) := dk_21 5 (dk_at dksX3_laySteps_19 3 rfl rfl)
theorem dX3_laySteps_449 : decode cX3_laySteps 449 = .ok (.imul, 1) := dk_104 (dk_at dksX3_laySteps_19 5 rfl rfl)
theorem dX3_laySteps_450 : decode cX3_laySteps 450 = .ok (.iadd, 1) := dk_96 (dk_at dksX3_laySteps_19 6 rfl rfl)
theorem dX3_laySteps_451 : decode cX3_laySteps 451 = .ok (.istore 6, 2) := dk_54 6 (dk_at dksX3_laySteps_19 7 rfl rfl)
theorem dX3_laySteps_453 : decode cX3_laySteps 453 = .ok (.aload_n 0, 1) := dk_42 (dk_at dksX3_laySteps_19 9 rfl rfl)
theorem dX3_laySteps_454 : decode cX3_laySteps 454 = .ok (.getfield 36, 3) := dk_180 0 36 (dk_at dksX3_laySteps_19 10 rfl rfl)
theorem dX3_laySteps_457 : decode cX3_laySteps 457 = .ok (.iload 6, 2) := dk_21 6 (dk_at dksX3_laySteps_19 13 rfl rfl)
theorem dX3_laySteps_459 : decode cX3_laySteps 459 = .ok (.iaload, 1) := dk_46 (dk_at dksX3_laySteps_19 15 rfl rfl)
theorem dX3_laySteps_460 : decode cX3_laySteps 460 = .ok (.iload_n 3, 1) := dk_29 (dk_at dksX3_laySteps_19 16 rfl rfl)
theorem dX3_laySteps_461 : decode cX3_laySteps 461 = .ok (.if_icmp .ne 79, 3) := dk_160 0 79 (dk_at dksX3_laySteps_19 17 rfl rfl)
theorem dX3_laySteps_464 : decode cX3_laySteps 464 = .ok (.aload_n 0, 1) := dk_42 (dk_at dksX3_laySteps_19 20 rfl rfl)
theorem dX3_laySteps_465 : decode cX3_laySteps 465 = .ok (.getfield 36, 3) := dk_180 0 36 (dk_at dksX3_laySteps_19 21 rfl rfl)
theorem dX3_laySteps_468 : decode cX3_laySteps 468 = .ok (.iload 6, 2) := dk_21 6 (dk_at dksX3_laySteps_20 0 rfl rfl)
theorem dX3_laySteps_470 : decode cX3_laySteps 470 = .ok (.iconst 1, 1) := dk_4 (dk_at dksX3_laySteps_20 2 rfl rfl)
theorem dX3_laySteps_471 : decode cX3_laySteps 471 = .ok (.iadd, 1) := dk_96 (dk_at dksX3_laySteps_20 3 rfl rfl)
theorem dX3_laySteps_472 : decode cX3_laySteps 472 = .ok (.iaload, 1) := dk_46 (dk_at dksX3_laySteps_20 4 rfl rfl)
theorem dX3_laySteps_473 : decode cX3_laySteps 473 = .ok (.iload 4, 2) := dk_21 4 (dk_at dksX3_laySteps_20 5 rfl rfl)
theorem dX3_laySteps_475 : decode cX3_laySteps 475 = .ok (.if_icmp .ne 65, 3) := dk_160 0 65 (dk_at dksX3_laySteps_20 7 rfl rfl)
theorem dX3_laySteps_478 : decode cX3_laySteps 478 = .ok (.aload_n 0, 1) := dk_42 (dk_at dksX3_laySteps_20 10 rfl rfl)
theorem dX3_laySteps_479 : decode cX3_laySteps 479 = .ok (.aload_n 0, 1) := dk_42 (dk_at dksX3_laySteps_20 11 rfl rfl)
theorem dX3_laySteps_480 : decode cX3_laySteps 480 = .ok (.getfield 36, 3) := dk_180 0 36 (dk_at dksX3_laySteps_20 12 rfl rfl)
theorem dX3_laySteps_483 : decode cX3_laySteps 483 = .ok (.iload 6, 2) := dk_21 6 (dk_at dksX3_laySteps_20 15 rfl rfl)
theorem dX3_laySteps_485 : decode cX3_laySteps 485 = .ok (.iconst 2, 1) := dk_5 (dk_at dksX3_laySteps_20 17 rfl rfl)
theorem dX3_laySteps_486 : decode cX3_laySteps 486 = .ok (.iadd, 1) := dk_96 (dk_at dksX3_laySteps_20 18 rfl rfl)
theorem dX3_laySteps_487 : decode cX3_laySteps 487 = .ok (.iaload, 1) := dk_46 (dk_at dksX3_laySteps_20 19 rfl rfl)
theorem dX3_laySteps_488 : decode cX3_laySteps 488 = .ok (.invokevirtual 178, 3) := dk_182 0 178 (dk_at dksX3_laySteps_20 20 rfl rfl)
theorem dX3_laySteps_491 : decode cX3_laySteps 491 = .ok (.ifCond .ne 49, 3) := dk_154 0 49 (dk_at dksX3_laySteps_21 0 rfl rfl)
theorem dX3_laySteps_494 : decode cX3_laySteps 494 = .ok (.aload_n 0, 1) := dk_42 (dk_at dksX3_laySteps_21 3 rfl rfl)
theorem dX3_laySteps_495 : decode cX3_laySteps 495 = .ok (.iconst 5, 1) := dk_8 (dk_at dksX3_laySteps_21 4 rfl rfl)
theorem dX3_laySteps_496 : decode cX3_laySteps 496 = .ok (.iload_n 1, 1) := dk_27 (dk_at dksX3_laySteps_21 5 rfl rfl)
theorem dX3_laySteps_497 : decode cX3_laySteps 497 = .ok (.iconst 2, 1) := dk_5 (dk_at dksX3_laySteps_21 6 rfl rfl)
theorem dX3_laySteps_498 : decode cX3_laySteps 498 = .ok (.iload 5, 2) := dk_21 5 (dk_at dksX3_laySteps_21 7 rfl rfl)
theorem dX3_laySteps_500 : decode cX3_laySteps 500 = .ok (.invokevirtual 187, 3) := dk_182 0 187 (dk_at dksX3_laySteps_21 9 rfl rfl)
theorem dX3_laySteps_503 : decode cX3_laySteps 503 = .ok (.ifCond .eq 37, 3) := dk_153 0 37 (dk_at dksX3_laySteps_21 12 rfl rfl)
theorem dX3_laySteps_506 : decode cX3_laySteps 506 = .ok (.aload_n 0, 1) := dk_42 (dk_at dksX3_laySteps_21 15 rfl rfl)
theorem dX3_laySteps_507 : decode cX3_laySteps 507 = .ok (.aload_n 0, 1) := dk_42 (dk_at dksX3_laySteps_21 16 rfl rfl)
theorem dX3_laySteps_508 : decode cX3_laySteps 508 = .ok (.getfield 36, 3) := dk_180 0 36 (dk_at dksX3_laySteps_21 17 rfl rfl)
theorem dX3_laySteps_511 : decode cX3_laySteps 511 = .ok (.iload 6, 2) := dk_21 6 (dk_at dksX3_laySteps_21 20 rfl rfl)
theorem dX3_laySteps_513 : decode cX3_laySteps 513 = .ok (.iconst 2, 1) := dk_5 (dk_at dksX3_laySteps_21 22 rfl rfl)
theorem dX3_laySteps_514 : decode cX3_laySteps 514 = .ok (.iadd, 1) := dk_96 (dk_at dksX3_laySteps_21 23 rfl rfl)
theorem dX3_laySteps_515 : decode cX3_laySteps 515 = .ok (.iaload, 1) := dk_46 (dk_at dksX3_laySteps_22 0 rfl rfl)
theorem dX3_laySteps_516 : decode cX3_laySteps 516 = .ok (.iload_n 2, 1) := dk_28 (dk_at dksX3_laySteps_22 1 rfl rfl)
theorem dX3_laySteps_517 : decode cX3_laySteps 517 = .ok (.aload_n 0, 1) := dk_42 (dk_at dksX3_laySteps_22 2 rfl rfl)
theorem dX3_laySteps_518 : decode cX3_laySteps 518 = .ok (.getfield 66, 3) := dk_180 0 66 (dk_at dksX3_laySteps_22 3 rfl rfl)
theorem dX3_laySteps_521 : decode cX3_laySteps 521 = .ok (.iload_n 1, 1) := dk_27 (dk_at dksX3_laySteps_22 6 rfl rfl)
theorem dX3_laySteps_522 : decode cX3_laySteps 522 = .ok (.iconst 2, 1) := dk_5 (dk_at dksX3_laySteps_22 7 rfl rfl)
theorem dX3_laySteps_523 : decode cX3_laySteps 523 = .ok (.iadd, 1) := dk_96 (dk_at dksX3_laySteps_22 8 rfl rfl)
theorem dX3_laySteps_524 : decode cX3_laySteps 524 = .ok (.iaload, 1) := dk_46 (dk_at dksX3_laySteps_22 9 rfl rfl)
theorem dX3_laySteps_525 : decode cX3_laySteps 525 = .ok (.aload_n 0, 1) := dk_42 (dk_at dksX3_laySteps_22 10 rfl rfl)
theorem dX3_laySteps_526 : decode cX3_laySteps 526 = .ok (.getfield 36, 3) := dk_180 0 36 (dk_at dksX3_laySteps_22 11 rfl rfl)
theorem dX3_laySteps_529 : decode cX3_laySteps 529 = .ok (.iload 6, 2) := dk_21 6 (dk_at dksX3_laySteps_22 14 rfl rfl)
theorem dX3_laySteps_531 : decode cX3_laySteps 531 = .ok (.iconst 3, 1) := dk_6 (dk_at dksX3_laySteps_22 16 rfl rfl)
theorem dX3_laySteps_532 : decode cX3_laySteps 532 = .ok (.iadd, 1) := dk_96 (dk_at dksX3_laySteps_22 17 rfl rfl)
theorem dX3_laySteps_533 : decode cX3_laySteps 533 = .ok (.iaload, 1) := dk_46 (dk_at dksX3_laySteps_22 18 rfl rfl)
theorem dX3_laySteps_534 : decode cX3_laySteps 534 = .ok (.iconst 5, 1) := dk_8 (dk_at dksX3_laySteps_22 19 rfl rfl)
theorem dX3_laySteps_535 : decode cX3_laySteps 535 = .ok (.iload 5, 2) := dk_21 5 (dk_at dksX3_laySteps_22 20 rfl rfl)
theorem dX3_laySteps_537 : decode cX3_laySteps 537 = .ok (.invokevirtual 206, 3) := dk_182 0 206 (dk_at dksX3_laySteps_23 0 rfl rfl)
theorem dX3_laySteps_540 : decode cX3_laySteps 540 = .ok (.iinc 5 1, 3) := dk_132 5 1 (dk_at dksX3_laySteps_23 3 rfl rfl)
theorem dX3_laySteps_543 : decode cX3_laySteps 543 = .ok (.goto (-110), 3) := dk_167 255 146 (dk_at dksX3_laySteps_23 6 rfl rfl)
theorem dX3_laySteps_546 : decode cX3_laySteps 546 = .ok (.return_, 1) := dk_177 (dk_at dksX3_laySteps_23 9 rfl rfl)
abbrev cX3_lostPrice : ByteArray := prog_19_method_25_code
def yX3_lostPrice : MethodName := ⟨RX3, "lostPrice", "(II)I"⟩
def dkwX3_lostPrice_5 : List UInt8 := [167, 0, 4, 3, 62, 29, 153, 0, 12, 42, 180, 0, 13, 28, 46, 167, 0, 5, 18, 191, 172]
abbrev dktX3_lostPrice_5 : List UInt8 := dkwX3_lostPrice_5 ++ []
def dkwX3_lostPrice_4 : List UInt8 := [180, 0, 169, 4, 160, 0, 19, 42, 180, 0, 172, 27, 160, 0, 11, 42, 180, 0, 175, 28, 159, 0, 7, 4]
abbrev dktX3_lostPrice_4 : List UInt8 := dkwX3_lostPrice_4 ++ dktX3_lostPrice_5
def dkwX3_lostPrice_3 : List UInt8 := [160, 0, 21, 27, 133, 42, 180, 0, 181, 133, 42, 180, 0, 184, 133, 184, 0, 132, 153, 0, 31, 42]
abbrev dktX3_lostPrice_3 : List UInt8 := dkwX3_lostPrice_3 ++ dktX3_lostPrice_4
def dkwX3_lostPrice_2 : List UInt8 := [167, 0, 4, 3, 62, 29, 153, 0, 65, 42, 28, 182, 0, 178, 154, 0, 57, 42, 180, 0, 166, 4]
abbrev dktX3_lostPrice_2 : List UInt8 := dkwX3_lostPrice_2 ++ dktX3_lostPrice_3
def dkwX3_lostPrice_1 : List UInt8 := [4, 167, 0, 4, 3, 172, 42, 180, 0, 166, 5, 161, 0, 11, 42, 180, 0, 166, 6, 160, 0, 7, 4]
abbrev dktX3_lostPrice_1 : List UInt8 := dkwX3_lostPrice_1 ++ dktX3_lostPrice_2
def dkwX3_lostPrice_0 : List UInt8 := [27, 42, 180, 0, 192, 160, 0, 25, 42, 180, 0, 166, 4, 164, 0, 17, 42, 180, 0, 166, 5, 160, 0, 7]
abbrev dktX3_lostPrice_0 : List UInt8 := dkwX3_lostPrice_0 ++ dktX3_lostPrice_1
theorem dksX3_lostPrice_0 : cX3_lostPrice.data.toList.drop 0 = dktX3_lostPrice_0 := by decide +kernel
theorem dksX3_lostPrice_1 : cX3_lostPrice.data.toList.drop 24 = dktX3_lostPrice_1 := dk_seg dksX3_lostPrice_0 24 rfl rfl
theorem dksX3_lostPrice_2 : cX3_lostPrice.data.toList.drop 47 = dktX3_lostPrice_2 := dk_seg dksX3_lostPrice_1 23 rfl rfl
theorem dksX3_lostPrice_3 : cX3_lostPrice.data.toList.drop 69 = dktX3_lostPrice_3 := dk_seg dksX3_lostPrice_2 22 rfl rfl
theorem dksX3_lostPrice_4 : cX3_lostPrice.data.toList.drop 91 = dktX3_lostPrice_4 := dk_seg dksX3_lostPrice_3 22 rfl rfl
theorem dksX3_lostPrice_5 : cX3_lostPrice.data.toList.drop 115 = dktX3_lostPrice_5 := dk_seg dksX3_lostPrice_4 24 rfl rfl
theorem dX3_lostPrice_0 : decode cX3_lostPrice 0 = .ok (.iload_n 1, 1) := dk_27 (dk_at dksX3_lostPrice_0 0 rfl rfl)
theorem dX3_lostPrice_1 : decode cX3_lostPrice 1 = .ok (.aload_n 0, 1) := dk_42 (dk_at dksX3_lostPrice_0 1 rfl rfl)
theorem dX3_lostPrice_2 : decode cX3_lostPrice 2 = .ok (.getfield 192, 3) := dk_180 0 192 (dk_at dksX3_lostPrice_0 2 rfl rfl)
theorem dX3_lostPrice_5 : decode cX3_lostPrice 5 = .ok (.if_icmp .ne 25, 3) := dk_160 0 25 (dk_at dksX3_lostPrice_0 5 rfl rfl)
theorem dX3_lostPrice_8 : decode cX3_lostPrice 8 = .ok (.aload_n 0, 1) := dk_42 (dk_at dksX3_lostPrice_0 8 rfl rfl)
theorem dX3_lostPrice_9 : decode cX3_lostPrice 9 = .ok (.getfield 166, 3) := dk_180 0 166 (dk_at dksX3_lostPrice_0 9 rfl rfl)
theorem dX3_lostPrice_12 : decode cX3_lostPrice 12 = .ok (.iconst 1, 1) := dk_4 (dk_at dksX3_lostPrice_0 12 rfl rfl)
theorem dX3_lostPrice_13 : decode cX3_lostPrice 13 = .ok (.if_icmp .le 17, 3) := dk_164 0 17 (dk_at dksX3_lostPrice_0 13 rfl rfl)
theorem dX3_lostPrice_16 : decode cX3_lostPrice 16 = .ok (.aload_n 0, 1) := dk_42 (dk_at dksX3_lostPrice_0 16 rfl rfl)
theorem dX3_lostPrice_17 : decode cX3_lostPrice 17 = .ok (.getfield 166, 3) := dk_180 0 166 (dk_at dksX3_lostPrice_0 17 rfl rfl)
theorem dX3_lostPrice_20 : decode cX3_lostPrice 20 = .ok (.iconst 2, 1) := dk_5 (dk_at dksX3_lostPrice_0 20 rfl rfl)
theorem dX3_lostPrice_21 : decode cX3_lostPrice 21 = .ok (.if_icmp .ne 7, 3) := dk_160 0 7 (dk_at dksX3_lostPrice_0 21 rfl rfl)
theorem dX3_lostPrice_24 : decode cX3_lostPrice 24 = .ok (.iconst 1, 1) := dk_4 (dk_at dksX3_lostPrice_1 0 rfl rfl)
theorem dX3_lostPrice_25 : decode cX3_lostPrice 25 = .ok (.goto 4, 3) := dk_167 0 4 (dk_at dksX3_lostPrice_1 1 rfl rfl)
theorem dX3_lostPrice_28 : decode cX3_lostPrice 28 = .ok (.iconst 0, 1) := dk_3 (dk_at dksX3_lostPrice_1 4 rfl rfl)
theorem dX3_lostPrice_29 : decode cX3_lostPrice 29 = .ok (.ireturn, 1) := dk_172 (dk_at dksX3_lostPrice_1 5 rfl rfl)
theorem dX3_lostPrice_30 : decode cX3_lostPrice 30 = .ok (.aload_n 0, 1) := dk_42 (dk_at dksX3_lostPrice_1 6 rfl rfl)
theorem dX3_lostPrice_31 : decode cX3_lostPrice 31 = .ok (.getfield 166, 3) := dk_180 0 166 (dk_at dksX3_lostPrice_1 7 rfl rfl)
theorem dX3_lostPrice_34 : decode cX3_lostPrice 34 = .ok (.iconst 2, 1) := dk_5 (dk_at dksX3_lostPrice_1 10 rfl rfl)
theorem dX3_lostPrice_35 : decode cX3_lostPrice 35 = .ok (.if_icmp .lt 11, 3) := dk_161 0 11 (dk_at dksX3_lostPrice_1 11 rfl rfl)
theorem dX3_lostPrice_38 : decode cX3_lostPrice 38 = .ok (.aload_n 0, 1) := dk_42 (dk_at dksX3_lostPrice_1 14 rfl rfl)
theorem dX3_lostPrice_39 : decode cX3_lostPrice 39 = .ok (.getfield 166, 3) := dk_180 0 166 (dk_at dksX3_lostPrice_1 15 rfl rfl)
theorem dX3_lostPrice_42 : decode cX3_lostPrice 42 = .ok (.iconst 3, 1) := dk_6 (dk_at dksX3_lostPrice_1 18 rfl rfl)
theorem dX3_lostPrice_43 : decode cX3_lostPrice 43 = .ok (.if_icmp .ne 7, 3) := dk_160 0 7 (dk_at dksX3_lostPrice_1 19 rfl rfl)
theorem dX3_lostPrice_46 : decode cX3_lostPrice 46 = .ok (.iconst 1, 1) := dk_4 (dk_at dksX3_lostPrice_1 22 rfl rfl)
theorem dX3_lostPrice_47 : decode cX3_lostPrice 47 = .ok (.goto 4, 3) := dk_167 0 4 (dk_at dksX3_lostPrice_2 0 rfl rfl)
theorem dX3_lostPrice_50 : decode cX3_lostPrice 50 = .ok (.iconst 0, 1) := dk_3 (dk_at dksX3_lostPrice_2 3 rfl rfl)
theorem dX3_lostPrice_51 : decode cX3_lostPrice 51 = .ok (.istore_n 3, 1) := dk_62 (dk_at dksX3_lostPrice_2 4 rfl rfl)
theorem dX3_lostPrice_52 : decode cX3_lostPrice 52 = .ok (.iload_n 3, 1) := dk_29 (dk_at dksX3_lostPrice_2 5 rfl rfl)
theorem dX3_lostPrice_53 : decode cX3_lostPrice 53 = .ok (.ifCond .eq 65, 3) := dk_153 0 65 (dk_at dksX3_lostPrice_2 6 rfl rfl)
theorem dX3_lostPrice_56 : decode cX3_lostPrice 56 = .ok (.aload_n 0, 1) := dk_42 (dk_at dksX3_lostPrice_2 9 rfl rfl)
theorem dX3_lostPrice_57 : decode cX3_lostPrice 57 = .ok (.iload_n 2, 1) := dk_28 (dk_at dksX3_lostPrice_2 10 rfl rfl)
theorem dX3_lostPrice_58 : decode cX3_lostPrice 58 = .ok (.invokevirtual 178, 3) := dk_182 0 178 (dk_at dksX3_lostPrice_2 11 rfl rfl)
theorem dX3_lostPrice_61 : decode cX3_lostPrice 61 = .ok (.ifCond .ne 57, 3) := dk_154 0 57 (dk_at dksX3_lostPrice_2 14 rfl rfl)
theorem dX3_lostPrice_64 : decode cX3_lostPrice 64 = .ok (.aload_n 0, 1) := dk_42 (dk_at dksX3_lostPrice_2 17 rfl rfl)
theorem dX3_lostPrice_65 : decode cX3_lostPrice 65 = .ok (.getfield 166, 3) := dk_180 0 166 (dk_at dksX3_lostPrice_2 18 rfl rfl)
theorem dX3_lostPrice_68 : decode cX3_lostPrice 68 = .ok (.iconst 1, 1) := dk_4 (dk_at dksX3_lostPrice_2 21 rfl rfl)
theorem dX3_lostPrice_69 : decode cX3_lostPrice 69 = .ok (.if_icmp .ne 21, 3) := dk_160 0 21 (dk_at dksX3_lostPrice_3 0 rfl rfl)
theorem dX3_lostPrice_72 : decode cX3_lostPrice 72 = .ok (.iload_n 1, 1) := dk_27 (dk_at dksX3_lostPrice_3 3 rfl rfl)
theorem dX3_lostPrice_73 : decode cX3_lostPrice 73 = .ok (.i2l, 1) := dk_133 (dk_at dksX3_lostPrice_3 4 rfl rfl)
theorem dX3_lostPrice_74 : decode cX3_lostPrice 74 = .ok (.aload_n 0, 1) := dk_42 (dk_at dksX3_lostPrice_3 5 rfl rfl)
theorem dX3_lostPrice_75 : decode cX3_lostPrice 75 = .ok (.getfield 181, 3) := dk_180 0 181 (dk_at dksX3_lostPrice_3 6 rfl rfl)
theorem dX3_lostPrice_78 : decode cX3_lostPrice 78 = .ok (.i2l, 1) := dk_133 (dk_at dksX3_lostPrice_3 9 rfl rfl)
theorem dX3_lostPrice_79 : decode cX3_lostPrice 79 = .ok (.aload_n 0, 1) := dk_42 (dk_at dksX3_lostPrice_3 10 rfl rfl)
theorem dX3_lostPrice_80 : decode cX3_lostPrice 80 = .ok (.getfield 184, 3) := dk_180 0 184 (dk_at dksX3_lostPrice_3 11 rfl rfl)
theorem dX3_lostPrice_83 : decode cX3_lostPrice 83 = .ok (.i2l, 1) := dk_133 (dk_at dksX3_lostPrice_3 14 rfl rfl)
theorem dX3_lostPrice_84 : decode cX3_lostPrice 84 = .ok (.invokestatic 132, 3) := dk_184 0 132 (dk_at dksX3_lostPrice_3 15 rfl rfl)
theorem dX3_lostPrice_87 : decode cX3_lostPrice 87 = .ok (.ifCond .eq 31, 3) := dk_153 0 31 (dk_at dksX3_lostPrice_3 18 rfl rfl)
theorem dX3_lostPrice_90 : decode cX3_lostPrice 90 = .ok (.aload_n 0, 1) := dk_42 (dk_at dksX3_lostPrice_3 21 rfl rfl)
theorem dX3_lostPrice_91 : decode cX3_lostPrice 91 = .ok (.getfield 169, 3) := dk_180 0 169 (dk_at dksX3_lostPrice_4 0 rfl rfl)
theorem dX3_lostPrice_94 : decode cX3_lostPrice 94 = .ok (.iconst 1, 1) := dk_4 (dk_at dksX3_lostPrice_4 3 rfl rfl)
theorem dX3_lostPrice_95 : decode cX3_lostPrice 95 = .ok (.if_icmp .ne 19, 3) := dk_160 0 19 (dk_at dksX3_lostPrice_4 4 rfl rfl)
theorem dX3_lostPrice_98 : decode cX3_lostPrice 98 = .ok (.aload_n 0, 1) := dk_42 (dk_at dksX3_lostPrice_4 7 rfl rfl)
theorem dX3_lostPrice_99 : decode cX3_lostPrice 99 = .ok (.getfield 172, 3) := dk_180 0 172 (dk_at dksX3_lostPrice_4 8 rfl rfl)
theorem dX3_lostPrice_102 : decode cX3_lostPrice 102 = .ok (.iload_n 1, 1) := dk_27 (dk_at dksX3_lostPrice_4 11 rfl rfl)
theorem dX3_lostPrice_103 : decode cX3_lostPrice 103 = .ok (.if_icmp .ne 11, 3) := dk_160 0 11 (dk_at dksX3_lostPrice_4 12 rfl rfl)
theorem dX3_lostPrice_106 : decode cX3_lostPrice 106 = .ok (.aload_n 0, 1) := dk_42 (dk_at dksX3_lostPrice_4 15 rfl rfl)
theorem dX3_lostPrice_107 : decode cX3_lostPrice 107 = .ok (.getfield 175, 3) := dk_180 0 175 (dk_at dksX3_lostPrice_4 16 rfl rfl)
theorem dX3_lostPrice_110 : decode cX3_lostPrice 110 = .ok (.iload_n 2, 1) := dk_28 (dk_at dksX3_lostPrice_4 19 rfl rfl)
theorem dX3_lostPrice_111 : decode cX3_lostPrice 111 = .ok (.if_icmp .eq 7, 3) := dk_159 0 7 (dk_at dksX3_lostPrice_4 20 rfl rfl)
theorem dX3_lostPrice_114 : decode cX3_lostPrice 114 = .ok (.iconst 1, 1) := dk_4 (dk_at dksX3_lostPrice_4 23 rfl rfl)
theorem dX3_lostPrice_115 : decode cX3_lostPrice 115 = .ok (.goto 4, 3) := dk_167 0 4 (dk_at dksX3_lostPrice_5 0 rfl rfl)
theorem dX3_lostPrice_118 : decode cX3_lostPrice 118 = .ok (.iconst 0, 1) := dk_3 (dk_at dksX3_lostPrice_5 3 rfl rfl)
theorem dX3_lostPrice_119 : decode cX3_lostPrice 119 = .ok (.istore_n 3, 1) := dk_62 (dk_at dksX3_lostPrice_5 4 rfl rfl)
theorem dX3_lostPrice_120 : decode cX3_lostPrice 120 = .ok (.iload_n 3, 1) := dk_29 (dk_at dksX3_lostPrice_5 5 rfl rfl)
theorem dX3_lostPrice_121 : decode cX3_lostPrice 121 = .ok (.ifCond .eq 12, 3) := dk_153 0 12 (dk_at dksX3_lostPrice_5 6 rfl rfl)
theorem dX3_lostPrice_124 : decode cX3_lostPrice 124 = .ok (.aload_n 0, 1) := dk_42 (dk_at dksX3_lostPrice_5 9 rfl rfl)
theorem dX3_lostPrice_125 : decode cX3_lostPrice 125 = .ok (.getfield 13, 3) := dk_180 0 13 (dk_at dksX3_lostPrice_5 10 rfl rfl)
theorem dX3_lostPrice_128 : decode cX3_lostPrice 128 = .ok (.iload_n 2, 1) := dk_28 (dk_at dksX3_lostPrice_5 13 rfl rfl)
theorem dX3_lostPrice_129 : decode cX3_lostPrice 129 = .ok (.iaload, 1) := dk_46 (dk_at dksX3_lostPrice_5 14 rfl rfl)
theorem dX3_lostPrice_130 : decode cX3_lostPrice 130 = .ok (.goto 5, 3) := dk_167 0 5 (dk_at dksX3_lostPrice_5 15 rfl rfl)
theorem dX3_lostPrice_133 : decode cX3_lostPrice 133 = .ok (.ldc 191, 2) := dk_18 191 (dk_at dksX3_lostPrice_5 18 rfl rfl)
theorem dX3_lostPrice_135 : decode cX3_lostPrice 135 = .ok (.ireturn, 1) := dk_172 (dk_at dksX3_lostPrice_5 20 rfl rfl)
abbrev cX3_step : ByteArray := prog_19_method_23_code
def yX3_step : MethodName := ⟨RX3, "step", "(IIIIII)V"⟩
def dkwX3_step_3 : List UInt8 := [46, 28, 29, 21, 8, 21, 4, 96, 21, 5, 21, 6, 182, 0, 199, 132, 7, 1, 167, 255, 193, 177]
abbrev dktX3_step_3 : List UInt8 := dkwX3_step_3 ++ []
def dkwX3_step_2 : List UInt8 := [180, 0, 60, 28, 46, 96, 46, 54, 8, 21, 8, 18, 191, 159, 0, 26, 42, 27, 42, 180, 0, 66, 21, 7]
abbrev dktX3_step_2 : List UInt8 := dkwX3_step_2 ++ dktX3_step_3
def dkwX3_step_1 : List UInt8 := [3, 54, 7, 21, 7, 42, 180, 0, 60, 28, 46, 163, 0, 58, 42, 180, 0, 69, 16, 12, 21, 7, 104, 42]
abbrev dktX3_step_1 : List UInt8 := dkwX3_step_1 ++ dktX3_step_2
def dkwX3_step_0 : List UInt8 := [42, 180, 0, 57, 28, 46, 158, 0, 18, 42, 27, 28, 28, 29, 21, 4, 21, 5, 21, 6, 182, 0, 199, 177]
abbrev dktX3_step_0 : List UInt8 := dkwX3_step_0 ++ dktX3_step_1
theorem dksX3_step_0 : cX3_step.data.toList.drop 0 = dktX3_step_0 := by decide +kernel
theorem dksX3_step_1 : cX3_step.data.toList.drop 24 = dktX3_step_1 := dk_seg dksX3_step_0 24 rfl rfl
theorem dksX3_step_2 : cX3_step.data.toList.drop 48 = dktX3_step_2 := dk_seg dksX3_step_1 24 rfl rfl
theorem dksX3_step_3 : cX3_step.data.toList.drop 72 = dktX3_step_3 := dk_seg dksX3_step_2 24 rfl rfl
theorem dX3_step_0 : decode cX3_step 0 = .ok (.aload_n 0, 1) := dk_42 (dk_at dksX3_step_0 0 rfl rfl)
theorem dX3_step_1 : decode cX3_step 1 = .ok (.getfield 57, 3) := dk_180 0 57 (dk_at dksX3_step_0 1 rfl rfl)
theorem dX3_step_4 : decode cX3_step 4 = .ok (.iload_n 2, 1) := dk_28 (dk_at dksX3_step_0 4 rfl rfl)
theorem dX3_step_5 : decode cX3_step 5 = .ok (.iaload, 1) := dk_46 (dk_at dksX3_step_0 5 rfl rfl)
theorem dX3_step_6 : decode cX3_step 6 = .ok (.ifCond .le 18, 3) := dk_158 0 18 (dk_at dksX3_step_0 6 rfl rfl)
theorem dX3_step_9 : decode cX3_step 9 = .ok (.aload_n 0, 1) := dk_42 (dk_at dksX3_step_0 9 rfl rfl)
theorem dX3_step_10 : decode cX3_step 10 = .ok (.iload_n 1, 1) := dk_27 (dk_at dksX3_step_0 10 rfl rfl)
theorem dX3_step_11 : decode cX3_step 11 = .ok (.iload_n 2, 1) := dk_28 (dk_at dksX3_step_0 11 rfl rfl)
theorem dX3_step_12 : decode cX3_step 12 = .ok (.iload_n 2, 1) := dk_28 (dk_at dksX3_step_0 12 rfl rfl)
theorem dX3_step_13 : decode cX3_step 13 = .ok (.iload_n 3, 1) := dk_29 (dk_at dksX3_step_0 13 rfl rfl)
theorem dX3_step_14 : decode cX3_step 14 = .ok (.iload 4, 2) := dk_21 4 (dk_at dksX3_step_0 14 rfl rfl)
theorem dX3_step_16 : decode cX3_step 16 = .ok (.iload 5, 2) := dk_21 5 (dk_at dksX3_step_0 16 rfl rfl)
theorem dX3_step_18 : decode cX3_step 18 = .ok (.iload 6, 2) := dk_21 6 (dk_at dksX3_step_0 18 rfl rfl)
theorem dX3_step_20 : decode cX3_step 20 = .ok (.invokevirtual 199, 3) := dk_182 0 199 (dk_at dksX3_step_0 20 rfl rfl)
theorem dX3_step_23 : decode cX3_step 23 = .ok (.return_, 1) := dk_177 (dk_at dksX3_step_0 23 rfl rfl)
theorem dX3_step_24 : decode cX3_step 24 = .ok (.iconst 0, 1) := dk_3 (dk_at dksX3_step_1 0 rfl rfl)
theorem dX3_step_25 : decode cX3_step 25 = .ok (.istore 7, 2) := dk_54 7 (dk_at dksX3_step_1 1 rfl rfl)
theorem dX3_step_27 : decode cX3_step 27 = .ok (.iload 7, 2) := dk_21 7 (dk_at dksX3_step_1 3 rfl rfl)
theorem dX3_step_29 : decode cX3_step 29 = .ok (.aload_n 0, 1) := dk_42 (dk_at dksX3_step_1 5 rfl rfl)
theorem dX3_step_30 : decode cX3_step 30 = .ok (.getfield 60, 3) := dk_180 0 60 (dk_at dksX3_step_1 6 rfl rfl)
theorem dX3_step_33 : decode cX3_step 33 = .ok (.iload_n 2, 1) := dk_28 (dk_at dksX3_step_1 9 rfl rfl)
theorem dX3_step_34 : decode cX3_step 34 = .ok (.iaload, 1) := dk_46 (dk_at dksX3_step_1 10 rfl rfl)
theorem dX3_step_35 : decode cX3_step 35 = .ok (.if_icmp .gt 58, 3) := dk_163 0 58 (dk_at dksX3_step_1 11 rfl rfl)
theorem dX3_step_38 : decode cX3_step 38 = .ok (.aload_n 0, 1) := dk_42 (dk_at dksX3_step_1 14 rfl rfl)
theorem dX3_step_39 : decode cX3_step 39 = .ok (.getfield 69, 3) := dk_180 0 69 (dk_at dksX3_step_1 15 rfl rfl)
theorem dX3_step_42 : decode cX3_step 42 = .ok (.bipush 12, 2) := dk_16 12 (dk_at dksX3_step_1 18 rfl rfl)
theorem dX3_step_44 : decode cX3_step 44 = .ok (.iload 7, 2) := dk_21 7 (dk_at dksX3_step_1 20 rfl rfl)
theorem dX3_step_46 : decode cX3_step 46 = .ok (.imul, 1) := dk_104 (dk_at dksX3_step_1 22 rfl rfl)
theorem dX3_step_47 : decode cX3_step 47 = .ok (.aload_n 0, 1) := dk_42 (dk_at dksX3_step_1 23 rfl rfl)
theorem dX3_step_48 : decode cX3_step 48 = .ok (.getfield 60, 3) := dk_180 0 60 (dk_at dksX3_step_2 0 rfl rfl)
theorem dX3_step_51 : decode cX3_step 51 = .ok (.iload_n 2, 1) := dk_28 (dk_at dksX3_step_2 3 rfl rfl)
theorem dX3_step_52 : decode cX3_step 52 = .ok (.iaload, 1) := dk_46 (dk_at dksX3_step_2 4 rfl rfl)
theorem dX3_step_53 : decode cX3_step 53 = .ok (.iadd, 1) := dk_96 (dk_at dksX3_step_2 5 rfl rfl)
theorem dX3_step_54 : decode cX3_step 54 = .ok (.iaload, 1) := dk_46 (dk_at dksX3_step_2 6 rfl rfl)
theorem dX3_step_55 : decode cX3_step 55 = .ok (.istore 8, 2) := dk_54 8 (dk_at dksX3_step_2 7 rfl rfl)
theorem dX3_step_57 : decode cX3_step 57 = .ok (.iload 8, 2) := dk_21 8 (dk_at dksX3_step_2 9 rfl rfl)
theorem dX3_step_59 : decode cX3_step 59 = .ok (.ldc 191, 2) := dk_18 191 (dk_at dksX3_step_2 11 rfl rfl)
theorem dX3_step_61 : decode cX3_step 61 = .ok (.if_icmp .eq 26, 3) := dk_159 0 26 (dk_at dksX3_step_2 13 rfl rfl)
theorem dX3_step_64 : decode cX3_step 64 = .ok (.aload_n 0, 1) := dk_42 (dk_at dksX3_step_2 16 rfl rfl)
theorem dX3_step_65 : decode cX3_step 65 = .ok (.iload_n 1, 1) := dk_27 (dk_at dksX3_step_2 17 rfl rfl)
theorem dX3_step_66 : decode cX3_step 66 = .ok (.aload_n 0, 1) := dk_42 (dk_at dksX3_step_2 18 rfl rfl)
theorem dX3_step_67 : decode cX3_step 67 = .ok (.getfield 66, 3) := dk_180 0 66 (dk_at dksX3_step_2 19 rfl rfl)
theorem dX3_step_70 : decode cX3_step 70 = .ok (.iload 7, 2) := dk_21 7 (dk_at dksX3_step_2 22 rfl rfl)
theorem dX3_step_72 : decode cX3_step 72 = .ok (.iaload, 1) := dk_46 (dk_at dksX3_step_3 0 rfl rfl)
theorem dX3_step_73 : decode cX3_step 73 = .ok (.iload_n 2, 1) := dk_28 (dk_at dksX3_step_3 1 rfl rfl)
theorem dX3_step_74 : decode cX3_step 74 = .ok (.iload_n 3, 1) := dk_29 (dk_at dksX3_step_3 2 rfl rfl)
theorem dX3_step_75 : decode cX3_step 75 = .ok (.iload 8, 2) := dk_21 8 (dk_at dksX3_step_3 3 rfl rfl)
theorem dX3_step_77 : decode cX3_step 77 = .ok (.iload 4, 2) := dk_21 4 (dk_at dksX3_step_3 5 rfl rfl)
theorem dX3_step_79 : decode cX3_step 79 = .ok (.iadd, 1) := dk_96 (dk_at dksX3_step_3 7 rfl rfl)
theorem dX3_step_80 : decode cX3_step 80 = .ok (.iload 5, 2) := dk_21 5 (dk_at dksX3_step_3 8 rfl rfl)
theorem dX3_step_82 : decode cX3_step 82 = .ok (.iload 6, 2) := dk_21 6 (dk_at dksX3_step_3 10 rfl rfl)
theorem dX3_step_84 : decode cX3_step 84 = .ok (.invokevirtual 199, 3) := dk_182 0 199 (dk_at dksX3_step_3 12 rfl rfl)
theorem dX3_step_87 : decode cX3_step 87 = .ok (.iinc 7 1, 3) := dk_132 7 1 (dk_at dksX3_step_3 15 rfl rfl)
theorem dX3_step_90 : decode cX3_step 90 = .ok (.goto (-63), 3) := dk_167 255 193 (dk_at dksX3_step_3 18 rfl rfl)
theorem dX3_step_93 : decode cX3_step 93 = .ok (.return_, 1) := dk_177 (dk_at dksX3_step_3 21 rfl rfl)
abbrev cX3_readBy : ByteArray := prog_19_method_24_code
def yX3_readBy : MethodName := ⟨RX3, "readBy", "(IIIIIII)V"⟩
def dkwX3_readBy_6 : List UInt8 := [79, 42, 180, 0, 84, 21, 8, 21, 7, 79, 177]
abbrev dktX3_readBy_6 : List UInt8 := dkwX3_readBy_6 ++ []
def dkwX3_readBy_5 : List UInt8 := [180, 0, 75, 21, 8, 21, 5, 79, 42, 180, 0, 78, 21, 8, 29, 79, 42, 180, 0, 81, 21, 8, 21, 6]
abbrev dktX3_readBy_5 : List UInt8 := dkwX3_readBy_5 ++ dktX3_readBy_6
def dkwX3_readBy_4 : List UInt8 := [180, 0, 84, 21, 8, 46, 162, 0, 7, 4, 167, 0, 4, 3, 54, 9, 21, 9, 153, 0, 38, 42]
abbrev dktX3_readBy_4 : List UInt8 := dkwX3_readBy_4 ++ dktX3_readBy_5
def dkwX3_readBy_3 : List UInt8 := [180, 0, 81, 21, 8, 46, 161, 0, 27, 21, 6, 42, 180, 0, 81, 21, 8, 46, 160, 0, 19, 21, 7, 42]
abbrev dktX3_readBy_3 : List UInt8 := dkwX3_readBy_3 ++ dktX3_readBy_4
def dkwX3_readBy_2 : List UInt8 := [180, 0, 78, 21, 8, 46, 161, 0, 50, 29, 42, 180, 0, 78, 21, 8, 46, 160, 0, 43, 21, 6, 42]
abbrev dktX3_readBy_2 : List UInt8 := dkwX3_readBy_2 ++ dktX3_readBy_3
def dkwX3_readBy_1 : List UInt8 := [162, 0, 7, 4, 167, 0, 4, 3, 54, 9, 21, 5, 42, 180, 0, 75, 21, 8, 46, 160, 0, 68, 29, 42]
abbrev dktX3_readBy_1 : List UInt8 := dkwX3_readBy_1 ++ dktX3_readBy_2
def dkwX3_readBy_0 : List UInt8 := [17, 10, 144, 27, 104, 16, 52, 28, 104, 96, 21, 4, 96, 54, 8, 21, 5, 42, 180, 0, 75, 21, 8, 46]
abbrev dktX3_readBy_0 : List UInt8 := dkwX3_readBy_0 ++ dktX3_readBy_1
theorem dksX3_readBy_0 : cX3_readBy.data.toList.drop 0 = dktX3_readBy_0 := by decide +kernel
theorem dksX3_readBy_1 : cX3_readBy.data.toList.drop 24 = dktX3_readBy_1 := dk_seg dksX3_readBy_0 24 rfl rfl
theorem dksX3_readBy_2 : cX3_readBy.data.toList.drop 48 = dktX3_readBy_2 := dk_seg dksX3_readBy_1 24 rfl rfl
theorem dksX3_readBy_3 : cX3_readBy.data.toList.drop 71 = dktX3_readBy_3 := dk_seg dksX3_readBy_2 23 rfl rfl
theorem dksX3_readBy_4 : cX3_readBy.data.toList.drop 95 = dktX3_readBy_4 := dk_seg dksX3_readBy_3 24 rfl rfl
theorem dksX3_readBy_5 : cX3_readBy.data.toList.drop 117 = dktX3_readBy_5 := dk_seg dksX3_readBy_4 22 rfl rfl
theorem dksX3_readBy_6 : cX3_readBy.data.toList.drop 141 = dktX3_readBy_6 := dk_seg dksX3_readBy_5 24 rfl rfl
theorem dX3_readBy_0 : decode cX3_readBy 0 = .ok (.sipush 2704, 3) := dk_17 10 144 (dk_at dksX3_readBy_0 0 rfl rfl)
theorem dX3_readBy_3 : decode cX3_readBy 3 = .ok (.iload_n 1, 1) := dk_27 (dk_at dksX3_readBy_0 3 rfl rfl)
theorem dX3_readBy_4 : decode cX3_readBy 4 = .ok (.imul, 1) := dk_104 (dk_at dksX3_readBy_0 4 rfl rfl)
theorem dX3_readBy_5 : decode cX3_readBy 5 = .ok (.bipush 52, 2) := dk_16 52 (dk_at dksX3_readBy_0 5 rfl rfl)
theorem dX3_readBy_7 : decode cX3_readBy 7 = .ok (.iload_n 2, 1) := dk_28 (dk_at dksX3_readBy_0 7 rfl rfl)
theorem dX3_readBy_8 : decode cX3_readBy 8 = .ok (.imul, 1) := dk_104 (dk_at dksX3_readBy_0 8 rfl rfl)
theorem dX3_readBy_9 : decode cX3_readBy 9 = .ok (.iadd, 1) := dk_96 (dk_at dksX3_readBy_0 9 rfl rfl)
theorem dX3_readBy_10 : decode cX3_readBy 10 = .ok (.iload 4, 2) := dk_21 4 (dk_at dksX3_readBy_0 10 rfl rfl)
theorem dX3_readBy_12 : decode cX3_readBy 12 = .ok (.iadd, 1) := dk_96 (dk_at dksX3_readBy_0 12 rfl rfl)
theorem dX3_readBy_13 : decode cX3_readBy 13 = .ok (.istore 8, 2) := dk_54 8 (dk_at dksX3_readBy_0 13 rfl rfl)
theorem dX3_readBy_15 : decode cX3_readBy 15 = .ok (.iload 5, 2) := dk_21 5 (dk_at dksX3_readBy_0 15 rfl rfl)
theorem dX3_readBy_17 : decode cX3_readBy 17 = .ok (.aload_n 0, 1) := dk_42 (dk_at dksX3_readBy_0 17 rfl rfl)
theorem dX3_readBy_18 : decode cX3_readBy 18 = .ok (.getfield 75, 3) := dk_180 0 75 (dk_at dksX3_readBy_0 18 rfl rfl)
theorem dX3_readBy_21 : decode cX3_readBy 21 = .ok (.iload 8, 2) := dk_21 8 (dk_at dksX3_readBy_0 21 rfl rfl)
theorem dX3_readBy_23 : decode cX3_readBy 23 = .ok (.iaload, 1) := dk_46 (dk_at dksX3_readBy_0 23 rfl rfl)
theorem dX3_readBy_24 : decode cX3_readBy 24 = .ok (.if_icmp .ge 7, 3) := dk_162 0 7 (dk_at dksX3_readBy_1 0 rfl rfl)
theorem dX3_readBy_27 : decode cX3_readBy 27 = .ok (.iconst 1, 1) := dk_4 (dk_at dksX3_readBy_1 3 rfl rfl)
theorem dX3_readBy_28 : decode cX3_readBy 28 = .ok (.goto 4, 3) := dk_167 0 4 (dk_at dksX3_readBy_1 4 rfl rfl)
theorem dX3_readBy_31 : decode cX3_readBy 31 = .ok (.iconst 0, 1) := dk_3 (dk_at dksX3_readBy_1 7 rfl rfl)
theorem dX3_readBy_32 : decode cX3_readBy 32 = .ok (.istore 9, 2) := dk_54 9 (dk_at dksX3_readBy_1 8 rfl rfl)
theorem dX3_readBy_34 : decode cX3_readBy 34 = .ok (.iload 5, 2) := dk_21 5 (dk_at dksX3_readBy_1 10 rfl rfl)
theorem dX3_readBy_36 : decode cX3_readBy 36 = .ok (.aload_n 0, 1) := dk_42 (dk_at dksX3_readBy_1 12 rfl rfl)
theorem dX3_readBy_37 : decode cX3_readBy 37 = .ok (.getfield 75, 3) := dk_180 0 75 (dk_at dksX3_readBy_1 13 rfl rfl)
theorem dX3_readBy_40 : decode cX3_readBy 40 = .ok (.iload 8, 2) := dk_21 8 (dk_at dksX3_readBy_1 16 rfl rfl)
theorem dX3_readBy_42 : decode cX3_readBy 42 = .ok (.iaload, 1) := dk_46 (dk_at dksX3_readBy_1 18 rfl rfl)
theorem dX3_readBy_43 : decode cX3_readBy 43 = .ok (.if_icmp .ne 68, 3) := dk_160 0 68 (dk_at dksX3_readBy_1 19 rfl rfl)
theorem dX3_readBy_46 : decode cX3_readBy 46 = .ok (.iload_n 3, 1) := dk_29 (dk_at dksX3_readBy_1 22 rfl rfl)
theorem dX3_readBy_47 : decode cX3_readBy 47 = .ok (.aload_n 0, 1) := dk_42 (dk_at dksX3_readBy_1 23 rfl rfl)
theorem dX3_readBy_48 : decode cX3_readBy 48 = .ok (.getfield 78, 3) := dk_180 0 78 (dk_at dksX3_readBy_2 0 rfl rfl)
theorem dX3_readBy_51 : decode cX3_readBy 51 = .ok (.iload 8, 2) := dk_21 8 (dk_at dksX3_readBy_2 3 rfl rfl)
theorem dX3_readBy_53 : decode cX3_readBy 53 = .ok (.iaload, 1) := dk_46 (dk_at dksX3_readBy_2 5 rfl rfl)
theorem dX3_readBy_54 : decode cX3_readBy 54 = .ok (.if_icmp .lt 50, 3) := dk_161 0 50 (dk_at dksX3_readBy_2 6 rfl rfl)
theorem dX3_readBy_57 : decode cX3_readBy 57 = .ok (.iload_n 3, 1) := dk_29 (dk_at dksX3_readBy_2 9 rfl rfl)
theorem dX3_readBy_58 : decode cX3_readBy 58 = .ok (.aload_n 0, 1) := dk_42 (dk_at dksX3_readBy_2 10 rfl rfl)
theorem dX3_readBy_59 : decode cX3_readBy 59 = .ok (.getfield 78, 3) := dk_180 0 78 (dk_at dksX3_readBy_2 11 rfl rfl)
theorem dX3_readBy_62 : decode cX3_readBy 62 = .ok (.iload 8, 2) := dk_21 8 (dk_at dksX3_readBy_2 14 rfl rfl)
theorem dX3_readBy_64 : decode cX3_readBy 64 = .ok (.iaload, 1) := dk_46 (dk_at dksX3_readBy_2 16 rfl rfl)
theorem dX3_readBy_65 : decode cX3_readBy 65 = .ok (.if_icmp .ne 43, 3) := dk_160 0 43 (dk_at dksX3_readBy_2 17 rfl rfl)
theorem dX3_readBy_68 : decode cX3_readBy 68 = .ok (.iload 6, 2) := dk_21 6 (dk_at dksX3_readBy_2 20 rfl rfl)
theorem dX3_readBy_70 : decode cX3_readBy 70 = .ok (.aload_n 0, 1) := dk_42 (dk_at dksX3_readBy_2 22 rfl rfl)
theorem dX3_readBy_71 : decode cX3_readBy 71 = .ok (.getfield 81, 3) := dk_180 0 81 (dk_at dksX3_readBy_3 0 rfl rfl)
theorem dX3_readBy_74 : decode cX3_readBy 74 = .ok (.iload 8, 2) := dk_21 8 (dk_at dksX3_readBy_3 3 rfl rfl)
theorem dX3_readBy_76 : decode cX3_readBy 76 = .ok (.iaload, 1) := dk_46 (dk_at dksX3_readBy_3 5 rfl rfl)
theorem dX3_readBy_77 : decode cX3_readBy 77 = .ok (.if_icmp .lt 27, 3) := dk_161 0 27 (dk_at dksX3_readBy_3 6 rfl rfl)
theorem dX3_readBy_80 : decode cX3_readBy 80 = .ok (.iload 6, 2) := dk_21 6 (dk_at dksX3_readBy_3 9 rfl rfl)
theorem dX3_readBy_82 : decode cX3_readBy 82 = .ok (.aload_n 0, 1) := dk_42 (dk_at dksX3_readBy_3 11 rfl rfl)
theorem dX3_readBy_83 : decode cX3_readBy 83 = .ok (.getfield 81, 3) := dk_180 0 81 (dk_at dksX3_readBy_3 12 rfl rfl)
theorem dX3_readBy_86 : decode cX3_readBy 86 = .ok (.iload 8, 2) := dk_21 8 (dk_at dksX3_readBy_3 15 rfl rfl)
theorem dX3_readBy_88 : decode cX3_readBy 88 = .ok (.iaload, 1) := dk_46 (dk_at dksX3_readBy_3 17 rfl rfl)
theorem dX3_readBy_89 : decode cX3_readBy 89 = .ok (.if_icmp .ne 19, 3) := dk_160 0 19 (dk_at dksX3_readBy_3 18 rfl rfl)
theorem dX3_readBy_92 : decode cX3_readBy 92 = .ok (.iload 7, 2) := dk_21 7 (dk_at dksX3_readBy_3 21 rfl rfl)
theorem dX3_readBy_94 : decode cX3_readBy 94 = .ok (.aload_n 0, 1) := dk_42 (dk_at dksX3_readBy_3 23 rfl rfl)
theorem dX3_readBy_95 : decode cX3_readBy 95 = .ok (.getfield 84, 3) := dk_180 0 84 (dk_at dksX3_readBy_4 0 rfl rfl)
theorem dX3_readBy_98 : decode cX3_readBy 98 = .ok (.iload 8, 2) := dk_21 8 (dk_at dksX3_readBy_4 3 rfl rfl)
theorem dX3_readBy_100 : decode cX3_readBy 100 = .ok (.iaload, 1) := dk_46 (dk_at dksX3_readBy_4 5 rfl rfl)
theorem dX3_readBy_101 : decode cX3_readBy 101 = .ok (.if_icmp .ge 7, 3) := dk_162 0 7 (dk_at dksX3_readBy_4 6 rfl rfl)
theorem dX3_readBy_104 : decode cX3_readBy 104 = .ok (.iconst 1, 1) := dk_4 (dk_at dksX3_readBy_4 9 rfl rfl)
theorem dX3_readBy_105 : decode cX3_readBy 105 = .ok (.goto 4, 3) := dk_167 0 4 (dk_at dksX3_readBy_4 10 rfl rfl)
theorem dX3_readBy_108 : decode cX3_readBy 108 = .ok (.iconst 0, 1) := dk_3 (dk_at dksX3_readBy_4 13 rfl rfl)
theorem dX3_readBy_109 : decode cX3_readBy 109 = .ok (.istore 9, 2) := dk_54 9 (dk_at dksX3_readBy_4 14 rfl rfl)
theorem dX3_readBy_111 : decode cX3_readBy 111 = .ok (.iload 9, 2) := dk_21 9 (dk_at dksX3_readBy_4 16 rfl rfl)
theorem dX3_readBy_113 : decode cX3_readBy 113 = .ok (.ifCond .eq 38, 3) := dk_153 0 38 (dk_at dksX3_readBy_4 18 rfl rfl)
theorem dX3_readBy_116 : decode cX3_readBy 116 = .ok (.aload_n 0, 1) := dk_42 (dk_at dksX3_readBy_4 21 rfl rfl)
theorem dX3_readBy_117 : decode cX3_readBy 117 = .ok (.getfield 75, 3) := dk_180 0 75 (dk_at dksX3_readBy_5 0 rfl rfl)
theorem dX3_readBy_120 : decode cX3_readBy 120 = .ok (.iload 8, 2) := dk_21 8 (dk_at dksX3_readBy_5 3 rfl rfl)
theorem dX3_readBy_122 : decode cX3_readBy 122 = .ok (.iload 5, 2) := dk_21 5 (dk_at dksX3_readBy_5 5 rfl rfl)
theorem dX3_readBy_124 : decode cX3_readBy 124 = .ok (.iastore, 1) := dk_79 (dk_at dksX3_readBy_5 7 rfl rfl)
theorem dX3_readBy_125 : decode cX3_readBy 125 = .ok (.aload_n 0, 1) := dk_42 (dk_at dksX3_readBy_5 8 rfl rfl)
theorem dX3_readBy_126 : decode cX3_readBy 126 = .ok (.getfield 78, 3) := dk_180 0 78 (dk_at dksX3_readBy_5 9 rfl rfl)
theorem dX3_readBy_129 : decode cX3_readBy 129 = .ok (.iload 8, 2) := dk_21 8 (dk_at dksX3_readBy_5 12 rfl rfl)
theorem dX3_readBy_131 : decode cX3_readBy 131 = .ok (.iload_n 3, 1) := dk_29 (dk_at dksX3_readBy_5 14 rfl rfl)
theorem dX3_readBy_132 : decode cX3_readBy 132 = .ok (.iastore, 1) := dk_79 (dk_at dksX3_readBy_5 15 rfl rfl)
theorem dX3_readBy_133 : decode cX3_readBy 133 = .ok (.aload_n 0, 1) := dk_42 (dk_at dksX3_readBy_5 16 rfl rfl)
theorem dX3_readBy_134 : decode cX3_readBy 134 = .ok (.getfield 81, 3) := dk_180 0 81 (dk_at dksX3_readBy_5 17 rfl rfl)
theorem dX3_readBy_137 : decode cX3_readBy 137 = .ok (.iload 8, 2) := dk_21 8 (dk_at dksX3_readBy_5 20 rfl rfl)
theorem dX3_readBy_139 : decode cX3_readBy 139 = .ok (.iload 6, 2) := dk_21 6 (dk_at dksX3_readBy_5 22 rfl rfl)
theorem dX3_readBy_141 : decode cX3_readBy 141 = .ok (.iastore, 1) := dk_79 (dk_at dksX3_readBy_6 0 rfl rfl)
theorem dX3_readBy_142 : decode cX3_readBy 142 = .ok (.aload_n 0, 1) := dk_42 (dk_at dksX3_readBy_6 1 rfl rfl)
theorem dX3_readBy_143 : decode cX3_readBy 143 = .ok (.getfield 84, 3) := dk_180 0 84 (dk_at dksX3_readBy_6 2 rfl rfl)
theorem dX3_readBy_146 : decode cX3_readBy 146 = .ok (.iload 8, 2) := dk_21 8 (dk_at dksX3_readBy_6 5 rfl rfl)
theorem dX3_readBy_148 : decode cX3_readBy 148 = .ok (.iload 7, 2) := dk_21 7 (dk_at dksX3_readBy_6 7 rfl rfl)
theorem dX3_readBy_150 : decode cX3_readBy 150 = .ok (.iastore, 1) := dk_79 (dk_at dksX3_readBy_6 9 rfl rfl)
theorem dX3_readBy_151 : decode cX3_readBy 151 = .ok (.return_, 1) := dk_177 (dk_at dksX3_readBy_6 10 rfl rfl)
abbrev cX3_specialAt : ByteArray := prog_19_method_27_code
def yX3_specialAt : MethodName := ⟨RX3, "specialAt", "(III)I"⟩
def dkwX3_specialAt_1 : List UInt8 := [160, 0, 14, 42, 180, 0, 63, 21, 4, 46, 29, 159, 0, 9, 132, 4, 1, 167, 255, 220, 21, 4, 172]
abbrev dktX3_specialAt_1 : List UInt8 := dkwX3_specialAt_1 ++ []
def dkwX3_specialAt_0 : List UInt8 := [3, 54, 4, 42, 180, 0, 57, 21, 4, 46, 27, 160, 0, 25, 42, 180, 0, 60, 21, 4, 46, 28]
abbrev dktX3_specialAt_0 : List UInt8 := dkwX3_specialAt_0 ++ dktX3_specialAt_1
theorem dksX3_specialAt_0 : cX3_specialAt.data.toList.drop 0 = dktX3_specialAt_0 := by decide +kernel
theorem dksX3_specialAt_1 : cX3_specialAt.data.toList.drop 22 = dktX3_specialAt_1 := dk_seg dksX3_specialAt_0 22 rfl rfl
theorem dX3_specialAt_0 : decode cX3_specialAt 0 = .ok (.iconst 0, 1) := dk_3 (dk_at dksX3_specialAt_0 0 rfl rfl)
theorem dX3_specialAt_1 : decode cX3_specialAt 1 = .ok (.istore 4, 2) := dk_54 4 (dk_at dksX3_specialAt_0 1 rfl rfl)
theorem dX3_specialAt_3 : decode cX3_specialAt 3 = .ok (.aload_n 0, 1) := dk_42 (dk_at dksX3_specialAt_0 3 rfl rfl)
theorem dX3_specialAt_4 : decode cX3_specialAt 4 = .ok (.getfield 57, 3) := dk_180 0 57 (dk_at dksX3_specialAt_0 4 rfl rfl)
theorem dX3_specialAt_7 : decode cX3_specialAt 7 = .ok (.iload 4, 2) := dk_21 4 (dk_at dksX3_specialAt_0 7 rfl rfl)
theorem dX3_specialAt_9 : decode cX3_specialAt 9 = .ok (.iaload, 1) := dk_46 (dk_at dksX3_specialAt_0 9 rfl rfl)
theorem dX3_specialAt_10 : decode cX3_specialAt 10 = .ok (.iload_n 1, 1) := dk_27 (dk_at dksX3_specialAt_0 10 rfl rfl)
theorem dX3_specialAt_11 : decode cX3_specialAt 11 = .ok (.if_icmp .ne 25, 3) := dk_160 0 25 (dk_at dksX3_specialAt_0 11 rfl rfl)
theorem dX3_specialAt_14 : decode cX3_specialAt 14 = .ok (.aload_n 0, 1) := dk_42 (dk_at dksX3_specialAt_0 14 rfl rfl)
theorem dX3_specialAt_15 : decode cX3_specialAt 15 = .ok (.getfield 60, 3) := dk_180 0 60 (dk_at dksX3_specialAt_0 15 rfl rfl)
theorem dX3_specialAt_18 : decode cX3_specialAt 18 = .ok (.iload 4, 2) := dk_21 4 (dk_at dksX3_specialAt_0 18 rfl rfl)
theorem dX3_specialAt_20 : decode cX3_specialAt 20 = .ok (.iaload, 1) := dk_46 (dk_at dksX3_specialAt_0 20 rfl rfl)
theorem dX3_specialAt_21 : decode cX3_specialAt 21 = .ok (.iload_n 2, 1) := dk_28 (dk_at dksX3_specialAt_0 21 rfl rfl)
theorem dX3_specialAt_22 : decode cX3_specialAt 22 = .ok (.if_icmp .ne 14, 3) := dk_160 0 14 (dk_at dksX3_specialAt_1 0 rfl rfl)
theorem dX3_specialAt_25 : decode cX3_specialAt 25 = .ok (.aload_n 0, 1) := dk_42 (dk_at dksX3_specialAt_1 3 rfl rfl)
theorem dX3_specialAt_26 : decode cX3_specialAt 26 = .ok (.getfield 63, 3) := dk_180 0 63 (dk_at dksX3_specialAt_1 4 rfl rfl)
theorem dX3_specialAt_29 : decode cX3_specialAt 29 = .ok (.iload 4, 2) := dk_21 4 (dk_at dksX3_specialAt_1 7 rfl rfl)
theorem dX3_specialAt_31 : decode cX3_specialAt 31 = .ok (.iaload, 1) := dk_46 (dk_at dksX3_specialAt_1 9 rfl rfl)
theorem dX3_specialAt_32 : decode cX3_specialAt 32 = .ok (.iload_n 3, 1) := dk_29 (dk_at dksX3_specialAt_1 10 rfl rfl)
theorem dX3_specialAt_33 : decode cX3_specialAt 33 = .ok (.if_icmp .eq 9, 3) := dk_159 0 9 (dk_at dksX3_specialAt_1 11 rfl rfl)
theorem dX3_specialAt_36 : decode cX3_specialAt 36 = .ok (.iinc 4 1, 3) := dk_132 4 1 (dk_at dksX3_specialAt_1 14 rfl rfl)
theorem dX3_specialAt_39 : decode cX3_specialAt 39 = .ok (.goto (-36), 3) := dk_167 255 220 (dk_at dksX3_specialAt_1 17 rfl rfl)
theorem dX3_specialAt_42 : decode cX3_specialAt 42 = .ok (.iload 4, 2) := dk_21 4 (dk_at dksX3_specialAt_1 20 rfl rfl)
theorem dX3_specialAt_44 : decode cX3_specialAt 44 = .ok (.ireturn, 1) := dk_172 (dk_at dksX3_specialAt_1 22 rfl rfl)
abbrev cX3_layCosts : ByteArray := prog_19_method_34_code
def yX3_layCosts : MethodName := ⟨RX3, "layCosts", "()V"⟩
def dkwX3_layCosts_3 : List UInt8 := [167, 255, 219, 177]
abbrev dktX3_layCosts_3 : List UInt8 := dkwX3_layCosts_3 ++ []
def dkwX3_layCosts_2 : List UInt8 := [180, 0, 159, 162, 0, 17, 42, 28, 28, 27, 96, 182, 0, 243, 132, 2, 1, 167, 255, 235, 132, 1, 1]
abbrev dktX3_layCosts_2 : List UInt8 := dkwX3_layCosts_2 ++ dktX3_layCosts_3
def dkwX3_layCosts_1 : List UInt8 := [132, 1, 1, 167, 255, 232, 3, 60, 27, 42, 180, 0, 159, 162, 0, 35, 3, 61, 28, 27, 96, 42]
abbrev dktX3_layCosts_1 : List UInt8 := dkwX3_layCosts_1 ++ dktX3_layCosts_2
def dkwX3_layCosts_0 : List UInt8 := [3, 60, 27, 17, 10, 144, 42, 180, 0, 129, 104, 162, 0, 18, 42, 180, 0, 87, 27, 20, 0, 224, 80]
abbrev dktX3_layCosts_0 : List UInt8 := dkwX3_layCosts_0 ++ dktX3_layCosts_1
theorem dksX3_layCosts_0 : cX3_layCosts.data.toList.drop 0 = dktX3_layCosts_0 := by decide +kernel
theorem dksX3_layCosts_1 : cX3_layCosts.data.toList.drop 23 = dktX3_layCosts_1 := dk_seg dksX3_layCosts_0 23 rfl rfl
theorem dksX3_layCosts_2 : cX3_layCosts.data.toList.drop 45 = dktX3_layCosts_2 := dk_seg dksX3_layCosts_1 22 rfl rfl
theorem dksX3_layCosts_3 : cX3_layCosts.data.toList.drop 68 = dktX3_layCosts_3 := dk_seg dksX3_layCosts_2 23 rfl rfl
theorem dX3_layCosts_0 : decode cX3_layCosts 0 = .ok (.iconst 0, 1) := dk_3 (dk_at dksX3_layCosts_0 0 rfl rfl)
theorem dX3_layCosts_1 : decode cX3_layCosts 1 = .ok (.istore_n 1, 1) := dk_60 (dk_at dksX3_layCosts_0 1 rfl rfl)
theorem dX3_layCosts_2 : decode cX3_layCosts 2 = .ok (.iload_n 1, 1) := dk_27 (dk_at dksX3_layCosts_0 2 rfl rfl)
theorem dX3_layCosts_3 : decode cX3_layCosts 3 = .ok (.sipush 2704, 3) := dk_17 10 144 (dk_at dksX3_layCosts_0 3 rfl rfl)
theorem dX3_layCosts_6 : decode cX3_layCosts 6 = .ok (.aload_n 0, 1) := dk_42 (dk_at dksX3_layCosts_0 6 rfl rfl)
theorem dX3_layCosts_7 : decode cX3_layCosts 7 = .ok (.getfield 129, 3) := dk_180 0 129 (dk_at dksX3_layCosts_0 7 rfl rfl)
theorem dX3_layCosts_10 : decode cX3_layCosts 10 = .ok (.imul, 1) := dk_104 (dk_at dksX3_layCosts_0 10 rfl rfl)
theorem dX3_layCosts_11 : decode cX3_layCosts 11 = .ok (.if_icmp .ge 18, 3) := dk_162 0 18 (dk_at dksX3_layCosts_0 11 rfl rfl)
theorem dX3_layCosts_14 : decode cX3_layCosts 14 = .ok (.aload_n 0, 1) := dk_42 (dk_at dksX3_layCosts_0 14 rfl rfl)
theorem dX3_layCosts_15 : decode cX3_layCosts 15 = .ok (.getfield 87, 3) := dk_180 0 87 (dk_at dksX3_layCosts_0 15 rfl rfl)
theorem dX3_layCosts_18 : decode cX3_layCosts 18 = .ok (.iload_n 1, 1) := dk_27 (dk_at dksX3_layCosts_0 18 rfl rfl)
theorem dX3_layCosts_19 : decode cX3_layCosts 19 = .ok (.ldc2_w 224, 3) := dk_20 0 224 (dk_at dksX3_layCosts_0 19 rfl rfl)
theorem dX3_layCosts_22 : decode cX3_layCosts 22 = .ok (.lastore, 1) := dk_80 (dk_at dksX3_layCosts_0 22 rfl rfl)
theorem dX3_layCosts_23 : decode cX3_layCosts 23 = .ok (.iinc 1 1, 3) := dk_132 1 1 (dk_at dksX3_layCosts_1 0 rfl rfl)
theorem dX3_layCosts_26 : decode cX3_layCosts 26 = .ok (.goto (-24), 3) := dk_167 255 232 (dk_at dksX3_layCosts_1 3 rfl rfl)
theorem dX3_layCosts_29 : decode cX3_layCosts 29 = .ok (.iconst 0, 1) := dk_3 (dk_at dksX3_layCosts_1 6 rfl rfl)
theorem dX3_layCosts_30 : decode cX3_layCosts 30 = .ok (.istore_n 1, 1) := dk_60 (dk_at dksX3_layCosts_1 7 rfl rfl)
theorem dX3_layCosts_31 : decode cX3_layCosts 31 = .ok (.iload_n 1, 1) := dk_27 (dk_at dksX3_layCosts_1 8 rfl rfl)
theorem dX3_layCosts_32 : decode cX3_layCosts 32 = .ok (.aload_n 0, 1) := dk_42 (dk_at dksX3_layCosts_1 9 rfl rfl)
theorem dX3_layCosts_33 : decode cX3_layCosts 33 = .ok (.getfield 159, 3) := dk_180 0 159 (dk_at dksX3_layCosts_1 10 rfl rfl)
theorem dX3_layCosts_36 : decode cX3_layCosts 36 = .ok (.if_icmp .ge 35, 3) := dk_162 0 35 (dk_at dksX3_layCosts_1 13 rfl rfl)
theorem dX3_layCosts_39 : decode cX3_layCosts 39 = .ok (.iconst 0, 1) := dk_3 (dk_at dksX3_layCosts_1 16 rfl rfl)
theorem dX3_layCosts_40 : decode cX3_layCosts 40 = .ok (.istore_n 2, 1) := dk_61 (dk_at dksX3_layCosts_1 17 rfl rfl)
theorem dX3_layCosts_41 : decode cX3_layCosts 41 = .ok (.iload_n 2, 1) := dk_28 (dk_at dksX3_layCosts_1 18 rfl rfl)
theorem dX3_layCosts_42 : decode cX3_layCosts 42 = .ok (.iload_n 1, 1) := dk_27 (dk_at dksX3_layCosts_1 19 rfl rfl)
theorem dX3_layCosts_43 : decode cX3_layCosts 43 = .ok (.iadd, 1) := dk_96 (dk_at dksX3_layCosts_1 20 rfl rfl)
theorem dX3_layCosts_44 : decode cX3_layCosts 44 = .ok (.aload_n 0, 1) := dk_42 (dk_at dksX3_layCosts_1 21 rfl rfl)
theorem dX3_layCosts_45 : decode cX3_layCosts 45 = .ok (.getfield 159, 3) := dk_180 0 159 (dk_at dksX3_layCosts_2 0 rfl rfl)
theorem dX3_layCosts_48 : decode cX3_layCosts 48 = .ok (.if_icmp .ge 17, 3) := dk_162 0 17 (dk_at dksX3_layCosts_2 3 rfl rfl)
theorem dX3_layCosts_51 : decode cX3_layCosts 51 = .ok (.aload_n 0, 1) := dk_42 (dk_at dksX3_layCosts_2 6 rfl rfl)
theorem dX3_layCosts_52 : decode cX3_layCosts 52 = .ok (.iload_n 2, 1) := dk_28 (dk_at dksX3_layCosts_2 7 rfl rfl)
theorem dX3_layCosts_53 : decode cX3_layCosts 53 = .ok (.iload_n 2, 1) := dk_28 (dk_at dksX3_layCosts_2 8 rfl rfl)
theorem dX3_layCosts_54 : decode cX3_layCosts 54 = .ok (.iload_n 1, 1) := dk_27 (dk_at dksX3_layCosts_2 9 rfl rfl)
theorem dX3_layCosts_55 : decode cX3_layCosts 55 = .ok (.iadd, 1) := dk_96 (dk_at dksX3_layCosts_2 10 rfl rfl)
theorem dX3_layCosts_56 : decode cX3_layCosts 56 = .ok (.invokevirtual 243, 3) := dk_182 0 243 (dk_at dksX3_layCosts_2 11 rfl rfl)
theorem dX3_layCosts_59 : decode cX3_layCosts 59 = .ok (.iinc 2 1, 3) := dk_132 2 1 (dk_at dksX3_layCosts_2 14 rfl rfl)
theorem dX3_layCosts_62 : decode cX3_layCosts 62 = .ok (.goto (-21), 3) := dk_167 255 235 (dk_at dksX3_layCosts_2 17 rfl rfl)
theorem dX3_layCosts_65 : decode cX3_layCosts 65 = .ok (.iinc 1 1, 3) := dk_132 1 1 (dk_at dksX3_layCosts_2 20 rfl rfl)
theorem dX3_layCosts_68 : decode cX3_layCosts 68 = .ok (.goto (-37), 3) := dk_167 255 219 (dk_at dksX3_layCosts_3 0 rfl rfl)
theorem dX3_layCosts_71 : decode cX3_layCosts 71 = .ok (.return_, 1) := dk_177 (dk_at dksX3_layCosts_3 3 rfl rfl)
abbrev cX3_settle : ByteArray := prog_19_method_33_code
def yX3_settle : MethodName := ⟨RX3, "settle", "(II)V"⟩
def dkwX3_settle_3 : List UInt8 := [21, 7, 22, 5, 80, 4, 62, 132, 4, 1, 167, 255, 186, 167, 255, 174, 177]
abbrev dktX3_settle_3 : List UInt8 := dkwX3_settle_3 ++ []
def dkwX3_settle_2 : List UInt8 := [104, 96, 28, 96, 54, 7, 22, 5, 42, 180, 0, 87, 21, 7, 47, 148, 156, 0, 14, 42, 180, 0, 87]
abbrev dktX3_settle_2 : List UInt8 := dkwX3_settle_2 ++ dktX3_settle_3
def dkwX3_settle_1 : List UInt8 := [28, 182, 0, 240, 10, 184, 0, 232, 55, 5, 17, 10, 144, 42, 180, 0, 24, 21, 4, 46, 104, 16, 52, 27]
abbrev dktX3_settle_1 : List UInt8 := dkwX3_settle_1 ++ dktX3_settle_2
def dkwX3_settle_0 : List UInt8 := [4, 62, 29, 153, 0, 84, 3, 62, 3, 54, 4, 21, 4, 42, 180, 0, 140, 162, 0, 67, 42, 21, 4, 27]
abbrev dktX3_settle_0 : List UInt8 := dkwX3_settle_0 ++ dktX3_settle_1
theorem dksX3_settle_0 : cX3_settle.data.toList.drop 0 = dktX3_settle_0 := by decide +kernel
theorem dksX3_settle_1 : cX3_settle.data.toList.drop 24 = dktX3_settle_1 := dk_seg dksX3_settle_0 24 rfl rfl
theorem dksX3_settle_2 : cX3_settle.data.toList.drop 48 = dktX3_settle_2 := dk_seg dksX3_settle_1 24 rfl rfl
theorem dksX3_settle_3 : cX3_settle.data.toList.drop 71 = dktX3_settle_3 := dk_seg dksX3_settle_2 23 rfl rfl
theorem dX3_settle_0 : decode cX3_settle 0 = .ok (.iconst 1, 1) := dk_4 (dk_at dksX3_settle_0 0 rfl rfl)
theorem dX3_settle_1 : decode cX3_settle 1 = .ok (.istore_n 3, 1) := dk_62 (dk_at dksX3_settle_0 1 rfl rfl)
theorem dX3_settle_2 : decode cX3_settle 2 = .ok (.iload_n 3, 1) := dk_29 (dk_at dksX3_settle_0 2 rfl rfl)
theorem dX3_settle_3 : decode cX3_settle 3 = .ok (.ifCond .eq 84, 3) := dk_153 0 84 (dk_at dksX3_settle_0 3 rfl rfl)
theorem dX3_settle_6 : decode cX3_settle 6 = .ok (.iconst 0, 1) := dk_3 (dk_at dksX3_settle_0 6 rfl rfl)
theorem dX3_settle_7 : decode cX3_settle 7 = .ok (.istore_n 3, 1) := dk_62 (dk_at dksX3_settle_0 7 rfl rfl)
theorem dX3_settle_8 : decode cX3_settle 8 = .ok (.iconst 0, 1) := dk_3 (dk_at dksX3_settle_0 8 rfl rfl)
theorem dX3_settle_9 : decode cX3_settle 9 = .ok (.istore 4, 2) := dk_54 4 (dk_at dksX3_settle_0 9 rfl rfl)
theorem dX3_settle_11 : decode cX3_settle 11 = .ok (.iload 4, 2) := dk_21 4 (dk_at dksX3_settle_0 11 rfl rfl)
theorem dX3_settle_13 : decode cX3_settle 13 = .ok (.aload_n 0, 1) := dk_42 (dk_at dksX3_settle_0 13 rfl rfl)
theorem dX3_settle_14 : decode cX3_settle 14 = .ok (.getfield 140, 3) := dk_180 0 140 (dk_at dksX3_settle_0 14 rfl rfl)
theorem dX3_settle_17 : decode cX3_settle 17 = .ok (.if_icmp .ge 67, 3) := dk_162 0 67 (dk_at dksX3_settle_0 17 rfl rfl)
theorem dX3_settle_20 : decode cX3_settle 20 = .ok (.aload_n 0, 1) := dk_42 (dk_at dksX3_settle_0 20 rfl rfl)
theorem dX3_settle_21 : decode cX3_settle 21 = .ok (.iload 4, 2) := dk_21 4 (dk_at dksX3_settle_0 21 rfl rfl)
theorem dX3_settle_23 : decode cX3_settle 23 = .ok (.iload_n 1, 1) := dk_27 (dk_at dksX3_settle_0 23 rfl rfl)
theorem dX3_settle_24 : decode cX3_settle 24 = .ok (.iload_n 2, 1) := dk_28 (dk_at dksX3_settle_1 0 rfl rfl)
theorem dX3_settle_25 : decode cX3_settle 25 = .ok (.invokevirtual 240, 3) := dk_182 0 240 (dk_at dksX3_settle_1 1 rfl rfl)
theorem dX3_settle_28 : decode cX3_settle 28 = .ok (.lconst 1, 1) := dk_10 (dk_at dksX3_settle_1 4 rfl rfl)
theorem dX3_settle_29 : decode cX3_settle 29 = .ok (.invokestatic 232, 3) := dk_184 0 232 (dk_at dksX3_settle_1 5 rfl rfl)
theorem dX3_settle_32 : decode cX3_settle 32 = .ok (.lstore 5, 2) := dk_55 5 (dk_at dksX3_settle_1 8 rfl rfl)
theorem dX3_settle_34 : decode cX3_settle 34 = .ok (.sipush 2704, 3) := dk_17 10 144 (dk_at dksX3_settle_1 10 rfl rfl)
theorem dX3_settle_37 : decode cX3_settle 37 = .ok (.aload_n 0, 1) := dk_42 (dk_at dksX3_settle_1 13 rfl rfl)
theorem dX3_settle_38 : decode cX3_settle 38 = .ok (.getfield 24, 3) := dk_180 0 24 (dk_at dksX3_settle_1 14 rfl rfl)
theorem dX3_settle_41 : decode cX3_settle 41 = .ok (.iload 4, 2) := dk_21 4 (dk_at dksX3_settle_1 17 rfl rfl)
theorem dX3_settle_43 : decode cX3_settle 43 = .ok (.iaload, 1) := dk_46 (dk_at dksX3_settle_1 19 rfl rfl)
theorem dX3_settle_44 : decode cX3_settle 44 = .ok (.imul, 1) := dk_104 (dk_at dksX3_settle_1 20 rfl rfl)
theorem dX3_settle_45 : decode cX3_settle 45 = .ok (.bipush 52, 2) := dk_16 52 (dk_at dksX3_settle_1 21 rfl rfl)
theorem dX3_settle_47 : decode cX3_settle 47 = .ok (.iload_n 1, 1) := dk_27 (dk_at dksX3_settle_1 23 rfl rfl)
theorem dX3_settle_48 : decode cX3_settle 48 = .ok (.imul, 1) := dk_104 (dk_at dksX3_settle_2 0 rfl rfl)
theorem dX3_settle_49 : decode cX3_settle 49 = .ok (.iadd, 1) := dk_96 (dk_at dksX3_settle_2 1 rfl rfl)
theorem dX3_settle_50 : decode cX3_settle 50 = .ok (.iload_n 2, 1) := dk_28 (dk_at dksX3_settle_2 2 rfl rfl)
theorem dX3_settle_51 : decode cX3_settle 51 = .ok (.iadd, 1) := dk_96 (dk_at dksX3_settle_2 3 rfl rfl)
theorem dX3_settle_52 : decode cX3_settle 52 = .ok (.istore 7, 2) := dk_54 7 (dk_at dksX3_settle_2 4 rfl rfl)
theorem dX3_settle_54 : decode cX3_settle 54 = .ok (.lload 5, 2) := dk_22 5 (dk_at dksX3_settle_2 6 rfl rfl)
theorem dX3_settle_56 : decode cX3_settle 56 = .ok (.aload_n 0, 1) := dk_42 (dk_at dksX3_settle_2 8 rfl rfl)
theorem dX3_settle_57 : decode cX3_settle 57 = .ok (.getfield 87, 3) := dk_180 0 87 (dk_at dksX3_settle_2 9 rfl rfl)
theorem dX3_settle_60 : decode cX3_settle 60 = .ok (.iload 7, 2) := dk_21 7 (dk_at dksX3_settle_2 12 rfl rfl)
theorem dX3_settle_62 : decode cX3_settle 62 = .ok (.laload, 1) := dk_47 (dk_at dksX3_settle_2 14 rfl rfl)
theorem dX3_settle_63 : decode cX3_settle 63 = .ok (.lcmp, 1) := dk_148 (dk_at dksX3_settle_2 15 rfl rfl)
theorem dX3_settle_64 : decode cX3_settle 64 = .ok (.ifCond .ge 14, 3) := dk_156 0 14 (dk_at dksX3_settle_2 16 rfl rfl)
theorem dX3_settle_67 : decode cX3_settle 67 = .ok (.aload_n 0, 1) := dk_42 (dk_at dksX3_settle_2 19 rfl rfl)
theorem dX3_settle_68 : decode cX3_settle 68 = .ok (.getfield 87, 3) := dk_180 0 87 (dk_at dksX3_settle_2 20 rfl rfl)
theorem dX3_settle_71 : decode cX3_settle 71 = .ok (.iload 7, 2) := dk_21 7 (dk_at dksX3_settle_3 0 rfl rfl)
theorem dX3_settle_73 : decode cX3_settle 73 = .ok (.lload 5, 2) := dk_22 5 (dk_at dksX3_settle_3 2 rfl rfl)
theorem dX3_settle_75 : decode cX3_settle 75 = .ok (.lastore, 1) := dk_80 (dk_at dksX3_settle_3 4 rfl rfl)
theorem dX3_settle_76 : decode cX3_settle 76 = .ok (.iconst 1, 1) := dk_4 (dk_at dksX3_settle_3 5 rfl rfl)
theorem dX3_settle_77 : decode cX3_settle 77 = .ok (.istore_n 3, 1) := dk_62 (dk_at dksX3_settle_3 6 rfl rfl)
theorem dX3_settle_78 : decode cX3_settle 78 = .ok (.iinc 4 1, 3) := dk_132 4 1 (dk_at dksX3_settle_3 7 rfl rfl)
theorem dX3_settle_81 : decode cX3_settle 81 = .ok (.goto (-70), 3) := dk_167 255 186 (dk_at dksX3_settle_3 10 rfl rfl)
theorem dX3_settle_84 : decode cX3_settle 84 = .ok (.goto (-82), 3) := dk_167 255 174 (dk_at dksX3_settle_3 13 rfl rfl)
theorem dX3_settle_87 : decode cX3_settle 87 = .ok (.return_, 1) := dk_177 (dk_at dksX3_settle_3 16 rfl rfl)
abbrev cX3_ruleCost : ByteArray := prog_19_method_32_code
def yX3_ruleCost : MethodName := ⟨RX3, "ruleCost", "(III)J"⟩
def dkwX3_ruleCost_7 : List UInt8 := [22, 10, 167, 0, 5, 22, 7, 55, 7, 132, 9, 1, 167, 255, 190, 22, 7, 173]
abbrev dktX3_ruleCost_7 : List UInt8 := dkwX3_ruleCost_7 ++ []
def dkwX3_ruleCost_6 : List UInt8 := [27, 104, 5, 96, 46, 21, 9, 29, 182, 0, 228, 184, 0, 232, 55, 10, 22, 10, 22, 7, 148, 156, 0, 8]
abbrev dktX3_ruleCost_6 : List UInt8 := dkwX3_ruleCost_6 ++ dktX3_ruleCost_7
def dkwX3_ruleCost_5 : List UInt8 := [42, 180, 0, 92, 17, 10, 144, 27, 104, 16, 52, 28, 104, 96, 21, 9, 96, 47, 42, 42, 180, 0, 30, 6]
abbrev dktX3_ruleCost_5 : List UInt8 := dkwX3_ruleCost_5 ++ dktX3_ruleCost_6
def dkwX3_ruleCost_4 : List UInt8 := [16, 52, 28, 104, 96, 29, 96, 22, 5, 80, 20, 0, 224, 55, 7, 28, 54, 9, 21, 9, 29, 163, 0, 66]
abbrev dktX3_ruleCost_4 : List UInt8 := dkwX3_ruleCost_4 ++ dktX3_ruleCost_5
def dkwX3_ruleCost_3 : List UInt8 := [182, 0, 236, 55, 5, 21, 4, 5, 160, 0, 6, 22, 5, 173, 42, 180, 0, 92, 17, 10, 144, 27, 104]
abbrev dktX3_ruleCost_3 : List UInt8 := dkwX3_ruleCost_3 ++ dktX3_ruleCost_4
def dkwX3_ruleCost_2 : List UInt8 := [173, 42, 42, 180, 0, 30, 6, 27, 104, 46, 42, 180, 0, 30, 6, 27, 104, 4, 96, 46, 28, 29]
abbrev dktX3_ruleCost_2 : List UInt8 := dkwX3_ruleCost_2 ++ dktX3_ruleCost_3
def dkwX3_ruleCost_1 : List UInt8 := [20, 0, 224, 173, 21, 4, 4, 160, 0, 18, 42, 42, 180, 0, 30, 6, 27, 104, 46, 28, 29, 182, 0, 228]
abbrev dktX3_ruleCost_1 : List UInt8 := dkwX3_ruleCost_1 ++ dktX3_ruleCost_2
def dkwX3_ruleCost_0 : List UInt8 := [42, 180, 0, 27, 27, 46, 54, 4, 21, 4, 154, 0, 16, 28, 29, 160, 0, 7, 9, 167, 0, 6]
abbrev dktX3_ruleCost_0 : List UInt8 := dkwX3_ruleCost_0 ++ dktX3_ruleCost_1
theorem dksX3_ruleCost_0 : cX3_ruleCost.data.toList.drop 0 = dktX3_ruleCost_0 := by decide +kernel
theorem dksX3_ruleCost_1 : cX3_ruleCost.data.toList.drop 22 = dktX3_ruleCost_1 := dk_seg dksX3_ruleCost_0 22 rfl rfl
theorem dksX3_ruleCost_2 : cX3_ruleCost.data.toList.drop 46 = dktX3_ruleCost_2 := dk_seg dksX3_ruleCost_1 24 rfl rfl
theorem dksX3_ruleCost_3 : cX3_ruleCost.data.toList.drop 68 = dktX3_ruleCost_3 := dk_seg dksX3_ruleCost_2 22 rfl rfl
theorem dksX3_ruleCost_4 : cX3_ruleCost.data.toList.drop 91 = dktX3_ruleCost_4 := dk_seg dksX3_ruleCost_3 23 rfl rfl
theorem dksX3_ruleCost_5 : cX3_ruleCost.data.toList.drop 115 = dktX3_ruleCost_5 := dk_seg dksX3_ruleCost_4 24 rfl rfl
theorem dksX3_ruleCost_6 : cX3_ruleCost.data.toList.drop 139 = dktX3_ruleCost_6 := dk_seg dksX3_ruleCost_5 24 rfl rfl
theorem dksX3_ruleCost_7 : cX3_ruleCost.data.toList.drop 163 = dktX3_ruleCost_7 := dk_seg dksX3_ruleCost_6 24 rfl rfl
theorem dX3_ruleCost_0 : decode cX3_ruleCost 0 = .ok (.aload_n 0, 1) := dk_42 (dk_at dksX3_ruleCost_0 0 rfl rfl)
theorem dX3_ruleCost_1 : decode cX3_ruleCost 1 = .ok (.getfield 27, 3) := dk_180 0 27 (dk_at dksX3_ruleCost_0 1 rfl rfl)
theorem dX3_ruleCost_4 : decode cX3_ruleCost 4 = .ok (.iload_n 1, 1) := dk_27 (dk_at dksX3_ruleCost_0 4 rfl rfl)
theorem dX3_ruleCost_5 : decode cX3_ruleCost 5 = .ok (.iaload, 1) := dk_46 (dk_at dksX3_ruleCost_0 5 rfl rfl)
theorem dX3_ruleCost_6 : decode cX3_ruleCost 6 = .ok (.istore 4, 2) := dk_54 4 (dk_at dksX3_ruleCost_0 6 rfl rfl)
theorem dX3_ruleCost_8 : decode cX3_ruleCost 8 = .ok (.iload 4, 2) := dk_21 4 (dk_at dksX3_ruleCost_0 8 rfl rfl)
theorem dX3_ruleCost_10 : decode cX3_ruleCost 10 = .ok (.ifCond .ne 16, 3) := dk_154 0 16 (dk_at dksX3_ruleCost_0 10 rfl rfl)
theorem dX3_ruleCost_13 : decode cX3_ruleCost 13 = .ok (.iload_n 2, 1) := dk_28 (dk_at dksX3_ruleCost_0 13 rfl rfl)
theorem dX3_ruleCost_14 : decode cX3_ruleCost 14 = .ok (.iload_n 3, 1) := dk_29 (dk_at dksX3_ruleCost_0 14 rfl rfl)
theorem dX3_ruleCost_15 : decode cX3_ruleCost 15 = .ok (.if_icmp .ne 7, 3) := dk_160 0 7 (dk_at dksX3_ruleCost_0 15 rfl rfl)
theorem dX3_ruleCost_18 : decode cX3_ruleCost 18 = .ok (.lconst 0, 1) := dk_9 (dk_at dksX3_ruleCost_0 18 rfl rfl)
theorem dX3_ruleCost_19 : decode cX3_ruleCost 19 = .ok (.goto 6, 3) := dk_167 0 6 (dk_at dksX3_ruleCost_0 19 rfl rfl)
theorem dX3_ruleCost_22 : decode cX3_ruleCost 22 = .ok (.ldc2_w 224, 3) := dk_20 0 224 (dk_at dksX3_ruleCost_1 0 rfl rfl)
theorem dX3_ruleCost_25 : decode cX3_ruleCost 25 = .ok (.lreturn, 1) := dk_173 (dk_at dksX3_ruleCost_1 3 rfl rfl)
theorem dX3_ruleCost_26 : decode cX3_ruleCost 26 = .ok (.iload 4, 2) := dk_21 4 (dk_at dksX3_ruleCost_1 4 rfl rfl)
theorem dX3_ruleCost_28 : decode cX3_ruleCost 28 = .ok (.iconst 1, 1) := dk_4 (dk_at dksX3_ruleCost_1 6 rfl rfl)
theorem dX3_ruleCost_29 : decode cX3_ruleCost 29 = .ok (.if_icmp .ne 18, 3) := dk_160 0 18 (dk_at dksX3_ruleCost_1 7 rfl rfl)
theorem dX3_ruleCost_32 : decode cX3_ruleCost 32 = .ok (.aload_n 0, 1) := dk_42 (dk_at dksX3_ruleCost_1 10 rfl rfl)
theorem dX3_ruleCost_33 : decode cX3_ruleCost 33 = .ok (.aload_n 0, 1) := dk_42 (dk_at dksX3_ruleCost_1 11 rfl rfl)
theorem dX3_ruleCost_34 : decode cX3_ruleCost 34 = .ok (.getfield 30, 3) := dk_180 0 30 (dk_at dksX3_ruleCost_1 12 rfl rfl)
theorem dX3_ruleCost_37 : decode cX3_ruleCost 37 = .ok (.iconst 3, 1) := dk_6 (dk_at dksX3_ruleCost_1 15 rfl rfl)
theorem dX3_ruleCost_38 : decode cX3_ruleCost 38 = .ok (.iload_n 1, 1) := dk_27 (dk_at dksX3_ruleCost_1 16 rfl rfl)
theorem dX3_ruleCost_39 : decode cX3_ruleCost 39 = .ok (.imul, 1) := dk_104 (dk_at dksX3_ruleCost_1 17 rfl rfl)
theorem dX3_ruleCost_40 : decode cX3_ruleCost 40 = .ok (.iaload, 1) := dk_46 (dk_at dksX3_ruleCost_1 18 rfl rfl)
theorem dX3_ruleCost_41 : decode cX3_ruleCost 41 = .ok (.iload_n 2, 1) := dk_28 (dk_at dksX3_ruleCost_1 19 rfl rfl)
theorem dX3_ruleCost_42 : decode cX3_ruleCost 42 = .ok (.iload_n 3, 1) := dk_29 (dk_at dksX3_ruleCost_1 20 rfl rfl)
theorem dX3_ruleCost_43 : decode cX3_ruleCost 43 = .ok (.invokevirtual 228, 3) := dk_182 0 228 (dk_at dksX3_ruleCost_1 21 rfl rfl)
theorem dX3_ruleCost_46 : decode cX3_ruleCost 46 = .ok (.lreturn, 1) := dk_173 (dk_at dksX3_ruleCost_2 0 rfl rfl)
theorem dX3_ruleCost_47 : decode cX3_ruleCost 47 = .ok (.aload_n 0, 1) := dk_42 (dk_at dksX3_ruleCost_2 1 rfl rfl)
theorem dX3_ruleCost_48 : decode cX3_ruleCost 48 = .ok (.aload_n 0, 1) := dk_42 (dk_at dksX3_ruleCost_2 2 rfl rfl)
theorem dX3_ruleCost_49 : decode cX3_ruleCost 49 = .ok (.getfield 30, 3) := dk_180 0 30 (dk_at dksX3_ruleCost_2 3 rfl rfl)
theorem dX3_ruleCost_52 : decode cX3_ruleCost 52 = .ok (.iconst 3, 1) := dk_6 (dk_at dksX3_ruleCost_2 6 rfl rfl)
theorem dX3_ruleCost_53 : decode cX3_ruleCost 53 = .ok (.iload_n 1, 1) := dk_27 (dk_at dksX3_ruleCost_2 7 rfl rfl)
theorem dX3_ruleCost_54 : decode cX3_ruleCost 54 = .ok (.imul, 1) := dk_104 (dk_at dksX3_ruleCost_2 8 rfl rfl)
theorem dX3_ruleCost_55 : decode cX3_ruleCost 55 = .ok (.iaload, 1) := dk_46 (dk_at dksX3_ruleCost_2 9 rfl rfl)
theorem dX3_ruleCost_56 : decode cX3_ruleCost 56 = .ok (.aload_n 0, 1) := dk_42 (dk_at dksX3_ruleCost_2 10 rfl rfl)
theorem dX3_ruleCost_57 : decode cX3_ruleCost 57 = .ok (.getfield 30, 3) := dk_180 0 30 (dk_at dksX3_ruleCost_2 11 rfl rfl)
theorem dX3_ruleCost_60 : decode cX3_ruleCost 60 = .ok (.iconst 3, 1) := dk_6 (dk_at dksX3_ruleCost_2 14 rfl rfl)
theorem dX3_ruleCost_61 : decode cX3_ruleCost 61 = .ok (.iload_n 1, 1) := dk_27 (dk_at dksX3_ruleCost_2 15 rfl rfl)
theorem dX3_ruleCost_62 : decode cX3_ruleCost 62 = .ok (.imul, 1) := dk_104 (dk_at dksX3_ruleCost_2 16 rfl rfl)
theorem dX3_ruleCost_63 : decode cX3_ruleCost 63 = .ok (.iconst 1, 1) := dk_4 (dk_at dksX3_ruleCost_2 17 rfl rfl)
theorem dX3_ruleCost_64 : decode cX3_ruleCost 64 = .ok (.iadd, 1) := dk_96 (dk_at dksX3_ruleCost_2 18 rfl rfl)
theorem dX3_ruleCost_65 : decode cX3_ruleCost 65 = .ok (.iaload, 1) := dk_46 (dk_at dksX3_ruleCost_2 19 rfl rfl)
theorem dX3_ruleCost_66 : decode cX3_ruleCost 66 = .ok (.iload_n 2, 1) := dk_28 (dk_at dksX3_ruleCost_2 20 rfl rfl)
theorem dX3_ruleCost_67 : decode cX3_ruleCost 67 = .ok (.iload_n 3, 1) := dk_29 (dk_at dksX3_ruleCost_2 21 rfl rfl)
theorem dX3_ruleCost_68 : decode cX3_ruleCost 68 = .ok (.invokevirtual 236, 3) := dk_182 0 236 (dk_at dksX3_ruleCost_3 0 rfl rfl)
theorem dX3_ruleCost_71 : decode cX3_ruleCost 71 = .ok (.lstore 5, 2) := dk_55 5 (dk_at dksX3_ruleCost_3 3 rfl rfl)
theorem dX3_ruleCost_73 : decode cX3_ruleCost 73 = .ok (.iload 4, 2) := dk_21 4 (dk_at dksX3_ruleCost_3 5 rfl rfl)
theorem dX3_ruleCost_75 : decode cX3_ruleCost 75 = .ok (.iconst 2, 1) := dk_5 (dk_at dksX3_ruleCost_3 7 rfl rfl)
theorem dX3_ruleCost_76 : decode cX3_ruleCost 76 = .ok (.if_icmp .ne 6, 3) := dk_160 0 6 (dk_at dksX3_ruleCost_3 8 rfl rfl)
theorem dX3_ruleCost_79 : decode cX3_ruleCost 79 = .ok (.lload 5, 2) := dk_22 5 (dk_at dksX3_ruleCost_3 11 rfl rfl)
theorem dX3_ruleCost_81 : decode cX3_ruleCost 81 = .ok (.lreturn, 1) := dk_173 (dk_at dksX3_ruleCost_3 13 rfl rfl)
theorem dX3_ruleCost_82 : decode cX3_ruleCost 82 = .ok (.aload_n 0, 1) := dk_42 (dk_at dksX3_ruleCost_3 14 rfl rfl)
theorem dX3_ruleCost_83 : decode cX3_ruleCost 83 = .ok (.getfield 92, 3) := dk_180 0 92 (dk_at dksX3_ruleCost_3 15 rfl rfl)
theorem dX3_ruleCost_86 : decode cX3_ruleCost 86 = .ok (.sipush 2704, 3) := dk_17 10 144 (dk_at dksX3_ruleCost_3 18 rfl rfl)
theorem dX3_ruleCost_89 : decode cX3_ruleCost 89 = .ok (.iload_n 1, 1) := dk_27 (dk_at dksX3_ruleCost_3 21 rfl rfl)
theorem dX3_ruleCost_90 : decode cX3_ruleCost 90 = .ok (.imul, 1) := dk_104 (dk_at dksX3_ruleCost_3 22 rfl rfl)
theorem dX3_ruleCost_91 : decode cX3_ruleCost 91 = .ok (.bipush 52, 2) := dk_16 52 (dk_at dksX3_ruleCost_4 0 rfl rfl)
theorem dX3_ruleCost_93 : decode cX3_ruleCost 93 = .ok (.iload_n 2, 1) := dk_28 (dk_at dksX3_ruleCost_4 2 rfl rfl)
theorem dX3_ruleCost_94 : decode cX3_ruleCost 94 = .ok (.imul, 1) := dk_104 (dk_at dksX3_ruleCost_4 3 rfl rfl)
theorem dX3_ruleCost_95 : decode cX3_ruleCost 95 = .ok (.iadd, 1) := dk_96 (dk_at dksX3_ruleCost_4 4 rfl rfl)
theorem dX3_ruleCost_96 : decode cX3_ruleCost 96 = .ok (.iload_n 3, 1) := dk_29 (dk_at dksX3_ruleCost_4 5 rfl rfl)
theorem dX3_ruleCost_97 : decode cX3_ruleCost 97 = .ok (.iadd, 1) := dk_96 (dk_at dksX3_ruleCost_4 6 rfl rfl)
theorem dX3_ruleCost_98 : decode cX3_ruleCost 98 = .ok (.lload 5, 2) := dk_22 5 (dk_at dksX3_ruleCost_4 7 rfl rfl)
theorem dX3_ruleCost_100 : decode cX3_ruleCost 100 = .ok (.lastore, 1) := dk_80 (dk_at dksX3_ruleCost_4 9 rfl rfl)
theorem dX3_ruleCost_101 : decode cX3_ruleCost 101 = .ok (.ldc2_w 224, 3) := dk_20 0 224 (dk_at dksX3_ruleCost_4 10 rfl rfl)
theorem dX3_ruleCost_104 : decode cX3_ruleCost 104 = .ok (.lstore 7, 2) := dk_55 7 (dk_at dksX3_ruleCost_4 13 rfl rfl)
theorem dX3_ruleCost_106 : decode cX3_ruleCost 106 = .ok (.iload_n 2, 1) := dk_28 (dk_at dksX3_ruleCost_4 15 rfl rfl)
theorem dX3_ruleCost_107 : decode cX3_ruleCost 107 = .ok (.istore 9, 2) := dk_54 9 (dk_at dksX3_ruleCost_4 16 rfl rfl)
theorem dX3_ruleCost_109 : decode cX3_ruleCost 109 = .ok (.iload 9, 2) := dk_21 9 (dk_at dksX3_ruleCost_4 18 rfl rfl)
theorem dX3_ruleCost_111 : decode cX3_ruleCost 111 = .ok (.iload_n 3, 1) := dk_29 (dk_at dksX3_ruleCost_4 20 rfl rfl)
theorem dX3_ruleCost_112 : decode cX3_ruleCost 112 = .ok (.if_icmp .gt 66, 3) := dk_163 0 66 (dk_at dksX3_ruleCost_4 21 rfl rfl)
theorem dX3_ruleCost_115 : decode cX3_ruleCost 115 = .ok (.aload_n 0, 1) := dk_42 (dk_at dksX3_ruleCost_5 0 rfl rfl)
theorem dX3_ruleCost_116 : decode cX3_ruleCost 116 = .ok (.getfield 92, 3) := dk_180 0 92 (dk_at dksX3_ruleCost_5 1 rfl rfl)
theorem dX3_ruleCost_119 : decode cX3_ruleCost 119 = .ok (.sipush 2704, 3) := dk_17 10 144 (dk_at dksX3_ruleCost_5 4 rfl rfl)
theorem dX3_ruleCost_122 : decode cX3_ruleCost 122 = .ok (.iload_n 1, 1) := dk_27 (dk_at dksX3_ruleCost_5 7 rfl rfl)
theorem dX3_ruleCost_123 : decode cX3_ruleCost 123 = .ok (.imul, 1) := dk_104 (dk_at dksX3_ruleCost_5 8 rfl rfl)
theorem dX3_ruleCost_124 : decode cX3_ruleCost 124 = .ok (.bipush 52, 2) := dk_16 52 (dk_at dksX3_ruleCost_5 9 rfl rfl)
theorem dX3_ruleCost_126 : decode cX3_ruleCost 126 = .ok (.iload_n 2, 1) := dk_28 (dk_at dksX3_ruleCost_5 11 rfl rfl)
theorem dX3_ruleCost_127 : decode cX3_ruleCost 127 = .ok (.imul, 1) := dk_104 (dk_at dksX3_ruleCost_5 12 rfl rfl)
theorem dX3_ruleCost_128 : decode cX3_ruleCost 128 = .ok (.iadd, 1) := dk_96 (dk_at dksX3_ruleCost_5 13 rfl rfl)
theorem dX3_ruleCost_129 : decode cX3_ruleCost 129 = .ok (.iload 9, 2) := dk_21 9 (dk_at dksX3_ruleCost_5 14 rfl rfl)
theorem dX3_ruleCost_131 : decode cX3_ruleCost 131 = .ok (.iadd, 1) := dk_96 (dk_at dksX3_ruleCost_5 16 rfl rfl)
theorem dX3_ruleCost_132 : decode cX3_ruleCost 132 = .ok (.laload, 1) := dk_47 (dk_at dksX3_ruleCost_5 17 rfl rfl)
theorem dX3_ruleCost_133 : decode cX3_ruleCost 133 = .ok (.aload_n 0, 1) := dk_42 (dk_at dksX3_ruleCost_5 18 rfl rfl)
theorem dX3_ruleCost_134 : decode cX3_ruleCost 134 = .ok (.aload_n 0, 1) := dk_42 (dk_at dksX3_ruleCost_5 19 rfl rfl)
theorem dX3_ruleCost_135 : decode cX3_ruleCost 135 = .ok (.getfield 30, 3) := dk_180 0 30 (dk_at dksX3_ruleCost_5 20 rfl rfl)
theorem dX3_ruleCost_138 : decode cX3_ruleCost 138 = .ok (.iconst 3, 1) := dk_6 (dk_at dksX3_ruleCost_5 23 rfl rfl)
theorem dX3_ruleCost_139 : decode cX3_ruleCost 139 = .ok (.iload_n 1, 1) := dk_27 (dk_at dksX3_ruleCost_6 0 rfl rfl)
theorem dX3_ruleCost_140 : decode cX3_ruleCost 140 = .ok (.imul, 1) := dk_104 (dk_at dksX3_ruleCost_6 1 rfl rfl)
theorem dX3_ruleCost_141 : decode cX3_ruleCost 141 = .ok (.iconst 2, 1) := dk_5 (dk_at dksX3_ruleCost_6 2 rfl rfl)
theorem dX3_ruleCost_142 : decode cX3_ruleCost 142 = .ok (.iadd, 1) := dk_96 (dk_at dksX3_ruleCost_6 3 rfl rfl)
theorem dX3_ruleCost_143 : decode cX3_ruleCost 143 = .ok (.iaload, 1) := dk_46 (dk_at dksX3_ruleCost_6 4 rfl rfl)
theorem dX3_ruleCost_144 : decode cX3_ruleCost 144 = .ok (.iload 9, 2) := dk_21 9 (dk_at dksX3_ruleCost_6 5 rfl rfl)
theorem dX3_ruleCost_146 : decode cX3_ruleCost 146 = .ok (.iload_n 3, 1) := dk_29 (dk_at dksX3_ruleCost_6 7 rfl rfl)
theorem dX3_ruleCost_147 : decode cX3_ruleCost 147 = .ok (.invokevirtual 228, 3) := dk_182 0 228 (dk_at dksX3_ruleCost_6 8 rfl rfl)
theorem dX3_ruleCost_150 : decode cX3_ruleCost 150 = .ok (.invokestatic 232, 3) := dk_184 0 232 (dk_at dksX3_ruleCost_6 11 rfl rfl)
theorem dX3_ruleCost_153 : decode cX3_ruleCost 153 = .ok (.lstore 10, 2) := dk_55 10 (dk_at dksX3_ruleCost_6 14 rfl rfl)
theorem dX3_ruleCost_155 : decode cX3_ruleCost 155 = .ok (.lload 10, 2) := dk_22 10 (dk_at dksX3_ruleCost_6 16 rfl rfl)
theorem dX3_ruleCost_157 : decode cX3_ruleCost 157 = .ok (.lload 7, 2) := dk_22 7 (dk_at dksX3_ruleCost_6 18 rfl rfl)
theorem dX3_ruleCost_159 : decode cX3_ruleCost 159 = .ok (.lcmp, 1) := dk_148 (dk_at dksX3_ruleCost_6 20 rfl rfl)
theorem dX3_ruleCost_160 : decode cX3_ruleCost 160 = .ok (.ifCond .ge 8, 3) := dk_156 0 8 (dk_at dksX3_ruleCost_6 21 rfl rfl)
theorem dX3_ruleCost_163 : decode cX3_ruleCost 163 = .ok (.lload 10, 2) := dk_22 10 (dk_at dksX3_ruleCost_7 0 rfl rfl)
theorem dX3_ruleCost_165 : decode cX3_ruleCost 165 = .ok (.goto 5, 3) := dk_167 0 5 (dk_at dksX3_ruleCost_7 2 rfl rfl)
theorem dX3_ruleCost_168 : decode cX3_ruleCost 168 = .ok (.lload 7, 2) := dk_22 7 (dk_at dksX3_ruleCost_7 5 rfl rfl)
theorem dX3_ruleCost_170 : decode cX3_ruleCost 170 = .ok (.lstore 7, 2) := dk_55 7 (dk_at dksX3_ruleCost_7 7 rfl rfl)
theorem dX3_ruleCost_172 : decode cX3_ruleCost 172 = .ok (.iinc 9 1, 3) := dk_132 9 1 (dk_at dksX3_ruleCost_7 9 rfl rfl)
theorem dX3_ruleCost_175 : decode cX3_ruleCost 175 = .ok (.goto (-66), 3) := dk_167 255 190 (dk_at dksX3_ruleCost_7 12 rfl rfl)
theorem dX3_ruleCost_178 : decode cX3_ruleCost 178 = .ok (.lload 7, 2) := dk_22 7 (dk_at dksX3_ruleCost_7 15 rfl rfl)
theorem dX3_ruleCost_180 : decode cX3_ruleCost 180 = .ok (.lreturn, 1) := dk_173 (dk_at dksX3_ruleCost_7 17 rfl rfl)
abbrev cX3_cost : ByteArray := prog_19_method_29_code
def yX3_cost : MethodName := ⟨RX3, "cost", "(III)J"⟩
def dkwX3_cost_2 : List UInt8 := [18, 191, 160, 0, 9, 20, 0, 224, 167, 0, 10, 20, 0, 226, 21, 4, 133, 105, 173]
abbrev dktX3_cost_2 : List UInt8 := dkwX3_cost_2 ++ []
def dkwX3_cost_1 : List UInt8 := [96, 47, 173, 42, 180, 0, 75, 17, 10, 144, 27, 104, 16, 52, 28, 104, 96, 29, 96, 46, 54, 4, 21, 4]
abbrev dktX3_cost_1 : List UInt8 := dkwX3_cost_1 ++ dktX3_cost_2
def dkwX3_cost_0 : List UInt8 := [27, 16, 100, 161, 0, 24, 42, 180, 0, 87, 17, 10, 144, 27, 16, 100, 100, 104, 16, 52, 28, 104, 96, 29]
abbrev dktX3_cost_0 : List UInt8 := dkwX3_cost_0 ++ dktX3_cost_1
theorem dksX3_cost_0 : cX3_cost.data.toList.drop 0 = dktX3_cost_0 := by decide +kernel
theorem dksX3_cost_1 : cX3_cost.data.toList.drop 24 = dktX3_cost_1 := dk_seg dksX3_cost_0 24 rfl rfl
theorem dksX3_cost_2 : cX3_cost.data.toList.drop 48 = dktX3_cost_2 := dk_seg dksX3_cost_1 24 rfl rfl
theorem dX3_cost_0 : decode cX3_cost 0 = .ok (.iload_n 1, 1) := dk_27 (dk_at dksX3_cost_0 0 rfl rfl)
theorem dX3_cost_1 : decode cX3_cost 1 = .ok (.bipush 100, 2) := dk_16 100 (dk_at dksX3_cost_0 1 rfl rfl)
theorem dX3_cost_3 : decode cX3_cost 3 = .ok (.if_icmp .lt 24, 3) := dk_161 0 24 (dk_at dksX3_cost_0 3 rfl rfl)
theorem dX3_cost_6 : decode cX3_cost 6 = .ok (.aload_n 0, 1) := dk_42 (dk_at dksX3_cost_0 6 rfl rfl)
theorem dX3_cost_7 : decode cX3_cost 7 = .ok (.getfield 87, 3) := dk_180 0 87 (dk_at dksX3_cost_0 7 rfl rfl)
theorem dX3_cost_10 : decode cX3_cost 10 = .ok (.sipush 2704, 3) := dk_17 10 144 (dk_at dksX3_cost_0 10 rfl rfl)
theorem dX3_cost_13 : decode cX3_cost 13 = .ok (.iload_n 1, 1) := dk_27 (dk_at dksX3_cost_0 13 rfl rfl)
theorem dX3_cost_14 : decode cX3_cost 14 = .ok (.bipush 100, 2) := dk_16 100 (dk_at dksX3_cost_0 14 rfl rfl)
theorem dX3_cost_16 : decode cX3_cost 16 = .ok (.isub, 1) := dk_100 (dk_at dksX3_cost_0 16 rfl rfl)
theorem dX3_cost_17 : decode cX3_cost 17 = .ok (.imul, 1) := dk_104 (dk_at dksX3_cost_0 17 rfl rfl)
theorem dX3_cost_18 : decode cX3_cost 18 = .ok (.bipush 52, 2) := dk_16 52 (dk_at dksX3_cost_0 18 rfl rfl)
theorem dX3_cost_20 : decode cX3_cost 20 = .ok (.iload_n 2, 1) := dk_28 (dk_at dksX3_cost_0 20 rfl rfl)
theorem dX3_cost_21 : decode cX3_cost 21 = .ok (.imul, 1) := dk_104 (dk_at dksX3_cost_0 21 rfl rfl)
theorem dX3_cost_22 : decode cX3_cost 22 = .ok (.iadd, 1) := dk_96 (dk_at dksX3_cost_0 22 rfl rfl)
theorem dX3_cost_23 : decode cX3_cost 23 = .ok (.iload_n 3, 1) := dk_29 (dk_at dksX3_cost_0 23 rfl rfl)
theorem dX3_cost_24 : decode cX3_cost 24 = .ok (.iadd, 1) := dk_96 (dk_at dksX3_cost_1 0 rfl rfl)
theorem dX3_cost_25 : decode cX3_cost 25 = .ok (.laload, 1) := dk_47 (dk_at dksX3_cost_1 1 rfl rfl)
theorem dX3_cost_26 : decode cX3_cost 26 = .ok (.lreturn, 1) := dk_173 (dk_at dksX3_cost_1 2 rfl rfl)
theorem dX3_cost_27 : decode cX3_cost 27 = .ok (.aload_n 0, 1) := dk_42 (dk_at dksX3_cost_1 3 rfl rfl)
theorem dX3_cost_28 : decode cX3_cost 28 = .ok (.getfield 75, 3) := dk_180 0 75 (dk_at dksX3_cost_1 4 rfl rfl)
theorem dX3_cost_31 : decode cX3_cost 31 = .ok (.sipush 2704, 3) := dk_17 10 144 (dk_at dksX3_cost_1 7 rfl rfl)
theorem dX3_cost_34 : decode cX3_cost 34 = .ok (.iload_n 1, 1) := dk_27 (dk_at dksX3_cost_1 10 rfl rfl)
theorem dX3_cost_35 : decode cX3_cost 35 = .ok (.imul, 1) := dk_104 (dk_at dksX3_cost_1 11 rfl rfl)
theorem dX3_cost_36 : decode cX3_cost 36 = .ok (.bipush 52, 2) := dk_16 52 (dk_at dksX3_cost_1 12 rfl rfl)
theorem dX3_cost_38 : decode cX3_cost 38 = .ok (.iload_n 2, 1) := dk_28 (dk_at dksX3_cost_1 14 rfl rfl)
theorem dX3_cost_39 : decode cX3_cost 39 = .ok (.imul, 1) := dk_104 (dk_at dksX3_cost_1 15 rfl rfl)
theorem dX3_cost_40 : decode cX3_cost 40 = .ok (.iadd, 1) := dk_96 (dk_at dksX3_cost_1 16 rfl rfl)
theorem dX3_cost_41 : decode cX3_cost 41 = .ok (.iload_n 3, 1) := dk_29 (dk_at dksX3_cost_1 17 rfl rfl)
theorem dX3_cost_42 : decode cX3_cost 42 = .ok (.iadd, 1) := dk_96 (dk_at dksX3_cost_1 18 rfl rfl)
theorem dX3_cost_43 : decode cX3_cost 43 = .ok (.iaload, 1) := dk_46 (dk_at dksX3_cost_1 19 rfl rfl)
theorem dX3_cost_44 : decode cX3_cost 44 = .ok (.istore 4, 2) := dk_54 4 (dk_at dksX3_cost_1 20 rfl rfl)
theorem dX3_cost_46 : decode cX3_cost 46 = .ok (.iload 4, 2) := dk_21 4 (dk_at dksX3_cost_1 22 rfl rfl)
theorem dX3_cost_48 : decode cX3_cost 48 = .ok (.ldc 191, 2) := dk_18 191 (dk_at dksX3_cost_2 0 rfl rfl)
theorem dX3_cost_50 : decode cX3_cost 50 = .ok (.if_icmp .ne 9, 3) := dk_160 0 9 (dk_at dksX3_cost_2 2 rfl rfl)
theorem dX3_cost_53 : decode cX3_cost 53 = .ok (.ldc2_w 224, 3) := dk_20 0 224 (dk_at dksX3_cost_2 5 rfl rfl)
theorem dX3_cost_56 : decode cX3_cost 56 = .ok (.goto 10, 3) := dk_167 0 10 (dk_at dksX3_cost_2 8 rfl rfl)
theorem dX3_cost_59 : decode cX3_cost 59 = .ok (.ldc2_w 226, 3) := dk_20 0 226 (dk_at dksX3_cost_2 11 rfl rfl)
theorem dX3_cost_62 : decode cX3_cost 62 = .ok (.iload 4, 2) := dk_21 4 (dk_at dksX3_cost_2 14 rfl rfl)
theorem dX3_cost_64 : decode cX3_cost 64 = .ok (.i2l, 1) := dk_133 (dk_at dksX3_cost_2 16 rfl rfl)
theorem dX3_cost_65 : decode cX3_cost 65 = .ok (.lmul, 1) := dk_105 (dk_at dksX3_cost_2 17 rfl rfl)
theorem dX3_cost_66 : decode cX3_cost 66 = .ok (.lreturn, 1) := dk_173 (dk_at dksX3_cost_2 18 rfl rfl)
abbrev cX3_both : ByteArray := prog_19_method_31_code
def yX3_both : MethodName := ⟨RX3, "both", "(IIII)J"⟩
def dkwX3_both_2 : List UInt8 := [167, 0, 5, 22, 5, 55, 5, 132, 7, 1, 167, 255, 207, 22, 5, 173]
abbrev dktX3_both_2 : List UInt8 := dkwX3_both_2 ++ []
def dkwX3_both_1 : List UInt8 := [28, 21, 7, 21, 4, 182, 0, 228, 184, 0, 232, 55, 8, 22, 8, 22, 5, 148, 156, 0, 8, 22, 8]
abbrev dktX3_both_1 : List UInt8 := dkwX3_both_1 ++ dktX3_both_2
def dkwX3_both_0 : List UInt8 := [20, 0, 224, 55, 5, 29, 54, 7, 21, 7, 21, 4, 163, 0, 48, 42, 27, 29, 21, 7, 182, 0, 228, 42]
abbrev dktX3_both_0 : List UInt8 := dkwX3_both_0 ++ dktX3_both_1
theorem dksX3_both_0 : cX3_both.data.toList.drop 0 = dktX3_both_0 := by decide +kernel
theorem dksX3_both_1 : cX3_both.data.toList.drop 24 = dktX3_both_1 := dk_seg dksX3_both_0 24 rfl rfl
theorem dksX3_both_2 : cX3_both.data.toList.drop 47 = dktX3_both_2 := dk_seg dksX3_both_1 23 rfl rfl
theorem dX3_both_0 : decode cX3_both 0 = .ok (.ldc2_w 224, 3) := dk_20 0 224 (dk_at dksX3_both_0 0 rfl rfl)
theorem dX3_both_3 : decode cX3_both 3 = .ok (.lstore 5, 2) := dk_55 5 (dk_at dksX3_both_0 3 rfl rfl)
theorem dX3_both_5 : decode cX3_both 5 = .ok (.iload_n 3, 1) := dk_29 (dk_at dksX3_both_0 5 rfl rfl)
theorem dX3_both_6 : decode cX3_both 6 = .ok (.istore 7, 2) := dk_54 7 (dk_at dksX3_both_0 6 rfl rfl)
theorem dX3_both_8 : decode cX3_both 8 = .ok (.iload 7, 2) := dk_21 7 (dk_at dksX3_both_0 8 rfl rfl)
theorem dX3_both_10 : decode cX3_both 10 = .ok (.iload 4, 2) := dk_21 4 (dk_at dksX3_both_0 10 rfl rfl)
theorem dX3_both_12 : decode cX3_both 12 = .ok (.if_icmp .gt 48, 3) := dk_163 0 48 (dk_at dksX3_both_0 12 rfl rfl)
theorem dX3_both_15 : decode cX3_both 15 = .ok (.aload_n 0, 1) := dk_42 (dk_at dksX3_both_0 15 rfl rfl)
theorem dX3_both_16 : decode cX3_both 16 = .ok (.iload_n 1, 1) := dk_27 (dk_at dksX3_both_0 16 rfl rfl)
theorem dX3_both_17 : decode cX3_both 17 = .ok (.iload_n 3, 1) := dk_29 (dk_at dksX3_both_0 17 rfl rfl)
theorem dX3_both_18 : decode cX3_both 18 = .ok (.iload 7, 2) := dk_21 7 (dk_at dksX3_both_0 18 rfl rfl)
theorem dX3_both_20 : decode cX3_both 20 = .ok (.invokevirtual 228, 3) := dk_182 0 228 (dk_at dksX3_both_0 20 rfl rfl)
theorem dX3_both_23 : decode cX3_both 23 = .ok (.aload_n 0, 1) := dk_42 (dk_at dksX3_both_0 23 rfl rfl)
theorem dX3_both_24 : decode cX3_both 24 = .ok (.iload_n 2, 1) := dk_28 (dk_at dksX3_both_1 0 rfl rfl)
theorem dX3_both_25 : decode cX3_both 25 = .ok (.iload 7, 2) := dk_21 7 (dk_at dksX3_both_1 1 rfl rfl)
theorem dX3_both_27 : decode cX3_both 27 = .ok (.iload 4, 2) := dk_21 4 (dk_at dksX3_both_1 3 rfl rfl)
theorem dX3_both_29 : decode cX3_both 29 = .ok (.invokevirtual 228, 3) := dk_182 0 228 (dk_at dksX3_both_1 5 rfl rfl)
theorem dX3_both_32 : decode cX3_both 32 = .ok (.invokestatic 232, 3) := dk_184 0 232 (dk_at dksX3_both_1 8 rfl rfl)
theorem dX3_both_35 : decode cX3_both 35 = .ok (.lstore 8, 2) := dk_55 8 (dk_at dksX3_both_1 11 rfl rfl)
theorem dX3_both_37 : decode cX3_both 37 = .ok (.lload 8, 2) := dk_22 8 (dk_at dksX3_both_1 13 rfl rfl)
theorem dX3_both_39 : decode cX3_both 39 = .ok (.lload 5, 2) := dk_22 5 (dk_at dksX3_both_1 15 rfl rfl)
theorem dX3_both_41 : decode cX3_both 41 = .ok (.lcmp, 1) := dk_148 (dk_at dksX3_both_1 17 rfl rfl)
theorem dX3_both_42 : decode cX3_both 42 = .ok (.ifCond .ge 8, 3) := dk_156 0 8 (dk_at dksX3_both_1 18 rfl rfl)
theorem dX3_both_45 : decode cX3_both 45 = .ok (.lload 8, 2) := dk_22 8 (dk_at dksX3_both_1 21 rfl rfl)
theorem dX3_both_47 : decode cX3_both 47 = .ok (.goto 5, 3) := dk_167 0 5 (dk_at dksX3_both_2 0 rfl rfl)
theorem dX3_both_50 : decode cX3_both 50 = .ok (.lload 5, 2) := dk_22 5 (dk_at dksX3_both_2 3 rfl rfl)
theorem dX3_both_52 : decode cX3_both 52 = .ok (.lstore 5, 2) := dk_55 5 (dk_at dksX3_both_2 5 rfl rfl)
theorem dX3_both_54 : decode cX3_both 54 = .ok (.iinc 7 1, 3) := dk_132 7 1 (dk_at dksX3_both_2 7 rfl rfl)
theorem dX3_both_57 : decode cX3_both 57 = .ok (.goto (-49), 3) := dk_167 255 207 (dk_at dksX3_both_2 10 rfl rfl)
theorem dX3_both_60 : decode cX3_both 60 = .ok (.lload 5, 2) := dk_22 5 (dk_at dksX3_both_2 13 rfl rfl)
theorem dX3_both_62 : decode cX3_both 62 = .ok (.lreturn, 1) := dk_173 (dk_at dksX3_both_2 15 rfl rfl)
abbrev cX3_sum : ByteArray := prog_19_method_30_code
def yX3_sum : MethodName := ⟨RX3, "sum", "(JJ)J"⟩
def dkwX3_sum_1 : List UInt8 := [97, 173]
abbrev dktX3_sum_1 : List UInt8 := dkwX3_sum_1 ++ []
def dkwX3_sum_0 : List UInt8 := [30, 20, 0, 224, 148, 156, 0, 11, 32, 20, 0, 224, 148, 155, 0, 9, 20, 0, 224, 167, 0, 6, 30, 32]
abbrev dktX3_sum_0 : List UInt8 := dkwX3_sum_0 ++ dktX3_sum_1
theorem dksX3_sum_0 : cX3_sum.data.toList.drop 0 = dktX3_sum_0 := by decide +kernel
theorem dksX3_sum_1 : cX3_sum.data.toList.drop 24 = dktX3_sum_1 := dk_seg dksX3_sum_0 24 rfl rfl
theorem dX3_sum_0 : decode cX3_sum 0 = .ok (.lload_n 0, 1) := dk_30 (dk_at dksX3_sum_0 0 rfl rfl)
theorem dX3_sum_1 : decode cX3_sum 1 = .ok (.ldc2_w 224, 3) := dk_20 0 224 (dk_at dksX3_sum_0 1 rfl rfl)
theorem dX3_sum_4 : decode cX3_sum 4 = .ok (.lcmp, 1) := dk_148 (dk_at dksX3_sum_0 4 rfl rfl)
theorem dX3_sum_5 : decode cX3_sum 5 = .ok (.ifCond .ge 11, 3) := dk_156 0 11 (dk_at dksX3_sum_0 5 rfl rfl)
theorem dX3_sum_8 : decode cX3_sum 8 = .ok (.lload_n 2, 1) := dk_32 (dk_at dksX3_sum_0 8 rfl rfl)
theorem dX3_sum_9 : decode cX3_sum 9 = .ok (.ldc2_w 224, 3) := dk_20 0 224 (dk_at dksX3_sum_0 9 rfl rfl)
theorem dX3_sum_12 : decode cX3_sum 12 = .ok (.lcmp, 1) := dk_148 (dk_at dksX3_sum_0 12 rfl rfl)
theorem dX3_sum_13 : decode cX3_sum 13 = .ok (.ifCond .lt 9, 3) := dk_155 0 9 (dk_at dksX3_sum_0 13 rfl rfl)
theorem dX3_sum_16 : decode cX3_sum 16 = .ok (.ldc2_w 224, 3) := dk_20 0 224 (dk_at dksX3_sum_0 16 rfl rfl)
theorem dX3_sum_19 : decode cX3_sum 19 = .ok (.goto 6, 3) := dk_167 0 6 (dk_at dksX3_sum_0 19 rfl rfl)
theorem dX3_sum_22 : decode cX3_sum 22 = .ok (.lload_n 0, 1) := dk_30 (dk_at dksX3_sum_0 22 rfl rfl)
theorem dX3_sum_23 : decode cX3_sum 23 = .ok (.lload_n 2, 1) := dk_32 (dk_at dksX3_sum_0 23 rfl rfl)
theorem dX3_sum_24 : decode cX3_sum 24 = .ok (.ladd, 1) := dk_97 (dk_at dksX3_sum_1 0 rfl rfl)
theorem dX3_sum_25 : decode cX3_sum 25 = .ok (.lreturn, 1) := dk_173 (dk_at dksX3_sum_1 1 rfl rfl)
abbrev cX3_mendingTo : ByteArray := prog_19_method_41_code
def yX3_mendingTo : MethodName := ⟨RX3, "mendingTo", "()I"⟩
def dkwX3_mendingTo_4 : List UInt8 := [180, 0, 66, 21, 4, 46, 60, 132, 4, 1, 167, 255, 163, 27, 172]
abbrev dktX3_mendingTo_4 : List UInt8 := dkwX3_mendingTo_4 ++ []
def dkwX3_mendingTo_3 : List UInt8 := [20, 0, 226, 21, 5, 133, 105, 184, 0, 232, 55, 6, 22, 6, 32, 148, 156, 0, 14, 22, 6, 65, 42]
abbrev dktX3_mendingTo_3 : List UInt8 := dkwX3_mendingTo_3 ++ dktX3_mendingTo_4
def dkwX3_mendingTo_2 : List UInt8 := [167, 0, 34, 42, 180, 0, 87, 17, 10, 144, 42, 180, 0, 146, 104, 42, 180, 0, 66, 21, 4, 46, 96, 47]
abbrev dktX3_mendingTo_2 : List UInt8 := dkwX3_mendingTo_2 ++ dktX3_mendingTo_3
def dkwX3_mendingTo_1 : List UInt8 := [16, 12, 21, 4, 104, 42, 180, 0, 192, 96, 46, 54, 5, 21, 5, 18, 191, 160, 0, 9, 20, 0, 224]
abbrev dktX3_mendingTo_1 : List UInt8 := dkwX3_mendingTo_1 ++ dktX3_mendingTo_2
def dkwX3_mendingTo_0 : List UInt8 := [16, 252, 60, 20, 0, 224, 65, 3, 54, 4, 21, 4, 42, 180, 0, 192, 163, 0, 90, 42, 180, 0, 69]
abbrev dktX3_mendingTo_0 : List UInt8 := dkwX3_mendingTo_0 ++ dktX3_mendingTo_1
theorem dksX3_mendingTo_0 : cX3_mendingTo.data.toList.drop 0 = dktX3_mendingTo_0 := by decide +kernel
theorem dksX3_mendingTo_1 : cX3_mendingTo.data.toList.drop 23 = dktX3_mendingTo_1 := dk_seg dksX3_mendingTo_0 23 rfl rfl
theorem dksX3_mendingTo_2 : cX3_mendingTo.data.toList.drop 46 = dktX3_mendingTo_2 := dk_seg dksX3_mendingTo_1 23 rfl rfl
theorem dksX3_mendingTo_3 : cX3_mendingTo.data.toList.drop 70 = dktX3_mendingTo_3 := dk_seg dksX3_mendingTo_2 24 rfl rfl
theorem dksX3_mendingTo_4 : cX3_mendingTo.data.toList.drop 93 = dktX3_mendingTo_4 := dk_seg dksX3_mendingTo_3 23 rfl rfl
theorem dX3_mendingTo_0 : decode cX3_mendingTo 0 = .ok (.bipush (-4), 2) := dk_16 252 (dk_at dksX3_mendingTo_0 0 rfl rfl)
theorem dX3_mendingTo_2 : decode cX3_mendingTo 2 = .ok (.istore_n 1, 1) := dk_60 (dk_at dksX3_mendingTo_0 2 rfl rfl)
theorem dX3_mendingTo_3 : decode cX3_mendingTo 3 = .ok (.ldc2_w 224, 3) := dk_20 0 224 (dk_at dksX3_mendingTo_0 3 rfl rfl)
theorem dX3_mendingTo_6 : decode cX3_mendingTo 6 = .ok (.lstore_n 2, 1) := dk_65 (dk_at dksX3_mendingTo_0 6 rfl rfl)
theorem dX3_mendingTo_7 : decode cX3_mendingTo 7 = .ok (.iconst 0, 1) := dk_3 (dk_at dksX3_mendingTo_0 7 rfl rfl)
theorem dX3_mendingTo_8 : decode cX3_mendingTo 8 = .ok (.istore 4, 2) := dk_54 4 (dk_at dksX3_mendingTo_0 8 rfl rfl)
theorem dX3_mendingTo_10 : decode cX3_mendingTo 10 = .ok (.iload 4, 2) := dk_21 4 (dk_at dksX3_mendingTo_0 10 rfl rfl)
theorem dX3_mendingTo_12 : decode cX3_mendingTo 12 = .ok (.aload_n 0, 1) := dk_42 (dk_at dksX3_mendingTo_0 12 rfl rfl)
theorem dX3_mendingTo_13 : decode cX3_mendingTo 13 = .ok (.getfield 192, 3) := dk_180 0 192 (dk_at dksX3_mendingTo_0 13 rfl rfl)
theorem dX3_mendingTo_16 : decode cX3_mendingTo 16 = .ok (.if_icmp .gt 90, 3) := dk_163 0 90 (dk_at dksX3_mendingTo_0 16 rfl rfl)
theorem dX3_mendingTo_19 : decode cX3_mendingTo 19 = .ok (.aload_n 0, 1) := dk_42 (dk_at dksX3_mendingTo_0 19 rfl rfl)
theorem dX3_mendingTo_20 : decode cX3_mendingTo 20 = .ok (.getfield 69, 3) := dk_180 0 69 (dk_at dksX3_mendingTo_0 20 rfl rfl)
theorem dX3_mendingTo_23 : decode cX3_mendingTo 23 = .ok (.bipush 12, 2) := dk_16 12 (dk_at dksX3_mendingTo_1 0 rfl rfl)
theorem dX3_mendingTo_25 : decode cX3_mendingTo 25 = .ok (.iload 4, 2) := dk_21 4 (dk_at dksX3_mendingTo_1 2 rfl rfl)
theorem dX3_mendingTo_27 : decode cX3_mendingTo 27 = .ok (.imul, 1) := dk_104 (dk_at dksX3_mendingTo_1 4 rfl rfl)
theorem dX3_mendingTo_28 : decode cX3_mendingTo 28 = .ok (.aload_n 0, 1) := dk_42 (dk_at dksX3_mendingTo_1 5 rfl rfl)
theorem dX3_mendingTo_29 : decode cX3_mendingTo 29 = .ok (.getfield 192, 3) := dk_180 0 192 (dk_at dksX3_mendingTo_1 6 rfl rfl)
theorem dX3_mendingTo_32 : decode cX3_mendingTo 32 = .ok (.iadd, 1) := dk_96 (dk_at dksX3_mendingTo_1 9 rfl rfl)
theorem dX3_mendingTo_33 : decode cX3_mendingTo 33 = .ok (.iaload, 1) := dk_46 (dk_at dksX3_mendingTo_1 10 rfl rfl)
theorem dX3_mendingTo_34 : decode cX3_mendingTo 34 = .ok (.istore 5, 2) := dk_54 5 (dk_at dksX3_mendingTo_1 11 rfl rfl)
theorem dX3_mendingTo_36 : decode cX3_mendingTo 36 = .ok (.iload 5, 2) := dk_21 5 (dk_at dksX3_mendingTo_1 13 rfl rfl)
theorem dX3_mendingTo_38 : decode cX3_mendingTo 38 = .ok (.ldc 191, 2) := dk_18 191 (dk_at dksX3_mendingTo_1 15 rfl rfl)
theorem dX3_mendingTo_40 : decode cX3_mendingTo 40 = .ok (.if_icmp .ne 9, 3) := dk_160 0 9 (dk_at dksX3_mendingTo_1 17 rfl rfl)
theorem dX3_mendingTo_43 : decode cX3_mendingTo 43 = .ok (.ldc2_w 224, 3) := dk_20 0 224 (dk_at dksX3_mendingTo_1 20 rfl rfl)
theorem dX3_mendingTo_46 : decode cX3_mendingTo 46 = .ok (.goto 34, 3) := dk_167 0 34 (dk_at dksX3_mendingTo_2 0 rfl rfl)
theorem dX3_mendingTo_49 : decode cX3_mendingTo 49 = .ok (.aload_n 0, 1) := dk_42 (dk_at dksX3_mendingTo_2 3 rfl rfl)
theorem dX3_mendingTo_50 : decode cX3_mendingTo 50 = .ok (.getfield 87, 3) := dk_180 0 87 (dk_at dksX3_mendingTo_2 4 rfl rfl)
theorem dX3_mendingTo_53 : decode cX3_mendingTo 53 = .ok (.sipush 2704, 3) := dk_17 10 144 (dk_at dksX3_mendingTo_2 7 rfl rfl)
theorem dX3_mendingTo_56 : decode cX3_mendingTo 56 = .ok (.aload_n 0, 1) := dk_42 (dk_at dksX3_mendingTo_2 10 rfl rfl)
theorem dX3_mendingTo_57 : decode cX3_mendingTo 57 = .ok (.getfield 146, 3) := dk_180 0 146 (dk_at dksX3_mendingTo_2 11 rfl rfl)
theorem dX3_mendingTo_60 : decode cX3_mendingTo 60 = .ok (.imul, 1) := dk_104 (dk_at dksX3_mendingTo_2 14 rfl rfl)
theorem dX3_mendingTo_61 : decode cX3_mendingTo 61 = .ok (.aload_n 0, 1) := dk_42 (dk_at dksX3_mendingTo_2 15 rfl rfl)
theorem dX3_mendingTo_62 : decode cX3_mendingTo 62 = .ok (.getfield 66, 3) := dk_180 0 66 (dk_at dksX3_mendingTo_2 16 rfl rfl)
theorem dX3_mendingTo_65 : decode cX3_mendingTo 65 = .ok (.iload 4, 2) := dk_21 4 (dk_at dksX3_mendingTo_2 19 rfl rfl)
theorem dX3_mendingTo_67 : decode cX3_mendingTo 67 = .ok (.iaload, 1) := dk_46 (dk_at dksX3_mendingTo_2 21 rfl rfl)
theorem dX3_mendingTo_68 : decode cX3_mendingTo 68 = .ok (.iadd, 1) := dk_96 (dk_at dksX3_mendingTo_2 22 rfl rfl)
theorem dX3_mendingTo_69 : decode cX3_mendingTo 69 = .ok (.laload, 1) := dk_47 (dk_at dksX3_mendingTo_2 23 rfl rfl)
theorem dX3_mendingTo_70 : decode cX3_mendingTo 70 = .ok (.ldc2_w 226, 3) := dk_20 0 226 (dk_at dksX3_mendingTo_3 0 rfl rfl)
theorem dX3_mendingTo_73 : decode cX3_mendingTo 73 = .ok (.iload 5, 2) := dk_21 5 (dk_at dksX3_mendingTo_3 3 rfl rfl)
theorem dX3_mendingTo_75 : decode cX3_mendingTo 75 = .ok (.i2l, 1) := dk_133 (dk_at dksX3_mendingTo_3 5 rfl rfl)
theorem dX3_mendingTo_76 : decode cX3_mendingTo 76 = .ok (.lmul, 1) := dk_105 (dk_at dksX3_mendingTo_3 6 rfl rfl)
theorem dX3_mendingTo_77 : decode cX3_mendingTo 77 = .ok (.invokestatic 232, 3) := dk_184 0 232 (dk_at dksX3_mendingTo_3 7 rfl rfl)
theorem dX3_mendingTo_80 : decode cX3_mendingTo 80 = .ok (.lstore 6, 2) := dk_55 6 (dk_at dksX3_mendingTo_3 10 rfl rfl)
theorem dX3_mendingTo_82 : decode cX3_mendingTo 82 = .ok (.lload 6, 2) := dk_22 6 (dk_at dksX3_mendingTo_3 12 rfl rfl)
theorem dX3_mendingTo_84 : decode cX3_mendingTo 84 = .ok (.lload_n 2, 1) := dk_32 (dk_at dksX3_mendingTo_3 14 rfl rfl)
theorem dX3_mendingTo_85 : decode cX3_mendingTo 85 = .ok (.lcmp, 1) := dk_148 (dk_at dksX3_mendingTo_3 15 rfl rfl)
theorem dX3_mendingTo_86 : decode cX3_mendingTo 86 = .ok (.ifCond .ge 14, 3) := dk_156 0 14 (dk_at dksX3_mendingTo_3 16 rfl rfl)
theorem dX3_mendingTo_89 : decode cX3_mendingTo 89 = .ok (.lload 6, 2) := dk_22 6 (dk_at dksX3_mendingTo_3 19 rfl rfl)
theorem dX3_mendingTo_91 : decode cX3_mendingTo 91 = .ok (.lstore_n 2, 1) := dk_65 (dk_at dksX3_mendingTo_3 21 rfl rfl)
theorem dX3_mendingTo_92 : decode cX3_mendingTo 92 = .ok (.aload_n 0, 1) := dk_42 (dk_at dksX3_mendingTo_3 22 rfl rfl)
theorem dX3_mendingTo_93 : decode cX3_mendingTo 93 = .ok (.getfield 66, 3) := dk_180 0 66 (dk_at dksX3_mendingTo_4 0 rfl rfl)
theorem dX3_mendingTo_96 : decode cX3_mendingTo 96 = .ok (.iload 4, 2) := dk_21 4 (dk_at dksX3_mendingTo_4 3 rfl rfl)
theorem dX3_mendingTo_98 : decode cX3_mendingTo 98 = .ok (.iaload, 1) := dk_46 (dk_at dksX3_mendingTo_4 5 rfl rfl)
theorem dX3_mendingTo_99 : decode cX3_mendingTo 99 = .ok (.istore_n 1, 1) := dk_60 (dk_at dksX3_mendingTo_4 6 rfl rfl)
theorem dX3_mendingTo_100 : decode cX3_mendingTo 100 = .ok (.iinc 4 1, 3) := dk_132 4 1 (dk_at dksX3_mendingTo_4 7 rfl rfl)
theorem dX3_mendingTo_103 : decode cX3_mendingTo 103 = .ok (.goto (-93), 3) := dk_167 255 163 (dk_at dksX3_mendingTo_4 10 rfl rfl)
theorem dX3_mendingTo_106 : decode cX3_mendingTo 106 = .ok (.iload_n 1, 1) := dk_27 (dk_at dksX3_mendingTo_4 13 rfl rfl)
theorem dX3_mendingTo_107 : decode cX3_mendingTo 107 = .ok (.ireturn, 1) := dk_172 (dk_at dksX3_mendingTo_4 14 rfl rfl)
abbrev cX3_costOf : ByteArray := prog_19_method_42_code
def yX3_costOf : MethodName := ⟨RX3, "costOf", "(I)J"⟩
def dkwX3_costOf_1 : List UInt8 := [42, 180, 0, 60, 27, 46, 104, 42, 180, 0, 192, 96, 46, 133, 105, 97, 173]
abbrev dktX3_costOf_1 : List UInt8 := dkwX3_costOf_1 ++ []
def dkwX3_costOf_0 : List UInt8 := [42, 180, 0, 87, 17, 10, 144, 42, 180, 0, 146, 104, 27, 96, 47, 20, 0, 226, 42, 180, 0, 69, 16, 12]
abbrev dktX3_costOf_0 : List UInt8 := dkwX3_costOf_0 ++ dktX3_costOf_1
theorem dksX3_costOf_0 : cX3_costOf.data.toList.drop 0 = dktX3_costOf_0 := by decide +kernel
theorem dksX3_costOf_1 : cX3_costOf.data.toList.drop 24 = dktX3_costOf_1 := dk_seg dksX3_costOf_0 24 rfl rfl
theorem dX3_costOf_0 : decode cX3_costOf 0 = .ok (.aload_n 0, 1) := dk_42 (dk_at dksX3_costOf_0 0 rfl rfl)
theorem dX3_costOf_1 : decode cX3_costOf 1 = .ok (.getfield 87, 3) := dk_180 0 87 (dk_at dksX3_costOf_0 1 rfl rfl)
theorem dX3_costOf_4 : decode cX3_costOf 4 = .ok (.sipush 2704, 3) := dk_17 10 144 (dk_at dksX3_costOf_0 4 rfl rfl)
theorem dX3_costOf_7 : decode cX3_costOf 7 = .ok (.aload_n 0, 1) := dk_42 (dk_at dksX3_costOf_0 7 rfl rfl)
theorem dX3_costOf_8 : decode cX3_costOf 8 = .ok (.getfield 146, 3) := dk_180 0 146 (dk_at dksX3_costOf_0 8 rfl rfl)
theorem dX3_costOf_11 : decode cX3_costOf 11 = .ok (.imul, 1) := dk_104 (dk_at dksX3_costOf_0 11 rfl rfl)
theorem dX3_costOf_12 : decode cX3_costOf 12 = .ok (.iload_n 1, 1) := dk_27 (dk_at dksX3_costOf_0 12 rfl rfl)
theorem dX3_costOf_13 : decode cX3_costOf 13 = .ok (.iadd, 1) := dk_96 (dk_at dksX3_costOf_0 13 rfl rfl)
theorem dX3_costOf_14 : decode cX3_costOf 14 = .ok (.laload, 1) := dk_47 (dk_at dksX3_costOf_0 14 rfl rfl)
theorem dX3_costOf_15 : decode cX3_costOf 15 = .ok (.ldc2_w 226, 3) := dk_20 0 226 (dk_at dksX3_costOf_0 15 rfl rfl)
theorem dX3_costOf_18 : decode cX3_costOf 18 = .ok (.aload_n 0, 1) := dk_42 (dk_at dksX3_costOf_0 18 rfl rfl)
theorem dX3_costOf_19 : decode cX3_costOf 19 = .ok (.getfield 69, 3) := dk_180 0 69 (dk_at dksX3_costOf_0 19 rfl rfl)
theorem dX3_costOf_22 : decode cX3_costOf 22 = .ok (.bipush 12, 2) := dk_16 12 (dk_at dksX3_costOf_0 22 rfl rfl)
theorem dX3_costOf_24 : decode cX3_costOf 24 = .ok (.aload_n 0, 1) := dk_42 (dk_at dksX3_costOf_1 0 rfl rfl)
theorem dX3_costOf_25 : decode cX3_costOf 25 = .ok (.getfield 60, 3) := dk_180 0 60 (dk_at dksX3_costOf_1 1 rfl rfl)
theorem dX3_costOf_28 : decode cX3_costOf 28 = .ok (.iload_n 1, 1) := dk_27 (dk_at dksX3_costOf_1 4 rfl rfl)
theorem dX3_costOf_29 : decode cX3_costOf 29 = .ok (.iaload, 1) := dk_46 (dk_at dksX3_costOf_1 5 rfl rfl)
theorem dX3_costOf_30 : decode cX3_costOf 30 = .ok (.imul, 1) := dk_104 (dk_at dksX3_costOf_1 6 rfl rfl)
theorem dX3_costOf_31 : decode cX3_costOf 31 = .ok (.aload_n 0, 1) := dk_42 (dk_at dksX3_costOf_1 7 rfl rfl)
theorem dX3_costOf_32 : decode cX3_costOf 32 = .ok (.getfield 192, 3) := dk_180 0 192 (dk_at dksX3_costOf_1 8 rfl rfl)
theorem dX3_costOf_35 : decode cX3_costOf 35 = .ok (.iadd, 1) := dk_96 (dk_at dksX3_costOf_1 11 rfl rfl)
theorem dX3_costOf_36 : decode cX3_costOf 36 = .ok (.iaload, 1) := dk_46 (dk_at dksX3_costOf_1 12 rfl rfl)
theorem dX3_costOf_37 : decode cX3_costOf 37 = .ok (.i2l, 1) := dk_133 (dk_at dksX3_costOf_1 13 rfl rfl)
theorem dX3_costOf_38 : decode cX3_costOf 38 = .ok (.lmul, 1) := dk_105 (dk_at dksX3_costOf_1 14 rfl rfl)
theorem dX3_costOf_39 : decode cX3_costOf 39 = .ok (.ladd, 1) := dk_97 (dk_at dksX3_costOf_1 15 rfl rfl)
theorem dX3_costOf_40 : decode cX3_costOf 40 = .ok (.lreturn, 1) := dk_173 (dk_at dksX3_costOf_1 16 rfl rfl)
abbrev cX3_layTree : ByteArray := prog_19_method_40_code
def yX3_layTree : MethodName := ⟨RX3, "layTree", "(I)V"⟩
def dkwX3_layTree_7 : List UInt8 := [180, 0, 60, 27, 46, 42, 180, 0, 192, 182, 1, 1, 177]
abbrev dktX3_layTree_7 : List UInt8 := dkwX3_layTree_7 ++ []
def dkwX3_layTree_6 : List UInt8 := [21, 4, 21, 5, 182, 1, 13, 167, 0, 11, 42, 28, 29, 21, 4, 182, 1, 16, 167, 255, 130, 42, 42]
abbrev dktX3_layTree_6 : List UInt8 := dkwX3_layTree_6 ++ dktX3_layTree_7
def dkwX3_layTree_5 : List UInt8 := [8, 21, 5, 104, 6, 96, 46, 100, 79, 167, 0, 33, 28, 16, 100, 161, 0, 19, 42, 28, 16, 100, 100, 29]
abbrev dktX3_layTree_5 : List UInt8 := dkwX3_layTree_5 ++ dktX3_layTree_6
def dkwX3_layTree_4 : List UInt8 := [17, 0, 200, 160, 0, 33, 42, 180, 0, 54, 8, 21, 5, 104, 7, 96, 42, 180, 1, 4, 42, 180, 0, 54]
abbrev dktX3_layTree_4 : List UInt8 := dkwX3_layTree_4 ++ dktX3_layTree_5
def dkwX3_layTree_3 : List UInt8 := [42, 180, 0, 101, 42, 180, 0, 247, 46, 54, 4, 42, 180, 0, 104, 42, 180, 0, 247, 46, 54, 5, 28]
abbrev dktX3_layTree_3 : List UInt8 := dkwX3_layTree_3 ++ dktX3_layTree_4
def dkwX3_layTree_2 : List UInt8 := [100, 181, 0, 247, 42, 180, 0, 95, 42, 180, 0, 247, 46, 61, 42, 180, 0, 98, 42, 180, 0, 247, 46, 62]
abbrev dktX3_layTree_2 : List UInt8 := dkwX3_layTree_2 ++ dktX3_layTree_3
def dkwX3_layTree_1 : List UInt8 := [180, 0, 146, 96, 3, 27, 16, 252, 182, 1, 10, 42, 180, 0, 247, 158, 0, 125, 42, 89, 180, 0, 247, 4]
abbrev dktX3_layTree_1 : List UInt8 := dkwX3_layTree_1 ++ dktX3_layTree_2
def dkwX3_layTree_0 : List UInt8 := [42, 3, 181, 0, 250, 42, 3, 181, 1, 4, 42, 3, 181, 1, 7, 42, 3, 181, 0, 247, 42, 16, 100, 42]
abbrev dktX3_layTree_0 : List UInt8 := dkwX3_layTree_0 ++ dktX3_layTree_1
theorem dksX3_layTree_0 : cX3_layTree.data.toList.drop 0 = dktX3_layTree_0 := by decide +kernel
theorem dksX3_layTree_1 : cX3_layTree.data.toList.drop 24 = dktX3_layTree_1 := dk_seg dksX3_layTree_0 24 rfl rfl
theorem dksX3_layTree_2 : cX3_layTree.data.toList.drop 48 = dktX3_layTree_2 := dk_seg dksX3_layTree_1 24 rfl rfl
theorem dksX3_layTree_3 : cX3_layTree.data.toList.drop 72 = dktX3_layTree_3 := dk_seg dksX3_layTree_2 24 rfl rfl
theorem dksX3_layTree_4 : cX3_layTree.data.toList.drop 95 = dktX3_layTree_4 := dk_seg dksX3_layTree_3 23 rfl rfl
theorem dksX3_layTree_5 : cX3_layTree.data.toList.drop 119 = dktX3_layTree_5 := dk_seg dksX3_layTree_4 24 rfl rfl
theorem dksX3_layTree_6 : cX3_layTree.data.toList.drop 143 = dktX3_layTree_6 := dk_seg dksX3_layTree_5 24 rfl rfl
theorem dksX3_layTree_7 : cX3_layTree.data.toList.drop 166 = dktX3_layTree_7 := dk_seg dksX3_layTree_6 23 rfl rfl
theorem dX3_layTree_0 : decode cX3_layTree 0 = .ok (.aload_n 0, 1) := dk_42 (dk_at dksX3_layTree_0 0 rfl rfl)
theorem dX3_layTree_1 : decode cX3_layTree 1 = .ok (.iconst 0, 1) := dk_3 (dk_at dksX3_layTree_0 1 rfl rfl)
theorem dX3_layTree_2 : decode cX3_layTree 2 = .ok (.putfield 250, 3) := dk_181 0 250 (dk_at dksX3_layTree_0 2 rfl rfl)
theorem dX3_layTree_5 : decode cX3_layTree 5 = .ok (.aload_n 0, 1) := dk_42 (dk_at dksX3_layTree_0 5 rfl rfl)
theorem dX3_layTree_6 : decode cX3_layTree 6 = .ok (.iconst 0, 1) := dk_3 (dk_at dksX3_layTree_0 6 rfl rfl)
theorem dX3_layTree_7 : decode cX3_layTree 7 = .ok (.putfield 260, 3) := dk_181 1 4 (dk_at dksX3_layTree_0 7 rfl rfl)
theorem dX3_layTree_10 : decode cX3_layTree 10 = .ok (.aload_n 0, 1) := dk_42 (dk_at dksX3_layTree_0 10 rfl rfl)
theorem dX3_layTree_11 : decode cX3_layTree 11 = .ok (.iconst 0, 1) := dk_3 (dk_at dksX3_layTree_0 11 rfl rfl)
theorem dX3_layTree_12 : decode cX3_layTree 12 = .ok (.putfield 263, 3) := dk_181 1 7 (dk_at dksX3_layTree_0 12 rfl rfl)
theorem dX3_layTree_15 : decode cX3_layTree 15 = .ok (.aload_n 0, 1) := dk_42 (dk_at dksX3_layTree_0 15 rfl rfl)
theorem dX3_layTree_16 : decode cX3_layTree 16 = .ok (.iconst 0, 1) := dk_3 (dk_at dksX3_layTree_0 16 rfl rfl)
theorem dX3_layTree_17 : decode cX3_layTree 17 = .ok (.putfield 247, 3) := dk_181 0 247 (dk_at dksX3_layTree_0 17 rfl rfl)
theorem dX3_layTree_20 : decode cX3_layTree 20 = .ok (.aload_n 0, 1) := dk_42 (dk_at dksX3_layTree_0 20 rfl rfl)
theorem dX3_layTree_21 : decode cX3_layTree 21 = .ok (.bipush 100, 2) := dk_16 100 (dk_at dksX3_layTree_0 21 rfl rfl)
theorem dX3_layTree_23 : decode cX3_layTree 23 = .ok (.aload_n 0, 1) := dk_42 (dk_at dksX3_layTree_0 23 rfl rfl)
theorem dX3_layTree_24 : decode cX3_layTree 24 = .ok (.getfield 146, 3) := dk_180 0 146 (dk_at dksX3_layTree_1 0 rfl rfl)
theorem dX3_layTree_27 : decode cX3_layTree 27 = .ok (.iadd, 1) := dk_96 (dk_at dksX3_layTree_1 3 rfl rfl)
theorem dX3_layTree_28 : decode cX3_layTree 28 = .ok (.iconst 0, 1) := dk_3 (dk_at dksX3_layTree_1 4 rfl rfl)
theorem dX3_layTree_29 : decode cX3_layTree 29 = .ok (.iload_n 1, 1) := dk_27 (dk_at dksX3_layTree_1 5 rfl rfl)
theorem dX3_layTree_30 : decode cX3_layTree 30 = .ok (.bipush (-4), 2) := dk_16 252 (dk_at dksX3_layTree_1 6 rfl rfl)
theorem dX3_layTree_32 : decode cX3_layTree 32 = .ok (.invokevirtual 266, 3) := dk_182 1 10 (dk_at dksX3_layTree_1 8 rfl rfl)
theorem dX3_layTree_35 : decode cX3_layTree 35 = .ok (.aload_n 0, 1) := dk_42 (dk_at dksX3_layTree_1 11 rfl rfl)
theorem dX3_layTree_36 : decode cX3_layTree 36 = .ok (.getfield 247, 3) := dk_180 0 247 (dk_at dksX3_layTree_1 12 rfl rfl)
theorem dX3_layTree_39 : decode cX3_layTree 39 = .ok (.ifCond .le 125, 3) := dk_158 0 125 (dk_at dksX3_layTree_1 15 rfl rfl)
theorem dX3_layTree_42 : decode cX3_layTree 42 = .ok (.aload_n 0, 1) := dk_42 (dk_at dksX3_layTree_1 18 rfl rfl)
theorem dX3_layTree_43 : decode cX3_layTree 43 = .ok (.dup, 1) := dk_89 (dk_at dksX3_layTree_1 19 rfl rfl)
theorem dX3_layTree_44 : decode cX3_layTree 44 = .ok (.getfield 247, 3) := dk_180 0 247 (dk_at dksX3_layTree_1 20 rfl rfl)
theorem dX3_layTree_47 : decode cX3_layTree 47 = .ok (.iconst 1, 1) := dk_4 (dk_at dksX3_layTree_1 23 rfl rfl)
theorem dX3_layTree_48 : decode cX3_layTree 48 = .ok (.isub, 1) := dk_100 (dk_at dksX3_layTree_2 0 rfl rfl)
theorem dX3_layTree_49 : decode cX3_layTree 49 = .ok (.putfield 247, 3) := dk_181 0 247 (dk_at dksX3_layTree_2 1 rfl rfl)
theorem dX3_layTree_52 : decode cX3_layTree 52 = .ok (.aload_n 0, 1) := dk_42 (dk_at dksX3_layTree_2 4 rfl rfl)
theorem dX3_layTree_53 : decode cX3_layTree 53 = .ok (.getfield 95, 3) := dk_180 0 95 (dk_at dksX3_layTree_2 5 rfl rfl)
theorem dX3_layTree_56 : decode cX3_layTree 56 = .ok (.aload_n 0, 1) := dk_42 (dk_at dksX3_layTree_2 8 rfl rfl)
theorem dX3_layTree_57 : decode cX3_layTree 57 = .ok (.getfield 247, 3) := dk_180 0 247 (dk_at dksX3_layTree_2 9 rfl rfl)
theorem dX3_layTree_60 : decode cX3_layTree 60 = .ok (.iaload, 1) := dk_46 (dk_at dksX3_layTree_2 12 rfl rfl)
theorem dX3_layTree_61 : decode cX3_layTree 61 = .ok (.istore_n 2, 1) := dk_61 (dk_at dksX3_layTree_2 13 rfl rfl)
theorem dX3_layTree_62 : decode cX3_layTree 62 = .ok (.aload_n 0, 1) := dk_42 (dk_at dksX3_layTree_2 14 rfl rfl)
theorem dX3_layTree_63 : decode cX3_layTree 63 = .ok (.getfield 98, 3) := dk_180 0 98 (dk_at dksX3_layTree_2 15 rfl rfl)
theorem dX3_layTree_66 : decode cX3_layTree 66 = .ok (.aload_n 0, 1) := dk_42 (dk_at dksX3_layTree_2 18 rfl rfl)
theorem dX3_layTree_67 : decode cX3_layTree 67 = .ok (.getfield 247, 3) := dk_180 0 247 (dk_at dksX3_layTree_2 19 rfl rfl)
theorem dX3_layTree_70 : decode cX3_layTree 70 = .ok (.iaload, 1) := dk_46 (dk_at dksX3_layTree_2 22 rfl rfl)
theorem dX3_layTree_71 : decode cX3_layTree 71 = .ok (.istore_n 3, 1) := dk_62 (dk_at dksX3_layTree_2 23 rfl rfl)
theorem dX3_layTree_72 : decode cX3_layTree 72 = .ok (.aload_n 0, 1) := dk_42 (dk_at dksX3_layTree_3 0 rfl rfl)
theorem dX3_layTree_73 : decode cX3_layTree 73 = .ok (.getfield 101, 3) := dk_180 0 101 (dk_at dksX3_layTree_3 1 rfl rfl)
theorem dX3_layTree_76 : decode cX3_layTree 76 = .ok (.aload_n 0, 1) := dk_42 (dk_at dksX3_layTree_3 4 rfl rfl)
theorem dX3_layTree_77 : decode cX3_layTree 77 = .ok (.getfield 247, 3) := dk_180 0 247 (dk_at dksX3_layTree_3 5 rfl rfl)
theorem dX3_layTree_80 : decode cX3_layTree 80 = .ok (.iaload, 1) := dk_46 (dk_at dksX3_layTree_3 8 rfl rfl)
theorem dX3_layTree_81 : decode cX3_layTree 81 = .ok (.istore 4, 2) := dk_54 4 (dk_at dksX3_layTree_3 9 rfl rfl)
theorem dX3_layTree_83 : decode cX3_layTree 83 = .ok (.aload_n 0, 1) := dk_42 (dk_at dksX3_layTree_3 11 rfl rfl)
theorem dX3_layTree_84 : decode cX3_layTree 84 = .ok (.getfield 104, 3) := dk_180 0 104 (dk_at dksX3_layTree_3 12 rfl rfl)
theorem dX3_layTree_87 : decode cX3_layTree 87 = .ok (.aload_n 0, 1) := dk_42 (dk_at dksX3_layTree_3 15 rfl rfl)
theorem dX3_layTree_88 : decode cX3_layTree 88 = .ok (.getfield 247, 3) := dk_180 0 247 (dk_at dksX3_layTree_3 16 rfl rfl)
theorem dX3_layTree_91 : decode cX3_layTree 91 = .ok (.iaload, 1) := dk_46 (dk_at dksX3_layTree_3 19 rfl rfl)
theorem dX3_layTree_92 : decode cX3_layTree 92 = .ok (.istore 5, 2) := dk_54 5 (dk_at dksX3_layTree_3 20 rfl rfl)
theorem dX3_layTree_94 : decode cX3_layTree 94 = .ok (.iload_n 2, 1) := dk_28 (dk_at dksX3_layTree_3 22 rfl rfl)
theorem dX3_layTree_95 : decode cX3_layTree 95 = .ok (.sipush 200, 3) := dk_17 0 200 (dk_at dksX3_layTree_4 0 rfl rfl)
theorem dX3_layTree_98 : decode cX3_layTree 98 = .ok (.if_icmp .ne 33, 3) := dk_160 0 33 (dk_at dksX3_layTree_4 3 rfl rfl)
theorem dX3_layTree_101 : decode cX3_layTree 101 = .ok (.aload_n 0, 1) := dk_42 (dk_at dksX3_layTree_4 6 rfl rfl)
theorem dX3_layTree_102 : decode cX3_layTree 102 = .ok (.getfield 54, 3) := dk_180 0 54 (dk_at dksX3_layTree_4 7 rfl rfl)
theorem dX3_layTree_105 : decode cX3_layTree 105 = .ok (.iconst 5, 1) := dk_8 (dk_at dksX3_layTree_4 10 rfl rfl)
theorem dX3_layTree_106 : decode cX3_layTree 106 = .ok (.iload 5, 2) := dk_21 5 (dk_at dksX3_layTree_4 11 rfl rfl)
theorem dX3_layTree_108 : decode cX3_layTree 108 = .ok (.imul, 1) := dk_104 (dk_at dksX3_layTree_4 13 rfl rfl)
theorem dX3_layTree_109 : decode cX3_layTree 109 = .ok (.iconst 4, 1) := dk_7 (dk_at dksX3_layTree_4 14 rfl rfl)
theorem dX3_layTree_110 : decode cX3_layTree 110 = .ok (.iadd, 1) := dk_96 (dk_at dksX3_layTree_4 15 rfl rfl)
theorem dX3_layTree_111 : decode cX3_layTree 111 = .ok (.aload_n 0, 1) := dk_42 (dk_at dksX3_layTree_4 16 rfl rfl)
theorem dX3_layTree_112 : decode cX3_layTree 112 = .ok (.getfield 260, 3) := dk_180 1 4 (dk_at dksX3_layTree_4 17 rfl rfl)
theorem dX3_layTree_115 : decode cX3_layTree 115 = .ok (.aload_n 0, 1) := dk_42 (dk_at dksX3_layTree_4 20 rfl rfl)
theorem dX3_layTree_116 : decode cX3_layTree 116 = .ok (.getfield 54, 3) := dk_180 0 54 (dk_at dksX3_layTree_4 21 rfl rfl)
theorem dX3_layTree_119 : decode cX3_layTree 119 = .ok (.iconst 5, 1) := dk_8 (dk_at dksX3_layTree_5 0 rfl rfl)
theorem dX3_layTree_120 : decode cX3_layTree 120 = .ok (.iload 5, 2) := dk_21 5 (dk_at dksX3_layTree_5 1 rfl rfl)
theorem dX3_layTree_122 : decode cX3_layTree 122 = .ok (.imul, 1) := dk_104 (dk_at dksX3_layTree_5 3 rfl rfl)
theorem dX3_layTree_123 : decode cX3_layTree 123 = .ok (.iconst 3, 1) := dk_6 (dk_at dksX3_layTree_5 4 rfl rfl)
theorem dX3_layTree_124 : decode cX3_layTree 124 = .ok (.iadd, 1) := dk_96 (dk_at dksX3_layTree_5 5 rfl rfl)
theorem dX3_layTree_125 : decode cX3_layTree 125 = .ok (.iaload, 1) := dk_46 (dk_at dksX3_layTree_5 6 rfl rfl)
theorem dX3_layTree_126 : decode cX3_layTree 126 = .ok (.isub, 1) := dk_100 (dk_at dksX3_layTree_5 7 rfl rfl)
theorem dX3_layTree_127 : decode cX3_layTree 127 = .ok (.iastore, 1) := dk_79 (dk_at dksX3_layTree_5 8 rfl rfl)
theorem dX3_layTree_128 : decode cX3_layTree 128 = .ok (.goto 33, 3) := dk_167 0 33 (dk_at dksX3_layTree_5 9 rfl rfl)
theorem dX3_layTree_131 : decode cX3_layTree 131 = .ok (.iload_n 2, 1) := dk_28 (dk_at dksX3_layTree_5 12 rfl rfl)
theorem dX3_layTree_132 : decode cX3_layTree 132 = .ok (.bipush 100, 2) := dk_16 100 (dk_at dksX3_layTree_5 13 rfl rfl)
theorem dX3_layTree_134 : decode cX3_layTree 134 = .ok (.if_icmp .lt 19, 3) := dk_161 0 19 (dk_at dksX3_layTree_5 15 rfl rfl)
theorem dX3_layTree_137 : decode cX3_layTree 137 = .ok (.aload_n 0, 1) := dk_42 (dk_at dksX3_layTree_5 18 rfl rfl)
theorem dX3_layTree_138 : decode cX3_layTree 138 = .ok (.iload_n 2, 1) := dk_28 (dk_at dksX3_layTree_5 19 rfl rfl)
theorem dX3_layTree_139 : decode cX3_layTree 139 = .ok (.bipush 100, 2) := dk_16 100 (dk_at dksX3_layTree_5 20 rfl rfl)
theorem dX3_layTree_141 : decode cX3_layTree 141 = .ok (.isub, 1) := dk_100 (dk_at dksX3_layTree_5 22 rfl rfl)
theorem dX3_layTree_142 : decode cX3_layTree 142 = .ok (.iload_n 3, 1) := dk_29 (dk_at dksX3_layTree_5 23 rfl rfl)
theorem dX3_layTree_143 : decode cX3_layTree 143 = .ok (.iload 4, 2) := dk_21 4 (dk_at dksX3_layTree_6 0 rfl rfl)
theorem dX3_layTree_145 : decode cX3_layTree 145 = .ok (.iload 5, 2) := dk_21 5 (dk_at dksX3_layTree_6 2 rfl rfl)
theorem dX3_layTree_147 : decode cX3_layTree 147 = .ok (.invokevirtual 269, 3) := dk_182 1 13 (dk_at dksX3_layTree_6 4 rfl rfl)
theorem dX3_layTree_150 : decode cX3_layTree 150 = .ok (.goto 11, 3) := dk_167 0 11 (dk_at dksX3_layTree_6 7 rfl rfl)
theorem dX3_layTree_153 : decode cX3_layTree 153 = .ok (.aload_n 0, 1) := dk_42 (dk_at dksX3_layTree_6 10 rfl rfl)
theorem dX3_layTree_154 : decode cX3_layTree 154 = .ok (.iload_n 2, 1) := dk_28 (dk_at dksX3_layTree_6 11 rfl rfl)
theorem dX3_layTree_155 : decode cX3_layTree 155 = .ok (.iload_n 3, 1) := dk_29 (dk_at dksX3_layTree_6 12 rfl rfl)
theorem dX3_layTree_156 : decode cX3_layTree 156 = .ok (.iload 4, 2) := dk_21 4 (dk_at dksX3_layTree_6 13 rfl rfl)
theorem dX3_layTree_158 : decode cX3_layTree 158 = .ok (.invokevirtual 272, 3) := dk_182 1 16 (dk_at dksX3_layTree_6 15 rfl rfl)
theorem dX3_layTree_161 : decode cX3_layTree 161 = .ok (.goto (-126), 3) := dk_167 255 130 (dk_at dksX3_layTree_6 18 rfl rfl)
theorem dX3_layTree_164 : decode cX3_layTree 164 = .ok (.aload_n 0, 1) := dk_42 (dk_at dksX3_layTree_6 21 rfl rfl)
theorem dX3_layTree_165 : decode cX3_layTree 165 = .ok (.aload_n 0, 1) := dk_42 (dk_at dksX3_layTree_6 22 rfl rfl)
theorem dX3_layTree_166 : decode cX3_layTree 166 = .ok (.getfield 60, 3) := dk_180 0 60 (dk_at dksX3_layTree_7 0 rfl rfl)
theorem dX3_layTree_169 : decode cX3_layTree 169 = .ok (.iload_n 1, 1) := dk_27 (dk_at dksX3_layTree_7 3 rfl rfl)
theorem dX3_layTree_170 : decode cX3_layTree 170 = .ok (.iaload, 1) := dk_46 (dk_at dksX3_layTree_7 4 rfl rfl)
theorem dX3_layTree_171 : decode cX3_layTree 171 = .ok (.aload_n 0, 1) := dk_42 (dk_at dksX3_layTree_7 5 rfl rfl)
theorem dX3_layTree_172 : decode cX3_layTree 172 = .ok (.getfield 192, 3) := dk_180 0 192 (dk_at dksX3_layTree_7 6 rfl rfl)
theorem dX3_layTree_175 : decode cX3_layTree 175 = .ok (.invokevirtual 257, 3) := dk_182 1 1 (dk_at dksX3_layTree_7 9 rfl rfl)
theorem dX3_layTree_178 : decode cX3_layTree 178 = .ok (.return_, 1) := dk_177 (dk_at dksX3_layTree_7 12 rfl rfl)
abbrev cX3_push : ByteArray := prog_19_method_35_code
def yX3_push : MethodName := ⟨RX3, "push", "(IIII)V"⟩
def dkwX3_push_2 : List UInt8 := [181, 0, 247, 177]
abbrev dktX3_push_2 : List UInt8 := dkwX3_push_2 ++ []
def dkwX3_push_1 : List UInt8 := [42, 180, 0, 247, 29, 79, 42, 180, 0, 104, 42, 180, 0, 247, 21, 4, 79, 42, 89, 180, 0, 247, 4, 96]
abbrev dktX3_push_1 : List UInt8 := dkwX3_push_1 ++ dktX3_push_2
def dkwX3_push_0 : List UInt8 := [42, 180, 0, 95, 42, 180, 0, 247, 27, 79, 42, 180, 0, 98, 42, 180, 0, 247, 28, 79, 42, 180, 0, 101]
abbrev dktX3_push_0 : List UInt8 := dkwX3_push_0 ++ dktX3_push_1
theorem dksX3_push_0 : cX3_push.data.toList.drop 0 = dktX3_push_0 := by decide +kernel
theorem dksX3_push_1 : cX3_push.data.toList.drop 24 = dktX3_push_1 := dk_seg dksX3_push_0 24 rfl rfl
theorem dksX3_push_2 : cX3_push.data.toList.drop 48 = dktX3_push_2 := dk_seg dksX3_push_1 24 rfl rfl
theorem dX3_push_0 : decode cX3_push 0 = .ok (.aload_n 0, 1) := dk_42 (dk_at dksX3_push_0 0 rfl rfl)
theorem dX3_push_1 : decode cX3_push 1 = .ok (.getfield 95, 3) := dk_180 0 95 (dk_at dksX3_push_0 1 rfl rfl)
theorem dX3_push_4 : decode cX3_push 4 = .ok (.aload_n 0, 1) := dk_42 (dk_at dksX3_push_0 4 rfl rfl)
theorem dX3_push_5 : decode cX3_push 5 = .ok (.getfield 247, 3) := dk_180 0 247 (dk_at dksX3_push_0 5 rfl rfl)
theorem dX3_push_8 : decode cX3_push 8 = .ok (.iload_n 1, 1) := dk_27 (dk_at dksX3_push_0 8 rfl rfl)
theorem dX3_push_9 : decode cX3_push 9 = .ok (.iastore, 1) := dk_79 (dk_at dksX3_push_0 9 rfl rfl)
theorem dX3_push_10 : decode cX3_push 10 = .ok (.aload_n 0, 1) := dk_42 (dk_at dksX3_push_0 10 rfl rfl)
theorem dX3_push_11 : decode cX3_push 11 = .ok (.getfield 98, 3) := dk_180 0 98 (dk_at dksX3_push_0 11 rfl rfl)
theorem dX3_push_14 : decode cX3_push 14 = .ok (.aload_n 0, 1) := dk_42 (dk_at dksX3_push_0 14 rfl rfl)
theorem dX3_push_15 : decode cX3_push 15 = .ok (.getfield 247, 3) := dk_180 0 247 (dk_at dksX3_push_0 15 rfl rfl)
theorem dX3_push_18 : decode cX3_push 18 = .ok (.iload_n 2, 1) := dk_28 (dk_at dksX3_push_0 18 rfl rfl)
theorem dX3_push_19 : decode cX3_push 19 = .ok (.iastore, 1) := dk_79 (dk_at dksX3_push_0 19 rfl rfl)
theorem dX3_push_20 : decode cX3_push 20 = .ok (.aload_n 0, 1) := dk_42 (dk_at dksX3_push_0 20 rfl rfl)
theorem dX3_push_21 : decode cX3_push 21 = .ok (.getfield 101, 3) := dk_180 0 101 (dk_at dksX3_push_0 21 rfl rfl)
theorem dX3_push_24 : decode cX3_push 24 = .ok (.aload_n 0, 1) := dk_42 (dk_at dksX3_push_1 0 rfl rfl)
theorem dX3_push_25 : decode cX3_push 25 = .ok (.getfield 247, 3) := dk_180 0 247 (dk_at dksX3_push_1 1 rfl rfl)
theorem dX3_push_28 : decode cX3_push 28 = .ok (.iload_n 3, 1) := dk_29 (dk_at dksX3_push_1 4 rfl rfl)
theorem dX3_push_29 : decode cX3_push 29 = .ok (.iastore, 1) := dk_79 (dk_at dksX3_push_1 5 rfl rfl)
theorem dX3_push_30 : decode cX3_push 30 = .ok (.aload_n 0, 1) := dk_42 (dk_at dksX3_push_1 6 rfl rfl)
theorem dX3_push_31 : decode cX3_push 31 = .ok (.getfield 104, 3) := dk_180 0 104 (dk_at dksX3_push_1 7 rfl rfl)
theorem dX3_push_34 : decode cX3_push 34 = .ok (.aload_n 0, 1) := dk_42 (dk_at dksX3_push_1 10 rfl rfl)
theorem dX3_push_35 : decode cX3_push 35 = .ok (.getfield 247, 3) := dk_180 0 247 (dk_at dksX3_push_1 11 rfl rfl)
theorem dX3_push_38 : decode cX3_push 38 = .ok (.iload 4, 2) := dk_21 4 (dk_at dksX3_push_1 14 rfl rfl)
theorem dX3_push_40 : decode cX3_push 40 = .ok (.iastore, 1) := dk_79 (dk_at dksX3_push_1 16 rfl rfl)
theorem dX3_push_41 : decode cX3_push 41 = .ok (.aload_n 0, 1) := dk_42 (dk_at dksX3_push_1 17 rfl rfl)
theorem dX3_push_42 : decode cX3_push 42 = .ok (.dup, 1) := dk_89 (dk_at dksX3_push_1 18 rfl rfl)
theorem dX3_push_43 : decode cX3_push 43 = .ok (.getfield 247, 3) := dk_180 0 247 (dk_at dksX3_push_1 19 rfl rfl)
theorem dX3_push_46 : decode cX3_push 46 = .ok (.iconst 1, 1) := dk_4 (dk_at dksX3_push_1 22 rfl rfl)
theorem dX3_push_47 : decode cX3_push 47 = .ok (.iadd, 1) := dk_96 (dk_at dksX3_push_1 23 rfl rfl)
theorem dX3_push_48 : decode cX3_push 48 = .ok (.putfield 247, 3) := dk_181 0 247 (dk_at dksX3_push_2 0 rfl rfl)
theorem dX3_push_51 : decode cX3_push 51 = .ok (.return_, 1) := dk_177 (dk_at dksX3_push_2 3 rfl rfl)
abbrev cX3_layName : ByteArray := prog_19_method_39_code
def yX3_layName : MethodName := ⟨RX3, "layName", "(IIII)V"⟩
def dkwX3_layName_16 : List UInt8 := [21, 13, 21, 16, 21, 8, 182, 1, 10, 42, 21, 10, 28, 21, 13, 21, 8, 182, 1, 10, 177]
abbrev dktX3_layName_16 : List UInt8 := dkwX3_layName_16 ++ []
def dkwX3_layName_15 : List UInt8 := [153, 0, 9, 132, 16, 1, 167, 255, 225, 42, 21, 12, 21, 16, 29, 21, 8, 182, 1, 10, 42, 21, 11]
abbrev dktX3_layName_15 : List UInt8 := dkwX3_layName_15 ++ dktX3_layName_16
def dkwX3_layName_14 : List UInt8 := [21, 13, 21, 16, 182, 0, 228, 42, 21, 12, 21, 16, 29, 182, 0, 228, 184, 0, 232, 22, 14, 148]
abbrev dktX3_layName_14 : List UInt8 := dkwX3_layName_14 ++ dktX3_layName_15
def dkwX3_layName_13 : List UInt8 := [167, 255, 224, 42, 21, 11, 21, 12, 21, 13, 29, 182, 0, 236, 55, 14, 21, 13, 54, 16, 42, 21, 11]
abbrev dktX3_layName_13 : List UInt8 := dkwX3_layName_13 ++ dktX3_layName_14
def dkwX3_layName_12 : List UInt8 := [42, 21, 11, 21, 12, 21, 13, 29, 182, 0, 236, 184, 0, 232, 22, 5, 148, 153, 0, 9, 132, 13, 1]
abbrev dktX3_layName_12 : List UInt8 := dkwX3_layName_12 ++ dktX3_layName_13
def dkwX3_layName_11 : List UInt8 := [180, 0, 30, 6, 21, 7, 104, 5, 96, 46, 54, 12, 28, 54, 13, 42, 21, 10, 28, 21, 13, 182, 0, 228]
abbrev dktX3_layName_11 : List UInt8 := dkwX3_layName_11 ++ dktX3_layName_12
def dkwX3_layName_10 : List UInt8 := [182, 1, 10, 42, 21, 10, 28, 21, 12, 21, 8, 182, 1, 10, 167, 0, 145, 21, 9, 6, 160, 0, 139, 42]
abbrev dktX3_layName_10 : List UInt8 := dkwX3_layName_10 ++ dktX3_layName_11
def dkwX3_layName_9 : List UInt8 := [184, 0, 232, 22, 5, 148, 153, 0, 9, 132, 12, 1, 167, 255, 226, 42, 21, 11, 21, 12, 29, 21, 8]
abbrev dktX3_layName_9 : List UInt8 := dkwX3_layName_9 ++ dktX3_layName_10
def dkwX3_layName_8 : List UInt8 := [160, 0, 64, 28, 54, 12, 42, 21, 10, 28, 21, 12, 182, 0, 228, 42, 21, 11, 21, 12, 29, 182, 0, 228]
abbrev dktX3_layName_8 : List UInt8 := dkwX3_layName_8 ++ dktX3_layName_9
def dkwX3_layName_7 : List UInt8 := [21, 9, 4, 160, 0, 16, 42, 21, 10, 28, 29, 21, 8, 182, 1, 10, 167, 0, 212, 21, 9, 5]
abbrev dktX3_layName_7 : List UInt8 := dkwX3_layName_7 ++ dktX3_layName_8
def dkwX3_layName_6 : List UInt8 := [42, 180, 0, 30, 6, 21, 7, 104, 46, 54, 10, 42, 180, 0, 30, 6, 21, 7, 104, 4, 96, 46, 54, 11]
abbrev dktX3_layName_6 : List UInt8 := dkwX3_layName_6 ++ dktX3_layName_7
def dkwX3_layName_5 : List UInt8 := [96, 181, 1, 7, 42, 17, 0, 200, 3, 3, 21, 8, 182, 1, 10, 42, 180, 0, 27, 21, 7, 46, 54, 9]
abbrev dktX3_layName_5 : List UInt8 := dkwX3_layName_5 ++ dktX3_layName_6
def dkwX3_layName_4 : List UInt8 := [21, 4, 79, 42, 180, 0, 54, 8, 21, 8, 104, 6, 96, 42, 180, 1, 4, 79, 42, 89, 180, 1, 7, 4]
abbrev dktX3_layName_4 : List UInt8 := dkwX3_layName_4 ++ dktX3_layName_5
def dkwX3_layName_3 : List UInt8 := [79, 42, 180, 0, 54, 8, 21, 8, 104, 4, 96, 21, 7, 79, 42, 180, 0, 54, 8, 21, 8, 104, 5, 96]
abbrev dktX3_layName_3 : List UInt8 := dkwX3_layName_3 ++ dktX3_layName_4
def dkwX3_layName_2 : List UInt8 := [153, 0, 9, 132, 7, 1, 167, 255, 228, 42, 180, 1, 7, 54, 8, 42, 180, 0, 54, 8, 21, 8, 104, 27]
abbrev dktX3_layName_2 : List UInt8 := dkwX3_layName_2 ++ dktX3_layName_3
def dkwX3_layName_1 : List UInt8 := [42, 180, 0, 24, 21, 7, 46, 27, 160, 0, 17, 42, 21, 7, 28, 29, 182, 0, 240, 22, 5, 148]
abbrev dktX3_layName_1 : List UInt8 := dkwX3_layName_1 ++ dktX3_layName_2
def dkwX3_layName_0 : List UInt8 := [42, 180, 0, 87, 17, 10, 144, 27, 104, 16, 52, 28, 104, 96, 29, 96, 47, 10, 101, 55, 5, 3, 54, 7]
abbrev dktX3_layName_0 : List UInt8 := dkwX3_layName_0 ++ dktX3_layName_1
theorem dksX3_layName_0 : cX3_layName.data.toList.drop 0 = dktX3_layName_0 := by decide +kernel
theorem dksX3_layName_1 : cX3_layName.data.toList.drop 24 = dktX3_layName_1 := dk_seg dksX3_layName_0 24 rfl rfl
theorem dksX3_layName_2 : cX3_layName.data.toList.drop 46 = dktX3_layName_2 := dk_seg dksX3_layName_1 22 rfl rfl
theorem dksX3_layName_3 : cX3_layName.data.toList.drop 70 = dktX3_layName_3 := dk_seg dksX3_layName_2 24 rfl rfl
theorem dksX3_layName_4 : cX3_layName.data.toList.drop 94 = dktX3_layName_4 := dk_seg dksX3_layName_3 24 rfl rfl
theorem dksX3_layName_5 : cX3_layName.data.toList.drop 118 = dktX3_layName_5 := dk_seg dksX3_layName_4 24 rfl rfl
theorem dksX3_layName_6 : cX3_layName.data.toList.drop 142 = dktX3_layName_6 := dk_seg dksX3_layName_5 24 rfl rfl
theorem dksX3_layName_7 : cX3_layName.data.toList.drop 166 = dktX3_layName_7 := dk_seg dksX3_layName_6 24 rfl rfl
theorem dksX3_layName_8 : cX3_layName.data.toList.drop 188 = dktX3_layName_8 := dk_seg dksX3_layName_7 22 rfl rfl
theorem dksX3_layName_9 : cX3_layName.data.toList.drop 212 = dktX3_layName_9 := dk_seg dksX3_layName_8 24 rfl rfl
theorem dksX3_layName_10 : cX3_layName.data.toList.drop 235 = dktX3_layName_10 := dk_seg dksX3_layName_9 23 rfl rfl
theorem dksX3_layName_11 : cX3_layName.data.toList.drop 259 = dktX3_layName_11 := dk_seg dksX3_layName_10 24 rfl rfl
theorem dksX3_layName_12 : cX3_layName.data.toList.drop 283 = dktX3_layName_12 := dk_seg dksX3_layName_11 24 rfl rfl
theorem dksX3_layName_13 : cX3_layName.data.toList.drop 306 = dktX3_layName_13 := dk_seg dksX3_layName_12 23 rfl rfl
theorem dksX3_layName_14 : cX3_layName.data.toList.drop 329 = dktX3_layName_14 := dk_seg dksX3_layName_13 23 rfl rfl
theorem dksX3_layName_15 : cX3_layName.data.toList.drop 351 = dktX3_layName_15 := dk_seg dksX3_layName_14 22 rfl rfl
theorem dksX3_layName_16 : cX3_layName.data.toList.drop 374 = dktX3_layName_16 := dk_seg dksX3_layName_15 23 rfl rfl
theorem dX3_layName_0 : decode cX3_layName 0 = .ok (.aload_n 0, 1) := dk_42 (dk_at dksX3_layName_0 0 rfl rfl)
theorem dX3_layName_1 : decode cX3_layName 1 = .ok (.getfield 87, 3) := dk_180 0 87 (dk_at dksX3_layName_0 1 rfl rfl)
theorem dX3_layName_4 : decode cX3_layName 4 = .ok (.sipush 2704, 3) := dk_17 10 144 (dk_at dksX3_layName_0 4 rfl rfl)
theorem dX3_layName_7 : decode cX3_layName 7 = .ok (.iload_n 1, 1) := dk_27 (dk_at dksX3_layName_0 7 rfl rfl)
theorem dX3_layName_8 : decode cX3_layName 8 = .ok (.imul, 1) := dk_104 (dk_at dksX3_layName_0 8 rfl rfl)
theorem dX3_layName_9 : decode cX3_layName 9 = .ok (.bipush 52, 2) := dk_16 52 (dk_at dksX3_layName_0 9 rfl rfl)
theorem dX3_layName_11 : decode cX3_layName 11 = .ok (.iload_n 2, 1) := dk_28 (dk_at dksX3_layName_0 11 rfl rfl)
theorem dX3_layName_12 : decode cX3_layName 12 = .ok (.imul, 1) := dk_104 (dk_at dksX3_layName_0 12 rfl rfl)
theorem dX3_layName_13 : decode cX3_layName 13 = .ok (.iadd, 1) := dk_96 (dk_at dksX3_layName_0 13 rfl rfl)
theorem dX3_layName_14 : decode cX3_layName 14 = .ok (.iload_n 3, 1) := dk_29 (dk_at dksX3_layName_0 14 rfl rfl)
theorem dX3_layName_15 : decode cX3_layName 15 = .ok (.iadd, 1) := dk_96 (dk_at dksX3_layName_0 15 rfl rfl)
theorem dX3_layName_16 : decode cX3_layName 16 = .ok (.laload, 1) := dk_47 (dk_at dksX3_layName_0 16 rfl rfl)
theorem dX3_layName_17 : decode cX3_layName 17 = .ok (.lconst 1, 1) := dk_10 (dk_at dksX3_layName_0 17 rfl rfl)
theorem dX3_layName_18 : decode cX3_layName 18 = .ok (.lsub, 1) := dk_101 (dk_at dksX3_layName_0 18 rfl rfl)
theorem dX3_layName_19 : decode cX3_layName 19 = .ok (.lstore 5, 2) := dk_55 5 (dk_at dksX3_layName_0 19 rfl rfl)
theorem dX3_layName_21 : decode cX3_layName 21 = .ok (.iconst 0, 1) := dk_3 (dk_at dksX3_layName_0 21 rfl rfl)
theorem dX3_layName_22 : decode cX3_layName 22 = .ok (.istore 7, 2) := dk_54 7 (dk_at dksX3_layName_0 22 rfl rfl)
theorem dX3_layName_24 : decode cX3_layName 24 = .ok (.aload_n 0, 1) := dk_42 (dk_at dksX3_layName_1 0 rfl rfl)
theorem dX3_layName_25 : decode cX3_layName 25 = .ok (.getfield 24, 3) := dk_180 0 24 (dk_at dksX3_layName_1 1 rfl rfl)
theorem dX3_layName_28 : decode cX3_layName 28 = .ok (.iload 7, 2) := dk_21 7 (dk_at dksX3_layName_1 4 rfl rfl)
theorem dX3_layName_30 : decode cX3_layName 30 = .ok (.iaload, 1) := dk_46 (dk_at dksX3_layName_1 6 rfl rfl)
theorem dX3_layName_31 : decode cX3_layName 31 = .ok (.iload_n 1, 1) := dk_27 (dk_at dksX3_layName_1 7 rfl rfl)
theorem dX3_layName_32 : decode cX3_layName 32 = .ok (.if_icmp .ne 17, 3) := dk_160 0 17 (dk_at dksX3_layName_1 8 rfl rfl)
theorem dX3_layName_35 : decode cX3_layName 35 = .ok (.aload_n 0, 1) := dk_42 (dk_at dksX3_layName_1 11 rfl rfl)
theorem dX3_layName_36 : decode cX3_layName 36 = .ok (.iload 7, 2) := dk_21 7 (dk_at dksX3_layName_1 12 rfl rfl)
theorem dX3_layName_38 : decode cX3_layName 38 = .ok (.iload_n 2, 1) := dk_28 (dk_at dksX3_layName_1 14 rfl rfl)
theorem dX3_layName_39 : decode cX3_layName 39 = .ok (.iload_n 3, 1) := dk_29 (dk_at dksX3_layName_1 15 rfl rfl)
theorem dX3_layName_40 : decode cX3_layName 40 = .ok (.invokevirtual 240, 3) := dk_182 0 240 (dk_at dksX3_layName_1 16 rfl rfl)
theorem dX3_layName_43 : decode cX3_layName 43 = .ok (.lload 5, 2) := dk_22 5 (dk_at dksX3_layName_1 19 rfl rfl)
theorem dX3_layName_45 : decode cX3_layName 45 = .ok (.lcmp, 1) := dk_148 (dk_at dksX3_layName_1 21 rfl rfl)
theorem dX3_layName_46 : decode cX3_layName 46 = .ok (.ifCond .eq 9, 3) := dk_153 0 9 (dk_at dksX3_layName_2 0 rfl rfl)
theorem dX3_layName_49 : decode cX3_layName 49 = .ok (.iinc 7 1, 3) := dk_132 7 1 (dk_at dksX3_layName_2 3 rfl rfl)
theorem dX3_layName_52 : decode cX3_layName 52 = .ok (.goto (-28), 3) := dk_167 255 228 (dk_at dksX3_layName_2 6 rfl rfl)
theorem dX3_layName_55 : decode cX3_layName 55 = .ok (.aload_n 0, 1) := dk_42 (dk_at dksX3_layName_2 9 rfl rfl)
theorem dX3_layName_56 : decode cX3_layName 56 = .ok (.getfield 263, 3) := dk_180 1 7 (dk_at dksX3_layName_2 10 rfl rfl)
theorem dX3_layName_59 : decode cX3_layName 59 = .ok (.istore 8, 2) := dk_54 8 (dk_at dksX3_layName_2 13 rfl rfl)
theorem dX3_layName_61 : decode cX3_layName 61 = .ok (.aload_n 0, 1) := dk_42 (dk_at dksX3_layName_2 15 rfl rfl)
theorem dX3_layName_62 : decode cX3_layName 62 = .ok (.getfield 54, 3) := dk_180 0 54 (dk_at dksX3_layName_2 16 rfl rfl)
theorem dX3_layName_65 : decode cX3_layName 65 = .ok (.iconst 5, 1) := dk_8 (dk_at dksX3_layName_2 19 rfl rfl)
theorem dX3_layName_66 : decode cX3_layName 66 = .ok (.iload 8, 2) := dk_21 8 (dk_at dksX3_layName_2 20 rfl rfl)
theorem dX3_layName_68 : decode cX3_layName 68 = .ok (.imul, 1) := dk_104 (dk_at dksX3_layName_2 22 rfl rfl)
theorem dX3_layName_69 : decode cX3_layName 69 = .ok (.iload_n 1, 1) := dk_27 (dk_at dksX3_layName_2 23 rfl rfl)
theorem dX3_layName_70 : decode cX3_layName 70 = .ok (.iastore, 1) := dk_79 (dk_at dksX3_layName_3 0 rfl rfl)
theorem dX3_layName_71 : decode cX3_layName 71 = .ok (.aload_n 0, 1) := dk_42 (dk_at dksX3_layName_3 1 rfl rfl)
theorem dX3_layName_72 : decode cX3_layName 72 = .ok (.getfield 54, 3) := dk_180 0 54 (dk_at dksX3_layName_3 2 rfl rfl)
theorem dX3_layName_75 : decode cX3_layName 75 = .ok (.iconst 5, 1) := dk_8 (dk_at dksX3_layName_3 5 rfl rfl)
theorem dX3_layName_76 : decode cX3_layName 76 = .ok (.iload 8, 2) := dk_21 8 (dk_at dksX3_layName_3 6 rfl rfl)
theorem dX3_layName_78 : decode cX3_layName 78 = .ok (.imul, 1) := dk_104 (dk_at dksX3_layName_3 8 rfl rfl)
theorem dX3_layName_79 : decode cX3_layName 79 = .ok (.iconst 1, 1) := dk_4 (dk_at dksX3_layName_3 9 rfl rfl)
theorem dX3_layName_80 : decode cX3_layName 80 = .ok (.iadd, 1) := dk_96 (dk_at dksX3_layName_3 10 rfl rfl)
theorem dX3_layName_81 : decode cX3_layName 81 = .ok (.iload 7, 2) := dk_21 7 (dk_at dksX3_layName_3 11 rfl rfl)
theorem dX3_layName_83 : decode cX3_layName 83 = .ok (.iastore, 1) := dk_79 (dk_at dksX3_layName_3 13 rfl rfl)
theorem dX3_layName_84 : decode cX3_layName 84 = .ok (.aload_n 0, 1) := dk_42 (dk_at dksX3_layName_3 14 rfl rfl)
theorem dX3_layName_85 : decode cX3_layName 85 = .ok (.getfield 54, 3) := dk_180 0 54 (dk_at dksX3_layName_3 15 rfl rfl)
theorem dX3_layName_88 : decode cX3_layName 88 = .ok (.iconst 5, 1) := dk_8 (dk_at dksX3_layName_3 18 rfl rfl)
theorem dX3_layName_89 : decode cX3_layName 89 = .ok (.iload 8, 2) := dk_21 8 (dk_at dksX3_layName_3 19 rfl rfl)
theorem dX3_layName_91 : decode cX3_layName 91 = .ok (.imul, 1) := dk_104 (dk_at dksX3_layName_3 21 rfl rfl)
theorem dX3_layName_92 : decode cX3_layName 92 = .ok (.iconst 2, 1) := dk_5 (dk_at dksX3_layName_3 22 rfl rfl)
theorem dX3_layName_93 : decode cX3_layName 93 = .ok (.iadd, 1) := dk_96 (dk_at dksX3_layName_3 23 rfl rfl)
theorem dX3_layName_94 : decode cX3_layName 94 = .ok (.iload 4, 2) := dk_21 4 (dk_at dksX3_layName_4 0 rfl rfl)
theorem dX3_layName_96 : decode cX3_layName 96 = .ok (.iastore, 1) := dk_79 (dk_at dksX3_layName_4 2 rfl rfl)
theorem dX3_layName_97 : decode cX3_layName 97 = .ok (.aload_n 0, 1) := dk_42 (dk_at dksX3_layName_4 3 rfl rfl)
theorem dX3_layName_98 : decode cX3_layName 98 = .ok (.getfield 54, 3) := dk_180 0 54 (dk_at dksX3_layName_4 4 rfl rfl)
theorem dX3_layName_101 : decode cX3_layName 101 = .ok (.iconst 5, 1) := dk_8 (dk_at dksX3_layName_4 7 rfl rfl)
theorem dX3_layName_102 : decode cX3_layName 102 = .ok (.iload 8, 2) := dk_21 8 (dk_at dksX3_layName_4 8 rfl rfl)
theorem dX3_layName_104 : decode cX3_layName 104 = .ok (.imul, 1) := dk_104 (dk_at dksX3_layName_4 10 rfl rfl)
theorem dX3_layName_105 : decode cX3_layName 105 = .ok (.iconst 3, 1) := dk_6 (dk_at dksX3_layName_4 11 rfl rfl)
theorem dX3_layName_106 : decode cX3_layName 106 = .ok (.iadd, 1) := dk_96 (dk_at dksX3_layName_4 12 rfl rfl)
theorem dX3_layName_107 : decode cX3_layName 107 = .ok (.aload_n 0, 1) := dk_42 (dk_at dksX3_layName_4 13 rfl rfl)
theorem dX3_layName_108 : decode cX3_layName 108 = .ok (.getfield 260, 3) := dk_180 1 4 (dk_at dksX3_layName_4 14 rfl rfl)
theorem dX3_layName_111 : decode cX3_layName 111 = .ok (.iastore, 1) := dk_79 (dk_at dksX3_layName_4 17 rfl rfl)
theorem dX3_layName_112 : decode cX3_layName 112 = .ok (.aload_n 0, 1) := dk_42 (dk_at dksX3_layName_4 18 rfl rfl)
theorem dX3_layName_113 : decode cX3_layName 113 = .ok (.dup, 1) := dk_89 (dk_at dksX3_layName_4 19 rfl rfl)
theorem dX3_layName_114 : decode cX3_layName 114 = .ok (.getfield 263, 3) := dk_180 1 7 (dk_at dksX3_layName_4 20 rfl rfl)
theorem dX3_layName_117 : decode cX3_layName 117 = .ok (.iconst 1, 1) := dk_4 (dk_at dksX3_layName_4 23 rfl rfl)
theorem dX3_layName_118 : decode cX3_layName 118 = .ok (.iadd, 1) := dk_96 (dk_at dksX3_layName_5 0 rfl rfl)
theorem dX3_layName_119 : decode cX3_layName 119 = .ok (.putfield 263, 3) := dk_181 1 7 (dk_at dksX3_layName_5 1 rfl rfl)
theorem dX3_layName_122 : decode cX3_layName 122 = .ok (.aload_n 0, 1) := dk_42 (dk_at dksX3_layName_5 4 rfl rfl)
theorem dX3_layName_123 : decode cX3_layName 123 = .ok (.sipush 200, 3) := dk_17 0 200 (dk_at dksX3_layName_5 5 rfl rfl)
theorem dX3_layName_126 : decode cX3_layName 126 = .ok (.iconst 0, 1) := dk_3 (dk_at dksX3_layName_5 8 rfl rfl)
theorem dX3_layName_127 : decode cX3_layName 127 = .ok (.iconst 0, 1) := dk_3 (dk_at dksX3_layName_5 9 rfl rfl)
theorem dX3_layName_128 : decode cX3_layName 128 = .ok (.iload 8, 2) := dk_21 8 (dk_at dksX3_layName_5 10 rfl rfl)
theorem dX3_layName_130 : decode cX3_layName 130 = .ok (.invokevirtual 266, 3) := dk_182 1 10 (dk_at dksX3_layName_5 12 rfl rfl)
theorem dX3_layName_133 : decode cX3_layName 133 = .ok (.aload_n 0, 1) := dk_42 (dk_at dksX3_layName_5 15 rfl rfl)
theorem dX3_layName_134 : decode cX3_layName 134 = .ok (.getfield 27, 3) := dk_180 0 27 (dk_at dksX3_layName_5 16 rfl rfl)
theorem dX3_layName_137 : decode cX3_layName 137 = .ok (.iload 7, 2) := dk_21 7 (dk_at dksX3_layName_5 19 rfl rfl)
theorem dX3_layName_139 : decode cX3_layName 139 = .ok (.iaload, 1) := dk_46 (dk_at dksX3_layName_5 21 rfl rfl)
theorem dX3_layName_140 : decode cX3_layName 140 = .ok (.istore 9, 2) := dk_54 9 (dk_at dksX3_layName_5 22 rfl rfl)
theorem dX3_layName_142 : decode cX3_layName 142 = .ok (.aload_n 0, 1) := dk_42 (dk_at dksX3_layName_6 0 rfl rfl)
theorem dX3_layName_143 : decode cX3_layName 143 = .ok (.getfield 30, 3) := dk_180 0 30 (dk_at dksX3_layName_6 1 rfl rfl)
theorem dX3_layName_146 : decode cX3_layName 146 = .ok (.iconst 3, 1) := dk_6 (dk_at dksX3_layName_6 4 rfl rfl)
theorem dX3_layName_147 : decode cX3_layName 147 = .ok (.iload 7, 2) := dk_21 7 (dk_at dksX3_layName_6 5 rfl rfl)
theorem dX3_layName_149 : decode cX3_layName 149 = .ok (.imul, 1) := dk_104 (dk_at dksX3_layName_6 7 rfl rfl)
theorem dX3_layName_150 : decode cX3_layName 150 = .ok (.iaload, 1) := dk_46 (dk_at dksX3_layName_6 8 rfl rfl)
theorem dX3_layName_151 : decode cX3_layName 151 = .ok (.istore 10, 2) := dk_54 10 (dk_at dksX3_layName_6 9 rfl rfl)
theorem dX3_layName_153 : decode cX3_layName 153 = .ok (.aload_n 0, 1) := dk_42 (dk_at dksX3_layName_6 11 rfl rfl)
theorem dX3_layName_154 : decode cX3_layName 154 = .ok (.getfield 30, 3) := dk_180 0 30 (dk_at dksX3_layName_6 12 rfl rfl)
theorem dX3_layName_157 : decode cX3_layName 157 = .ok (.iconst 3, 1) := dk_6 (dk_at dksX3_layName_6 15 rfl rfl)
theorem dX3_layName_158 : decode cX3_layName 158 = .ok (.iload 7, 2) := dk_21 7 (dk_at dksX3_layName_6 16 rfl rfl)
theorem dX3_layName_160 : decode cX3_layName 160 = .ok (.imul, 1) := dk_104 (dk_at dksX3_layName_6 18 rfl rfl)
theorem dX3_layName_161 : decode cX3_layName 161 = .ok (.iconst 1, 1) := dk_4 (dk_at dksX3_layName_6 19 rfl rfl)
theorem dX3_layName_162 : decode cX3_layName 162 = .ok (.iadd, 1) := dk_96 (dk_at dksX3_layName_6 20 rfl rfl)
theorem dX3_layName_163 : decode cX3_layName 163 = .ok (.iaload, 1) := dk_46 (dk_at dksX3_layName_6 21 rfl rfl)
theorem dX3_layName_164 : decode cX3_layName 164 = .ok (.istore 11, 2) := dk_54 11 (dk_at dksX3_layName_6 22 rfl rfl)
theorem dX3_layName_166 : decode cX3_layName 166 = .ok (.iload 9, 2) := dk_21 9 (dk_at dksX3_layName_7 0 rfl rfl)
theorem dX3_layName_168 : decode cX3_layName 168 = .ok (.iconst 1, 1) := dk_4 (dk_at dksX3_layName_7 2 rfl rfl)
theorem dX3_layName_169 : decode cX3_layName 169 = .ok (.if_icmp .ne 16, 3) := dk_160 0 16 (dk_at dksX3_layName_7 3 rfl rfl)
theorem dX3_layName_172 : decode cX3_layName 172 = .ok (.aload_n 0, 1) := dk_42 (dk_at dksX3_layName_7 6 rfl rfl)
theorem dX3_layName_173 : decode cX3_layName 173 = .ok (.iload 10, 2) := dk_21 10 (dk_at dksX3_layName_7 7 rfl rfl)
theorem dX3_layName_175 : decode cX3_layName 175 = .ok (.iload_n 2, 1) := dk_28 (dk_at dksX3_layName_7 9 rfl rfl)
theorem dX3_layName_176 : decode cX3_layName 176 = .ok (.iload_n 3, 1) := dk_29 (dk_at dksX3_layName_7 10 rfl rfl)
theorem dX3_layName_177 : decode cX3_layName 177 = .ok (.iload 8, 2) := dk_21 8 (dk_at dksX3_layName_7 11 rfl rfl)
theorem dX3_layName_179 : decode cX3_layName 179 = .ok (.invokevirtual 266, 3) := dk_182 1 10 (dk_at dksX3_layName_7 13 rfl rfl)
theorem dX3_layName_182 : decode cX3_layName 182 = .ok (.goto 212, 3) := dk_167 0 212 (dk_at dksX3_layName_7 16 rfl rfl)
theorem dX3_layName_185 : decode cX3_layName 185 = .ok (.iload 9, 2) := dk_21 9 (dk_at dksX3_layName_7 19 rfl rfl)
theorem dX3_layName_187 : decode cX3_layName 187 = .ok (.iconst 2, 1) := dk_5 (dk_at dksX3_layName_7 21 rfl rfl)
theorem dX3_layName_188 : decode cX3_layName 188 = .ok (.if_icmp .ne 64, 3) := dk_160 0 64 (dk_at dksX3_layName_8 0 rfl rfl)
theorem dX3_layName_191 : decode cX3_layName 191 = .ok (.iload_n 2, 1) := dk_28 (dk_at dksX3_layName_8 3 rfl rfl)
theorem dX3_layName_192 : decode cX3_layName 192 = .ok (.istore 12, 2) := dk_54 12 (dk_at dksX3_layName_8 4 rfl rfl)
theorem dX3_layName_194 : decode cX3_layName 194 = .ok (.aload_n 0, 1) := dk_42 (dk_at dksX3_layName_8 6 rfl rfl)
theorem dX3_layName_195 : decode cX3_layName 195 = .ok (.iload 10, 2) := dk_21 10 (dk_at dksX3_layName_8 7 rfl rfl)
theorem dX3_layName_197 : decode cX3_layName 197 = .ok (.iload_n 2, 1) := dk_28 (dk_at dksX3_layName_8 9 rfl rfl)
theorem dX3_layName_198 : decode cX3_layName 198 = .ok (.iload 12, 2) := dk_21 12 (dk_at dksX3_layName_8 10 rfl rfl)
theorem dX3_layName_200 : decode cX3_layName 200 = .ok (.invokevirtual 228, 3) := dk_182 0 228 (dk_at dksX3_layName_8 12 rfl rfl)
theorem dX3_layName_203 : decode cX3_layName 203 = .ok (.aload_n 0, 1) := dk_42 (dk_at dksX3_layName_8 15 rfl rfl)
theorem dX3_layName_204 : decode cX3_layName 204 = .ok (.iload 11, 2) := dk_21 11 (dk_at dksX3_layName_8 16 rfl rfl)
theorem dX3_layName_206 : decode cX3_layName 206 = .ok (.iload 12, 2) := dk_21 12 (dk_at dksX3_layName_8 18 rfl rfl)
theorem dX3_layName_208 : decode cX3_layName 208 = .ok (.iload_n 3, 1) := dk_29 (dk_at dksX3_layName_8 20 rfl rfl)
theorem dX3_layName_209 : decode cX3_layName 209 = .ok (.invokevirtual 228, 3) := dk_182 0 228 (dk_at dksX3_layName_8 21 rfl rfl)
theorem dX3_layName_212 : decode cX3_layName 212 = .ok (.invokestatic 232, 3) := dk_184 0 232 (dk_at dksX3_layName_9 0 rfl rfl)
theorem dX3_layName_215 : decode cX3_layName 215 = .ok (.lload 5, 2) := dk_22 5 (dk_at dksX3_layName_9 3 rfl rfl)
theorem dX3_layName_217 : decode cX3_layName 217 = .ok (.lcmp, 1) := dk_148 (dk_at dksX3_layName_9 5 rfl rfl)
theorem dX3_layName_218 : decode cX3_layName 218 = .ok (.ifCond .eq 9, 3) := dk_153 0 9 (dk_at dksX3_layName_9 6 rfl rfl)
theorem dX3_layName_221 : decode cX3_layName 221 = .ok (.iinc 12 1, 3) := dk_132 12 1 (dk_at dksX3_layName_9 9 rfl rfl)
theorem dX3_layName_224 : decode cX3_layName 224 = .ok (.goto (-30), 3) := dk_167 255 226 (dk_at dksX3_layName_9 12 rfl rfl)
theorem dX3_layName_227 : decode cX3_layName 227 = .ok (.aload_n 0, 1) := dk_42 (dk_at dksX3_layName_9 15 rfl rfl)
theorem dX3_layName_228 : decode cX3_layName 228 = .ok (.iload 11, 2) := dk_21 11 (dk_at dksX3_layName_9 16 rfl rfl)
theorem dX3_layName_230 : decode cX3_layName 230 = .ok (.iload 12, 2) := dk_21 12 (dk_at dksX3_layName_9 18 rfl rfl)
theorem dX3_layName_232 : decode cX3_layName 232 = .ok (.iload_n 3, 1) := dk_29 (dk_at dksX3_layName_9 20 rfl rfl)
theorem dX3_layName_233 : decode cX3_layName 233 = .ok (.iload 8, 2) := dk_21 8 (dk_at dksX3_layName_9 21 rfl rfl)
theorem dX3_layName_235 : decode cX3_layName 235 = .ok (.invokevirtual 266, 3) := dk_182 1 10 (dk_at dksX3_layName_10 0 rfl rfl)
theorem dX3_layName_238 : decode cX3_layName 238 = .ok (.aload_n 0, 1) := dk_42 (dk_at dksX3_layName_10 3 rfl rfl)
theorem dX3_layName_239 : decode cX3_layName 239 = .ok (.iload 10, 2) := dk_21 10 (dk_at dksX3_layName_10 4 rfl rfl)
theorem dX3_layName_241 : decode cX3_layName 241 = .ok (.iload_n 2, 1) := dk_28 (dk_at dksX3_layName_10 6 rfl rfl)
theorem dX3_layName_242 : decode cX3_layName 242 = .ok (.iload 12, 2) := dk_21 12 (dk_at dksX3_layName_10 7 rfl rfl)
theorem dX3_layName_244 : decode cX3_layName 244 = .ok (.iload 8, 2) := dk_21 8 (dk_at dksX3_layName_10 9 rfl rfl)
theorem dX3_layName_246 : decode cX3_layName 246 = .ok (.invokevirtual 266, 3) := dk_182 1 10 (dk_at dksX3_layName_10 11 rfl rfl)
theorem dX3_layName_249 : decode cX3_layName 249 = .ok (.goto 145, 3) := dk_167 0 145 (dk_at dksX3_layName_10 14 rfl rfl)
theorem dX3_layName_252 : decode cX3_layName 252 = .ok (.iload 9, 2) := dk_21 9 (dk_at dksX3_layName_10 17 rfl rfl)
theorem dX3_layName_254 : decode cX3_layName 254 = .ok (.iconst 3, 1) := dk_6 (dk_at dksX3_layName_10 19 rfl rfl)
theorem dX3_layName_255 : decode cX3_layName 255 = .ok (.if_icmp .ne 139, 3) := dk_160 0 139 (dk_at dksX3_layName_10 20 rfl rfl)
theorem dX3_layName_258 : decode cX3_layName 258 = .ok (.aload_n 0, 1) := dk_42 (dk_at dksX3_layName_10 23 rfl rfl)
theorem dX3_layName_259 : decode cX3_layName 259 = .ok (.getfield 30, 3) := dk_180 0 30 (dk_at dksX3_layName_11 0 rfl rfl)
theorem dX3_layName_262 : decode cX3_layName 262 = .ok (.iconst 3, 1) := dk_6 (dk_at dksX3_layName_11 3 rfl rfl)
theorem dX3_layName_263 : decode cX3_layName 263 = .ok (.iload 7, 2) := dk_21 7 (dk_at dksX3_layName_11 4 rfl rfl)
theorem dX3_layName_265 : decode cX3_layName 265 = .ok (.imul, 1) := dk_104 (dk_at dksX3_layName_11 6 rfl rfl)
theorem dX3_layName_266 : decode cX3_layName 266 = .ok (.iconst 2, 1) := dk_5 (dk_at dksX3_layName_11 7 rfl rfl)
theorem dX3_layName_267 : decode cX3_layName 267 = .ok (.iadd, 1) := dk_96 (dk_at dksX3_layName_11 8 rfl rfl)
theorem dX3_layName_268 : decode cX3_layName 268 = .ok (.iaload, 1) := dk_46 (dk_at dksX3_layName_11 9 rfl rfl)
theorem dX3_layName_269 : decode cX3_layName 269 = .ok (.istore 12, 2) := dk_54 12 (dk_at dksX3_layName_11 10 rfl rfl)
theorem dX3_layName_271 : decode cX3_layName 271 = .ok (.iload_n 2, 1) := dk_28 (dk_at dksX3_layName_11 12 rfl rfl)
theorem dX3_layName_272 : decode cX3_layName 272 = .ok (.istore 13, 2) := dk_54 13 (dk_at dksX3_layName_11 13 rfl rfl)
theorem dX3_layName_274 : decode cX3_layName 274 = .ok (.aload_n 0, 1) := dk_42 (dk_at dksX3_layName_11 15 rfl rfl)
theorem dX3_layName_275 : decode cX3_layName 275 = .ok (.iload 10, 2) := dk_21 10 (dk_at dksX3_layName_11 16 rfl rfl)
theorem dX3_layName_277 : decode cX3_layName 277 = .ok (.iload_n 2, 1) := dk_28 (dk_at dksX3_layName_11 18 rfl rfl)
theorem dX3_layName_278 : decode cX3_layName 278 = .ok (.iload 13, 2) := dk_21 13 (dk_at dksX3_layName_11 19 rfl rfl)
theorem dX3_layName_280 : decode cX3_layName 280 = .ok (.invokevirtual 228, 3) := dk_182 0 228 (dk_at dksX3_layName_11 21 rfl rfl)
theorem dX3_layName_283 : decode cX3_layName 283 = .ok (.aload_n 0, 1) := dk_42 (dk_at dksX3_layName_12 0 rfl rfl)
theorem dX3_layName_284 : decode cX3_layName 284 = .ok (.iload 11, 2) := dk_21 11 (dk_at dksX3_layName_12 1 rfl rfl)
theorem dX3_layName_286 : decode cX3_layName 286 = .ok (.iload 12, 2) := dk_21 12 (dk_at dksX3_layName_12 3 rfl rfl)
theorem dX3_layName_288 : decode cX3_layName 288 = .ok (.iload 13, 2) := dk_21 13 (dk_at dksX3_layName_12 5 rfl rfl)
theorem dX3_layName_290 : decode cX3_layName 290 = .ok (.iload_n 3, 1) := dk_29 (dk_at dksX3_layName_12 7 rfl rfl)
theorem dX3_layName_291 : decode cX3_layName 291 = .ok (.invokevirtual 236, 3) := dk_182 0 236 (dk_at dksX3_layName_12 8 rfl rfl)
theorem dX3_layName_294 : decode cX3_layName 294 = .ok (.invokestatic 232, 3) := dk_184 0 232 (dk_at dksX3_layName_12 11 rfl rfl)
theorem dX3_layName_297 : decode cX3_layName 297 = .ok (.lload 5, 2) := dk_22 5 (dk_at dksX3_layName_12 14 rfl rfl)
theorem dX3_layName_299 : decode cX3_layName 299 = .ok (.lcmp, 1) := dk_148 (dk_at dksX3_layName_12 16 rfl rfl)
theorem dX3_layName_300 : decode cX3_layName 300 = .ok (.ifCond .eq 9, 3) := dk_153 0 9 (dk_at dksX3_layName_12 17 rfl rfl)
theorem dX3_layName_303 : decode cX3_layName 303 = .ok (.iinc 13 1, 3) := dk_132 13 1 (dk_at dksX3_layName_12 20 rfl rfl)
theorem dX3_layName_306 : decode cX3_layName 306 = .ok (.goto (-32), 3) := dk_167 255 224 (dk_at dksX3_layName_13 0 rfl rfl)
theorem dX3_layName_309 : decode cX3_layName 309 = .ok (.aload_n 0, 1) := dk_42 (dk_at dksX3_layName_13 3 rfl rfl)
theorem dX3_layName_310 : decode cX3_layName 310 = .ok (.iload 11, 2) := dk_21 11 (dk_at dksX3_layName_13 4 rfl rfl)
theorem dX3_layName_312 : decode cX3_layName 312 = .ok (.iload 12, 2) := dk_21 12 (dk_at dksX3_layName_13 6 rfl rfl)
theorem dX3_layName_314 : decode cX3_layName 314 = .ok (.iload 13, 2) := dk_21 13 (dk_at dksX3_layName_13 8 rfl rfl)
theorem dX3_layName_316 : decode cX3_layName 316 = .ok (.iload_n 3, 1) := dk_29 (dk_at dksX3_layName_13 10 rfl rfl)
theorem dX3_layName_317 : decode cX3_layName 317 = .ok (.invokevirtual 236, 3) := dk_182 0 236 (dk_at dksX3_layName_13 11 rfl rfl)
theorem dX3_layName_320 : decode cX3_layName 320 = .ok (.lstore 14, 2) := dk_55 14 (dk_at dksX3_layName_13 14 rfl rfl)
theorem dX3_layName_322 : decode cX3_layName 322 = .ok (.iload 13, 2) := dk_21 13 (dk_at dksX3_layName_13 16 rfl rfl)
theorem dX3_layName_324 : decode cX3_layName 324 = .ok (.istore 16, 2) := dk_54 16 (dk_at dksX3_layName_13 18 rfl rfl)
theorem dX3_layName_326 : decode cX3_layName 326 = .ok (.aload_n 0, 1) := dk_42 (dk_at dksX3_layName_13 20 rfl rfl)
theorem dX3_layName_327 : decode cX3_layName 327 = .ok (.iload 11, 2) := dk_21 11 (dk_at dksX3_layName_13 21 rfl rfl)
theorem dX3_layName_329 : decode cX3_layName 329 = .ok (.iload 13, 2) := dk_21 13 (dk_at dksX3_layName_14 0 rfl rfl)
theorem dX3_layName_331 : decode cX3_layName 331 = .ok (.iload 16, 2) := dk_21 16 (dk_at dksX3_layName_14 2 rfl rfl)
theorem dX3_layName_333 : decode cX3_layName 333 = .ok (.invokevirtual 228, 3) := dk_182 0 228 (dk_at dksX3_layName_14 4 rfl rfl)
theorem dX3_layName_336 : decode cX3_layName 336 = .ok (.aload_n 0, 1) := dk_42 (dk_at dksX3_layName_14 7 rfl rfl)
theorem dX3_layName_337 : decode cX3_layName 337 = .ok (.iload 12, 2) := dk_21 12 (dk_at dksX3_layName_14 8 rfl rfl)
theorem dX3_layName_339 : decode cX3_layName 339 = .ok (.iload 16, 2) := dk_21 16 (dk_at dksX3_layName_14 10 rfl rfl)
theorem dX3_layName_341 : decode cX3_layName 341 = .ok (.iload_n 3, 1) := dk_29 (dk_at dksX3_layName_14 12 rfl rfl)
theorem dX3_layName_342 : decode cX3_layName 342 = .ok (.invokevirtual 228, 3) := dk_182 0 228 (dk_at dksX3_layName_14 13 rfl rfl)
theorem dX3_layName_345 : decode cX3_layName 345 = .ok (.invokestatic 232, 3) := dk_184 0 232 (dk_at dksX3_layName_14 16 rfl rfl)
theorem dX3_layName_348 : decode cX3_layName 348 = .ok (.lload 14, 2) := dk_22 14 (dk_at dksX3_layName_14 19 rfl rfl)
theorem dX3_layName_350 : decode cX3_layName 350 = .ok (.lcmp, 1) := dk_148 (dk_at dksX3_layName_14 21 rfl rfl)
theorem dX3_layName_351 : decode cX3_layName 351 = .ok (.ifCond .eq 9, 3) := dk_153 0 9 (dk_at dksX3_layName_15 0 rfl rfl)
theorem dX3_layName_354 : decode cX3_layName 354 = .ok (.iinc 16 1, 3) := dk_132 16 1 (dk_at dksX3_layName_15 3 rfl rfl)
theorem dX3_layName_357 : decode cX3_layName 357 = .ok (.goto (-31), 3) := dk_167 255 225 (dk_at dksX3_layName_15 6 rfl rfl)
theorem dX3_layName_360 : decode cX3_layName 360 = .ok (.aload_n 0, 1) := dk_42 (dk_at dksX3_layName_15 9 rfl rfl)
theorem dX3_layName_361 : decode cX3_layName 361 = .ok (.iload 12, 2) := dk_21 12 (dk_at dksX3_layName_15 10 rfl rfl)
theorem dX3_layName_363 : decode cX3_layName 363 = .ok (.iload 16, 2) := dk_21 16 (dk_at dksX3_layName_15 12 rfl rfl)
theorem dX3_layName_365 : decode cX3_layName 365 = .ok (.iload_n 3, 1) := dk_29 (dk_at dksX3_layName_15 14 rfl rfl)
theorem dX3_layName_366 : decode cX3_layName 366 = .ok (.iload 8, 2) := dk_21 8 (dk_at dksX3_layName_15 15 rfl rfl)
theorem dX3_layName_368 : decode cX3_layName 368 = .ok (.invokevirtual 266, 3) := dk_182 1 10 (dk_at dksX3_layName_15 17 rfl rfl)
theorem dX3_layName_371 : decode cX3_layName 371 = .ok (.aload_n 0, 1) := dk_42 (dk_at dksX3_layName_15 20 rfl rfl)
theorem dX3_layName_372 : decode cX3_layName 372 = .ok (.iload 11, 2) := dk_21 11 (dk_at dksX3_layName_15 21 rfl rfl)
theorem dX3_layName_374 : decode cX3_layName 374 = .ok (.iload 13, 2) := dk_21 13 (dk_at dksX3_layName_16 0 rfl rfl)
theorem dX3_layName_376 : decode cX3_layName 376 = .ok (.iload 16, 2) := dk_21 16 (dk_at dksX3_layName_16 2 rfl rfl)
theorem dX3_layName_378 : decode cX3_layName 378 = .ok (.iload 8, 2) := dk_21 8 (dk_at dksX3_layName_16 4 rfl rfl)
theorem dX3_layName_380 : decode cX3_layName 380 = .ok (.invokevirtual 266, 3) := dk_182 1 10 (dk_at dksX3_layName_16 6 rfl rfl)
theorem dX3_layName_383 : decode cX3_layName 383 = .ok (.aload_n 0, 1) := dk_42 (dk_at dksX3_layName_16 9 rfl rfl)
theorem dX3_layName_384 : decode cX3_layName 384 = .ok (.iload 10, 2) := dk_21 10 (dk_at dksX3_layName_16 10 rfl rfl)
theorem dX3_layName_386 : decode cX3_layName 386 = .ok (.iload_n 2, 1) := dk_28 (dk_at dksX3_layName_16 12 rfl rfl)
theorem dX3_layName_387 : decode cX3_layName 387 = .ok (.iload 13, 2) := dk_21 13 (dk_at dksX3_layName_16 13 rfl rfl)
theorem dX3_layName_389 : decode cX3_layName 389 = .ok (.iload 8, 2) := dk_21 8 (dk_at dksX3_layName_16 15 rfl rfl)
theorem dX3_layName_391 : decode cX3_layName 391 = .ok (.invokevirtual 266, 3) := dk_182 1 10 (dk_at dksX3_layName_16 17 rfl rfl)
theorem dX3_layName_394 : decode cX3_layName 394 = .ok (.return_, 1) := dk_177 (dk_at dksX3_layName_16 20 rfl rfl)
abbrev cX3_layToken : ByteArray := prog_19_method_38_code
def yX3_layToken : MethodName := ⟨RX3, "layToken", "(III)V"⟩
def dkwX3_layToken_7 : List UInt8 := [180, 1, 4, 4, 96, 181, 1, 4, 177]
abbrev dktX3_layToken_7 : List UInt8 := dkwX3_layToken_7 ++ []
def dkwX3_layToken_6 : List UInt8 := [42, 180, 0, 84, 21, 4, 46, 21, 8, 182, 0, 253, 42, 180, 0, 51, 42, 180, 1, 4, 27, 79, 42, 89]
abbrev dktX3_layToken_6 : List UInt8 := dkwX3_layToken_6 ++ dktX3_layToken_7
def dkwX3_layToken_5 : List UInt8 := [21, 6, 21, 7, 21, 6, 6, 162, 0, 7, 27, 167, 0, 20, 21, 6, 6, 160, 0, 7, 3, 167, 0, 10]
abbrev dktX3_layToken_5 : List UInt8 := dkwX3_layToken_5 ++ dktX3_layToken_6
def dkwX3_layToken_4 : List UInt8 := [180, 0, 60, 28, 46, 104, 21, 7, 96, 46, 167, 0, 4, 3, 100, 54, 8, 21, 6, 158, 0, 40, 42]
abbrev dktX3_layToken_4 : List UInt8 := dkwX3_layToken_4 ++ dktX3_layToken_5
def dkwX3_layToken_3 : List UInt8 := [180, 0, 75, 21, 4, 46, 42, 180, 0, 57, 28, 46, 154, 0, 23, 42, 180, 0, 69, 16, 12, 42]
abbrev dktX3_layToken_3 : List UInt8 := dkwX3_layToken_3 ++ dktX3_layToken_4
def dkwX3_layToken_2 : List UInt8 := [182, 1, 1, 42, 180, 0, 81, 21, 4, 46, 54, 6, 42, 180, 0, 60, 21, 5, 46, 54, 7, 42]
abbrev dktX3_layToken_2 : List UInt8 := dkwX3_layToken_2 ++ dktX3_layToken_3
def dkwX3_layToken_1 : List UInt8 := [180, 0, 57, 28, 46, 154, 0, 20, 42, 42, 180, 0, 60, 28, 46, 42, 180, 0, 60, 21, 5, 46]
abbrev dktX3_layToken_1 : List UInt8 := dkwX3_layToken_1 ++ dktX3_layToken_2
def dkwX3_layToken_0 : List UInt8 := [17, 10, 144, 27, 104, 16, 52, 28, 104, 96, 29, 96, 54, 4, 42, 180, 0, 78, 21, 4, 46, 54, 5, 42]
abbrev dktX3_layToken_0 : List UInt8 := dkwX3_layToken_0 ++ dktX3_layToken_1
theorem dksX3_layToken_0 : cX3_layToken.data.toList.drop 0 = dktX3_layToken_0 := by decide +kernel
theorem dksX3_layToken_1 : cX3_layToken.data.toList.drop 24 = dktX3_layToken_1 := dk_seg dksX3_layToken_0 24 rfl rfl
theorem dksX3_layToken_2 : cX3_layToken.data.toList.drop 46 = dktX3_layToken_2 := dk_seg dksX3_layToken_1 22 rfl rfl
theorem dksX3_layToken_3 : cX3_layToken.data.toList.drop 68 = dktX3_layToken_3 := dk_seg dksX3_layToken_2 22 rfl rfl
theorem dksX3_layToken_4 : cX3_layToken.data.toList.drop 90 = dktX3_layToken_4 := dk_seg dksX3_layToken_3 22 rfl rfl
theorem dksX3_layToken_5 : cX3_layToken.data.toList.drop 113 = dktX3_layToken_5 := dk_seg dksX3_layToken_4 23 rfl rfl
theorem dksX3_layToken_6 : cX3_layToken.data.toList.drop 137 = dktX3_layToken_6 := dk_seg dksX3_layToken_5 24 rfl rfl
theorem dksX3_layToken_7 : cX3_layToken.data.toList.drop 161 = dktX3_layToken_7 := dk_seg dksX3_layToken_6 24 rfl rfl
theorem dX3_layToken_0 : decode cX3_layToken 0 = .ok (.sipush 2704, 3) := dk_17 10 144 (dk_at dksX3_layToken_0 0 rfl rfl)
theorem dX3_layToken_3 : decode cX3_layToken 3 = .ok (.iload_n 1, 1) := dk_27 (dk_at dksX3_layToken_0 3 rfl rfl)
theorem dX3_layToken_4 : decode cX3_layToken 4 = .ok (.imul, 1) := dk_104 (dk_at dksX3_layToken_0 4 rfl rfl)
theorem dX3_layToken_5 : decode cX3_layToken 5 = .ok (.bipush 52, 2) := dk_16 52 (dk_at dksX3_layToken_0 5 rfl rfl)
theorem dX3_layToken_7 : decode cX3_layToken 7 = .ok (.iload_n 2, 1) := dk_28 (dk_at dksX3_layToken_0 7 rfl rfl)
theorem dX3_layToken_8 : decode cX3_layToken 8 = .ok (.imul, 1) := dk_104 (dk_at dksX3_layToken_0 8 rfl rfl)
theorem dX3_layToken_9 : decode cX3_layToken 9 = .ok (.iadd, 1) := dk_96 (dk_at dksX3_layToken_0 9 rfl rfl)
theorem dX3_layToken_10 : decode cX3_layToken 10 = .ok (.iload_n 3, 1) := dk_29 (dk_at dksX3_layToken_0 10 rfl rfl)
theorem dX3_layToken_11 : decode cX3_layToken 11 = .ok (.iadd, 1) := dk_96 (dk_at dksX3_layToken_0 11 rfl rfl)
theorem dX3_layToken_12 : decode cX3_layToken 12 = .ok (.istore 4, 2) := dk_54 4 (dk_at dksX3_layToken_0 12 rfl rfl)
theorem dX3_layToken_14 : decode cX3_layToken 14 = .ok (.aload_n 0, 1) := dk_42 (dk_at dksX3_layToken_0 14 rfl rfl)
theorem dX3_layToken_15 : decode cX3_layToken 15 = .ok (.getfield 78, 3) := dk_180 0 78 (dk_at dksX3_layToken_0 15 rfl rfl)
theorem dX3_layToken_18 : decode cX3_layToken 18 = .ok (.iload 4, 2) := dk_21 4 (dk_at dksX3_layToken_0 18 rfl rfl)
theorem dX3_layToken_20 : decode cX3_layToken 20 = .ok (.iaload, 1) := dk_46 (dk_at dksX3_layToken_0 20 rfl rfl)
theorem dX3_layToken_21 : decode cX3_layToken 21 = .ok (.istore 5, 2) := dk_54 5 (dk_at dksX3_layToken_0 21 rfl rfl)
theorem dX3_layToken_23 : decode cX3_layToken 23 = .ok (.aload_n 0, 1) := dk_42 (dk_at dksX3_layToken_0 23 rfl rfl)
theorem dX3_layToken_24 : decode cX3_layToken 24 = .ok (.getfield 57, 3) := dk_180 0 57 (dk_at dksX3_layToken_1 0 rfl rfl)
theorem dX3_layToken_27 : decode cX3_layToken 27 = .ok (.iload_n 2, 1) := dk_28 (dk_at dksX3_layToken_1 3 rfl rfl)
theorem dX3_layToken_28 : decode cX3_layToken 28 = .ok (.iaload, 1) := dk_46 (dk_at dksX3_layToken_1 4 rfl rfl)
theorem dX3_layToken_29 : decode cX3_layToken 29 = .ok (.ifCond .ne 20, 3) := dk_154 0 20 (dk_at dksX3_layToken_1 5 rfl rfl)
theorem dX3_layToken_32 : decode cX3_layToken 32 = .ok (.aload_n 0, 1) := dk_42 (dk_at dksX3_layToken_1 8 rfl rfl)
theorem dX3_layToken_33 : decode cX3_layToken 33 = .ok (.aload_n 0, 1) := dk_42 (dk_at dksX3_layToken_1 9 rfl rfl)
theorem dX3_layToken_34 : decode cX3_layToken 34 = .ok (.getfield 60, 3) := dk_180 0 60 (dk_at dksX3_layToken_1 10 rfl rfl)
theorem dX3_layToken_37 : decode cX3_layToken 37 = .ok (.iload_n 2, 1) := dk_28 (dk_at dksX3_layToken_1 13 rfl rfl)
theorem dX3_layToken_38 : decode cX3_layToken 38 = .ok (.iaload, 1) := dk_46 (dk_at dksX3_layToken_1 14 rfl rfl)
theorem dX3_layToken_39 : decode cX3_layToken 39 = .ok (.aload_n 0, 1) := dk_42 (dk_at dksX3_layToken_1 15 rfl rfl)
theorem dX3_layToken_40 : decode cX3_layToken 40 = .ok (.getfield 60, 3) := dk_180 0 60 (dk_at dksX3_layToken_1 16 rfl rfl)
theorem dX3_layToken_43 : decode cX3_layToken 43 = .ok (.iload 5, 2) := dk_21 5 (dk_at dksX3_layToken_1 19 rfl rfl)
theorem dX3_layToken_45 : decode cX3_layToken 45 = .ok (.iaload, 1) := dk_46 (dk_at dksX3_layToken_1 21 rfl rfl)
theorem dX3_layToken_46 : decode cX3_layToken 46 = .ok (.invokevirtual 257, 3) := dk_182 1 1 (dk_at dksX3_layToken_2 0 rfl rfl)
theorem dX3_layToken_49 : decode cX3_layToken 49 = .ok (.aload_n 0, 1) := dk_42 (dk_at dksX3_layToken_2 3 rfl rfl)
theorem dX3_layToken_50 : decode cX3_layToken 50 = .ok (.getfield 81, 3) := dk_180 0 81 (dk_at dksX3_layToken_2 4 rfl rfl)
theorem dX3_layToken_53 : decode cX3_layToken 53 = .ok (.iload 4, 2) := dk_21 4 (dk_at dksX3_layToken_2 7 rfl rfl)
theorem dX3_layToken_55 : decode cX3_layToken 55 = .ok (.iaload, 1) := dk_46 (dk_at dksX3_layToken_2 9 rfl rfl)
theorem dX3_layToken_56 : decode cX3_layToken 56 = .ok (.istore 6, 2) := dk_54 6 (dk_at dksX3_layToken_2 10 rfl rfl)
theorem dX3_layToken_58 : decode cX3_layToken 58 = .ok (.aload_n 0, 1) := dk_42 (dk_at dksX3_layToken_2 12 rfl rfl)
theorem dX3_layToken_59 : decode cX3_layToken 59 = .ok (.getfield 60, 3) := dk_180 0 60 (dk_at dksX3_layToken_2 13 rfl rfl)
theorem dX3_layToken_62 : decode cX3_layToken 62 = .ok (.iload 5, 2) := dk_21 5 (dk_at dksX3_layToken_2 16 rfl rfl)
theorem dX3_layToken_64 : decode cX3_layToken 64 = .ok (.iaload, 1) := dk_46 (dk_at dksX3_layToken_2 18 rfl rfl)
theorem dX3_layToken_65 : decode cX3_layToken 65 = .ok (.istore 7, 2) := dk_54 7 (dk_at dksX3_layToken_2 19 rfl rfl)
theorem dX3_layToken_67 : decode cX3_layToken 67 = .ok (.aload_n 0, 1) := dk_42 (dk_at dksX3_layToken_2 21 rfl rfl)
theorem dX3_layToken_68 : decode cX3_layToken 68 = .ok (.getfield 75, 3) := dk_180 0 75 (dk_at dksX3_layToken_3 0 rfl rfl)
theorem dX3_layToken_71 : decode cX3_layToken 71 = .ok (.iload 4, 2) := dk_21 4 (dk_at dksX3_layToken_3 3 rfl rfl)
theorem dX3_layToken_73 : decode cX3_layToken 73 = .ok (.iaload, 1) := dk_46 (dk_at dksX3_layToken_3 5 rfl rfl)
theorem dX3_layToken_74 : decode cX3_layToken 74 = .ok (.aload_n 0, 1) := dk_42 (dk_at dksX3_layToken_3 6 rfl rfl)
theorem dX3_layToken_75 : decode cX3_layToken 75 = .ok (.getfield 57, 3) := dk_180 0 57 (dk_at dksX3_layToken_3 7 rfl rfl)
theorem dX3_layToken_78 : decode cX3_layToken 78 = .ok (.iload_n 2, 1) := dk_28 (dk_at dksX3_layToken_3 10 rfl rfl)
theorem dX3_layToken_79 : decode cX3_layToken 79 = .ok (.iaload, 1) := dk_46 (dk_at dksX3_layToken_3 11 rfl rfl)
theorem dX3_layToken_80 : decode cX3_layToken 80 = .ok (.ifCond .ne 23, 3) := dk_154 0 23 (dk_at dksX3_layToken_3 12 rfl rfl)
theorem dX3_layToken_83 : decode cX3_layToken 83 = .ok (.aload_n 0, 1) := dk_42 (dk_at dksX3_layToken_3 15 rfl rfl)
theorem dX3_layToken_84 : decode cX3_layToken 84 = .ok (.getfield 69, 3) := dk_180 0 69 (dk_at dksX3_layToken_3 16 rfl rfl)
theorem dX3_layToken_87 : decode cX3_layToken 87 = .ok (.bipush 12, 2) := dk_16 12 (dk_at dksX3_layToken_3 19 rfl rfl)
theorem dX3_layToken_89 : decode cX3_layToken 89 = .ok (.aload_n 0, 1) := dk_42 (dk_at dksX3_layToken_3 21 rfl rfl)
theorem dX3_layToken_90 : decode cX3_layToken 90 = .ok (.getfield 60, 3) := dk_180 0 60 (dk_at dksX3_layToken_4 0 rfl rfl)
theorem dX3_layToken_93 : decode cX3_layToken 93 = .ok (.iload_n 2, 1) := dk_28 (dk_at dksX3_layToken_4 3 rfl rfl)
theorem dX3_layToken_94 : decode cX3_layToken 94 = .ok (.iaload, 1) := dk_46 (dk_at dksX3_layToken_4 4 rfl rfl)
theorem dX3_layToken_95 : decode cX3_layToken 95 = .ok (.imul, 1) := dk_104 (dk_at dksX3_layToken_4 5 rfl rfl)
theorem dX3_layToken_96 : decode cX3_layToken 96 = .ok (.iload 7, 2) := dk_21 7 (dk_at dksX3_layToken_4 6 rfl rfl)
theorem dX3_layToken_98 : decode cX3_layToken 98 = .ok (.iadd, 1) := dk_96 (dk_at dksX3_layToken_4 8 rfl rfl)
theorem dX3_layToken_99 : decode cX3_layToken 99 = .ok (.iaload, 1) := dk_46 (dk_at dksX3_layToken_4 9 rfl rfl)
theorem dX3_layToken_100 : decode cX3_layToken 100 = .ok (.goto 4, 3) := dk_167 0 4 (dk_at dksX3_layToken_4 10 rfl rfl)
theorem dX3_layToken_103 : decode cX3_layToken 103 = .ok (.iconst 0, 1) := dk_3 (dk_at dksX3_layToken_4 13 rfl rfl)
theorem dX3_layToken_104 : decode cX3_layToken 104 = .ok (.isub, 1) := dk_100 (dk_at dksX3_layToken_4 14 rfl rfl)
theorem dX3_layToken_105 : decode cX3_layToken 105 = .ok (.istore 8, 2) := dk_54 8 (dk_at dksX3_layToken_4 15 rfl rfl)
theorem dX3_layToken_107 : decode cX3_layToken 107 = .ok (.iload 6, 2) := dk_21 6 (dk_at dksX3_layToken_4 17 rfl rfl)
theorem dX3_layToken_109 : decode cX3_layToken 109 = .ok (.ifCond .le 40, 3) := dk_158 0 40 (dk_at dksX3_layToken_4 19 rfl rfl)
theorem dX3_layToken_112 : decode cX3_layToken 112 = .ok (.aload_n 0, 1) := dk_42 (dk_at dksX3_layToken_4 22 rfl rfl)
theorem dX3_layToken_113 : decode cX3_layToken 113 = .ok (.iload 6, 2) := dk_21 6 (dk_at dksX3_layToken_5 0 rfl rfl)
theorem dX3_layToken_115 : decode cX3_layToken 115 = .ok (.iload 7, 2) := dk_21 7 (dk_at dksX3_layToken_5 2 rfl rfl)
theorem dX3_layToken_117 : decode cX3_layToken 117 = .ok (.iload 6, 2) := dk_21 6 (dk_at dksX3_layToken_5 4 rfl rfl)
theorem dX3_layToken_119 : decode cX3_layToken 119 = .ok (.iconst 3, 1) := dk_6 (dk_at dksX3_layToken_5 6 rfl rfl)
theorem dX3_layToken_120 : decode cX3_layToken 120 = .ok (.if_icmp .ge 7, 3) := dk_162 0 7 (dk_at dksX3_layToken_5 7 rfl rfl)
theorem dX3_layToken_123 : decode cX3_layToken 123 = .ok (.iload_n 1, 1) := dk_27 (dk_at dksX3_layToken_5 10 rfl rfl)
theorem dX3_layToken_124 : decode cX3_layToken 124 = .ok (.goto 20, 3) := dk_167 0 20 (dk_at dksX3_layToken_5 11 rfl rfl)
theorem dX3_layToken_127 : decode cX3_layToken 127 = .ok (.iload 6, 2) := dk_21 6 (dk_at dksX3_layToken_5 14 rfl rfl)
theorem dX3_layToken_129 : decode cX3_layToken 129 = .ok (.iconst 3, 1) := dk_6 (dk_at dksX3_layToken_5 16 rfl rfl)
theorem dX3_layToken_130 : decode cX3_layToken 130 = .ok (.if_icmp .ne 7, 3) := dk_160 0 7 (dk_at dksX3_layToken_5 17 rfl rfl)
theorem dX3_layToken_133 : decode cX3_layToken 133 = .ok (.iconst 0, 1) := dk_3 (dk_at dksX3_layToken_5 20 rfl rfl)
theorem dX3_layToken_134 : decode cX3_layToken 134 = .ok (.goto 10, 3) := dk_167 0 10 (dk_at dksX3_layToken_5 21 rfl rfl)
theorem dX3_layToken_137 : decode cX3_layToken 137 = .ok (.aload_n 0, 1) := dk_42 (dk_at dksX3_layToken_6 0 rfl rfl)
theorem dX3_layToken_138 : decode cX3_layToken 138 = .ok (.getfield 84, 3) := dk_180 0 84 (dk_at dksX3_layToken_6 1 rfl rfl)
theorem dX3_layToken_141 : decode cX3_layToken 141 = .ok (.iload 4, 2) := dk_21 4 (dk_at dksX3_layToken_6 4 rfl rfl)
theorem dX3_layToken_143 : decode cX3_layToken 143 = .ok (.iaload, 1) := dk_46 (dk_at dksX3_layToken_6 6 rfl rfl)
theorem dX3_layToken_144 : decode cX3_layToken 144 = .ok (.iload 8, 2) := dk_21 8 (dk_at dksX3_layToken_6 7 rfl rfl)
theorem dX3_layToken_146 : decode cX3_layToken 146 = .ok (.invokevirtual 253, 3) := dk_182 0 253 (dk_at dksX3_layToken_6 9 rfl rfl)
theorem dX3_layToken_149 : decode cX3_layToken 149 = .ok (.aload_n 0, 1) := dk_42 (dk_at dksX3_layToken_6 12 rfl rfl)
theorem dX3_layToken_150 : decode cX3_layToken 150 = .ok (.getfield 51, 3) := dk_180 0 51 (dk_at dksX3_layToken_6 13 rfl rfl)
theorem dX3_layToken_153 : decode cX3_layToken 153 = .ok (.aload_n 0, 1) := dk_42 (dk_at dksX3_layToken_6 16 rfl rfl)
theorem dX3_layToken_154 : decode cX3_layToken 154 = .ok (.getfield 260, 3) := dk_180 1 4 (dk_at dksX3_layToken_6 17 rfl rfl)
theorem dX3_layToken_157 : decode cX3_layToken 157 = .ok (.iload_n 1, 1) := dk_27 (dk_at dksX3_layToken_6 20 rfl rfl)
theorem dX3_layToken_158 : decode cX3_layToken 158 = .ok (.iastore, 1) := dk_79 (dk_at dksX3_layToken_6 21 rfl rfl)
theorem dX3_layToken_159 : decode cX3_layToken 159 = .ok (.aload_n 0, 1) := dk_42 (dk_at dksX3_layToken_6 22 rfl rfl)
theorem dX3_layToken_160 : decode cX3_layToken 160 = .ok (.dup, 1) := dk_89 (dk_at dksX3_layToken_6 23 rfl rfl)
theorem dX3_layToken_161 : decode cX3_layToken 161 = .ok (.getfield 260, 3) := dk_180 1 4 (dk_at dksX3_layToken_7 0 rfl rfl)
theorem dX3_layToken_164 : decode cX3_layToken 164 = .ok (.iconst 1, 1) := dk_4 (dk_at dksX3_layToken_7 3 rfl rfl)
theorem dX3_layToken_165 : decode cX3_layToken 165 = .ok (.iadd, 1) := dk_96 (dk_at dksX3_layToken_7 4 rfl rfl)
theorem dX3_layToken_166 : decode cX3_layToken 166 = .ok (.putfield 260, 3) := dk_181 1 4 (dk_at dksX3_layToken_7 5 rfl rfl)
theorem dX3_layToken_169 : decode cX3_layToken 169 = .ok (.return_, 1) := dk_177 (dk_at dksX3_layToken_7 8 rfl rfl)
abbrev cX3_laySkipping : ByteArray := prog_19_method_37_code
def yX3_laySkipping : MethodName := ⟨RX3, "laySkipping", "(II)V"⟩
def dkwX3_laySkipping_3 : List UInt8 := [180, 0, 21, 21, 4, 96, 182, 0, 253, 29, 21, 4, 96, 62, 167, 255, 173, 177]
abbrev dktX3_laySkipping_3 : List UInt8 := dkwX3_laySkipping_3 ++ []
def dkwX3_laySkipping_2 : List UInt8 := [21, 4, 4, 160, 0, 20, 42, 180, 0, 13, 16, 12, 42, 180, 0, 39, 29, 46, 96, 46, 167, 0, 10, 42]
abbrev dktX3_laySkipping_2 : List UInt8 := dkwX3_laySkipping_2 ++ dktX3_laySkipping_3
def dkwX3_laySkipping_1 : List UInt8 := [160, 0, 8, 16, 6, 167, 0, 5, 16, 7, 29, 21, 4, 4, 160, 0, 7, 3, 167, 0, 5, 21, 4]
abbrev dktX3_laySkipping_1 : List UInt8 := dkwX3_laySkipping_1 ++ dktX3_laySkipping_2
def dkwX3_laySkipping_0 : List UInt8 := [27, 62, 29, 28, 162, 0, 84, 42, 180, 0, 72, 16, 12, 29, 104, 28, 96, 46, 54, 4, 42, 21, 4, 4]
abbrev dktX3_laySkipping_0 : List UInt8 := dkwX3_laySkipping_0 ++ dktX3_laySkipping_1
theorem dksX3_laySkipping_0 : cX3_laySkipping.data.toList.drop 0 = dktX3_laySkipping_0 := by decide +kernel
theorem dksX3_laySkipping_1 : cX3_laySkipping.data.toList.drop 24 = dktX3_laySkipping_1 := dk_seg dksX3_laySkipping_0 24 rfl rfl
theorem dksX3_laySkipping_2 : cX3_laySkipping.data.toList.drop 47 = dktX3_laySkipping_2 := dk_seg dksX3_laySkipping_1 23 rfl rfl
theorem dksX3_laySkipping_3 : cX3_laySkipping.data.toList.drop 71 = dktX3_laySkipping_3 := dk_seg dksX3_laySkipping_2 24 rfl rfl
theorem dX3_laySkipping_0 : decode cX3_laySkipping 0 = .ok (.iload_n 1, 1) := dk_27 (dk_at dksX3_laySkipping_0 0 rfl rfl)
theorem dX3_laySkipping_1 : decode cX3_laySkipping 1 = .ok (.istore_n 3, 1) := dk_62 (dk_at dksX3_laySkipping_0 1 rfl rfl)
theorem dX3_laySkipping_2 : decode cX3_laySkipping 2 = .ok (.iload_n 3, 1) := dk_29 (dk_at dksX3_laySkipping_0 2 rfl rfl)
theorem dX3_laySkipping_3 : decode cX3_laySkipping 3 = .ok (.iload_n 2, 1) := dk_28 (dk_at dksX3_laySkipping_0 3 rfl rfl)
theorem dX3_laySkipping_4 : decode cX3_laySkipping 4 = .ok (.if_icmp .ge 84, 3) := dk_162 0 84 (dk_at dksX3_laySkipping_0 4 rfl rfl)
theorem dX3_laySkipping_7 : decode cX3_laySkipping 7 = .ok (.aload_n 0, 1) := dk_42 (dk_at dksX3_laySkipping_0 7 rfl rfl)
theorem dX3_laySkipping_8 : decode cX3_laySkipping 8 = .ok (.getfield 72, 3) := dk_180 0 72 (dk_at dksX3_laySkipping_0 8 rfl rfl)
theorem dX3_laySkipping_11 : decode cX3_laySkipping 11 = .ok (.bipush 12, 2) := dk_16 12 (dk_at dksX3_laySkipping_0 11 rfl rfl)
theorem dX3_laySkipping_13 : decode cX3_laySkipping 13 = .ok (.iload_n 3, 1) := dk_29 (dk_at dksX3_laySkipping_0 13 rfl rfl)
theorem dX3_laySkipping_14 : decode cX3_laySkipping 14 = .ok (.imul, 1) := dk_104 (dk_at dksX3_laySkipping_0 14 rfl rfl)
theorem dX3_laySkipping_15 : decode cX3_laySkipping 15 = .ok (.iload_n 2, 1) := dk_28 (dk_at dksX3_laySkipping_0 15 rfl rfl)
theorem dX3_laySkipping_16 : decode cX3_laySkipping 16 = .ok (.iadd, 1) := dk_96 (dk_at dksX3_laySkipping_0 16 rfl rfl)
theorem dX3_laySkipping_17 : decode cX3_laySkipping 17 = .ok (.iaload, 1) := dk_46 (dk_at dksX3_laySkipping_0 17 rfl rfl)
theorem dX3_laySkipping_18 : decode cX3_laySkipping 18 = .ok (.istore 4, 2) := dk_54 4 (dk_at dksX3_laySkipping_0 18 rfl rfl)
theorem dX3_laySkipping_20 : decode cX3_laySkipping 20 = .ok (.aload_n 0, 1) := dk_42 (dk_at dksX3_laySkipping_0 20 rfl rfl)
theorem dX3_laySkipping_21 : decode cX3_laySkipping 21 = .ok (.iload 4, 2) := dk_21 4 (dk_at dksX3_laySkipping_0 21 rfl rfl)
theorem dX3_laySkipping_23 : decode cX3_laySkipping 23 = .ok (.iconst 1, 1) := dk_4 (dk_at dksX3_laySkipping_0 23 rfl rfl)
theorem dX3_laySkipping_24 : decode cX3_laySkipping 24 = .ok (.if_icmp .ne 8, 3) := dk_160 0 8 (dk_at dksX3_laySkipping_1 0 rfl rfl)
theorem dX3_laySkipping_27 : decode cX3_laySkipping 27 = .ok (.bipush 6, 2) := dk_16 6 (dk_at dksX3_laySkipping_1 3 rfl rfl)
theorem dX3_laySkipping_29 : decode cX3_laySkipping 29 = .ok (.goto 5, 3) := dk_167 0 5 (dk_at dksX3_laySkipping_1 5 rfl rfl)
theorem dX3_laySkipping_32 : decode cX3_laySkipping 32 = .ok (.bipush 7, 2) := dk_16 7 (dk_at dksX3_laySkipping_1 8 rfl rfl)
theorem dX3_laySkipping_34 : decode cX3_laySkipping 34 = .ok (.iload_n 3, 1) := dk_29 (dk_at dksX3_laySkipping_1 10 rfl rfl)
theorem dX3_laySkipping_35 : decode cX3_laySkipping 35 = .ok (.iload 4, 2) := dk_21 4 (dk_at dksX3_laySkipping_1 11 rfl rfl)
theorem dX3_laySkipping_37 : decode cX3_laySkipping 37 = .ok (.iconst 1, 1) := dk_4 (dk_at dksX3_laySkipping_1 13 rfl rfl)
theorem dX3_laySkipping_38 : decode cX3_laySkipping 38 = .ok (.if_icmp .ne 7, 3) := dk_160 0 7 (dk_at dksX3_laySkipping_1 14 rfl rfl)
theorem dX3_laySkipping_41 : decode cX3_laySkipping 41 = .ok (.iconst 0, 1) := dk_3 (dk_at dksX3_laySkipping_1 17 rfl rfl)
theorem dX3_laySkipping_42 : decode cX3_laySkipping 42 = .ok (.goto 5, 3) := dk_167 0 5 (dk_at dksX3_laySkipping_1 18 rfl rfl)
theorem dX3_laySkipping_45 : decode cX3_laySkipping 45 = .ok (.iload 4, 2) := dk_21 4 (dk_at dksX3_laySkipping_1 21 rfl rfl)
theorem dX3_laySkipping_47 : decode cX3_laySkipping 47 = .ok (.iload 4, 2) := dk_21 4 (dk_at dksX3_laySkipping_2 0 rfl rfl)
theorem dX3_laySkipping_49 : decode cX3_laySkipping 49 = .ok (.iconst 1, 1) := dk_4 (dk_at dksX3_laySkipping_2 2 rfl rfl)
theorem dX3_laySkipping_50 : decode cX3_laySkipping 50 = .ok (.if_icmp .ne 20, 3) := dk_160 0 20 (dk_at dksX3_laySkipping_2 3 rfl rfl)
theorem dX3_laySkipping_53 : decode cX3_laySkipping 53 = .ok (.aload_n 0, 1) := dk_42 (dk_at dksX3_laySkipping_2 6 rfl rfl)
theorem dX3_laySkipping_54 : decode cX3_laySkipping 54 = .ok (.getfield 13, 3) := dk_180 0 13 (dk_at dksX3_laySkipping_2 7 rfl rfl)
theorem dX3_laySkipping_57 : decode cX3_laySkipping 57 = .ok (.bipush 12, 2) := dk_16 12 (dk_at dksX3_laySkipping_2 10 rfl rfl)
theorem dX3_laySkipping_59 : decode cX3_laySkipping 59 = .ok (.aload_n 0, 1) := dk_42 (dk_at dksX3_laySkipping_2 12 rfl rfl)
theorem dX3_laySkipping_60 : decode cX3_laySkipping 60 = .ok (.getfield 39, 3) := dk_180 0 39 (dk_at dksX3_laySkipping_2 13 rfl rfl)
theorem dX3_laySkipping_63 : decode cX3_laySkipping 63 = .ok (.iload_n 3, 1) := dk_29 (dk_at dksX3_laySkipping_2 16 rfl rfl)
theorem dX3_laySkipping_64 : decode cX3_laySkipping 64 = .ok (.iaload, 1) := dk_46 (dk_at dksX3_laySkipping_2 17 rfl rfl)
theorem dX3_laySkipping_65 : decode cX3_laySkipping 65 = .ok (.iadd, 1) := dk_96 (dk_at dksX3_laySkipping_2 18 rfl rfl)
theorem dX3_laySkipping_66 : decode cX3_laySkipping 66 = .ok (.iaload, 1) := dk_46 (dk_at dksX3_laySkipping_2 19 rfl rfl)
theorem dX3_laySkipping_67 : decode cX3_laySkipping 67 = .ok (.goto 10, 3) := dk_167 0 10 (dk_at dksX3_laySkipping_2 20 rfl rfl)
theorem dX3_laySkipping_70 : decode cX3_laySkipping 70 = .ok (.aload_n 0, 1) := dk_42 (dk_at dksX3_laySkipping_2 23 rfl rfl)
theorem dX3_laySkipping_71 : decode cX3_laySkipping 71 = .ok (.getfield 21, 3) := dk_180 0 21 (dk_at dksX3_laySkipping_3 0 rfl rfl)
theorem dX3_laySkipping_74 : decode cX3_laySkipping 74 = .ok (.iload 4, 2) := dk_21 4 (dk_at dksX3_laySkipping_3 3 rfl rfl)
theorem dX3_laySkipping_76 : decode cX3_laySkipping 76 = .ok (.iadd, 1) := dk_96 (dk_at dksX3_laySkipping_3 5 rfl rfl)
theorem dX3_laySkipping_77 : decode cX3_laySkipping 77 = .ok (.invokevirtual 253, 3) := dk_182 0 253 (dk_at dksX3_laySkipping_3 6 rfl rfl)
theorem dX3_laySkipping_80 : decode cX3_laySkipping 80 = .ok (.iload_n 3, 1) := dk_29 (dk_at dksX3_laySkipping_3 9 rfl rfl)
theorem dX3_laySkipping_81 : decode cX3_laySkipping 81 = .ok (.iload 4, 2) := dk_21 4 (dk_at dksX3_laySkipping_3 10 rfl rfl)
theorem dX3_laySkipping_83 : decode cX3_laySkipping 83 = .ok (.iadd, 1) := dk_96 (dk_at dksX3_laySkipping_3 12 rfl rfl)
theorem dX3_laySkipping_84 : decode cX3_laySkipping 84 = .ok (.istore_n 3, 1) := dk_62 (dk_at dksX3_laySkipping_3 13 rfl rfl)
theorem dX3_laySkipping_85 : decode cX3_laySkipping 85 = .ok (.goto (-83), 3) := dk_167 255 173 (dk_at dksX3_laySkipping_3 14 rfl rfl)
theorem dX3_laySkipping_88 : decode cX3_laySkipping 88 = .ok (.return_, 1) := dk_177 (dk_at dksX3_laySkipping_3 17 rfl rfl)
abbrev cX3_slip : ByteArray := prog_19_method_36_code
def yX3_slip : MethodName := ⟨RX3, "slip", "(IIII)V"⟩
def dkwX3_slip_2 : List UInt8 := [180, 0, 250, 104, 6, 96, 21, 4, 79, 42, 89, 180, 0, 250, 4, 96, 181, 0, 250, 177]
abbrev dktX3_slip_2 : List UInt8 := dkwX3_slip_2 ++ []
def dkwX3_slip_1 : List UInt8 := [28, 79, 42, 180, 0, 48, 7, 42, 180, 0, 250, 104, 5, 96, 29, 79, 42, 180, 0, 48, 7, 42]
abbrev dktX3_slip_1 : List UInt8 := dkwX3_slip_1 ++ dktX3_slip_2
def dkwX3_slip_0 : List UInt8 := [42, 180, 0, 48, 7, 42, 180, 0, 250, 104, 27, 79, 42, 180, 0, 48, 7, 42, 180, 0, 250, 104, 4, 96]
abbrev dktX3_slip_0 : List UInt8 := dkwX3_slip_0 ++ dktX3_slip_1
theorem dksX3_slip_0 : cX3_slip.data.toList.drop 0 = dktX3_slip_0 := by decide +kernel
theorem dksX3_slip_1 : cX3_slip.data.toList.drop 24 = dktX3_slip_1 := dk_seg dksX3_slip_0 24 rfl rfl
theorem dksX3_slip_2 : cX3_slip.data.toList.drop 46 = dktX3_slip_2 := dk_seg dksX3_slip_1 22 rfl rfl
theorem dX3_slip_0 : decode cX3_slip 0 = .ok (.aload_n 0, 1) := dk_42 (dk_at dksX3_slip_0 0 rfl rfl)
theorem dX3_slip_1 : decode cX3_slip 1 = .ok (.getfield 48, 3) := dk_180 0 48 (dk_at dksX3_slip_0 1 rfl rfl)
theorem dX3_slip_4 : decode cX3_slip 4 = .ok (.iconst 4, 1) := dk_7 (dk_at dksX3_slip_0 4 rfl rfl)
theorem dX3_slip_5 : decode cX3_slip 5 = .ok (.aload_n 0, 1) := dk_42 (dk_at dksX3_slip_0 5 rfl rfl)
theorem dX3_slip_6 : decode cX3_slip 6 = .ok (.getfield 250, 3) := dk_180 0 250 (dk_at dksX3_slip_0 6 rfl rfl)
theorem dX3_slip_9 : decode cX3_slip 9 = .ok (.imul, 1) := dk_104 (dk_at dksX3_slip_0 9 rfl rfl)
theorem dX3_slip_10 : decode cX3_slip 10 = .ok (.iload_n 1, 1) := dk_27 (dk_at dksX3_slip_0 10 rfl rfl)
theorem dX3_slip_11 : decode cX3_slip 11 = .ok (.iastore, 1) := dk_79 (dk_at dksX3_slip_0 11 rfl rfl)
theorem dX3_slip_12 : decode cX3_slip 12 = .ok (.aload_n 0, 1) := dk_42 (dk_at dksX3_slip_0 12 rfl rfl)
theorem dX3_slip_13 : decode cX3_slip 13 = .ok (.getfield 48, 3) := dk_180 0 48 (dk_at dksX3_slip_0 13 rfl rfl)
theorem dX3_slip_16 : decode cX3_slip 16 = .ok (.iconst 4, 1) := dk_7 (dk_at dksX3_slip_0 16 rfl rfl)
theorem dX3_slip_17 : decode cX3_slip 17 = .ok (.aload_n 0, 1) := dk_42 (dk_at dksX3_slip_0 17 rfl rfl)
theorem dX3_slip_18 : decode cX3_slip 18 = .ok (.getfield 250, 3) := dk_180 0 250 (dk_at dksX3_slip_0 18 rfl rfl)
theorem dX3_slip_21 : decode cX3_slip 21 = .ok (.imul, 1) := dk_104 (dk_at dksX3_slip_0 21 rfl rfl)
theorem dX3_slip_22 : decode cX3_slip 22 = .ok (.iconst 1, 1) := dk_4 (dk_at dksX3_slip_0 22 rfl rfl)
theorem dX3_slip_23 : decode cX3_slip 23 = .ok (.iadd, 1) := dk_96 (dk_at dksX3_slip_0 23 rfl rfl)
theorem dX3_slip_24 : decode cX3_slip 24 = .ok (.iload_n 2, 1) := dk_28 (dk_at dksX3_slip_1 0 rfl rfl)
theorem dX3_slip_25 : decode cX3_slip 25 = .ok (.iastore, 1) := dk_79 (dk_at dksX3_slip_1 1 rfl rfl)
theorem dX3_slip_26 : decode cX3_slip 26 = .ok (.aload_n 0, 1) := dk_42 (dk_at dksX3_slip_1 2 rfl rfl)
theorem dX3_slip_27 : decode cX3_slip 27 = .ok (.getfield 48, 3) := dk_180 0 48 (dk_at dksX3_slip_1 3 rfl rfl)
theorem dX3_slip_30 : decode cX3_slip 30 = .ok (.iconst 4, 1) := dk_7 (dk_at dksX3_slip_1 6 rfl rfl)
theorem dX3_slip_31 : decode cX3_slip 31 = .ok (.aload_n 0, 1) := dk_42 (dk_at dksX3_slip_1 7 rfl rfl)
theorem dX3_slip_32 : decode cX3_slip 32 = .ok (.getfield 250, 3) := dk_180 0 250 (dk_at dksX3_slip_1 8 rfl rfl)
theorem dX3_slip_35 : decode cX3_slip 35 = .ok (.imul, 1) := dk_104 (dk_at dksX3_slip_1 11 rfl rfl)
theorem dX3_slip_36 : decode cX3_slip 36 = .ok (.iconst 2, 1) := dk_5 (dk_at dksX3_slip_1 12 rfl rfl)
theorem dX3_slip_37 : decode cX3_slip 37 = .ok (.iadd, 1) := dk_96 (dk_at dksX3_slip_1 13 rfl rfl)
theorem dX3_slip_38 : decode cX3_slip 38 = .ok (.iload_n 3, 1) := dk_29 (dk_at dksX3_slip_1 14 rfl rfl)
theorem dX3_slip_39 : decode cX3_slip 39 = .ok (.iastore, 1) := dk_79 (dk_at dksX3_slip_1 15 rfl rfl)
theorem dX3_slip_40 : decode cX3_slip 40 = .ok (.aload_n 0, 1) := dk_42 (dk_at dksX3_slip_1 16 rfl rfl)
theorem dX3_slip_41 : decode cX3_slip 41 = .ok (.getfield 48, 3) := dk_180 0 48 (dk_at dksX3_slip_1 17 rfl rfl)
theorem dX3_slip_44 : decode cX3_slip 44 = .ok (.iconst 4, 1) := dk_7 (dk_at dksX3_slip_1 20 rfl rfl)
theorem dX3_slip_45 : decode cX3_slip 45 = .ok (.aload_n 0, 1) := dk_42 (dk_at dksX3_slip_1 21 rfl rfl)
theorem dX3_slip_46 : decode cX3_slip 46 = .ok (.getfield 250, 3) := dk_180 0 250 (dk_at dksX3_slip_2 0 rfl rfl)
theorem dX3_slip_49 : decode cX3_slip 49 = .ok (.imul, 1) := dk_104 (dk_at dksX3_slip_2 3 rfl rfl)
theorem dX3_slip_50 : decode cX3_slip 50 = .ok (.iconst 3, 1) := dk_6 (dk_at dksX3_slip_2 4 rfl rfl)
theorem dX3_slip_51 : decode cX3_slip 51 = .ok (.iadd, 1) := dk_96 (dk_at dksX3_slip_2 5 rfl rfl)
theorem dX3_slip_52 : decode cX3_slip 52 = .ok (.iload 4, 2) := dk_21 4 (dk_at dksX3_slip_2 6 rfl rfl)
theorem dX3_slip_54 : decode cX3_slip 54 = .ok (.iastore, 1) := dk_79 (dk_at dksX3_slip_2 8 rfl rfl)
theorem dX3_slip_55 : decode cX3_slip 55 = .ok (.aload_n 0, 1) := dk_42 (dk_at dksX3_slip_2 9 rfl rfl)
theorem dX3_slip_56 : decode cX3_slip 56 = .ok (.dup, 1) := dk_89 (dk_at dksX3_slip_2 10 rfl rfl)
theorem dX3_slip_57 : decode cX3_slip 57 = .ok (.getfield 250, 3) := dk_180 0 250 (dk_at dksX3_slip_2 11 rfl rfl)
theorem dX3_slip_60 : decode cX3_slip 60 = .ok (.iconst 1, 1) := dk_4 (dk_at dksX3_slip_2 14 rfl rfl)
theorem dX3_slip_61 : decode cX3_slip 61 = .ok (.iadd, 1) := dk_96 (dk_at dksX3_slip_2 15 rfl rfl)
theorem dX3_slip_62 : decode cX3_slip 62 = .ok (.putfield 250, 3) := dk_181 0 250 (dk_at dksX3_slip_2 16 rfl rfl)
theorem dX3_slip_65 : decode cX3_slip 65 = .ok (.return_, 1) := dk_177 (dk_at dksX3_slip_2 19 rfl rfl)
abbrev cX3_only : ByteArray := prog_19_method_46_code
def yX3_only : MethodName := ⟨RX3, "only", "(II)I"⟩
def dkwX3_only_1 : List UInt8 := [154, 0, 6, 16, 253, 172, 42, 27, 181, 0, 181, 42, 28, 181, 0, 184, 42, 4, 182, 1, 42, 172]
abbrev dktX3_only_1 : List UInt8 := dkwX3_only_1 ++ []
def dkwX3_only_0 : List UInt8 := [27, 155, 0, 16, 27, 28, 163, 0, 11, 28, 42, 180, 0, 156, 164, 0, 5, 2, 172, 42, 180, 0, 129]
abbrev dktX3_only_0 : List UInt8 := dkwX3_only_0 ++ dktX3_only_1
theorem dksX3_only_0 : cX3_only.data.toList.drop 0 = dktX3_only_0 := by decide +kernel
theorem dksX3_only_1 : cX3_only.data.toList.drop 23 = dktX3_only_1 := dk_seg dksX3_only_0 23 rfl rfl
theorem dX3_only_0 : decode cX3_only 0 = .ok (.iload_n 1, 1) := dk_27 (dk_at dksX3_only_0 0 rfl rfl)
theorem dX3_only_1 : decode cX3_only 1 = .ok (.ifCond .lt 16, 3) := dk_155 0 16 (dk_at dksX3_only_0 1 rfl rfl)
theorem dX3_only_4 : decode cX3_only 4 = .ok (.iload_n 1, 1) := dk_27 (dk_at dksX3_only_0 4 rfl rfl)
theorem dX3_only_5 : decode cX3_only 5 = .ok (.iload_n 2, 1) := dk_28 (dk_at dksX3_only_0 5 rfl rfl)
theorem dX3_only_6 : decode cX3_only 6 = .ok (.if_icmp .gt 11, 3) := dk_163 0 11 (dk_at dksX3_only_0 6 rfl rfl)
theorem dX3_only_9 : decode cX3_only 9 = .ok (.iload_n 2, 1) := dk_28 (dk_at dksX3_only_0 9 rfl rfl)
theorem dX3_only_10 : decode cX3_only 10 = .ok (.aload_n 0, 1) := dk_42 (dk_at dksX3_only_0 10 rfl rfl)
theorem dX3_only_11 : decode cX3_only 11 = .ok (.getfield 156, 3) := dk_180 0 156 (dk_at dksX3_only_0 11 rfl rfl)
theorem dX3_only_14 : decode cX3_only 14 = .ok (.if_icmp .le 5, 3) := dk_164 0 5 (dk_at dksX3_only_0 14 rfl rfl)
theorem dX3_only_17 : decode cX3_only 17 = .ok (.iconst (-1), 1) := dk_2 (dk_at dksX3_only_0 17 rfl rfl)
theorem dX3_only_18 : decode cX3_only 18 = .ok (.ireturn, 1) := dk_172 (dk_at dksX3_only_0 18 rfl rfl)
theorem dX3_only_19 : decode cX3_only 19 = .ok (.aload_n 0, 1) := dk_42 (dk_at dksX3_only_0 19 rfl rfl)
theorem dX3_only_20 : decode cX3_only 20 = .ok (.getfield 129, 3) := dk_180 0 129 (dk_at dksX3_only_0 20 rfl rfl)
theorem dX3_only_23 : decode cX3_only 23 = .ok (.ifCond .ne 6, 3) := dk_154 0 6 (dk_at dksX3_only_1 0 rfl rfl)
theorem dX3_only_26 : decode cX3_only 26 = .ok (.bipush (-3), 2) := dk_16 253 (dk_at dksX3_only_1 3 rfl rfl)
theorem dX3_only_28 : decode cX3_only 28 = .ok (.ireturn, 1) := dk_172 (dk_at dksX3_only_1 5 rfl rfl)
theorem dX3_only_29 : decode cX3_only 29 = .ok (.aload_n 0, 1) := dk_42 (dk_at dksX3_only_1 6 rfl rfl)
theorem dX3_only_30 : decode cX3_only 30 = .ok (.iload_n 1, 1) := dk_27 (dk_at dksX3_only_1 7 rfl rfl)
theorem dX3_only_31 : decode cX3_only 31 = .ok (.putfield 181, 3) := dk_181 0 181 (dk_at dksX3_only_1 8 rfl rfl)
theorem dX3_only_34 : decode cX3_only 34 = .ok (.aload_n 0, 1) := dk_42 (dk_at dksX3_only_1 11 rfl rfl)
theorem dX3_only_35 : decode cX3_only 35 = .ok (.iload_n 2, 1) := dk_28 (dk_at dksX3_only_1 12 rfl rfl)
theorem dX3_only_36 : decode cX3_only 36 = .ok (.putfield 184, 3) := dk_181 0 184 (dk_at dksX3_only_1 13 rfl rfl)
theorem dX3_only_39 : decode cX3_only 39 = .ok (.aload_n 0, 1) := dk_42 (dk_at dksX3_only_1 16 rfl rfl)
theorem dX3_only_40 : decode cX3_only 40 = .ok (.iconst 1, 1) := dk_4 (dk_at dksX3_only_1 17 rfl rfl)
theorem dX3_only_41 : decode cX3_only 41 = .ok (.invokevirtual 298, 3) := dk_182 1 42 (dk_at dksX3_only_1 18 rfl rfl)
theorem dX3_only_44 : decode cX3_only 44 = .ok (.ireturn, 1) := dk_172 (dk_at dksX3_only_1 21 rfl rfl)
abbrev cX3_complete : ByteArray := prog_19_method_47_code
def yX3_complete : MethodName := ⟨RX3, "complete", "()I"⟩
def dkwX3_complete_0 : List UInt8 := [42, 180, 0, 129, 154, 0, 8, 16, 253, 167, 0, 8, 42, 5, 182, 1, 42, 172]
abbrev dktX3_complete_0 : List UInt8 := dkwX3_complete_0 ++ []
theorem dksX3_complete_0 : cX3_complete.data.toList.drop 0 = dktX3_complete_0 := by decide +kernel
theorem dX3_complete_0 : decode cX3_complete 0 = .ok (.aload_n 0, 1) := dk_42 (dk_at dksX3_complete_0 0 rfl rfl)
theorem dX3_complete_1 : decode cX3_complete 1 = .ok (.getfield 129, 3) := dk_180 0 129 (dk_at dksX3_complete_0 1 rfl rfl)
theorem dX3_complete_4 : decode cX3_complete 4 = .ok (.ifCond .ne 8, 3) := dk_154 0 8 (dk_at dksX3_complete_0 4 rfl rfl)
theorem dX3_complete_7 : decode cX3_complete 7 = .ok (.bipush (-3), 2) := dk_16 253 (dk_at dksX3_complete_0 7 rfl rfl)
theorem dX3_complete_9 : decode cX3_complete 9 = .ok (.goto 8, 3) := dk_167 0 8 (dk_at dksX3_complete_0 9 rfl rfl)
theorem dX3_complete_12 : decode cX3_complete 12 = .ok (.aload_n 0, 1) := dk_42 (dk_at dksX3_complete_0 12 rfl rfl)
theorem dX3_complete_13 : decode cX3_complete 13 = .ok (.iconst 2, 1) := dk_5 (dk_at dksX3_complete_0 13 rfl rfl)
theorem dX3_complete_14 : decode cX3_complete 14 = .ok (.invokevirtual 298, 3) := dk_182 1 42 (dk_at dksX3_complete_0 14 rfl rfl)
theorem dX3_complete_17 : decode cX3_complete 17 = .ok (.ireturn, 1) := dk_172 (dk_at dksX3_complete_0 17 rfl rfl)
abbrev cX3_begins : ByteArray := prog_19_method_48_code
def yX3_begins : MethodName := ⟨RX3, "begins", "()I"⟩
def dkwX3_begins_0 : List UInt8 := [42, 180, 0, 129, 154, 0, 8, 16, 253, 167, 0, 8, 42, 6, 182, 1, 42, 172]
abbrev dktX3_begins_0 : List UInt8 := dkwX3_begins_0 ++ []
theorem dksX3_begins_0 : cX3_begins.data.toList.drop 0 = dktX3_begins_0 := by decide +kernel
theorem dX3_begins_0 : decode cX3_begins 0 = .ok (.aload_n 0, 1) := dk_42 (dk_at dksX3_begins_0 0 rfl rfl)
theorem dX3_begins_1 : decode cX3_begins 1 = .ok (.getfield 129, 3) := dk_180 0 129 (dk_at dksX3_begins_0 1 rfl rfl)
theorem dX3_begins_4 : decode cX3_begins 4 = .ok (.ifCond .ne 8, 3) := dk_154 0 8 (dk_at dksX3_begins_0 4 rfl rfl)
theorem dX3_begins_7 : decode cX3_begins 7 = .ok (.bipush (-3), 2) := dk_16 253 (dk_at dksX3_begins_0 7 rfl rfl)
theorem dX3_begins_9 : decode cX3_begins 9 = .ok (.goto 8, 3) := dk_167 0 8 (dk_at dksX3_begins_0 9 rfl rfl)
theorem dX3_begins_12 : decode cX3_begins 12 = .ok (.aload_n 0, 1) := dk_42 (dk_at dksX3_begins_0 12 rfl rfl)
theorem dX3_begins_13 : decode cX3_begins 13 = .ok (.iconst 3, 1) := dk_6 (dk_at dksX3_begins_0 13 rfl rfl)
theorem dX3_begins_14 : decode cX3_begins 14 = .ok (.invokevirtual 298, 3) := dk_182 1 42 (dk_at dksX3_begins_0 14 rfl rfl)
theorem dX3_begins_17 : decode cX3_begins 17 = .ok (.ireturn, 1) := dk_172 (dk_at dksX3_begins_0 17 rfl rfl)
abbrev cX3_wanted : ByteArray := prog_19_method_49_code
def yX3_wanted : MethodName := ⟨RX3, "wanted", "(I)I"⟩
def dkwX3_wanted_3 : List UInt8 := [20, 0, 224, 148, 156, 0, 7, 4, 167, 0, 4, 3, 172]
abbrev dktX3_wanted_3 : List UInt8 := dkwX3_wanted_3 ++ []
def dkwX3_wanted_2 : List UInt8 := [42, 180, 0, 87, 17, 10, 144, 42, 180, 0, 146, 104, 42, 180, 0, 66, 42, 180, 0, 192, 46, 96, 47]
abbrev dktX3_wanted_2 : List UInt8 := dkwX3_wanted_2 ++ dktX3_wanted_3
def dkwX3_wanted_1 : List UInt8 := [181, 0, 169, 42, 180, 0, 39, 42, 180, 0, 156, 27, 79, 42, 7, 42, 180, 0, 156, 4, 96, 182, 1, 25]
abbrev dktX3_wanted_1 : List UInt8 := dkwX3_wanted_1 ++ dktX3_wanted_2
def dkwX3_wanted_0 : List UInt8 := [42, 27, 182, 0, 143, 154, 0, 5, 2, 172, 42, 180, 0, 129, 154, 0, 6, 16, 253, 172, 42, 16, 252]
abbrev dktX3_wanted_0 : List UInt8 := dkwX3_wanted_0 ++ dktX3_wanted_1
theorem dksX3_wanted_0 : cX3_wanted.data.toList.drop 0 = dktX3_wanted_0 := by decide +kernel
theorem dksX3_wanted_1 : cX3_wanted.data.toList.drop 23 = dktX3_wanted_1 := dk_seg dksX3_wanted_0 23 rfl rfl
theorem dksX3_wanted_2 : cX3_wanted.data.toList.drop 47 = dktX3_wanted_2 := dk_seg dksX3_wanted_1 24 rfl rfl
theorem dksX3_wanted_3 : cX3_wanted.data.toList.drop 70 = dktX3_wanted_3 := dk_seg dksX3_wanted_2 23 rfl rfl
theorem dX3_wanted_0 : decode cX3_wanted 0 = .ok (.aload_n 0, 1) := dk_42 (dk_at dksX3_wanted_0 0 rfl rfl)
theorem dX3_wanted_1 : decode cX3_wanted 1 = .ok (.iload_n 1, 1) := dk_27 (dk_at dksX3_wanted_0 1 rfl rfl)
theorem dX3_wanted_2 : decode cX3_wanted 2 = .ok (.invokevirtual 143, 3) := dk_182 0 143 (dk_at dksX3_wanted_0 2 rfl rfl)
theorem dX3_wanted_5 : decode cX3_wanted 5 = .ok (.ifCond .ne 5, 3) := dk_154 0 5 (dk_at dksX3_wanted_0 5 rfl rfl)
theorem dX3_wanted_8 : decode cX3_wanted 8 = .ok (.iconst (-1), 1) := dk_2 (dk_at dksX3_wanted_0 8 rfl rfl)
theorem dX3_wanted_9 : decode cX3_wanted 9 = .ok (.ireturn, 1) := dk_172 (dk_at dksX3_wanted_0 9 rfl rfl)
theorem dX3_wanted_10 : decode cX3_wanted 10 = .ok (.aload_n 0, 1) := dk_42 (dk_at dksX3_wanted_0 10 rfl rfl)
theorem dX3_wanted_11 : decode cX3_wanted 11 = .ok (.getfield 129, 3) := dk_180 0 129 (dk_at dksX3_wanted_0 11 rfl rfl)
theorem dX3_wanted_14 : decode cX3_wanted 14 = .ok (.ifCond .ne 6, 3) := dk_154 0 6 (dk_at dksX3_wanted_0 14 rfl rfl)
theorem dX3_wanted_17 : decode cX3_wanted 17 = .ok (.bipush (-3), 2) := dk_16 253 (dk_at dksX3_wanted_0 17 rfl rfl)
theorem dX3_wanted_19 : decode cX3_wanted 19 = .ok (.ireturn, 1) := dk_172 (dk_at dksX3_wanted_0 19 rfl rfl)
theorem dX3_wanted_20 : decode cX3_wanted 20 = .ok (.aload_n 0, 1) := dk_42 (dk_at dksX3_wanted_0 20 rfl rfl)
theorem dX3_wanted_21 : decode cX3_wanted 21 = .ok (.bipush (-4), 2) := dk_16 252 (dk_at dksX3_wanted_0 21 rfl rfl)
theorem dX3_wanted_23 : decode cX3_wanted 23 = .ok (.putfield 169, 3) := dk_181 0 169 (dk_at dksX3_wanted_1 0 rfl rfl)
theorem dX3_wanted_26 : decode cX3_wanted 26 = .ok (.aload_n 0, 1) := dk_42 (dk_at dksX3_wanted_1 3 rfl rfl)
theorem dX3_wanted_27 : decode cX3_wanted 27 = .ok (.getfield 39, 3) := dk_180 0 39 (dk_at dksX3_wanted_1 4 rfl rfl)
theorem dX3_wanted_30 : decode cX3_wanted 30 = .ok (.aload_n 0, 1) := dk_42 (dk_at dksX3_wanted_1 7 rfl rfl)
theorem dX3_wanted_31 : decode cX3_wanted 31 = .ok (.getfield 156, 3) := dk_180 0 156 (dk_at dksX3_wanted_1 8 rfl rfl)
theorem dX3_wanted_34 : decode cX3_wanted 34 = .ok (.iload_n 1, 1) := dk_27 (dk_at dksX3_wanted_1 11 rfl rfl)
theorem dX3_wanted_35 : decode cX3_wanted 35 = .ok (.iastore, 1) := dk_79 (dk_at dksX3_wanted_1 12 rfl rfl)
theorem dX3_wanted_36 : decode cX3_wanted 36 = .ok (.aload_n 0, 1) := dk_42 (dk_at dksX3_wanted_1 13 rfl rfl)
theorem dX3_wanted_37 : decode cX3_wanted 37 = .ok (.iconst 4, 1) := dk_7 (dk_at dksX3_wanted_1 14 rfl rfl)
theorem dX3_wanted_38 : decode cX3_wanted 38 = .ok (.aload_n 0, 1) := dk_42 (dk_at dksX3_wanted_1 15 rfl rfl)
theorem dX3_wanted_39 : decode cX3_wanted 39 = .ok (.getfield 156, 3) := dk_180 0 156 (dk_at dksX3_wanted_1 16 rfl rfl)
theorem dX3_wanted_42 : decode cX3_wanted 42 = .ok (.iconst 1, 1) := dk_4 (dk_at dksX3_wanted_1 19 rfl rfl)
theorem dX3_wanted_43 : decode cX3_wanted 43 = .ok (.iadd, 1) := dk_96 (dk_at dksX3_wanted_1 20 rfl rfl)
theorem dX3_wanted_44 : decode cX3_wanted 44 = .ok (.invokevirtual 281, 3) := dk_182 1 25 (dk_at dksX3_wanted_1 21 rfl rfl)
theorem dX3_wanted_47 : decode cX3_wanted 47 = .ok (.aload_n 0, 1) := dk_42 (dk_at dksX3_wanted_2 0 rfl rfl)
theorem dX3_wanted_48 : decode cX3_wanted 48 = .ok (.getfield 87, 3) := dk_180 0 87 (dk_at dksX3_wanted_2 1 rfl rfl)
theorem dX3_wanted_51 : decode cX3_wanted 51 = .ok (.sipush 2704, 3) := dk_17 10 144 (dk_at dksX3_wanted_2 4 rfl rfl)
theorem dX3_wanted_54 : decode cX3_wanted 54 = .ok (.aload_n 0, 1) := dk_42 (dk_at dksX3_wanted_2 7 rfl rfl)
theorem dX3_wanted_55 : decode cX3_wanted 55 = .ok (.getfield 146, 3) := dk_180 0 146 (dk_at dksX3_wanted_2 8 rfl rfl)
theorem dX3_wanted_58 : decode cX3_wanted 58 = .ok (.imul, 1) := dk_104 (dk_at dksX3_wanted_2 11 rfl rfl)
theorem dX3_wanted_59 : decode cX3_wanted 59 = .ok (.aload_n 0, 1) := dk_42 (dk_at dksX3_wanted_2 12 rfl rfl)
theorem dX3_wanted_60 : decode cX3_wanted 60 = .ok (.getfield 66, 3) := dk_180 0 66 (dk_at dksX3_wanted_2 13 rfl rfl)
theorem dX3_wanted_63 : decode cX3_wanted 63 = .ok (.aload_n 0, 1) := dk_42 (dk_at dksX3_wanted_2 16 rfl rfl)
theorem dX3_wanted_64 : decode cX3_wanted 64 = .ok (.getfield 192, 3) := dk_180 0 192 (dk_at dksX3_wanted_2 17 rfl rfl)
theorem dX3_wanted_67 : decode cX3_wanted 67 = .ok (.iaload, 1) := dk_46 (dk_at dksX3_wanted_2 20 rfl rfl)
theorem dX3_wanted_68 : decode cX3_wanted 68 = .ok (.iadd, 1) := dk_96 (dk_at dksX3_wanted_2 21 rfl rfl)
theorem dX3_wanted_69 : decode cX3_wanted 69 = .ok (.laload, 1) := dk_47 (dk_at dksX3_wanted_2 22 rfl rfl)
theorem dX3_wanted_70 : decode cX3_wanted 70 = .ok (.ldc2_w 224, 3) := dk_20 0 224 (dk_at dksX3_wanted_3 0 rfl rfl)
theorem dX3_wanted_73 : decode cX3_wanted 73 = .ok (.lcmp, 1) := dk_148 (dk_at dksX3_wanted_3 3 rfl rfl)
theorem dX3_wanted_74 : decode cX3_wanted 74 = .ok (.ifCond .ge 7, 3) := dk_156 0 7 (dk_at dksX3_wanted_3 4 rfl rfl)
theorem dX3_wanted_77 : decode cX3_wanted 77 = .ok (.iconst 1, 1) := dk_4 (dk_at dksX3_wanted_3 7 rfl rfl)
theorem dX3_wanted_78 : decode cX3_wanted 78 = .ok (.goto 4, 3) := dk_167 0 4 (dk_at dksX3_wanted_3 8 rfl rfl)
theorem dX3_wanted_81 : decode cX3_wanted 81 = .ok (.iconst 0, 1) := dk_3 (dk_at dksX3_wanted_3 11 rfl rfl)
theorem dX3_wanted_82 : decode cX3_wanted 82 = .ok (.ireturn, 1) := dk_172 (dk_at dksX3_wanted_3 12 rfl rfl)
abbrev cX3_stretch : ByteArray := prog_19_method_50_code
def yX3_stretch : MethodName := ⟨RX3, "stretch", "(III)I"⟩
def dkwX3_stretch_3 : List UInt8 := [55, 4, 22, 4, 20, 0, 224, 148, 155, 0, 8, 16, 252, 167, 0, 10, 22, 4, 20, 0, 226, 109, 136, 172]
abbrev dktX3_stretch_3 : List UInt8 := dkwX3_stretch_3 ++ []
def dkwX3_stretch_2 : List UInt8 := [17, 10, 144, 27, 104, 16, 52, 42, 180, 0, 66, 28, 46, 104, 96, 42, 180, 0, 66, 29, 46, 96, 47]
abbrev dktX3_stretch_2 : List UInt8 := dkwX3_stretch_2 ++ dktX3_stretch_3
def dkwX3_stretch_1 : List UInt8 := [164, 0, 5, 2, 172, 42, 16, 252, 181, 0, 169, 42, 3, 42, 180, 0, 156, 182, 1, 25, 42, 180, 0, 87]
abbrev dktX3_stretch_1 : List UInt8 := dkwX3_stretch_1 ++ dktX3_stretch_2
def dkwX3_stretch_0 : List UInt8 := [42, 27, 182, 0, 136, 153, 0, 20, 28, 155, 0, 16, 28, 29, 163, 0, 11, 29, 42, 180, 0, 156]
abbrev dktX3_stretch_0 : List UInt8 := dkwX3_stretch_0 ++ dktX3_stretch_1
theorem dksX3_stretch_0 : cX3_stretch.data.toList.drop 0 = dktX3_stretch_0 := by decide +kernel
theorem dksX3_stretch_1 : cX3_stretch.data.toList.drop 22 = dktX3_stretch_1 := dk_seg dksX3_stretch_0 22 rfl rfl
theorem dksX3_stretch_2 : cX3_stretch.data.toList.drop 46 = dktX3_stretch_2 := dk_seg dksX3_stretch_1 24 rfl rfl
theorem dksX3_stretch_3 : cX3_stretch.data.toList.drop 69 = dktX3_stretch_3 := dk_seg dksX3_stretch_2 23 rfl rfl
theorem dX3_stretch_0 : decode cX3_stretch 0 = .ok (.aload_n 0, 1) := dk_42 (dk_at dksX3_stretch_0 0 rfl rfl)
theorem dX3_stretch_1 : decode cX3_stretch 1 = .ok (.iload_n 1, 1) := dk_27 (dk_at dksX3_stretch_0 1 rfl rfl)
theorem dX3_stretch_2 : decode cX3_stretch 2 = .ok (.invokevirtual 136, 3) := dk_182 0 136 (dk_at dksX3_stretch_0 2 rfl rfl)
theorem dX3_stretch_5 : decode cX3_stretch 5 = .ok (.ifCond .eq 20, 3) := dk_153 0 20 (dk_at dksX3_stretch_0 5 rfl rfl)
theorem dX3_stretch_8 : decode cX3_stretch 8 = .ok (.iload_n 2, 1) := dk_28 (dk_at dksX3_stretch_0 8 rfl rfl)
theorem dX3_stretch_9 : decode cX3_stretch 9 = .ok (.ifCond .lt 16, 3) := dk_155 0 16 (dk_at dksX3_stretch_0 9 rfl rfl)
theorem dX3_stretch_12 : decode cX3_stretch 12 = .ok (.iload_n 2, 1) := dk_28 (dk_at dksX3_stretch_0 12 rfl rfl)
theorem dX3_stretch_13 : decode cX3_stretch 13 = .ok (.iload_n 3, 1) := dk_29 (dk_at dksX3_stretch_0 13 rfl rfl)
theorem dX3_stretch_14 : decode cX3_stretch 14 = .ok (.if_icmp .gt 11, 3) := dk_163 0 11 (dk_at dksX3_stretch_0 14 rfl rfl)
theorem dX3_stretch_17 : decode cX3_stretch 17 = .ok (.iload_n 3, 1) := dk_29 (dk_at dksX3_stretch_0 17 rfl rfl)
theorem dX3_stretch_18 : decode cX3_stretch 18 = .ok (.aload_n 0, 1) := dk_42 (dk_at dksX3_stretch_0 18 rfl rfl)
theorem dX3_stretch_19 : decode cX3_stretch 19 = .ok (.getfield 156, 3) := dk_180 0 156 (dk_at dksX3_stretch_0 19 rfl rfl)
theorem dX3_stretch_22 : decode cX3_stretch 22 = .ok (.if_icmp .le 5, 3) := dk_164 0 5 (dk_at dksX3_stretch_1 0 rfl rfl)
theorem dX3_stretch_25 : decode cX3_stretch 25 = .ok (.iconst (-1), 1) := dk_2 (dk_at dksX3_stretch_1 3 rfl rfl)
theorem dX3_stretch_26 : decode cX3_stretch 26 = .ok (.ireturn, 1) := dk_172 (dk_at dksX3_stretch_1 4 rfl rfl)
theorem dX3_stretch_27 : decode cX3_stretch 27 = .ok (.aload_n 0, 1) := dk_42 (dk_at dksX3_stretch_1 5 rfl rfl)
theorem dX3_stretch_28 : decode cX3_stretch 28 = .ok (.bipush (-4), 2) := dk_16 252 (dk_at dksX3_stretch_1 6 rfl rfl)
theorem dX3_stretch_30 : decode cX3_stretch 30 = .ok (.putfield 169, 3) := dk_181 0 169 (dk_at dksX3_stretch_1 8 rfl rfl)
theorem dX3_stretch_33 : decode cX3_stretch 33 = .ok (.aload_n 0, 1) := dk_42 (dk_at dksX3_stretch_1 11 rfl rfl)
theorem dX3_stretch_34 : decode cX3_stretch 34 = .ok (.iconst 0, 1) := dk_3 (dk_at dksX3_stretch_1 12 rfl rfl)
theorem dX3_stretch_35 : decode cX3_stretch 35 = .ok (.aload_n 0, 1) := dk_42 (dk_at dksX3_stretch_1 13 rfl rfl)
theorem dX3_stretch_36 : decode cX3_stretch 36 = .ok (.getfield 156, 3) := dk_180 0 156 (dk_at dksX3_stretch_1 14 rfl rfl)
theorem dX3_stretch_39 : decode cX3_stretch 39 = .ok (.invokevirtual 281, 3) := dk_182 1 25 (dk_at dksX3_stretch_1 17 rfl rfl)
theorem dX3_stretch_42 : decode cX3_stretch 42 = .ok (.aload_n 0, 1) := dk_42 (dk_at dksX3_stretch_1 20 rfl rfl)
theorem dX3_stretch_43 : decode cX3_stretch 43 = .ok (.getfield 87, 3) := dk_180 0 87 (dk_at dksX3_stretch_1 21 rfl rfl)
theorem dX3_stretch_46 : decode cX3_stretch 46 = .ok (.sipush 2704, 3) := dk_17 10 144 (dk_at dksX3_stretch_2 0 rfl rfl)
theorem dX3_stretch_49 : decode cX3_stretch 49 = .ok (.iload_n 1, 1) := dk_27 (dk_at dksX3_stretch_2 3 rfl rfl)
theorem dX3_stretch_50 : decode cX3_stretch 50 = .ok (.imul, 1) := dk_104 (dk_at dksX3_stretch_2 4 rfl rfl)
theorem dX3_stretch_51 : decode cX3_stretch 51 = .ok (.bipush 52, 2) := dk_16 52 (dk_at dksX3_stretch_2 5 rfl rfl)
theorem dX3_stretch_53 : decode cX3_stretch 53 = .ok (.aload_n 0, 1) := dk_42 (dk_at dksX3_stretch_2 7 rfl rfl)
theorem dX3_stretch_54 : decode cX3_stretch 54 = .ok (.getfield 66, 3) := dk_180 0 66 (dk_at dksX3_stretch_2 8 rfl rfl)
theorem dX3_stretch_57 : decode cX3_stretch 57 = .ok (.iload_n 2, 1) := dk_28 (dk_at dksX3_stretch_2 11 rfl rfl)
theorem dX3_stretch_58 : decode cX3_stretch 58 = .ok (.iaload, 1) := dk_46 (dk_at dksX3_stretch_2 12 rfl rfl)
theorem dX3_stretch_59 : decode cX3_stretch 59 = .ok (.imul, 1) := dk_104 (dk_at dksX3_stretch_2 13 rfl rfl)
theorem dX3_stretch_60 : decode cX3_stretch 60 = .ok (.iadd, 1) := dk_96 (dk_at dksX3_stretch_2 14 rfl rfl)
theorem dX3_stretch_61 : decode cX3_stretch 61 = .ok (.aload_n 0, 1) := dk_42 (dk_at dksX3_stretch_2 15 rfl rfl)
theorem dX3_stretch_62 : decode cX3_stretch 62 = .ok (.getfield 66, 3) := dk_180 0 66 (dk_at dksX3_stretch_2 16 rfl rfl)
theorem dX3_stretch_65 : decode cX3_stretch 65 = .ok (.iload_n 3, 1) := dk_29 (dk_at dksX3_stretch_2 19 rfl rfl)
theorem dX3_stretch_66 : decode cX3_stretch 66 = .ok (.iaload, 1) := dk_46 (dk_at dksX3_stretch_2 20 rfl rfl)
theorem dX3_stretch_67 : decode cX3_stretch 67 = .ok (.iadd, 1) := dk_96 (dk_at dksX3_stretch_2 21 rfl rfl)
theorem dX3_stretch_68 : decode cX3_stretch 68 = .ok (.laload, 1) := dk_47 (dk_at dksX3_stretch_2 22 rfl rfl)
theorem dX3_stretch_69 : decode cX3_stretch 69 = .ok (.lstore 4, 2) := dk_55 4 (dk_at dksX3_stretch_3 0 rfl rfl)
theorem dX3_stretch_71 : decode cX3_stretch 71 = .ok (.lload 4, 2) := dk_22 4 (dk_at dksX3_stretch_3 2 rfl rfl)
theorem dX3_stretch_73 : decode cX3_stretch 73 = .ok (.ldc2_w 224, 3) := dk_20 0 224 (dk_at dksX3_stretch_3 4 rfl rfl)
theorem dX3_stretch_76 : decode cX3_stretch 76 = .ok (.lcmp, 1) := dk_148 (dk_at dksX3_stretch_3 7 rfl rfl)
theorem dX3_stretch_77 : decode cX3_stretch 77 = .ok (.ifCond .lt 8, 3) := dk_155 0 8 (dk_at dksX3_stretch_3 8 rfl rfl)
theorem dX3_stretch_80 : decode cX3_stretch 80 = .ok (.bipush (-4), 2) := dk_16 252 (dk_at dksX3_stretch_3 11 rfl rfl)
theorem dX3_stretch_82 : decode cX3_stretch 82 = .ok (.goto 10, 3) := dk_167 0 10 (dk_at dksX3_stretch_3 13 rfl rfl)
theorem dX3_stretch_85 : decode cX3_stretch 85 = .ok (.lload 4, 2) := dk_22 4 (dk_at dksX3_stretch_3 16 rfl rfl)
theorem dX3_stretch_87 : decode cX3_stretch 87 = .ok (.ldc2_w 226, 3) := dk_20 0 226 (dk_at dksX3_stretch_3 18 rfl rfl)
theorem dX3_stretch_90 : decode cX3_stretch 90 = .ok (.ldiv, 1) := dk_109 (dk_at dksX3_stretch_3 21 rfl rfl)
theorem dX3_stretch_91 : decode cX3_stretch 91 = .ok (.l2i, 1) := dk_136 (dk_at dksX3_stretch_3 22 rfl rfl)
theorem dX3_stretch_92 : decode cX3_stretch 92 = .ok (.ireturn, 1) := dk_172 (dk_at dksX3_stretch_3 23 rfl rfl)
abbrev cX3_shelve : ByteArray := prog_19_method_53_code
def yX3_shelve : MethodName := ⟨RX3, "shelve", "(II)I"⟩
def dkwX3_shelve_9 : List UInt8 := [46, 167, 0, 10, 42, 180, 0, 39, 21, 6, 46, 79, 132, 6, 1, 167, 255, 185, 4, 172]
abbrev dktX3_shelve_9 : List UInt8 := dkwX3_shelve_9 ++ []
def dkwX3_shelve_8 : List UInt8 := [160, 0, 13, 42, 180, 0, 54, 21, 6, 46, 167, 0, 25, 28, 6, 160, 0, 13, 42, 180, 0, 48, 21, 6]
abbrev dktX3_shelve_8 : List UInt8 := dkwX3_shelve_8 ++ dktX3_shelve_9
def dkwX3_shelve_7 : List UInt8 := [180, 0, 113, 29, 21, 6, 96, 28, 4, 160, 0, 13, 42, 180, 0, 51, 21, 6, 46, 167, 0, 40, 28, 5]
abbrev dktX3_shelve_7 : List UInt8 := dkwX3_shelve_7 ++ dktX3_shelve_8
def dkwX3_shelve_6 : List UInt8 := [7, 21, 4, 104, 167, 0, 5, 21, 4, 54, 5, 3, 54, 6, 21, 6, 21, 5, 162, 0, 70, 42]
abbrev dktX3_shelve_6 : List UInt8 := dkwX3_shelve_6 ++ dktX3_shelve_7
def dkwX3_shelve_5 : List UInt8 := [180, 0, 110, 27, 21, 4, 79, 28, 5, 160, 0, 10, 8, 21, 4, 104, 167, 0, 17, 28, 6, 160, 0, 10]
abbrev dktX3_shelve_5 : List UInt8 := dkwX3_shelve_5 ++ dktX3_shelve_6
def dkwX3_shelve_4 : List UInt8 := [180, 0, 250, 167, 0, 16, 28, 7, 160, 0, 10, 42, 180, 0, 156, 167, 0, 4, 3, 54, 4, 42]
abbrev dktX3_shelve_4 : List UInt8 := dkwX3_shelve_4 ++ dktX3_shelve_5
def dkwX3_shelve_3 : List UInt8 := [180, 1, 4, 167, 0, 40, 28, 5, 160, 0, 10, 42, 180, 1, 7, 167, 0, 28, 28, 6, 160, 0, 10, 42]
abbrev dktX3_shelve_3 : List UInt8 := dkwX3_shelve_3 ++ dktX3_shelve_4
def dkwX3_shelve_2 : List UInt8 := [62, 42, 180, 0, 107, 27, 28, 7, 160, 0, 7, 4, 167, 0, 4, 28, 79, 28, 4, 160, 0, 10, 42]
abbrev dktX3_shelve_2 : List UInt8 := dkwX3_shelve_2 ++ dktX3_shelve_3
def dkwX3_shelve_1 : List UInt8 := [20, 1, 51, 184, 0, 132, 153, 0, 13, 42, 180, 1, 32, 154, 0, 6, 16, 253, 172, 17, 6, 64, 27, 104]
abbrev dktX3_shelve_1 : List UInt8 := dkwX3_shelve_1 ++ dktX3_shelve_2
def dkwX3_shelve_0 : List UInt8 := [27, 184, 1, 48, 153, 0, 15, 28, 133, 9, 20, 0, 151, 184, 0, 132, 154, 0, 5, 2, 172, 28, 133, 10]
abbrev dktX3_shelve_0 : List UInt8 := dkwX3_shelve_0 ++ dktX3_shelve_1
theorem dksX3_shelve_0 : cX3_shelve.data.toList.drop 0 = dktX3_shelve_0 := by decide +kernel
theorem dksX3_shelve_1 : cX3_shelve.data.toList.drop 24 = dktX3_shelve_1 := dk_seg dksX3_shelve_0 24 rfl rfl
theorem dksX3_shelve_2 : cX3_shelve.data.toList.drop 48 = dktX3_shelve_2 := dk_seg dksX3_shelve_1 24 rfl rfl
theorem dksX3_shelve_3 : cX3_shelve.data.toList.drop 71 = dktX3_shelve_3 := dk_seg dksX3_shelve_2 23 rfl rfl
theorem dksX3_shelve_4 : cX3_shelve.data.toList.drop 95 = dktX3_shelve_4 := dk_seg dksX3_shelve_3 24 rfl rfl
theorem dksX3_shelve_5 : cX3_shelve.data.toList.drop 117 = dktX3_shelve_5 := dk_seg dksX3_shelve_4 22 rfl rfl
theorem dksX3_shelve_6 : cX3_shelve.data.toList.drop 141 = dktX3_shelve_6 := dk_seg dksX3_shelve_5 24 rfl rfl
theorem dksX3_shelve_7 : cX3_shelve.data.toList.drop 163 = dktX3_shelve_7 := dk_seg dksX3_shelve_6 22 rfl rfl
theorem dksX3_shelve_8 : cX3_shelve.data.toList.drop 187 = dktX3_shelve_8 := dk_seg dksX3_shelve_7 24 rfl rfl
theorem dksX3_shelve_9 : cX3_shelve.data.toList.drop 211 = dktX3_shelve_9 := dk_seg dksX3_shelve_8 24 rfl rfl
theorem dX3_shelve_0 : decode cX3_shelve 0 = .ok (.iload_n 1, 1) := dk_27 (dk_at dksX3_shelve_0 0 rfl rfl)
theorem dX3_shelve_1 : decode cX3_shelve 1 = .ok (.invokestatic 304, 3) := dk_184 1 48 (dk_at dksX3_shelve_0 1 rfl rfl)
theorem dX3_shelve_4 : decode cX3_shelve 4 = .ok (.ifCond .eq 15, 3) := dk_153 0 15 (dk_at dksX3_shelve_0 4 rfl rfl)
theorem dX3_shelve_7 : decode cX3_shelve 7 = .ok (.iload_n 2, 1) := dk_28 (dk_at dksX3_shelve_0 7 rfl rfl)
theorem dX3_shelve_8 : decode cX3_shelve 8 = .ok (.i2l, 1) := dk_133 (dk_at dksX3_shelve_0 8 rfl rfl)
theorem dX3_shelve_9 : decode cX3_shelve 9 = .ok (.lconst 0, 1) := dk_9 (dk_at dksX3_shelve_0 9 rfl rfl)
theorem dX3_shelve_10 : decode cX3_shelve 10 = .ok (.ldc2_w 151, 3) := dk_20 0 151 (dk_at dksX3_shelve_0 10 rfl rfl)
theorem dX3_shelve_13 : decode cX3_shelve 13 = .ok (.invokestatic 132, 3) := dk_184 0 132 (dk_at dksX3_shelve_0 13 rfl rfl)
theorem dX3_shelve_16 : decode cX3_shelve 16 = .ok (.ifCond .ne 5, 3) := dk_154 0 5 (dk_at dksX3_shelve_0 16 rfl rfl)
theorem dX3_shelve_19 : decode cX3_shelve 19 = .ok (.iconst (-1), 1) := dk_2 (dk_at dksX3_shelve_0 19 rfl rfl)
theorem dX3_shelve_20 : decode cX3_shelve 20 = .ok (.ireturn, 1) := dk_172 (dk_at dksX3_shelve_0 20 rfl rfl)
theorem dX3_shelve_21 : decode cX3_shelve 21 = .ok (.iload_n 2, 1) := dk_28 (dk_at dksX3_shelve_0 21 rfl rfl)
theorem dX3_shelve_22 : decode cX3_shelve 22 = .ok (.i2l, 1) := dk_133 (dk_at dksX3_shelve_0 22 rfl rfl)
theorem dX3_shelve_23 : decode cX3_shelve 23 = .ok (.lconst 1, 1) := dk_10 (dk_at dksX3_shelve_0 23 rfl rfl)
theorem dX3_shelve_24 : decode cX3_shelve 24 = .ok (.ldc2_w 307, 3) := dk_20 1 51 (dk_at dksX3_shelve_1 0 rfl rfl)
theorem dX3_shelve_27 : decode cX3_shelve 27 = .ok (.invokestatic 132, 3) := dk_184 0 132 (dk_at dksX3_shelve_1 3 rfl rfl)
theorem dX3_shelve_30 : decode cX3_shelve 30 = .ok (.ifCond .eq 13, 3) := dk_153 0 13 (dk_at dksX3_shelve_1 6 rfl rfl)
theorem dX3_shelve_33 : decode cX3_shelve 33 = .ok (.aload_n 0, 1) := dk_42 (dk_at dksX3_shelve_1 9 rfl rfl)
theorem dX3_shelve_34 : decode cX3_shelve 34 = .ok (.getfield 288, 3) := dk_180 1 32 (dk_at dksX3_shelve_1 10 rfl rfl)
theorem dX3_shelve_37 : decode cX3_shelve 37 = .ok (.ifCond .ne 6, 3) := dk_154 0 6 (dk_at dksX3_shelve_1 13 rfl rfl)
theorem dX3_shelve_40 : decode cX3_shelve 40 = .ok (.bipush (-3), 2) := dk_16 253 (dk_at dksX3_shelve_1 16 rfl rfl)
theorem dX3_shelve_42 : decode cX3_shelve 42 = .ok (.ireturn, 1) := dk_172 (dk_at dksX3_shelve_1 18 rfl rfl)
theorem dX3_shelve_43 : decode cX3_shelve 43 = .ok (.sipush 1600, 3) := dk_17 6 64 (dk_at dksX3_shelve_1 19 rfl rfl)
theorem dX3_shelve_46 : decode cX3_shelve 46 = .ok (.iload_n 1, 1) := dk_27 (dk_at dksX3_shelve_1 22 rfl rfl)
theorem dX3_shelve_47 : decode cX3_shelve 47 = .ok (.imul, 1) := dk_104 (dk_at dksX3_shelve_1 23 rfl rfl)
theorem dX3_shelve_48 : decode cX3_shelve 48 = .ok (.istore_n 3, 1) := dk_62 (dk_at dksX3_shelve_2 0 rfl rfl)
theorem dX3_shelve_49 : decode cX3_shelve 49 = .ok (.aload_n 0, 1) := dk_42 (dk_at dksX3_shelve_2 1 rfl rfl)
theorem dX3_shelve_50 : decode cX3_shelve 50 = .ok (.getfield 107, 3) := dk_180 0 107 (dk_at dksX3_shelve_2 2 rfl rfl)
theorem dX3_shelve_53 : decode cX3_shelve 53 = .ok (.iload_n 1, 1) := dk_27 (dk_at dksX3_shelve_2 5 rfl rfl)
theorem dX3_shelve_54 : decode cX3_shelve 54 = .ok (.iload_n 2, 1) := dk_28 (dk_at dksX3_shelve_2 6 rfl rfl)
theorem dX3_shelve_55 : decode cX3_shelve 55 = .ok (.iconst 4, 1) := dk_7 (dk_at dksX3_shelve_2 7 rfl rfl)
theorem dX3_shelve_56 : decode cX3_shelve 56 = .ok (.if_icmp .ne 7, 3) := dk_160 0 7 (dk_at dksX3_shelve_2 8 rfl rfl)
theorem dX3_shelve_59 : decode cX3_shelve 59 = .ok (.iconst 1, 1) := dk_4 (dk_at dksX3_shelve_2 11 rfl rfl)
theorem dX3_shelve_60 : decode cX3_shelve 60 = .ok (.goto 4, 3) := dk_167 0 4 (dk_at dksX3_shelve_2 12 rfl rfl)
theorem dX3_shelve_63 : decode cX3_shelve 63 = .ok (.iload_n 2, 1) := dk_28 (dk_at dksX3_shelve_2 15 rfl rfl)
theorem dX3_shelve_64 : decode cX3_shelve 64 = .ok (.iastore, 1) := dk_79 (dk_at dksX3_shelve_2 16 rfl rfl)
theorem dX3_shelve_65 : decode cX3_shelve 65 = .ok (.iload_n 2, 1) := dk_28 (dk_at dksX3_shelve_2 17 rfl rfl)
theorem dX3_shelve_66 : decode cX3_shelve 66 = .ok (.iconst 1, 1) := dk_4 (dk_at dksX3_shelve_2 18 rfl rfl)
theorem dX3_shelve_67 : decode cX3_shelve 67 = .ok (.if_icmp .ne 10, 3) := dk_160 0 10 (dk_at dksX3_shelve_2 19 rfl rfl)
theorem dX3_shelve_70 : decode cX3_shelve 70 = .ok (.aload_n 0, 1) := dk_42 (dk_at dksX3_shelve_2 22 rfl rfl)
theorem dX3_shelve_71 : decode cX3_shelve 71 = .ok (.getfield 260, 3) := dk_180 1 4 (dk_at dksX3_shelve_3 0 rfl rfl)
theorem dX3_shelve_74 : decode cX3_shelve 74 = .ok (.goto 40, 3) := dk_167 0 40 (dk_at dksX3_shelve_3 3 rfl rfl)
theorem dX3_shelve_77 : decode cX3_shelve 77 = .ok (.iload_n 2, 1) := dk_28 (dk_at dksX3_shelve_3 6 rfl rfl)
theorem dX3_shelve_78 : decode cX3_shelve 78 = .ok (.iconst 2, 1) := dk_5 (dk_at dksX3_shelve_3 7 rfl rfl)
theorem dX3_shelve_79 : decode cX3_shelve 79 = .ok (.if_icmp .ne 10, 3) := dk_160 0 10 (dk_at dksX3_shelve_3 8 rfl rfl)
theorem dX3_shelve_82 : decode cX3_shelve 82 = .ok (.aload_n 0, 1) := dk_42 (dk_at dksX3_shelve_3 11 rfl rfl)
theorem dX3_shelve_83 : decode cX3_shelve 83 = .ok (.getfield 263, 3) := dk_180 1 7 (dk_at dksX3_shelve_3 12 rfl rfl)
theorem dX3_shelve_86 : decode cX3_shelve 86 = .ok (.goto 28, 3) := dk_167 0 28 (dk_at dksX3_shelve_3 15 rfl rfl)
theorem dX3_shelve_89 : decode cX3_shelve 89 = .ok (.iload_n 2, 1) := dk_28 (dk_at dksX3_shelve_3 18 rfl rfl)
theorem dX3_shelve_90 : decode cX3_shelve 90 = .ok (.iconst 3, 1) := dk_6 (dk_at dksX3_shelve_3 19 rfl rfl)
theorem dX3_shelve_91 : decode cX3_shelve 91 = .ok (.if_icmp .ne 10, 3) := dk_160 0 10 (dk_at dksX3_shelve_3 20 rfl rfl)
theorem dX3_shelve_94 : decode cX3_shelve 94 = .ok (.aload_n 0, 1) := dk_42 (dk_at dksX3_shelve_3 23 rfl rfl)
theorem dX3_shelve_95 : decode cX3_shelve 95 = .ok (.getfield 250, 3) := dk_180 0 250 (dk_at dksX3_shelve_4 0 rfl rfl)
theorem dX3_shelve_98 : decode cX3_shelve 98 = .ok (.goto 16, 3) := dk_167 0 16 (dk_at dksX3_shelve_4 3 rfl rfl)
theorem dX3_shelve_101 : decode cX3_shelve 101 = .ok (.iload_n 2, 1) := dk_28 (dk_at dksX3_shelve_4 6 rfl rfl)
theorem dX3_shelve_102 : decode cX3_shelve 102 = .ok (.iconst 4, 1) := dk_7 (dk_at dksX3_shelve_4 7 rfl rfl)
theorem dX3_shelve_103 : decode cX3_shelve 103 = .ok (.if_icmp .ne 10, 3) := dk_160 0 10 (dk_at dksX3_shelve_4 8 rfl rfl)
theorem dX3_shelve_106 : decode cX3_shelve 106 = .ok (.aload_n 0, 1) := dk_42 (dk_at dksX3_shelve_4 11 rfl rfl)
theorem dX3_shelve_107 : decode cX3_shelve 107 = .ok (.getfield 156, 3) := dk_180 0 156 (dk_at dksX3_shelve_4 12 rfl rfl)
theorem dX3_shelve_110 : decode cX3_shelve 110 = .ok (.goto 4, 3) := dk_167 0 4 (dk_at dksX3_shelve_4 15 rfl rfl)
theorem dX3_shelve_113 : decode cX3_shelve 113 = .ok (.iconst 0, 1) := dk_3 (dk_at dksX3_shelve_4 18 rfl rfl)
theorem dX3_shelve_114 : decode cX3_shelve 114 = .ok (.istore 4, 2) := dk_54 4 (dk_at dksX3_shelve_4 19 rfl rfl)
theorem dX3_shelve_116 : decode cX3_shelve 116 = .ok (.aload_n 0, 1) := dk_42 (dk_at dksX3_shelve_4 21 rfl rfl)
theorem dX3_shelve_117 : decode cX3_shelve 117 = .ok (.getfield 110, 3) := dk_180 0 110 (dk_at dksX3_shelve_5 0 rfl rfl)
theorem dX3_shelve_120 : decode cX3_shelve 120 = .ok (.iload_n 1, 1) := dk_27 (dk_at dksX3_shelve_5 3 rfl rfl)
theorem dX3_shelve_121 : decode cX3_shelve 121 = .ok (.iload 4, 2) := dk_21 4 (dk_at dksX3_shelve_5 4 rfl rfl)
theorem dX3_shelve_123 : decode cX3_shelve 123 = .ok (.iastore, 1) := dk_79 (dk_at dksX3_shelve_5 6 rfl rfl)
theorem dX3_shelve_124 : decode cX3_shelve 124 = .ok (.iload_n 2, 1) := dk_28 (dk_at dksX3_shelve_5 7 rfl rfl)
theorem dX3_shelve_125 : decode cX3_shelve 125 = .ok (.iconst 2, 1) := dk_5 (dk_at dksX3_shelve_5 8 rfl rfl)
theorem dX3_shelve_126 : decode cX3_shelve 126 = .ok (.if_icmp .ne 10, 3) := dk_160 0 10 (dk_at dksX3_shelve_5 9 rfl rfl)
theorem dX3_shelve_129 : decode cX3_shelve 129 = .ok (.iconst 5, 1) := dk_8 (dk_at dksX3_shelve_5 12 rfl rfl)
theorem dX3_shelve_130 : decode cX3_shelve 130 = .ok (.iload 4, 2) := dk_21 4 (dk_at dksX3_shelve_5 13 rfl rfl)
theorem dX3_shelve_132 : decode cX3_shelve 132 = .ok (.imul, 1) := dk_104 (dk_at dksX3_shelve_5 15 rfl rfl)
theorem dX3_shelve_133 : decode cX3_shelve 133 = .ok (.goto 17, 3) := dk_167 0 17 (dk_at dksX3_shelve_5 16 rfl rfl)
theorem dX3_shelve_136 : decode cX3_shelve 136 = .ok (.iload_n 2, 1) := dk_28 (dk_at dksX3_shelve_5 19 rfl rfl)
theorem dX3_shelve_137 : decode cX3_shelve 137 = .ok (.iconst 3, 1) := dk_6 (dk_at dksX3_shelve_5 20 rfl rfl)
theorem dX3_shelve_138 : decode cX3_shelve 138 = .ok (.if_icmp .ne 10, 3) := dk_160 0 10 (dk_at dksX3_shelve_5 21 rfl rfl)
theorem dX3_shelve_141 : decode cX3_shelve 141 = .ok (.iconst 4, 1) := dk_7 (dk_at dksX3_shelve_6 0 rfl rfl)
theorem dX3_shelve_142 : decode cX3_shelve 142 = .ok (.iload 4, 2) := dk_21 4 (dk_at dksX3_shelve_6 1 rfl rfl)
theorem dX3_shelve_144 : decode cX3_shelve 144 = .ok (.imul, 1) := dk_104 (dk_at dksX3_shelve_6 3 rfl rfl)
theorem dX3_shelve_145 : decode cX3_shelve 145 = .ok (.goto 5, 3) := dk_167 0 5 (dk_at dksX3_shelve_6 4 rfl rfl)
theorem dX3_shelve_148 : decode cX3_shelve 148 = .ok (.iload 4, 2) := dk_21 4 (dk_at dksX3_shelve_6 7 rfl rfl)
theorem dX3_shelve_150 : decode cX3_shelve 150 = .ok (.istore 5, 2) := dk_54 5 (dk_at dksX3_shelve_6 9 rfl rfl)
theorem dX3_shelve_152 : decode cX3_shelve 152 = .ok (.iconst 0, 1) := dk_3 (dk_at dksX3_shelve_6 11 rfl rfl)
theorem dX3_shelve_153 : decode cX3_shelve 153 = .ok (.istore 6, 2) := dk_54 6 (dk_at dksX3_shelve_6 12 rfl rfl)
theorem dX3_shelve_155 : decode cX3_shelve 155 = .ok (.iload 6, 2) := dk_21 6 (dk_at dksX3_shelve_6 14 rfl rfl)
theorem dX3_shelve_157 : decode cX3_shelve 157 = .ok (.iload 5, 2) := dk_21 5 (dk_at dksX3_shelve_6 16 rfl rfl)
theorem dX3_shelve_159 : decode cX3_shelve 159 = .ok (.if_icmp .ge 70, 3) := dk_162 0 70 (dk_at dksX3_shelve_6 18 rfl rfl)
theorem dX3_shelve_162 : decode cX3_shelve 162 = .ok (.aload_n 0, 1) := dk_42 (dk_at dksX3_shelve_6 21 rfl rfl)
theorem dX3_shelve_163 : decode cX3_shelve 163 = .ok (.getfield 113, 3) := dk_180 0 113 (dk_at dksX3_shelve_7 0 rfl rfl)
theorem dX3_shelve_166 : decode cX3_shelve 166 = .ok (.iload_n 3, 1) := dk_29 (dk_at dksX3_shelve_7 3 rfl rfl)
theorem dX3_shelve_167 : decode cX3_shelve 167 = .ok (.iload 6, 2) := dk_21 6 (dk_at dksX3_shelve_7 4 rfl rfl)
theorem dX3_shelve_169 : decode cX3_shelve 169 = .ok (.iadd, 1) := dk_96 (dk_at dksX3_shelve_7 6 rfl rfl)
theorem dX3_shelve_170 : decode cX3_shelve 170 = .ok (.iload_n 2, 1) := dk_28 (dk_at dksX3_shelve_7 7 rfl rfl)
theorem dX3_shelve_171 : decode cX3_shelve 171 = .ok (.iconst 1, 1) := dk_4 (dk_at dksX3_shelve_7 8 rfl rfl)
theorem dX3_shelve_172 : decode cX3_shelve 172 = .ok (.if_icmp .ne 13, 3) := dk_160 0 13 (dk_at dksX3_shelve_7 9 rfl rfl)
theorem dX3_shelve_175 : decode cX3_shelve 175 = .ok (.aload_n 0, 1) := dk_42 (dk_at dksX3_shelve_7 12 rfl rfl)
theorem dX3_shelve_176 : decode cX3_shelve 176 = .ok (.getfield 51, 3) := dk_180 0 51 (dk_at dksX3_shelve_7 13 rfl rfl)
theorem dX3_shelve_179 : decode cX3_shelve 179 = .ok (.iload 6, 2) := dk_21 6 (dk_at dksX3_shelve_7 16 rfl rfl)
theorem dX3_shelve_181 : decode cX3_shelve 181 = .ok (.iaload, 1) := dk_46 (dk_at dksX3_shelve_7 18 rfl rfl)
theorem dX3_shelve_182 : decode cX3_shelve 182 = .ok (.goto 40, 3) := dk_167 0 40 (dk_at dksX3_shelve_7 19 rfl rfl)
theorem dX3_shelve_185 : decode cX3_shelve 185 = .ok (.iload_n 2, 1) := dk_28 (dk_at dksX3_shelve_7 22 rfl rfl)
theorem dX3_shelve_186 : decode cX3_shelve 186 = .ok (.iconst 2, 1) := dk_5 (dk_at dksX3_shelve_7 23 rfl rfl)
theorem dX3_shelve_187 : decode cX3_shelve 187 = .ok (.if_icmp .ne 13, 3) := dk_160 0 13 (dk_at dksX3_shelve_8 0 rfl rfl)
theorem dX3_shelve_190 : decode cX3_shelve 190 = .ok (.aload_n 0, 1) := dk_42 (dk_at dksX3_shelve_8 3 rfl rfl)
theorem dX3_shelve_191 : decode cX3_shelve 191 = .ok (.getfield 54, 3) := dk_180 0 54 (dk_at dksX3_shelve_8 4 rfl rfl)
theorem dX3_shelve_194 : decode cX3_shelve 194 = .ok (.iload 6, 2) := dk_21 6 (dk_at dksX3_shelve_8 7 rfl rfl)
theorem dX3_shelve_196 : decode cX3_shelve 196 = .ok (.iaload, 1) := dk_46 (dk_at dksX3_shelve_8 9 rfl rfl)
theorem dX3_shelve_197 : decode cX3_shelve 197 = .ok (.goto 25, 3) := dk_167 0 25 (dk_at dksX3_shelve_8 10 rfl rfl)
theorem dX3_shelve_200 : decode cX3_shelve 200 = .ok (.iload_n 2, 1) := dk_28 (dk_at dksX3_shelve_8 13 rfl rfl)
theorem dX3_shelve_201 : decode cX3_shelve 201 = .ok (.iconst 3, 1) := dk_6 (dk_at dksX3_shelve_8 14 rfl rfl)
theorem dX3_shelve_202 : decode cX3_shelve 202 = .ok (.if_icmp .ne 13, 3) := dk_160 0 13 (dk_at dksX3_shelve_8 15 rfl rfl)
theorem dX3_shelve_205 : decode cX3_shelve 205 = .ok (.aload_n 0, 1) := dk_42 (dk_at dksX3_shelve_8 18 rfl rfl)
theorem dX3_shelve_206 : decode cX3_shelve 206 = .ok (.getfield 48, 3) := dk_180 0 48 (dk_at dksX3_shelve_8 19 rfl rfl)
theorem dX3_shelve_209 : decode cX3_shelve 209 = .ok (.iload 6, 2) := dk_21 6 (dk_at dksX3_shelve_8 22 rfl rfl)
theorem dX3_shelve_211 : decode cX3_shelve 211 = .ok (.iaload, 1) := dk_46 (dk_at dksX3_shelve_9 0 rfl rfl)
theorem dX3_shelve_212 : decode cX3_shelve 212 = .ok (.goto 10, 3) := dk_167 0 10 (dk_at dksX3_shelve_9 1 rfl rfl)
theorem dX3_shelve_215 : decode cX3_shelve 215 = .ok (.aload_n 0, 1) := dk_42 (dk_at dksX3_shelve_9 4 rfl rfl)
theorem dX3_shelve_216 : decode cX3_shelve 216 = .ok (.getfield 39, 3) := dk_180 0 39 (dk_at dksX3_shelve_9 5 rfl rfl)
theorem dX3_shelve_219 : decode cX3_shelve 219 = .ok (.iload 6, 2) := dk_21 6 (dk_at dksX3_shelve_9 8 rfl rfl)
theorem dX3_shelve_221 : decode cX3_shelve 221 = .ok (.iaload, 1) := dk_46 (dk_at dksX3_shelve_9 10 rfl rfl)
theorem dX3_shelve_222 : decode cX3_shelve 222 = .ok (.iastore, 1) := dk_79 (dk_at dksX3_shelve_9 11 rfl rfl)
theorem dX3_shelve_223 : decode cX3_shelve 223 = .ok (.iinc 6 1, 3) := dk_132 6 1 (dk_at dksX3_shelve_9 12 rfl rfl)
theorem dX3_shelve_226 : decode cX3_shelve 226 = .ok (.goto (-71), 3) := dk_167 255 185 (dk_at dksX3_shelve_9 15 rfl rfl)
theorem dX3_shelve_229 : decode cX3_shelve 229 = .ok (.iconst 1, 1) := dk_4 (dk_at dksX3_shelve_9 18 rfl rfl)
theorem dX3_shelve_230 : decode cX3_shelve 230 = .ok (.ireturn, 1) := dk_172 (dk_at dksX3_shelve_9 19 rfl rfl)
abbrev cX3_isShelf : ByteArray := prog_19_method_51_code
def yX3_isShelf : MethodName := ⟨RX3, "isShelf", "(I)Z"⟩
def dkwX3_isShelf_0 : List UInt8 := [26, 133, 9, 20, 1, 46, 184, 0, 132, 172]
abbrev dktX3_isShelf_0 : List UInt8 := dkwX3_isShelf_0 ++ []
theorem dksX3_isShelf_0 : cX3_isShelf.data.toList.drop 0 = dktX3_isShelf_0 := by decide +kernel
theorem dX3_isShelf_0 : decode cX3_isShelf 0 = .ok (.iload_n 0, 1) := dk_26 (dk_at dksX3_isShelf_0 0 rfl rfl)
theorem dX3_isShelf_1 : decode cX3_isShelf 1 = .ok (.i2l, 1) := dk_133 (dk_at dksX3_isShelf_0 1 rfl rfl)
theorem dX3_isShelf_2 : decode cX3_isShelf 2 = .ok (.lconst 0, 1) := dk_9 (dk_at dksX3_isShelf_0 2 rfl rfl)
theorem dX3_isShelf_3 : decode cX3_isShelf 3 = .ok (.ldc2_w 302, 3) := dk_20 1 46 (dk_at dksX3_isShelf_0 3 rfl rfl)
theorem dX3_isShelf_6 : decode cX3_isShelf 6 = .ok (.invokestatic 132, 3) := dk_184 0 132 (dk_at dksX3_isShelf_0 6 rfl rfl)
theorem dX3_isShelf_9 : decode cX3_isShelf 9 = .ok (.ireturn, 1) := dk_172 (dk_at dksX3_isShelf_0 9 rfl rfl)
abbrev cX3_rowAt : ByteArray := prog_19_method_54_code
def yX3_rowAt : MethodName := ⟨RX3, "rowAt", "(II)I"⟩
def dkwX3_rowAt_2 : List UInt8 := [17, 6, 64, 27, 104, 28, 96, 46, 167, 0, 5, 16, 244, 172]
abbrev dktX3_rowAt_2 : List UInt8 := dkwX3_rowAt_2 ++ []
def dkwX3_rowAt_1 : List UInt8 := [28, 133, 9, 42, 180, 0, 110, 27, 46, 4, 100, 133, 184, 0, 132, 153, 0, 18, 42, 180, 0, 113]
abbrev dktX3_rowAt_1 : List UInt8 := dkwX3_rowAt_1 ++ dktX3_rowAt_2
def dkwX3_rowAt_0 : List UInt8 := [27, 184, 1, 48, 154, 0, 5, 2, 172, 42, 27, 4, 182, 1, 53, 62, 29, 156, 0, 7, 29, 167, 0, 38]
abbrev dktX3_rowAt_0 : List UInt8 := dkwX3_rowAt_0 ++ dktX3_rowAt_1
theorem dksX3_rowAt_0 : cX3_rowAt.data.toList.drop 0 = dktX3_rowAt_0 := by decide +kernel
theorem dksX3_rowAt_1 : cX3_rowAt.data.toList.drop 24 = dktX3_rowAt_1 := dk_seg dksX3_rowAt_0 24 rfl rfl
theorem dksX3_rowAt_2 : cX3_rowAt.data.toList.drop 46 = dktX3_rowAt_2 := dk_seg dksX3_rowAt_1 22 rfl rfl
theorem dX3_rowAt_0 : decode cX3_rowAt 0 = .ok (.iload_n 1, 1) := dk_27 (dk_at dksX3_rowAt_0 0 rfl rfl)
theorem dX3_rowAt_1 : decode cX3_rowAt 1 = .ok (.invokestatic 304, 3) := dk_184 1 48 (dk_at dksX3_rowAt_0 1 rfl rfl)
theorem dX3_rowAt_4 : decode cX3_rowAt 4 = .ok (.ifCond .ne 5, 3) := dk_154 0 5 (dk_at dksX3_rowAt_0 4 rfl rfl)
theorem dX3_rowAt_7 : decode cX3_rowAt 7 = .ok (.iconst (-1), 1) := dk_2 (dk_at dksX3_rowAt_0 7 rfl rfl)
theorem dX3_rowAt_8 : decode cX3_rowAt 8 = .ok (.ireturn, 1) := dk_172 (dk_at dksX3_rowAt_0 8 rfl rfl)
theorem dX3_rowAt_9 : decode cX3_rowAt 9 = .ok (.aload_n 0, 1) := dk_42 (dk_at dksX3_rowAt_0 9 rfl rfl)
theorem dX3_rowAt_10 : decode cX3_rowAt 10 = .ok (.iload_n 1, 1) := dk_27 (dk_at dksX3_rowAt_0 10 rfl rfl)
theorem dX3_rowAt_11 : decode cX3_rowAt 11 = .ok (.iconst 1, 1) := dk_4 (dk_at dksX3_rowAt_0 11 rfl rfl)
theorem dX3_rowAt_12 : decode cX3_rowAt 12 = .ok (.invokevirtual 309, 3) := dk_182 1 53 (dk_at dksX3_rowAt_0 12 rfl rfl)
theorem dX3_rowAt_15 : decode cX3_rowAt 15 = .ok (.istore_n 3, 1) := dk_62 (dk_at dksX3_rowAt_0 15 rfl rfl)
theorem dX3_rowAt_16 : decode cX3_rowAt 16 = .ok (.iload_n 3, 1) := dk_29 (dk_at dksX3_rowAt_0 16 rfl rfl)
theorem dX3_rowAt_17 : decode cX3_rowAt 17 = .ok (.ifCond .ge 7, 3) := dk_156 0 7 (dk_at dksX3_rowAt_0 17 rfl rfl)
theorem dX3_rowAt_20 : decode cX3_rowAt 20 = .ok (.iload_n 3, 1) := dk_29 (dk_at dksX3_rowAt_0 20 rfl rfl)
theorem dX3_rowAt_21 : decode cX3_rowAt 21 = .ok (.goto 38, 3) := dk_167 0 38 (dk_at dksX3_rowAt_0 21 rfl rfl)
theorem dX3_rowAt_24 : decode cX3_rowAt 24 = .ok (.iload_n 2, 1) := dk_28 (dk_at dksX3_rowAt_1 0 rfl rfl)
theorem dX3_rowAt_25 : decode cX3_rowAt 25 = .ok (.i2l, 1) := dk_133 (dk_at dksX3_rowAt_1 1 rfl rfl)
theorem dX3_rowAt_26 : decode cX3_rowAt 26 = .ok (.lconst 0, 1) := dk_9 (dk_at dksX3_rowAt_1 2 rfl rfl)
theorem dX3_rowAt_27 : decode cX3_rowAt 27 = .ok (.aload_n 0, 1) := dk_42 (dk_at dksX3_rowAt_1 3 rfl rfl)
theorem dX3_rowAt_28 : decode cX3_rowAt 28 = .ok (.getfield 110, 3) := dk_180 0 110 (dk_at dksX3_rowAt_1 4 rfl rfl)
theorem dX3_rowAt_31 : decode cX3_rowAt 31 = .ok (.iload_n 1, 1) := dk_27 (dk_at dksX3_rowAt_1 7 rfl rfl)
theorem dX3_rowAt_32 : decode cX3_rowAt 32 = .ok (.iaload, 1) := dk_46 (dk_at dksX3_rowAt_1 8 rfl rfl)
theorem dX3_rowAt_33 : decode cX3_rowAt 33 = .ok (.iconst 1, 1) := dk_4 (dk_at dksX3_rowAt_1 9 rfl rfl)
theorem dX3_rowAt_34 : decode cX3_rowAt 34 = .ok (.isub, 1) := dk_100 (dk_at dksX3_rowAt_1 10 rfl rfl)
theorem dX3_rowAt_35 : decode cX3_rowAt 35 = .ok (.i2l, 1) := dk_133 (dk_at dksX3_rowAt_1 11 rfl rfl)
theorem dX3_rowAt_36 : decode cX3_rowAt 36 = .ok (.invokestatic 132, 3) := dk_184 0 132 (dk_at dksX3_rowAt_1 12 rfl rfl)
theorem dX3_rowAt_39 : decode cX3_rowAt 39 = .ok (.ifCond .eq 18, 3) := dk_153 0 18 (dk_at dksX3_rowAt_1 15 rfl rfl)
theorem dX3_rowAt_42 : decode cX3_rowAt 42 = .ok (.aload_n 0, 1) := dk_42 (dk_at dksX3_rowAt_1 18 rfl rfl)
theorem dX3_rowAt_43 : decode cX3_rowAt 43 = .ok (.getfield 113, 3) := dk_180 0 113 (dk_at dksX3_rowAt_1 19 rfl rfl)
theorem dX3_rowAt_46 : decode cX3_rowAt 46 = .ok (.sipush 1600, 3) := dk_17 6 64 (dk_at dksX3_rowAt_2 0 rfl rfl)
theorem dX3_rowAt_49 : decode cX3_rowAt 49 = .ok (.iload_n 1, 1) := dk_27 (dk_at dksX3_rowAt_2 3 rfl rfl)
theorem dX3_rowAt_50 : decode cX3_rowAt 50 = .ok (.imul, 1) := dk_104 (dk_at dksX3_rowAt_2 4 rfl rfl)
theorem dX3_rowAt_51 : decode cX3_rowAt 51 = .ok (.iload_n 2, 1) := dk_28 (dk_at dksX3_rowAt_2 5 rfl rfl)
theorem dX3_rowAt_52 : decode cX3_rowAt 52 = .ok (.iadd, 1) := dk_96 (dk_at dksX3_rowAt_2 6 rfl rfl)
theorem dX3_rowAt_53 : decode cX3_rowAt 53 = .ok (.iaload, 1) := dk_46 (dk_at dksX3_rowAt_2 7 rfl rfl)
theorem dX3_rowAt_54 : decode cX3_rowAt 54 = .ok (.goto 5, 3) := dk_167 0 5 (dk_at dksX3_rowAt_2 8 rfl rfl)
theorem dX3_rowAt_57 : decode cX3_rowAt 57 = .ok (.bipush (-12), 2) := dk_16 244 (dk_at dksX3_rowAt_2 11 rfl rfl)
theorem dX3_rowAt_59 : decode cX3_rowAt 59 = .ok (.ireturn, 1) := dk_172 (dk_at dksX3_rowAt_2 13 rfl rfl)
abbrev cX3_against : ByteArray := prog_19_method_52_code
def yX3_against : MethodName := ⟨RX3, "against", "(II)I"⟩
def dkwX3_against_1 : List UInt8 := [16, 243, 167, 0, 4, 3, 172]
abbrev dktX3_against_1 : List UInt8 := dkwX3_against_1 ++ []
def dkwX3_against_0 : List UInt8 := [42, 180, 0, 107, 27, 46, 154, 0, 8, 16, 245, 167, 0, 19, 42, 180, 0, 107, 27, 46, 28, 159, 0, 8]
abbrev dktX3_against_0 : List UInt8 := dkwX3_against_0 ++ dktX3_against_1
theorem dksX3_against_0 : cX3_against.data.toList.drop 0 = dktX3_against_0 := by decide +kernel
theorem dksX3_against_1 : cX3_against.data.toList.drop 24 = dktX3_against_1 := dk_seg dksX3_against_0 24 rfl rfl
theorem dX3_against_0 : decode cX3_against 0 = .ok (.aload_n 0, 1) := dk_42 (dk_at dksX3_against_0 0 rfl rfl)
theorem dX3_against_1 : decode cX3_against 1 = .ok (.getfield 107, 3) := dk_180 0 107 (dk_at dksX3_against_0 1 rfl rfl)
theorem dX3_against_4 : decode cX3_against 4 = .ok (.iload_n 1, 1) := dk_27 (dk_at dksX3_against_0 4 rfl rfl)
theorem dX3_against_5 : decode cX3_against 5 = .ok (.iaload, 1) := dk_46 (dk_at dksX3_against_0 5 rfl rfl)
theorem dX3_against_6 : decode cX3_against 6 = .ok (.ifCond .ne 8, 3) := dk_154 0 8 (dk_at dksX3_against_0 6 rfl rfl)
theorem dX3_against_9 : decode cX3_against 9 = .ok (.bipush (-11), 2) := dk_16 245 (dk_at dksX3_against_0 9 rfl rfl)
theorem dX3_against_11 : decode cX3_against 11 = .ok (.goto 19, 3) := dk_167 0 19 (dk_at dksX3_against_0 11 rfl rfl)
theorem dX3_against_14 : decode cX3_against 14 = .ok (.aload_n 0, 1) := dk_42 (dk_at dksX3_against_0 14 rfl rfl)
theorem dX3_against_15 : decode cX3_against 15 = .ok (.getfield 107, 3) := dk_180 0 107 (dk_at dksX3_against_0 15 rfl rfl)
theorem dX3_against_18 : decode cX3_against 18 = .ok (.iload_n 1, 1) := dk_27 (dk_at dksX3_against_0 18 rfl rfl)
theorem dX3_against_19 : decode cX3_against 19 = .ok (.iaload, 1) := dk_46 (dk_at dksX3_against_0 19 rfl rfl)
theorem dX3_against_20 : decode cX3_against 20 = .ok (.iload_n 2, 1) := dk_28 (dk_at dksX3_against_0 20 rfl rfl)
theorem dX3_against_21 : decode cX3_against 21 = .ok (.if_icmp .eq 8, 3) := dk_159 0 8 (dk_at dksX3_against_0 21 rfl rfl)
theorem dX3_against_24 : decode cX3_against 24 = .ok (.bipush (-13), 2) := dk_16 243 (dk_at dksX3_against_1 0 rfl rfl)
theorem dX3_against_26 : decode cX3_against 26 = .ok (.goto 4, 3) := dk_167 0 4 (dk_at dksX3_against_1 2 rfl rfl)
theorem dX3_against_29 : decode cX3_against 29 = .ok (.iconst 0, 1) := dk_3 (dk_at dksX3_against_1 5 rfl rfl)
theorem dX3_against_30 : decode cX3_against 30 = .ok (.ireturn, 1) := dk_172 (dk_at dksX3_against_1 6 rfl rfl)
abbrev cX3_treeAt : ByteArray := prog_19_method_55_code
def yX3_treeAt : MethodName := ⟨RX3, "treeAt", "(III)I"⟩
def dkwX3_treeAt_3 : List UInt8 := [46, 167, 0, 5, 16, 244, 172]
abbrev dktX3_treeAt_3 : List UInt8 := dkwX3_treeAt_3 ++ []
def dkwX3_treeAt_2 : List UInt8 := [4, 100, 133, 184, 0, 132, 153, 0, 22, 42, 180, 0, 113, 17, 6, 64, 27, 104, 8, 28, 104, 96, 29, 96]
abbrev dktX3_treeAt_2 : List UInt8 := dkwX3_treeAt_2 ++ dktX3_treeAt_3
def dkwX3_treeAt_1 : List UInt8 := [182, 1, 53, 54, 4, 21, 4, 156, 0, 8, 21, 4, 167, 0, 42, 28, 133, 9, 42, 180, 0, 110, 27, 46]
abbrev dktX3_treeAt_1 : List UInt8 := dkwX3_treeAt_1 ++ dktX3_treeAt_2
def dkwX3_treeAt_0 : List UInt8 := [27, 184, 1, 48, 153, 0, 15, 29, 133, 9, 20, 0, 151, 184, 0, 132, 154, 0, 5, 2, 172, 42, 27, 5]
abbrev dktX3_treeAt_0 : List UInt8 := dkwX3_treeAt_0 ++ dktX3_treeAt_1
theorem dksX3_treeAt_0 : cX3_treeAt.data.toList.drop 0 = dktX3_treeAt_0 := by decide +kernel
theorem dksX3_treeAt_1 : cX3_treeAt.data.toList.drop 24 = dktX3_treeAt_1 := dk_seg dksX3_treeAt_0 24 rfl rfl
theorem dksX3_treeAt_2 : cX3_treeAt.data.toList.drop 48 = dktX3_treeAt_2 := dk_seg dksX3_treeAt_1 24 rfl rfl
theorem dksX3_treeAt_3 : cX3_treeAt.data.toList.drop 72 = dktX3_treeAt_3 := dk_seg dksX3_treeAt_2 24 rfl rfl
theorem dX3_treeAt_0 : decode cX3_treeAt 0 = .ok (.iload_n 1, 1) := dk_27 (dk_at dksX3_treeAt_0 0 rfl rfl)
theorem dX3_treeAt_1 : decode cX3_treeAt 1 = .ok (.invokestatic 304, 3) := dk_184 1 48 (dk_at dksX3_treeAt_0 1 rfl rfl)
theorem dX3_treeAt_4 : decode cX3_treeAt 4 = .ok (.ifCond .eq 15, 3) := dk_153 0 15 (dk_at dksX3_treeAt_0 4 rfl rfl)
theorem dX3_treeAt_7 : decode cX3_treeAt 7 = .ok (.iload_n 3, 1) := dk_29 (dk_at dksX3_treeAt_0 7 rfl rfl)
theorem dX3_treeAt_8 : decode cX3_treeAt 8 = .ok (.i2l, 1) := dk_133 (dk_at dksX3_treeAt_0 8 rfl rfl)
theorem dX3_treeAt_9 : decode cX3_treeAt 9 = .ok (.lconst 0, 1) := dk_9 (dk_at dksX3_treeAt_0 9 rfl rfl)
theorem dX3_treeAt_10 : decode cX3_treeAt 10 = .ok (.ldc2_w 151, 3) := dk_20 0 151 (dk_at dksX3_treeAt_0 10 rfl rfl)
theorem dX3_treeAt_13 : decode cX3_treeAt 13 = .ok (.invokestatic 132, 3) := dk_184 0 132 (dk_at dksX3_treeAt_0 13 rfl rfl)
theorem dX3_treeAt_16 : decode cX3_treeAt 16 = .ok (.ifCond .ne 5, 3) := dk_154 0 5 (dk_at dksX3_treeAt_0 16 rfl rfl)
theorem dX3_treeAt_19 : decode cX3_treeAt 19 = .ok (.iconst (-1), 1) := dk_2 (dk_at dksX3_treeAt_0 19 rfl rfl)
theorem dX3_treeAt_20 : decode cX3_treeAt 20 = .ok (.ireturn, 1) := dk_172 (dk_at dksX3_treeAt_0 20 rfl rfl)
theorem dX3_treeAt_21 : decode cX3_treeAt 21 = .ok (.aload_n 0, 1) := dk_42 (dk_at dksX3_treeAt_0 21 rfl rfl)
theorem dX3_treeAt_22 : decode cX3_treeAt 22 = .ok (.iload_n 1, 1) := dk_27 (dk_at dksX3_treeAt_0 22 rfl rfl)
theorem dX3_treeAt_23 : decode cX3_treeAt 23 = .ok (.iconst 2, 1) := dk_5 (dk_at dksX3_treeAt_0 23 rfl rfl)
theorem dX3_treeAt_24 : decode cX3_treeAt 24 = .ok (.invokevirtual 309, 3) := dk_182 1 53 (dk_at dksX3_treeAt_1 0 rfl rfl)
theorem dX3_treeAt_27 : decode cX3_treeAt 27 = .ok (.istore 4, 2) := dk_54 4 (dk_at dksX3_treeAt_1 3 rfl rfl)
theorem dX3_treeAt_29 : decode cX3_treeAt 29 = .ok (.iload 4, 2) := dk_21 4 (dk_at dksX3_treeAt_1 5 rfl rfl)
theorem dX3_treeAt_31 : decode cX3_treeAt 31 = .ok (.ifCond .ge 8, 3) := dk_156 0 8 (dk_at dksX3_treeAt_1 7 rfl rfl)
theorem dX3_treeAt_34 : decode cX3_treeAt 34 = .ok (.iload 4, 2) := dk_21 4 (dk_at dksX3_treeAt_1 10 rfl rfl)
theorem dX3_treeAt_36 : decode cX3_treeAt 36 = .ok (.goto 42, 3) := dk_167 0 42 (dk_at dksX3_treeAt_1 12 rfl rfl)
theorem dX3_treeAt_39 : decode cX3_treeAt 39 = .ok (.iload_n 2, 1) := dk_28 (dk_at dksX3_treeAt_1 15 rfl rfl)
theorem dX3_treeAt_40 : decode cX3_treeAt 40 = .ok (.i2l, 1) := dk_133 (dk_at dksX3_treeAt_1 16 rfl rfl)
theorem dX3_treeAt_41 : decode cX3_treeAt 41 = .ok (.lconst 0, 1) := dk_9 (dk_at dksX3_treeAt_1 17 rfl rfl)
theorem dX3_treeAt_42 : decode cX3_treeAt 42 = .ok (.aload_n 0, 1) := dk_42 (dk_at dksX3_treeAt_1 18 rfl rfl)
theorem dX3_treeAt_43 : decode cX3_treeAt 43 = .ok (.getfield 110, 3) := dk_180 0 110 (dk_at dksX3_treeAt_1 19 rfl rfl)
theorem dX3_treeAt_46 : decode cX3_treeAt 46 = .ok (.iload_n 1, 1) := dk_27 (dk_at dksX3_treeAt_1 22 rfl rfl)
theorem dX3_treeAt_47 : decode cX3_treeAt 47 = .ok (.iaload, 1) := dk_46 (dk_at dksX3_treeAt_1 23 rfl rfl)
theorem dX3_treeAt_48 : decode cX3_treeAt 48 = .ok (.iconst 1, 1) := dk_4 (dk_at dksX3_treeAt_2 0 rfl rfl)
theorem dX3_treeAt_49 : decode cX3_treeAt 49 = .ok (.isub, 1) := dk_100 (dk_at dksX3_treeAt_2 1 rfl rfl)
theorem dX3_treeAt_50 : decode cX3_treeAt 50 = .ok (.i2l, 1) := dk_133 (dk_at dksX3_treeAt_2 2 rfl rfl)
theorem dX3_treeAt_51 : decode cX3_treeAt 51 = .ok (.invokestatic 132, 3) := dk_184 0 132 (dk_at dksX3_treeAt_2 3 rfl rfl)
theorem dX3_treeAt_54 : decode cX3_treeAt 54 = .ok (.ifCond .eq 22, 3) := dk_153 0 22 (dk_at dksX3_treeAt_2 6 rfl rfl)
theorem dX3_treeAt_57 : decode cX3_treeAt 57 = .ok (.aload_n 0, 1) := dk_42 (dk_at dksX3_treeAt_2 9 rfl rfl)
theorem dX3_treeAt_58 : decode cX3_treeAt 58 = .ok (.getfield 113, 3) := dk_180 0 113 (dk_at dksX3_treeAt_2 10 rfl rfl)
theorem dX3_treeAt_61 : decode cX3_treeAt 61 = .ok (.sipush 1600, 3) := dk_17 6 64 (dk_at dksX3_treeAt_2 13 rfl rfl)
theorem dX3_treeAt_64 : decode cX3_treeAt 64 = .ok (.iload_n 1, 1) := dk_27 (dk_at dksX3_treeAt_2 16 rfl rfl)
theorem dX3_treeAt_65 : decode cX3_treeAt 65 = .ok (.imul, 1) := dk_104 (dk_at dksX3_treeAt_2 17 rfl rfl)
theorem dX3_treeAt_66 : decode cX3_treeAt 66 = .ok (.iconst 5, 1) := dk_8 (dk_at dksX3_treeAt_2 18 rfl rfl)
theorem dX3_treeAt_67 : decode cX3_treeAt 67 = .ok (.iload_n 2, 1) := dk_28 (dk_at dksX3_treeAt_2 19 rfl rfl)
theorem dX3_treeAt_68 : decode cX3_treeAt 68 = .ok (.imul, 1) := dk_104 (dk_at dksX3_treeAt_2 20 rfl rfl)
theorem dX3_treeAt_69 : decode cX3_treeAt 69 = .ok (.iadd, 1) := dk_96 (dk_at dksX3_treeAt_2 21 rfl rfl)
theorem dX3_treeAt_70 : decode cX3_treeAt 70 = .ok (.iload_n 3, 1) := dk_29 (dk_at dksX3_treeAt_2 22 rfl rfl)
theorem dX3_treeAt_71 : decode cX3_treeAt 71 = .ok (.iadd, 1) := dk_96 (dk_at dksX3_treeAt_2 23 rfl rfl)
theorem dX3_treeAt_72 : decode cX3_treeAt 72 = .ok (.iaload, 1) := dk_46 (dk_at dksX3_treeAt_3 0 rfl rfl)
theorem dX3_treeAt_73 : decode cX3_treeAt 73 = .ok (.goto 5, 3) := dk_167 0 5 (dk_at dksX3_treeAt_3 1 rfl rfl)
theorem dX3_treeAt_76 : decode cX3_treeAt 76 = .ok (.bipush (-12), 2) := dk_16 244 (dk_at dksX3_treeAt_3 4 rfl rfl)
theorem dX3_treeAt_78 : decode cX3_treeAt 78 = .ok (.ireturn, 1) := dk_172 (dk_at dksX3_treeAt_3 6 rfl rfl)
abbrev cX3_slipAt : ByteArray := prog_19_method_56_code
def yX3_slipAt : MethodName := ⟨RX3, "slipAt", "(III)I"⟩
def dkwX3_slipAt_3 : List UInt8 := [46, 167, 0, 5, 16, 244, 172]
abbrev dktX3_slipAt_3 : List UInt8 := dkwX3_slipAt_3 ++ []
def dkwX3_slipAt_2 : List UInt8 := [4, 100, 133, 184, 0, 132, 153, 0, 22, 42, 180, 0, 113, 17, 6, 64, 27, 104, 7, 28, 104, 96, 29, 96]
abbrev dktX3_slipAt_2 : List UInt8 := dkwX3_slipAt_2 ++ dktX3_slipAt_3
def dkwX3_slipAt_1 : List UInt8 := [182, 1, 53, 54, 4, 21, 4, 156, 0, 8, 21, 4, 167, 0, 42, 28, 133, 9, 42, 180, 0, 110, 27, 46]
abbrev dktX3_slipAt_1 : List UInt8 := dkwX3_slipAt_1 ++ dktX3_slipAt_2
def dkwX3_slipAt_0 : List UInt8 := [27, 184, 1, 48, 153, 0, 15, 29, 133, 9, 20, 1, 51, 184, 0, 132, 154, 0, 5, 2, 172, 42, 27, 6]
abbrev dktX3_slipAt_0 : List UInt8 := dkwX3_slipAt_0 ++ dktX3_slipAt_1
theorem dksX3_slipAt_0 : cX3_slipAt.data.toList.drop 0 = dktX3_slipAt_0 := by decide +kernel
theorem dksX3_slipAt_1 : cX3_slipAt.data.toList.drop 24 = dktX3_slipAt_1 := dk_seg dksX3_slipAt_0 24 rfl rfl
theorem dksX3_slipAt_2 : cX3_slipAt.data.toList.drop 48 = dktX3_slipAt_2 := dk_seg dksX3_slipAt_1 24 rfl rfl
theorem dksX3_slipAt_3 : cX3_slipAt.data.toList.drop 72 = dktX3_slipAt_3 := dk_seg dksX3_slipAt_2 24 rfl rfl
theorem dX3_slipAt_0 : decode cX3_slipAt 0 = .ok (.iload_n 1, 1) := dk_27 (dk_at dksX3_slipAt_0 0 rfl rfl)
theorem dX3_slipAt_1 : decode cX3_slipAt 1 = .ok (.invokestatic 304, 3) := dk_184 1 48 (dk_at dksX3_slipAt_0 1 rfl rfl)
theorem dX3_slipAt_4 : decode cX3_slipAt 4 = .ok (.ifCond .eq 15, 3) := dk_153 0 15 (dk_at dksX3_slipAt_0 4 rfl rfl)
theorem dX3_slipAt_7 : decode cX3_slipAt 7 = .ok (.iload_n 3, 1) := dk_29 (dk_at dksX3_slipAt_0 7 rfl rfl)
theorem dX3_slipAt_8 : decode cX3_slipAt 8 = .ok (.i2l, 1) := dk_133 (dk_at dksX3_slipAt_0 8 rfl rfl)
theorem dX3_slipAt_9 : decode cX3_slipAt 9 = .ok (.lconst 0, 1) := dk_9 (dk_at dksX3_slipAt_0 9 rfl rfl)
theorem dX3_slipAt_10 : decode cX3_slipAt 10 = .ok (.ldc2_w 307, 3) := dk_20 1 51 (dk_at dksX3_slipAt_0 10 rfl rfl)
theorem dX3_slipAt_13 : decode cX3_slipAt 13 = .ok (.invokestatic 132, 3) := dk_184 0 132 (dk_at dksX3_slipAt_0 13 rfl rfl)
theorem dX3_slipAt_16 : decode cX3_slipAt 16 = .ok (.ifCond .ne 5, 3) := dk_154 0 5 (dk_at dksX3_slipAt_0 16 rfl rfl)
theorem dX3_slipAt_19 : decode cX3_slipAt 19 = .ok (.iconst (-1), 1) := dk_2 (dk_at dksX3_slipAt_0 19 rfl rfl)
theorem dX3_slipAt_20 : decode cX3_slipAt 20 = .ok (.ireturn, 1) := dk_172 (dk_at dksX3_slipAt_0 20 rfl rfl)
theorem dX3_slipAt_21 : decode cX3_slipAt 21 = .ok (.aload_n 0, 1) := dk_42 (dk_at dksX3_slipAt_0 21 rfl rfl)
theorem dX3_slipAt_22 : decode cX3_slipAt 22 = .ok (.iload_n 1, 1) := dk_27 (dk_at dksX3_slipAt_0 22 rfl rfl)
theorem dX3_slipAt_23 : decode cX3_slipAt 23 = .ok (.iconst 3, 1) := dk_6 (dk_at dksX3_slipAt_0 23 rfl rfl)
theorem dX3_slipAt_24 : decode cX3_slipAt 24 = .ok (.invokevirtual 309, 3) := dk_182 1 53 (dk_at dksX3_slipAt_1 0 rfl rfl)
theorem dX3_slipAt_27 : decode cX3_slipAt 27 = .ok (.istore 4, 2) := dk_54 4 (dk_at dksX3_slipAt_1 3 rfl rfl)
theorem dX3_slipAt_29 : decode cX3_slipAt 29 = .ok (.iload 4, 2) := dk_21 4 (dk_at dksX3_slipAt_1 5 rfl rfl)
theorem dX3_slipAt_31 : decode cX3_slipAt 31 = .ok (.ifCond .ge 8, 3) := dk_156 0 8 (dk_at dksX3_slipAt_1 7 rfl rfl)
theorem dX3_slipAt_34 : decode cX3_slipAt 34 = .ok (.iload 4, 2) := dk_21 4 (dk_at dksX3_slipAt_1 10 rfl rfl)
theorem dX3_slipAt_36 : decode cX3_slipAt 36 = .ok (.goto 42, 3) := dk_167 0 42 (dk_at dksX3_slipAt_1 12 rfl rfl)
theorem dX3_slipAt_39 : decode cX3_slipAt 39 = .ok (.iload_n 2, 1) := dk_28 (dk_at dksX3_slipAt_1 15 rfl rfl)
theorem dX3_slipAt_40 : decode cX3_slipAt 40 = .ok (.i2l, 1) := dk_133 (dk_at dksX3_slipAt_1 16 rfl rfl)
theorem dX3_slipAt_41 : decode cX3_slipAt 41 = .ok (.lconst 0, 1) := dk_9 (dk_at dksX3_slipAt_1 17 rfl rfl)
theorem dX3_slipAt_42 : decode cX3_slipAt 42 = .ok (.aload_n 0, 1) := dk_42 (dk_at dksX3_slipAt_1 18 rfl rfl)
theorem dX3_slipAt_43 : decode cX3_slipAt 43 = .ok (.getfield 110, 3) := dk_180 0 110 (dk_at dksX3_slipAt_1 19 rfl rfl)
theorem dX3_slipAt_46 : decode cX3_slipAt 46 = .ok (.iload_n 1, 1) := dk_27 (dk_at dksX3_slipAt_1 22 rfl rfl)
theorem dX3_slipAt_47 : decode cX3_slipAt 47 = .ok (.iaload, 1) := dk_46 (dk_at dksX3_slipAt_1 23 rfl rfl)
theorem dX3_slipAt_48 : decode cX3_slipAt 48 = .ok (.iconst 1, 1) := dk_4 (dk_at dksX3_slipAt_2 0 rfl rfl)
theorem dX3_slipAt_49 : decode cX3_slipAt 49 = .ok (.isub, 1) := dk_100 (dk_at dksX3_slipAt_2 1 rfl rfl)
theorem dX3_slipAt_50 : decode cX3_slipAt 50 = .ok (.i2l, 1) := dk_133 (dk_at dksX3_slipAt_2 2 rfl rfl)
theorem dX3_slipAt_51 : decode cX3_slipAt 51 = .ok (.invokestatic 132, 3) := dk_184 0 132 (dk_at dksX3_slipAt_2 3 rfl rfl)
theorem dX3_slipAt_54 : decode cX3_slipAt 54 = .ok (.ifCond .eq 22, 3) := dk_153 0 22 (dk_at dksX3_slipAt_2 6 rfl rfl)
theorem dX3_slipAt_57 : decode cX3_slipAt 57 = .ok (.aload_n 0, 1) := dk_42 (dk_at dksX3_slipAt_2 9 rfl rfl)
theorem dX3_slipAt_58 : decode cX3_slipAt 58 = .ok (.getfield 113, 3) := dk_180 0 113 (dk_at dksX3_slipAt_2 10 rfl rfl)
theorem dX3_slipAt_61 : decode cX3_slipAt 61 = .ok (.sipush 1600, 3) := dk_17 6 64 (dk_at dksX3_slipAt_2 13 rfl rfl)
theorem dX3_slipAt_64 : decode cX3_slipAt 64 = .ok (.iload_n 1, 1) := dk_27 (dk_at dksX3_slipAt_2 16 rfl rfl)
theorem dX3_slipAt_65 : decode cX3_slipAt 65 = .ok (.imul, 1) := dk_104 (dk_at dksX3_slipAt_2 17 rfl rfl)
theorem dX3_slipAt_66 : decode cX3_slipAt 66 = .ok (.iconst 4, 1) := dk_7 (dk_at dksX3_slipAt_2 18 rfl rfl)
theorem dX3_slipAt_67 : decode cX3_slipAt 67 = .ok (.iload_n 2, 1) := dk_28 (dk_at dksX3_slipAt_2 19 rfl rfl)
theorem dX3_slipAt_68 : decode cX3_slipAt 68 = .ok (.imul, 1) := dk_104 (dk_at dksX3_slipAt_2 20 rfl rfl)
theorem dX3_slipAt_69 : decode cX3_slipAt 69 = .ok (.iadd, 1) := dk_96 (dk_at dksX3_slipAt_2 21 rfl rfl)
theorem dX3_slipAt_70 : decode cX3_slipAt 70 = .ok (.iload_n 3, 1) := dk_29 (dk_at dksX3_slipAt_2 22 rfl rfl)
theorem dX3_slipAt_71 : decode cX3_slipAt 71 = .ok (.iadd, 1) := dk_96 (dk_at dksX3_slipAt_2 23 rfl rfl)
theorem dX3_slipAt_72 : decode cX3_slipAt 72 = .ok (.iaload, 1) := dk_46 (dk_at dksX3_slipAt_3 0 rfl rfl)
theorem dX3_slipAt_73 : decode cX3_slipAt 73 = .ok (.goto 5, 3) := dk_167 0 5 (dk_at dksX3_slipAt_3 1 rfl rfl)
theorem dX3_slipAt_76 : decode cX3_slipAt 76 = .ok (.bipush (-12), 2) := dk_16 244 (dk_at dksX3_slipAt_3 4 rfl rfl)
theorem dX3_slipAt_78 : decode cX3_slipAt 78 = .ok (.ireturn, 1) := dk_172 (dk_at dksX3_slipAt_3 6 rfl rfl)
abbrev cX3_paste : ByteArray := prog_19_method_57_code
def yX3_paste : MethodName := ⟨RX3, "paste", "(III)I"⟩
def dkwX3_paste_4 : List UInt8 := [79, 132, 5, 1, 167, 255, 225, 42, 3, 181, 0, 125, 29, 172]
abbrev dktX3_paste_4 : List UInt8 := dkwX3_paste_4 ++ []
def dkwX3_paste_3 : List UInt8 := [162, 0, 31, 42, 180, 0, 39, 21, 5, 42, 180, 0, 113, 17, 6, 64, 27, 104, 28, 96, 21, 5, 96, 46]
abbrev dktX3_paste_3 : List UInt8 := dkwX3_paste_3 ++ dktX3_paste_4
def dkwX3_paste_2 : List UInt8 := [180, 0, 110, 27, 46, 29, 100, 164, 0, 6, 16, 244, 172, 42, 29, 181, 0, 156, 3, 54, 5, 21, 5, 29]
abbrev dktX3_paste_2 : List UInt8 := dkwX3_paste_2 ++ dktX3_paste_3
def dkwX3_paste_1 : List UInt8 := [54, 4, 21, 4, 156, 0, 6, 21, 4, 172, 29, 156, 0, 6, 16, 242, 172, 28, 155, 0, 15, 28, 42]
abbrev dktX3_paste_1 : List UInt8 := dkwX3_paste_1 ++ dktX3_paste_2
def dkwX3_paste_0 : List UInt8 := [27, 184, 1, 48, 154, 0, 5, 2, 172, 29, 16, 10, 164, 0, 6, 16, 254, 172, 42, 27, 4, 182, 1, 53]
abbrev dktX3_paste_0 : List UInt8 := dkwX3_paste_0 ++ dktX3_paste_1
theorem dksX3_paste_0 : cX3_paste.data.toList.drop 0 = dktX3_paste_0 := by decide +kernel
theorem dksX3_paste_1 : cX3_paste.data.toList.drop 24 = dktX3_paste_1 := dk_seg dksX3_paste_0 24 rfl rfl
theorem dksX3_paste_2 : cX3_paste.data.toList.drop 47 = dktX3_paste_2 := dk_seg dksX3_paste_1 23 rfl rfl
theorem dksX3_paste_3 : cX3_paste.data.toList.drop 71 = dktX3_paste_3 := dk_seg dksX3_paste_2 24 rfl rfl
theorem dksX3_paste_4 : cX3_paste.data.toList.drop 95 = dktX3_paste_4 := dk_seg dksX3_paste_3 24 rfl rfl
theorem dX3_paste_0 : decode cX3_paste 0 = .ok (.iload_n 1, 1) := dk_27 (dk_at dksX3_paste_0 0 rfl rfl)
theorem dX3_paste_1 : decode cX3_paste 1 = .ok (.invokestatic 304, 3) := dk_184 1 48 (dk_at dksX3_paste_0 1 rfl rfl)
theorem dX3_paste_4 : decode cX3_paste 4 = .ok (.ifCond .ne 5, 3) := dk_154 0 5 (dk_at dksX3_paste_0 4 rfl rfl)
theorem dX3_paste_7 : decode cX3_paste 7 = .ok (.iconst (-1), 1) := dk_2 (dk_at dksX3_paste_0 7 rfl rfl)
theorem dX3_paste_8 : decode cX3_paste 8 = .ok (.ireturn, 1) := dk_172 (dk_at dksX3_paste_0 8 rfl rfl)
theorem dX3_paste_9 : decode cX3_paste 9 = .ok (.iload_n 3, 1) := dk_29 (dk_at dksX3_paste_0 9 rfl rfl)
theorem dX3_paste_10 : decode cX3_paste 10 = .ok (.bipush 10, 2) := dk_16 10 (dk_at dksX3_paste_0 10 rfl rfl)
theorem dX3_paste_12 : decode cX3_paste 12 = .ok (.if_icmp .le 6, 3) := dk_164 0 6 (dk_at dksX3_paste_0 12 rfl rfl)
theorem dX3_paste_15 : decode cX3_paste 15 = .ok (.bipush (-2), 2) := dk_16 254 (dk_at dksX3_paste_0 15 rfl rfl)
theorem dX3_paste_17 : decode cX3_paste 17 = .ok (.ireturn, 1) := dk_172 (dk_at dksX3_paste_0 17 rfl rfl)
theorem dX3_paste_18 : decode cX3_paste 18 = .ok (.aload_n 0, 1) := dk_42 (dk_at dksX3_paste_0 18 rfl rfl)
theorem dX3_paste_19 : decode cX3_paste 19 = .ok (.iload_n 1, 1) := dk_27 (dk_at dksX3_paste_0 19 rfl rfl)
theorem dX3_paste_20 : decode cX3_paste 20 = .ok (.iconst 1, 1) := dk_4 (dk_at dksX3_paste_0 20 rfl rfl)
theorem dX3_paste_21 : decode cX3_paste 21 = .ok (.invokevirtual 309, 3) := dk_182 1 53 (dk_at dksX3_paste_0 21 rfl rfl)
theorem dX3_paste_24 : decode cX3_paste 24 = .ok (.istore 4, 2) := dk_54 4 (dk_at dksX3_paste_1 0 rfl rfl)
theorem dX3_paste_26 : decode cX3_paste 26 = .ok (.iload 4, 2) := dk_21 4 (dk_at dksX3_paste_1 2 rfl rfl)
theorem dX3_paste_28 : decode cX3_paste 28 = .ok (.ifCond .ge 6, 3) := dk_156 0 6 (dk_at dksX3_paste_1 4 rfl rfl)
theorem dX3_paste_31 : decode cX3_paste 31 = .ok (.iload 4, 2) := dk_21 4 (dk_at dksX3_paste_1 7 rfl rfl)
theorem dX3_paste_33 : decode cX3_paste 33 = .ok (.ireturn, 1) := dk_172 (dk_at dksX3_paste_1 9 rfl rfl)
theorem dX3_paste_34 : decode cX3_paste 34 = .ok (.iload_n 3, 1) := dk_29 (dk_at dksX3_paste_1 10 rfl rfl)
theorem dX3_paste_35 : decode cX3_paste 35 = .ok (.ifCond .ge 6, 3) := dk_156 0 6 (dk_at dksX3_paste_1 11 rfl rfl)
theorem dX3_paste_38 : decode cX3_paste 38 = .ok (.bipush (-14), 2) := dk_16 242 (dk_at dksX3_paste_1 14 rfl rfl)
theorem dX3_paste_40 : decode cX3_paste 40 = .ok (.ireturn, 1) := dk_172 (dk_at dksX3_paste_1 16 rfl rfl)
theorem dX3_paste_41 : decode cX3_paste 41 = .ok (.iload_n 2, 1) := dk_28 (dk_at dksX3_paste_1 17 rfl rfl)
theorem dX3_paste_42 : decode cX3_paste 42 = .ok (.ifCond .lt 15, 3) := dk_155 0 15 (dk_at dksX3_paste_1 18 rfl rfl)
theorem dX3_paste_45 : decode cX3_paste 45 = .ok (.iload_n 2, 1) := dk_28 (dk_at dksX3_paste_1 21 rfl rfl)
theorem dX3_paste_46 : decode cX3_paste 46 = .ok (.aload_n 0, 1) := dk_42 (dk_at dksX3_paste_1 22 rfl rfl)
theorem dX3_paste_47 : decode cX3_paste 47 = .ok (.getfield 110, 3) := dk_180 0 110 (dk_at dksX3_paste_2 0 rfl rfl)
theorem dX3_paste_50 : decode cX3_paste 50 = .ok (.iload_n 1, 1) := dk_27 (dk_at dksX3_paste_2 3 rfl rfl)
theorem dX3_paste_51 : decode cX3_paste 51 = .ok (.iaload, 1) := dk_46 (dk_at dksX3_paste_2 4 rfl rfl)
theorem dX3_paste_52 : decode cX3_paste 52 = .ok (.iload_n 3, 1) := dk_29 (dk_at dksX3_paste_2 5 rfl rfl)
theorem dX3_paste_53 : decode cX3_paste 53 = .ok (.isub, 1) := dk_100 (dk_at dksX3_paste_2 6 rfl rfl)
theorem dX3_paste_54 : decode cX3_paste 54 = .ok (.if_icmp .le 6, 3) := dk_164 0 6 (dk_at dksX3_paste_2 7 rfl rfl)
theorem dX3_paste_57 : decode cX3_paste 57 = .ok (.bipush (-12), 2) := dk_16 244 (dk_at dksX3_paste_2 10 rfl rfl)
theorem dX3_paste_59 : decode cX3_paste 59 = .ok (.ireturn, 1) := dk_172 (dk_at dksX3_paste_2 12 rfl rfl)
theorem dX3_paste_60 : decode cX3_paste 60 = .ok (.aload_n 0, 1) := dk_42 (dk_at dksX3_paste_2 13 rfl rfl)
theorem dX3_paste_61 : decode cX3_paste 61 = .ok (.iload_n 3, 1) := dk_29 (dk_at dksX3_paste_2 14 rfl rfl)
theorem dX3_paste_62 : decode cX3_paste 62 = .ok (.putfield 156, 3) := dk_181 0 156 (dk_at dksX3_paste_2 15 rfl rfl)
theorem dX3_paste_65 : decode cX3_paste 65 = .ok (.iconst 0, 1) := dk_3 (dk_at dksX3_paste_2 18 rfl rfl)
theorem dX3_paste_66 : decode cX3_paste 66 = .ok (.istore 5, 2) := dk_54 5 (dk_at dksX3_paste_2 19 rfl rfl)
theorem dX3_paste_68 : decode cX3_paste 68 = .ok (.iload 5, 2) := dk_21 5 (dk_at dksX3_paste_2 21 rfl rfl)
theorem dX3_paste_70 : decode cX3_paste 70 = .ok (.iload_n 3, 1) := dk_29 (dk_at dksX3_paste_2 23 rfl rfl)
theorem dX3_paste_71 : decode cX3_paste 71 = .ok (.if_icmp .ge 31, 3) := dk_162 0 31 (dk_at dksX3_paste_3 0 rfl rfl)
theorem dX3_paste_74 : decode cX3_paste 74 = .ok (.aload_n 0, 1) := dk_42 (dk_at dksX3_paste_3 3 rfl rfl)
theorem dX3_paste_75 : decode cX3_paste 75 = .ok (.getfield 39, 3) := dk_180 0 39 (dk_at dksX3_paste_3 4 rfl rfl)
theorem dX3_paste_78 : decode cX3_paste 78 = .ok (.iload 5, 2) := dk_21 5 (dk_at dksX3_paste_3 7 rfl rfl)
theorem dX3_paste_80 : decode cX3_paste 80 = .ok (.aload_n 0, 1) := dk_42 (dk_at dksX3_paste_3 9 rfl rfl)
theorem dX3_paste_81 : decode cX3_paste 81 = .ok (.getfield 113, 3) := dk_180 0 113 (dk_at dksX3_paste_3 10 rfl rfl)
theorem dX3_paste_84 : decode cX3_paste 84 = .ok (.sipush 1600, 3) := dk_17 6 64 (dk_at dksX3_paste_3 13 rfl rfl)
theorem dX3_paste_87 : decode cX3_paste 87 = .ok (.iload_n 1, 1) := dk_27 (dk_at dksX3_paste_3 16 rfl rfl)
theorem dX3_paste_88 : decode cX3_paste 88 = .ok (.imul, 1) := dk_104 (dk_at dksX3_paste_3 17 rfl rfl)
theorem dX3_paste_89 : decode cX3_paste 89 = .ok (.iload_n 2, 1) := dk_28 (dk_at dksX3_paste_3 18 rfl rfl)
theorem dX3_paste_90 : decode cX3_paste 90 = .ok (.iadd, 1) := dk_96 (dk_at dksX3_paste_3 19 rfl rfl)
theorem dX3_paste_91 : decode cX3_paste 91 = .ok (.iload 5, 2) := dk_21 5 (dk_at dksX3_paste_3 20 rfl rfl)
theorem dX3_paste_93 : decode cX3_paste 93 = .ok (.iadd, 1) := dk_96 (dk_at dksX3_paste_3 22 rfl rfl)
theorem dX3_paste_94 : decode cX3_paste 94 = .ok (.iaload, 1) := dk_46 (dk_at dksX3_paste_3 23 rfl rfl)
theorem dX3_paste_95 : decode cX3_paste 95 = .ok (.iastore, 1) := dk_79 (dk_at dksX3_paste_4 0 rfl rfl)
theorem dX3_paste_96 : decode cX3_paste 96 = .ok (.iinc 5 1, 3) := dk_132 5 1 (dk_at dksX3_paste_4 1 rfl rfl)
theorem dX3_paste_99 : decode cX3_paste 99 = .ok (.goto (-31), 3) := dk_167 255 225 (dk_at dksX3_paste_4 4 rfl rfl)
theorem dX3_paste_102 : decode cX3_paste 102 = .ok (.aload_n 0, 1) := dk_42 (dk_at dksX3_paste_4 7 rfl rfl)
theorem dX3_paste_103 : decode cX3_paste 103 = .ok (.iconst 0, 1) := dk_3 (dk_at dksX3_paste_4 8 rfl rfl)
theorem dX3_paste_104 : decode cX3_paste 104 = .ok (.putfield 125, 3) := dk_181 0 125 (dk_at dksX3_paste_4 9 rfl rfl)
theorem dX3_paste_107 : decode cX3_paste 107 = .ok (.iload_n 3, 1) := dk_29 (dk_at dksX3_paste_4 12 rfl rfl)
theorem dX3_paste_108 : decode cX3_paste 108 = .ok (.ireturn, 1) := dk_172 (dk_at dksX3_paste_4 13 rfl rfl)
abbrev cX3_distance : ByteArray := prog_19_method_58_code
def yX3_distance : MethodName := ⟨RX3, "distance", "(I)I"⟩
def dkwX3_distance_15 : List UInt8 := [160, 0, 8, 16, 252, 167, 0, 4, 29, 172]
abbrev dktX3_distance_15 : List UInt8 := dkwX3_distance_15 ++ []
def dkwX3_distance_14 : List UInt8 := [96, 29, 162, 0, 11, 21, 6, 21, 5, 96, 167, 0, 4, 29, 62, 132, 4, 1, 167, 255, 180, 29, 18, 191]
abbrev dktX3_distance_14 : List UInt8 := dkwX3_distance_14 ++ dktX3_distance_15
def dkwX3_distance_13 : List UInt8 := [21, 4, 46, 46, 54, 6, 21, 5, 18, 191, 159, 0, 27, 21, 6, 18, 191, 159, 0, 20, 21, 6, 21, 5]
abbrev dktX3_distance_13 : List UInt8 := dkwX3_distance_13 ++ dktX3_distance_14
def dkwX3_distance_12 : List UInt8 := [180, 0, 69, 16, 12, 21, 4, 104, 42, 180, 0, 156, 96, 46, 54, 5, 42, 180, 0, 116, 42, 180, 0, 66]
abbrev dktX3_distance_12 : List UInt8 := dkwX3_distance_12 ++ dktX3_distance_13
def dkwX3_distance_11 : List UInt8 := [132, 3, 1, 167, 255, 76, 18, 191, 62, 3, 54, 4, 21, 4, 42, 180, 0, 156, 163, 0, 73, 42]
abbrev dktX3_distance_11 : List UInt8 := dkwX3_distance_11 ++ dktX3_distance_12
def dkwX3_distance_10 : List UInt8 := [162, 0, 23, 42, 180, 0, 116, 21, 5, 42, 180, 0, 119, 21, 5, 46, 79, 132, 5, 1, 167, 255, 230]
abbrev dktX3_distance_10 : List UInt8 := dkwX3_distance_10 ++ dktX3_distance_11
def dkwX3_distance_9 : List UInt8 := [96, 79, 132, 6, 1, 167, 255, 168, 132, 5, 1, 167, 255, 141, 3, 54, 5, 21, 5, 42, 180, 0, 159]
abbrev dktX3_distance_9 : List UInt8 := dkwX3_distance_9 ++ dktX3_distance_10
def dkwX3_distance_8 : List UInt8 := [180, 0, 119, 21, 5, 46, 162, 0, 20, 42, 180, 0, 119, 21, 5, 42, 180, 0, 116, 21, 6, 46, 21, 7]
abbrev dktX3_distance_8 : List UInt8 := dkwX3_distance_8 ++ dktX3_distance_9
def dkwX3_distance_7 : List UInt8 := [46, 18, 191, 159, 0, 47, 21, 7, 18, 191, 159, 0, 40, 42, 180, 0, 116, 21, 6, 46, 21, 7, 96, 42]
abbrev dktX3_distance_7 : List UInt8 := dkwX3_distance_7 ++ dktX3_distance_8
def dkwX3_distance_6 : List UInt8 := [17, 10, 144, 21, 4, 104, 16, 52, 21, 6, 104, 96, 21, 5, 96, 46, 54, 7, 42, 180, 0, 116, 21, 6]
abbrev dktX3_distance_6 : List UInt8 := dkwX3_distance_6 ++ dktX3_distance_7
def dkwX3_distance_5 : List UInt8 := [180, 0, 119, 21, 5, 18, 191, 79, 3, 54, 6, 21, 6, 21, 5, 163, 0, 87, 42, 180, 0, 75]
abbrev dktX3_distance_5 : List UInt8 := dkwX3_distance_5 ++ dktX3_distance_6
def dkwX3_distance_4 : List UInt8 := [17, 6, 64, 27, 104, 29, 96, 46, 54, 4, 3, 54, 5, 21, 5, 42, 180, 0, 159, 162, 0, 112, 42]
abbrev dktX3_distance_4 : List UInt8 := dkwX3_distance_4 ++ dktX3_distance_5
def dkwX3_distance_3 : List UInt8 := [132, 3, 1, 167, 255, 229, 3, 62, 29, 42, 180, 0, 110, 27, 46, 162, 0, 176, 42, 180, 0, 113]
abbrev dktX3_distance_3 : List UInt8 := dkwX3_distance_3 ++ dktX3_distance_4
def dkwX3_distance_2 : List UInt8 := [180, 0, 159, 162, 0, 25, 42, 180, 0, 116, 29, 29, 154, 0, 7, 3, 167, 0, 5, 18, 191, 79]
abbrev dktX3_distance_2 : List UInt8 := dkwX3_distance_2 ++ dktX3_distance_3
def dkwX3_distance_1 : List UInt8 := [16, 252, 181, 0, 169, 42, 3, 181, 0, 166, 42, 42, 180, 0, 156, 182, 1, 19, 3, 62, 29, 42]
abbrev dktX3_distance_1 : List UInt8 := dkwX3_distance_1 ++ dktX3_distance_2
def dkwX3_distance_0 : List UInt8 := [27, 184, 1, 48, 154, 0, 5, 2, 172, 42, 27, 4, 182, 1, 53, 61, 28, 156, 0, 5, 28, 172, 42]
abbrev dktX3_distance_0 : List UInt8 := dkwX3_distance_0 ++ dktX3_distance_1
theorem dksX3_distance_0 : cX3_distance.data.toList.drop 0 = dktX3_distance_0 := by decide +kernel
theorem dksX3_distance_1 : cX3_distance.data.toList.drop 23 = dktX3_distance_1 := dk_seg dksX3_distance_0 23 rfl rfl
theorem dksX3_distance_2 : cX3_distance.data.toList.drop 45 = dktX3_distance_2 := dk_seg dksX3_distance_1 22 rfl rfl
theorem dksX3_distance_3 : cX3_distance.data.toList.drop 67 = dktX3_distance_3 := dk_seg dksX3_distance_2 22 rfl rfl
theorem dksX3_distance_4 : cX3_distance.data.toList.drop 89 = dktX3_distance_4 := dk_seg dksX3_distance_3 22 rfl rfl
theorem dksX3_distance_5 : cX3_distance.data.toList.drop 112 = dktX3_distance_5 := dk_seg dksX3_distance_4 23 rfl rfl
theorem dksX3_distance_6 : cX3_distance.data.toList.drop 134 = dktX3_distance_6 := dk_seg dksX3_distance_5 22 rfl rfl
theorem dksX3_distance_7 : cX3_distance.data.toList.drop 158 = dktX3_distance_7 := dk_seg dksX3_distance_6 24 rfl rfl
theorem dksX3_distance_8 : cX3_distance.data.toList.drop 182 = dktX3_distance_8 := dk_seg dksX3_distance_7 24 rfl rfl
theorem dksX3_distance_9 : cX3_distance.data.toList.drop 206 = dktX3_distance_9 := dk_seg dksX3_distance_8 24 rfl rfl
theorem dksX3_distance_10 : cX3_distance.data.toList.drop 229 = dktX3_distance_10 := dk_seg dksX3_distance_9 23 rfl rfl
theorem dksX3_distance_11 : cX3_distance.data.toList.drop 252 = dktX3_distance_11 := dk_seg dksX3_distance_10 23 rfl rfl
theorem dksX3_distance_12 : cX3_distance.data.toList.drop 274 = dktX3_distance_12 := dk_seg dksX3_distance_11 22 rfl rfl
theorem dksX3_distance_13 : cX3_distance.data.toList.drop 298 = dktX3_distance_13 := dk_seg dksX3_distance_12 24 rfl rfl
theorem dksX3_distance_14 : cX3_distance.data.toList.drop 322 = dktX3_distance_14 := dk_seg dksX3_distance_13 24 rfl rfl
theorem dksX3_distance_15 : cX3_distance.data.toList.drop 346 = dktX3_distance_15 := dk_seg dksX3_distance_14 24 rfl rfl
theorem dX3_distance_0 : decode cX3_distance 0 = .ok (.iload_n 1, 1) := dk_27 (dk_at dksX3_distance_0 0 rfl rfl)
theorem dX3_distance_1 : decode cX3_distance 1 = .ok (.invokestatic 304, 3) := dk_184 1 48 (dk_at dksX3_distance_0 1 rfl rfl)
theorem dX3_distance_4 : decode cX3_distance 4 = .ok (.ifCond .ne 5, 3) := dk_154 0 5 (dk_at dksX3_distance_0 4 rfl rfl)
theorem dX3_distance_7 : decode cX3_distance 7 = .ok (.iconst (-1), 1) := dk_2 (dk_at dksX3_distance_0 7 rfl rfl)
theorem dX3_distance_8 : decode cX3_distance 8 = .ok (.ireturn, 1) := dk_172 (dk_at dksX3_distance_0 8 rfl rfl)
theorem dX3_distance_9 : decode cX3_distance 9 = .ok (.aload_n 0, 1) := dk_42 (dk_at dksX3_distance_0 9 rfl rfl)
theorem dX3_distance_10 : decode cX3_distance 10 = .ok (.iload_n 1, 1) := dk_27 (dk_at dksX3_distance_0 10 rfl rfl)
theorem dX3_distance_11 : decode cX3_distance 11 = .ok (.iconst 1, 1) := dk_4 (dk_at dksX3_distance_0 11 rfl rfl)
theorem dX3_distance_12 : decode cX3_distance 12 = .ok (.invokevirtual 309, 3) := dk_182 1 53 (dk_at dksX3_distance_0 12 rfl rfl)
theorem dX3_distance_15 : decode cX3_distance 15 = .ok (.istore_n 2, 1) := dk_61 (dk_at dksX3_distance_0 15 rfl rfl)
theorem dX3_distance_16 : decode cX3_distance 16 = .ok (.iload_n 2, 1) := dk_28 (dk_at dksX3_distance_0 16 rfl rfl)
theorem dX3_distance_17 : decode cX3_distance 17 = .ok (.ifCond .ge 5, 3) := dk_156 0 5 (dk_at dksX3_distance_0 17 rfl rfl)
theorem dX3_distance_20 : decode cX3_distance 20 = .ok (.iload_n 2, 1) := dk_28 (dk_at dksX3_distance_0 20 rfl rfl)
theorem dX3_distance_21 : decode cX3_distance 21 = .ok (.ireturn, 1) := dk_172 (dk_at dksX3_distance_0 21 rfl rfl)
theorem dX3_distance_22 : decode cX3_distance 22 = .ok (.aload_n 0, 1) := dk_42 (dk_at dksX3_distance_0 22 rfl rfl)
theorem dX3_distance_23 : decode cX3_distance 23 = .ok (.bipush (-4), 2) := dk_16 252 (dk_at dksX3_distance_1 0 rfl rfl)
theorem dX3_distance_25 : decode cX3_distance 25 = .ok (.putfield 169, 3) := dk_181 0 169 (dk_at dksX3_distance_1 2 rfl rfl)
theorem dX3_distance_28 : decode cX3_distance 28 = .ok (.aload_n 0, 1) := dk_42 (dk_at dksX3_distance_1 5 rfl rfl)
theorem dX3_distance_29 : decode cX3_distance 29 = .ok (.iconst 0, 1) := dk_3 (dk_at dksX3_distance_1 6 rfl rfl)
theorem dX3_distance_30 : decode cX3_distance 30 = .ok (.putfield 166, 3) := dk_181 0 166 (dk_at dksX3_distance_1 7 rfl rfl)
theorem dX3_distance_33 : decode cX3_distance 33 = .ok (.aload_n 0, 1) := dk_42 (dk_at dksX3_distance_1 10 rfl rfl)
theorem dX3_distance_34 : decode cX3_distance 34 = .ok (.aload_n 0, 1) := dk_42 (dk_at dksX3_distance_1 11 rfl rfl)
theorem dX3_distance_35 : decode cX3_distance 35 = .ok (.getfield 156, 3) := dk_180 0 156 (dk_at dksX3_distance_1 12 rfl rfl)
theorem dX3_distance_38 : decode cX3_distance 38 = .ok (.invokevirtual 275, 3) := dk_182 1 19 (dk_at dksX3_distance_1 15 rfl rfl)
theorem dX3_distance_41 : decode cX3_distance 41 = .ok (.iconst 0, 1) := dk_3 (dk_at dksX3_distance_1 18 rfl rfl)
theorem dX3_distance_42 : decode cX3_distance 42 = .ok (.istore_n 3, 1) := dk_62 (dk_at dksX3_distance_1 19 rfl rfl)
theorem dX3_distance_43 : decode cX3_distance 43 = .ok (.iload_n 3, 1) := dk_29 (dk_at dksX3_distance_1 20 rfl rfl)
theorem dX3_distance_44 : decode cX3_distance 44 = .ok (.aload_n 0, 1) := dk_42 (dk_at dksX3_distance_1 21 rfl rfl)
theorem dX3_distance_45 : decode cX3_distance 45 = .ok (.getfield 159, 3) := dk_180 0 159 (dk_at dksX3_distance_2 0 rfl rfl)
theorem dX3_distance_48 : decode cX3_distance 48 = .ok (.if_icmp .ge 25, 3) := dk_162 0 25 (dk_at dksX3_distance_2 3 rfl rfl)
theorem dX3_distance_51 : decode cX3_distance 51 = .ok (.aload_n 0, 1) := dk_42 (dk_at dksX3_distance_2 6 rfl rfl)
theorem dX3_distance_52 : decode cX3_distance 52 = .ok (.getfield 116, 3) := dk_180 0 116 (dk_at dksX3_distance_2 7 rfl rfl)
theorem dX3_distance_55 : decode cX3_distance 55 = .ok (.iload_n 3, 1) := dk_29 (dk_at dksX3_distance_2 10 rfl rfl)
theorem dX3_distance_56 : decode cX3_distance 56 = .ok (.iload_n 3, 1) := dk_29 (dk_at dksX3_distance_2 11 rfl rfl)
theorem dX3_distance_57 : decode cX3_distance 57 = .ok (.ifCond .ne 7, 3) := dk_154 0 7 (dk_at dksX3_distance_2 12 rfl rfl)
theorem dX3_distance_60 : decode cX3_distance 60 = .ok (.iconst 0, 1) := dk_3 (dk_at dksX3_distance_2 15 rfl rfl)
theorem dX3_distance_61 : decode cX3_distance 61 = .ok (.goto 5, 3) := dk_167 0 5 (dk_at dksX3_distance_2 16 rfl rfl)
theorem dX3_distance_64 : decode cX3_distance 64 = .ok (.ldc 191, 2) := dk_18 191 (dk_at dksX3_distance_2 19 rfl rfl)
theorem dX3_distance_66 : decode cX3_distance 66 = .ok (.iastore, 1) := dk_79 (dk_at dksX3_distance_2 21 rfl rfl)
theorem dX3_distance_67 : decode cX3_distance 67 = .ok (.iinc 3 1, 3) := dk_132 3 1 (dk_at dksX3_distance_3 0 rfl rfl)
theorem dX3_distance_70 : decode cX3_distance 70 = .ok (.goto (-27), 3) := dk_167 255 229 (dk_at dksX3_distance_3 3 rfl rfl)
theorem dX3_distance_73 : decode cX3_distance 73 = .ok (.iconst 0, 1) := dk_3 (dk_at dksX3_distance_3 6 rfl rfl)
theorem dX3_distance_74 : decode cX3_distance 74 = .ok (.istore_n 3, 1) := dk_62 (dk_at dksX3_distance_3 7 rfl rfl)
theorem dX3_distance_75 : decode cX3_distance 75 = .ok (.iload_n 3, 1) := dk_29 (dk_at dksX3_distance_3 8 rfl rfl)
theorem dX3_distance_76 : decode cX3_distance 76 = .ok (.aload_n 0, 1) := dk_42 (dk_at dksX3_distance_3 9 rfl rfl)
theorem dX3_distance_77 : decode cX3_distance 77 = .ok (.getfield 110, 3) := dk_180 0 110 (dk_at dksX3_distance_3 10 rfl rfl)
theorem dX3_distance_80 : decode cX3_distance 80 = .ok (.iload_n 1, 1) := dk_27 (dk_at dksX3_distance_3 13 rfl rfl)
theorem dX3_distance_81 : decode cX3_distance 81 = .ok (.iaload, 1) := dk_46 (dk_at dksX3_distance_3 14 rfl rfl)
theorem dX3_distance_82 : decode cX3_distance 82 = .ok (.if_icmp .ge 176, 3) := dk_162 0 176 (dk_at dksX3_distance_3 15 rfl rfl)
theorem dX3_distance_85 : decode cX3_distance 85 = .ok (.aload_n 0, 1) := dk_42 (dk_at dksX3_distance_3 18 rfl rfl)
theorem dX3_distance_86 : decode cX3_distance 86 = .ok (.getfield 113, 3) := dk_180 0 113 (dk_at dksX3_distance_3 19 rfl rfl)
theorem dX3_distance_89 : decode cX3_distance 89 = .ok (.sipush 1600, 3) := dk_17 6 64 (dk_at dksX3_distance_4 0 rfl rfl)
theorem dX3_distance_92 : decode cX3_distance 92 = .ok (.iload_n 1, 1) := dk_27 (dk_at dksX3_distance_4 3 rfl rfl)
theorem dX3_distance_93 : decode cX3_distance 93 = .ok (.imul, 1) := dk_104 (dk_at dksX3_distance_4 4 rfl rfl)
theorem dX3_distance_94 : decode cX3_distance 94 = .ok (.iload_n 3, 1) := dk_29 (dk_at dksX3_distance_4 5 rfl rfl)
theorem dX3_distance_95 : decode cX3_distance 95 = .ok (.iadd, 1) := dk_96 (dk_at dksX3_distance_4 6 rfl rfl)
theorem dX3_distance_96 : decode cX3_distance 96 = .ok (.iaload, 1) := dk_46 (dk_at dksX3_distance_4 7 rfl rfl)
theorem dX3_distance_97 : decode cX3_distance 97 = .ok (.istore 4, 2) := dk_54 4 (dk_at dksX3_distance_4 8 rfl rfl)
theorem dX3_distance_99 : decode cX3_distance 99 = .ok (.iconst 0, 1) := dk_3 (dk_at dksX3_distance_4 10 rfl rfl)
theorem dX3_distance_100 : decode cX3_distance 100 = .ok (.istore 5, 2) := dk_54 5 (dk_at dksX3_distance_4 11 rfl rfl)
theorem dX3_distance_102 : decode cX3_distance 102 = .ok (.iload 5, 2) := dk_21 5 (dk_at dksX3_distance_4 13 rfl rfl)
theorem dX3_distance_104 : decode cX3_distance 104 = .ok (.aload_n 0, 1) := dk_42 (dk_at dksX3_distance_4 15 rfl rfl)
theorem dX3_distance_105 : decode cX3_distance 105 = .ok (.getfield 159, 3) := dk_180 0 159 (dk_at dksX3_distance_4 16 rfl rfl)
theorem dX3_distance_108 : decode cX3_distance 108 = .ok (.if_icmp .ge 112, 3) := dk_162 0 112 (dk_at dksX3_distance_4 19 rfl rfl)
theorem dX3_distance_111 : decode cX3_distance 111 = .ok (.aload_n 0, 1) := dk_42 (dk_at dksX3_distance_4 22 rfl rfl)
theorem dX3_distance_112 : decode cX3_distance 112 = .ok (.getfield 119, 3) := dk_180 0 119 (dk_at dksX3_distance_5 0 rfl rfl)
theorem dX3_distance_115 : decode cX3_distance 115 = .ok (.iload 5, 2) := dk_21 5 (dk_at dksX3_distance_5 3 rfl rfl)
theorem dX3_distance_117 : decode cX3_distance 117 = .ok (.ldc 191, 2) := dk_18 191 (dk_at dksX3_distance_5 5 rfl rfl)
theorem dX3_distance_119 : decode cX3_distance 119 = .ok (.iastore, 1) := dk_79 (dk_at dksX3_distance_5 7 rfl rfl)
theorem dX3_distance_120 : decode cX3_distance 120 = .ok (.iconst 0, 1) := dk_3 (dk_at dksX3_distance_5 8 rfl rfl)
theorem dX3_distance_121 : decode cX3_distance 121 = .ok (.istore 6, 2) := dk_54 6 (dk_at dksX3_distance_5 9 rfl rfl)
theorem dX3_distance_123 : decode cX3_distance 123 = .ok (.iload 6, 2) := dk_21 6 (dk_at dksX3_distance_5 11 rfl rfl)
theorem dX3_distance_125 : decode cX3_distance 125 = .ok (.iload 5, 2) := dk_21 5 (dk_at dksX3_distance_5 13 rfl rfl)
theorem dX3_distance_127 : decode cX3_distance 127 = .ok (.if_icmp .gt 87, 3) := dk_163 0 87 (dk_at dksX3_distance_5 15 rfl rfl)
theorem dX3_distance_130 : decode cX3_distance 130 = .ok (.aload_n 0, 1) := dk_42 (dk_at dksX3_distance_5 18 rfl rfl)
theorem dX3_distance_131 : decode cX3_distance 131 = .ok (.getfield 75, 3) := dk_180 0 75 (dk_at dksX3_distance_5 19 rfl rfl)
theorem dX3_distance_134 : decode cX3_distance 134 = .ok (.sipush 2704, 3) := dk_17 10 144 (dk_at dksX3_distance_6 0 rfl rfl)
theorem dX3_distance_137 : decode cX3_distance 137 = .ok (.iload 4, 2) := dk_21 4 (dk_at dksX3_distance_6 3 rfl rfl)
theorem dX3_distance_139 : decode cX3_distance 139 = .ok (.imul, 1) := dk_104 (dk_at dksX3_distance_6 5 rfl rfl)
theorem dX3_distance_140 : decode cX3_distance 140 = .ok (.bipush 52, 2) := dk_16 52 (dk_at dksX3_distance_6 6 rfl rfl)
theorem dX3_distance_142 : decode cX3_distance 142 = .ok (.iload 6, 2) := dk_21 6 (dk_at dksX3_distance_6 8 rfl rfl)
theorem dX3_distance_144 : decode cX3_distance 144 = .ok (.imul, 1) := dk_104 (dk_at dksX3_distance_6 10 rfl rfl)
theorem dX3_distance_145 : decode cX3_distance 145 = .ok (.iadd, 1) := dk_96 (dk_at dksX3_distance_6 11 rfl rfl)
theorem dX3_distance_146 : decode cX3_distance 146 = .ok (.iload 5, 2) := dk_21 5 (dk_at dksX3_distance_6 12 rfl rfl)
theorem dX3_distance_148 : decode cX3_distance 148 = .ok (.iadd, 1) := dk_96 (dk_at dksX3_distance_6 14 rfl rfl)
theorem dX3_distance_149 : decode cX3_distance 149 = .ok (.iaload, 1) := dk_46 (dk_at dksX3_distance_6 15 rfl rfl)
theorem dX3_distance_150 : decode cX3_distance 150 = .ok (.istore 7, 2) := dk_54 7 (dk_at dksX3_distance_6 16 rfl rfl)
theorem dX3_distance_152 : decode cX3_distance 152 = .ok (.aload_n 0, 1) := dk_42 (dk_at dksX3_distance_6 18 rfl rfl)
theorem dX3_distance_153 : decode cX3_distance 153 = .ok (.getfield 116, 3) := dk_180 0 116 (dk_at dksX3_distance_6 19 rfl rfl)
theorem dX3_distance_156 : decode cX3_distance 156 = .ok (.iload 6, 2) := dk_21 6 (dk_at dksX3_distance_6 22 rfl rfl)
theorem dX3_distance_158 : decode cX3_distance 158 = .ok (.iaload, 1) := dk_46 (dk_at dksX3_distance_7 0 rfl rfl)
theorem dX3_distance_159 : decode cX3_distance 159 = .ok (.ldc 191, 2) := dk_18 191 (dk_at dksX3_distance_7 1 rfl rfl)
theorem dX3_distance_161 : decode cX3_distance 161 = .ok (.if_icmp .eq 47, 3) := dk_159 0 47 (dk_at dksX3_distance_7 3 rfl rfl)
theorem dX3_distance_164 : decode cX3_distance 164 = .ok (.iload 7, 2) := dk_21 7 (dk_at dksX3_distance_7 6 rfl rfl)
theorem dX3_distance_166 : decode cX3_distance 166 = .ok (.ldc 191, 2) := dk_18 191 (dk_at dksX3_distance_7 8 rfl rfl)
theorem dX3_distance_168 : decode cX3_distance 168 = .ok (.if_icmp .eq 40, 3) := dk_159 0 40 (dk_at dksX3_distance_7 10 rfl rfl)
theorem dX3_distance_171 : decode cX3_distance 171 = .ok (.aload_n 0, 1) := dk_42 (dk_at dksX3_distance_7 13 rfl rfl)
theorem dX3_distance_172 : decode cX3_distance 172 = .ok (.getfield 116, 3) := dk_180 0 116 (dk_at dksX3_distance_7 14 rfl rfl)
theorem dX3_distance_175 : decode cX3_distance 175 = .ok (.iload 6, 2) := dk_21 6 (dk_at dksX3_distance_7 17 rfl rfl)
theorem dX3_distance_177 : decode cX3_distance 177 = .ok (.iaload, 1) := dk_46 (dk_at dksX3_distance_7 19 rfl rfl)
theorem dX3_distance_178 : decode cX3_distance 178 = .ok (.iload 7, 2) := dk_21 7 (dk_at dksX3_distance_7 20 rfl rfl)
theorem dX3_distance_180 : decode cX3_distance 180 = .ok (.iadd, 1) := dk_96 (dk_at dksX3_distance_7 22 rfl rfl)
theorem dX3_distance_181 : decode cX3_distance 181 = .ok (.aload_n 0, 1) := dk_42 (dk_at dksX3_distance_7 23 rfl rfl)
theorem dX3_distance_182 : decode cX3_distance 182 = .ok (.getfield 119, 3) := dk_180 0 119 (dk_at dksX3_distance_8 0 rfl rfl)
theorem dX3_distance_185 : decode cX3_distance 185 = .ok (.iload 5, 2) := dk_21 5 (dk_at dksX3_distance_8 3 rfl rfl)
theorem dX3_distance_187 : decode cX3_distance 187 = .ok (.iaload, 1) := dk_46 (dk_at dksX3_distance_8 5 rfl rfl)
theorem dX3_distance_188 : decode cX3_distance 188 = .ok (.if_icmp .ge 20, 3) := dk_162 0 20 (dk_at dksX3_distance_8 6 rfl rfl)
theorem dX3_distance_191 : decode cX3_distance 191 = .ok (.aload_n 0, 1) := dk_42 (dk_at dksX3_distance_8 9 rfl rfl)
theorem dX3_distance_192 : decode cX3_distance 192 = .ok (.getfield 119, 3) := dk_180 0 119 (dk_at dksX3_distance_8 10 rfl rfl)
theorem dX3_distance_195 : decode cX3_distance 195 = .ok (.iload 5, 2) := dk_21 5 (dk_at dksX3_distance_8 13 rfl rfl)
theorem dX3_distance_197 : decode cX3_distance 197 = .ok (.aload_n 0, 1) := dk_42 (dk_at dksX3_distance_8 15 rfl rfl)
theorem dX3_distance_198 : decode cX3_distance 198 = .ok (.getfield 116, 3) := dk_180 0 116 (dk_at dksX3_distance_8 16 rfl rfl)
theorem dX3_distance_201 : decode cX3_distance 201 = .ok (.iload 6, 2) := dk_21 6 (dk_at dksX3_distance_8 19 rfl rfl)
theorem dX3_distance_203 : decode cX3_distance 203 = .ok (.iaload, 1) := dk_46 (dk_at dksX3_distance_8 21 rfl rfl)
theorem dX3_distance_204 : decode cX3_distance 204 = .ok (.iload 7, 2) := dk_21 7 (dk_at dksX3_distance_8 22 rfl rfl)
theorem dX3_distance_206 : decode cX3_distance 206 = .ok (.iadd, 1) := dk_96 (dk_at dksX3_distance_9 0 rfl rfl)
theorem dX3_distance_207 : decode cX3_distance 207 = .ok (.iastore, 1) := dk_79 (dk_at dksX3_distance_9 1 rfl rfl)
theorem dX3_distance_208 : decode cX3_distance 208 = .ok (.iinc 6 1, 3) := dk_132 6 1 (dk_at dksX3_distance_9 2 rfl rfl)
theorem dX3_distance_211 : decode cX3_distance 211 = .ok (.goto (-88), 3) := dk_167 255 168 (dk_at dksX3_distance_9 5 rfl rfl)
theorem dX3_distance_214 : decode cX3_distance 214 = .ok (.iinc 5 1, 3) := dk_132 5 1 (dk_at dksX3_distance_9 8 rfl rfl)
theorem dX3_distance_217 : decode cX3_distance 217 = .ok (.goto (-115), 3) := dk_167 255 141 (dk_at dksX3_distance_9 11 rfl rfl)
theorem dX3_distance_220 : decode cX3_distance 220 = .ok (.iconst 0, 1) := dk_3 (dk_at dksX3_distance_9 14 rfl rfl)
theorem dX3_distance_221 : decode cX3_distance 221 = .ok (.istore 5, 2) := dk_54 5 (dk_at dksX3_distance_9 15 rfl rfl)
theorem dX3_distance_223 : decode cX3_distance 223 = .ok (.iload 5, 2) := dk_21 5 (dk_at dksX3_distance_9 17 rfl rfl)
theorem dX3_distance_225 : decode cX3_distance 225 = .ok (.aload_n 0, 1) := dk_42 (dk_at dksX3_distance_9 19 rfl rfl)
theorem dX3_distance_226 : decode cX3_distance 226 = .ok (.getfield 159, 3) := dk_180 0 159 (dk_at dksX3_distance_9 20 rfl rfl)
theorem dX3_distance_229 : decode cX3_distance 229 = .ok (.if_icmp .ge 23, 3) := dk_162 0 23 (dk_at dksX3_distance_10 0 rfl rfl)
theorem dX3_distance_232 : decode cX3_distance 232 = .ok (.aload_n 0, 1) := dk_42 (dk_at dksX3_distance_10 3 rfl rfl)
theorem dX3_distance_233 : decode cX3_distance 233 = .ok (.getfield 116, 3) := dk_180 0 116 (dk_at dksX3_distance_10 4 rfl rfl)
theorem dX3_distance_236 : decode cX3_distance 236 = .ok (.iload 5, 2) := dk_21 5 (dk_at dksX3_distance_10 7 rfl rfl)
theorem dX3_distance_238 : decode cX3_distance 238 = .ok (.aload_n 0, 1) := dk_42 (dk_at dksX3_distance_10 9 rfl rfl)
theorem dX3_distance_239 : decode cX3_distance 239 = .ok (.getfield 119, 3) := dk_180 0 119 (dk_at dksX3_distance_10 10 rfl rfl)
theorem dX3_distance_242 : decode cX3_distance 242 = .ok (.iload 5, 2) := dk_21 5 (dk_at dksX3_distance_10 13 rfl rfl)
theorem dX3_distance_244 : decode cX3_distance 244 = .ok (.iaload, 1) := dk_46 (dk_at dksX3_distance_10 15 rfl rfl)
theorem dX3_distance_245 : decode cX3_distance 245 = .ok (.iastore, 1) := dk_79 (dk_at dksX3_distance_10 16 rfl rfl)
theorem dX3_distance_246 : decode cX3_distance 246 = .ok (.iinc 5 1, 3) := dk_132 5 1 (dk_at dksX3_distance_10 17 rfl rfl)
theorem dX3_distance_249 : decode cX3_distance 249 = .ok (.goto (-26), 3) := dk_167 255 230 (dk_at dksX3_distance_10 20 rfl rfl)
theorem dX3_distance_252 : decode cX3_distance 252 = .ok (.iinc 3 1, 3) := dk_132 3 1 (dk_at dksX3_distance_11 0 rfl rfl)
theorem dX3_distance_255 : decode cX3_distance 255 = .ok (.goto (-180), 3) := dk_167 255 76 (dk_at dksX3_distance_11 3 rfl rfl)
theorem dX3_distance_258 : decode cX3_distance 258 = .ok (.ldc 191, 2) := dk_18 191 (dk_at dksX3_distance_11 6 rfl rfl)
theorem dX3_distance_260 : decode cX3_distance 260 = .ok (.istore_n 3, 1) := dk_62 (dk_at dksX3_distance_11 8 rfl rfl)
theorem dX3_distance_261 : decode cX3_distance 261 = .ok (.iconst 0, 1) := dk_3 (dk_at dksX3_distance_11 9 rfl rfl)
theorem dX3_distance_262 : decode cX3_distance 262 = .ok (.istore 4, 2) := dk_54 4 (dk_at dksX3_distance_11 10 rfl rfl)
theorem dX3_distance_264 : decode cX3_distance 264 = .ok (.iload 4, 2) := dk_21 4 (dk_at dksX3_distance_11 12 rfl rfl)
theorem dX3_distance_266 : decode cX3_distance 266 = .ok (.aload_n 0, 1) := dk_42 (dk_at dksX3_distance_11 14 rfl rfl)
theorem dX3_distance_267 : decode cX3_distance 267 = .ok (.getfield 156, 3) := dk_180 0 156 (dk_at dksX3_distance_11 15 rfl rfl)
theorem dX3_distance_270 : decode cX3_distance 270 = .ok (.if_icmp .gt 73, 3) := dk_163 0 73 (dk_at dksX3_distance_11 18 rfl rfl)
theorem dX3_distance_273 : decode cX3_distance 273 = .ok (.aload_n 0, 1) := dk_42 (dk_at dksX3_distance_11 21 rfl rfl)
theorem dX3_distance_274 : decode cX3_distance 274 = .ok (.getfield 69, 3) := dk_180 0 69 (dk_at dksX3_distance_12 0 rfl rfl)
theorem dX3_distance_277 : decode cX3_distance 277 = .ok (.bipush 12, 2) := dk_16 12 (dk_at dksX3_distance_12 3 rfl rfl)
theorem dX3_distance_279 : decode cX3_distance 279 = .ok (.iload 4, 2) := dk_21 4 (dk_at dksX3_distance_12 5 rfl rfl)
theorem dX3_distance_281 : decode cX3_distance 281 = .ok (.imul, 1) := dk_104 (dk_at dksX3_distance_12 7 rfl rfl)
theorem dX3_distance_282 : decode cX3_distance 282 = .ok (.aload_n 0, 1) := dk_42 (dk_at dksX3_distance_12 8 rfl rfl)
theorem dX3_distance_283 : decode cX3_distance 283 = .ok (.getfield 156, 3) := dk_180 0 156 (dk_at dksX3_distance_12 9 rfl rfl)
theorem dX3_distance_286 : decode cX3_distance 286 = .ok (.iadd, 1) := dk_96 (dk_at dksX3_distance_12 12 rfl rfl)
theorem dX3_distance_287 : decode cX3_distance 287 = .ok (.iaload, 1) := dk_46 (dk_at dksX3_distance_12 13 rfl rfl)
theorem dX3_distance_288 : decode cX3_distance 288 = .ok (.istore 5, 2) := dk_54 5 (dk_at dksX3_distance_12 14 rfl rfl)
theorem dX3_distance_290 : decode cX3_distance 290 = .ok (.aload_n 0, 1) := dk_42 (dk_at dksX3_distance_12 16 rfl rfl)
theorem dX3_distance_291 : decode cX3_distance 291 = .ok (.getfield 116, 3) := dk_180 0 116 (dk_at dksX3_distance_12 17 rfl rfl)
theorem dX3_distance_294 : decode cX3_distance 294 = .ok (.aload_n 0, 1) := dk_42 (dk_at dksX3_distance_12 20 rfl rfl)
theorem dX3_distance_295 : decode cX3_distance 295 = .ok (.getfield 66, 3) := dk_180 0 66 (dk_at dksX3_distance_12 21 rfl rfl)
theorem dX3_distance_298 : decode cX3_distance 298 = .ok (.iload 4, 2) := dk_21 4 (dk_at dksX3_distance_13 0 rfl rfl)
theorem dX3_distance_300 : decode cX3_distance 300 = .ok (.iaload, 1) := dk_46 (dk_at dksX3_distance_13 2 rfl rfl)
theorem dX3_distance_301 : decode cX3_distance 301 = .ok (.iaload, 1) := dk_46 (dk_at dksX3_distance_13 3 rfl rfl)
theorem dX3_distance_302 : decode cX3_distance 302 = .ok (.istore 6, 2) := dk_54 6 (dk_at dksX3_distance_13 4 rfl rfl)
theorem dX3_distance_304 : decode cX3_distance 304 = .ok (.iload 5, 2) := dk_21 5 (dk_at dksX3_distance_13 6 rfl rfl)
theorem dX3_distance_306 : decode cX3_distance 306 = .ok (.ldc 191, 2) := dk_18 191 (dk_at dksX3_distance_13 8 rfl rfl)
theorem dX3_distance_308 : decode cX3_distance 308 = .ok (.if_icmp .eq 27, 3) := dk_159 0 27 (dk_at dksX3_distance_13 10 rfl rfl)
theorem dX3_distance_311 : decode cX3_distance 311 = .ok (.iload 6, 2) := dk_21 6 (dk_at dksX3_distance_13 13 rfl rfl)
theorem dX3_distance_313 : decode cX3_distance 313 = .ok (.ldc 191, 2) := dk_18 191 (dk_at dksX3_distance_13 15 rfl rfl)
theorem dX3_distance_315 : decode cX3_distance 315 = .ok (.if_icmp .eq 20, 3) := dk_159 0 20 (dk_at dksX3_distance_13 17 rfl rfl)
theorem dX3_distance_318 : decode cX3_distance 318 = .ok (.iload 6, 2) := dk_21 6 (dk_at dksX3_distance_13 20 rfl rfl)
theorem dX3_distance_320 : decode cX3_distance 320 = .ok (.iload 5, 2) := dk_21 5 (dk_at dksX3_distance_13 22 rfl rfl)
theorem dX3_distance_322 : decode cX3_distance 322 = .ok (.iadd, 1) := dk_96 (dk_at dksX3_distance_14 0 rfl rfl)
theorem dX3_distance_323 : decode cX3_distance 323 = .ok (.iload_n 3, 1) := dk_29 (dk_at dksX3_distance_14 1 rfl rfl)
theorem dX3_distance_324 : decode cX3_distance 324 = .ok (.if_icmp .ge 11, 3) := dk_162 0 11 (dk_at dksX3_distance_14 2 rfl rfl)
theorem dX3_distance_327 : decode cX3_distance 327 = .ok (.iload 6, 2) := dk_21 6 (dk_at dksX3_distance_14 5 rfl rfl)
theorem dX3_distance_329 : decode cX3_distance 329 = .ok (.iload 5, 2) := dk_21 5 (dk_at dksX3_distance_14 7 rfl rfl)
theorem dX3_distance_331 : decode cX3_distance 331 = .ok (.iadd, 1) := dk_96 (dk_at dksX3_distance_14 9 rfl rfl)
theorem dX3_distance_332 : decode cX3_distance 332 = .ok (.goto 4, 3) := dk_167 0 4 (dk_at dksX3_distance_14 10 rfl rfl)
theorem dX3_distance_335 : decode cX3_distance 335 = .ok (.iload_n 3, 1) := dk_29 (dk_at dksX3_distance_14 13 rfl rfl)
theorem dX3_distance_336 : decode cX3_distance 336 = .ok (.istore_n 3, 1) := dk_62 (dk_at dksX3_distance_14 14 rfl rfl)
theorem dX3_distance_337 : decode cX3_distance 337 = .ok (.iinc 4 1, 3) := dk_132 4 1 (dk_at dksX3_distance_14 15 rfl rfl)
theorem dX3_distance_340 : decode cX3_distance 340 = .ok (.goto (-76), 3) := dk_167 255 180 (dk_at dksX3_distance_14 18 rfl rfl)
theorem dX3_distance_343 : decode cX3_distance 343 = .ok (.iload_n 3, 1) := dk_29 (dk_at dksX3_distance_14 21 rfl rfl)
theorem dX3_distance_344 : decode cX3_distance 344 = .ok (.ldc 191, 2) := dk_18 191 (dk_at dksX3_distance_14 22 rfl rfl)
theorem dX3_distance_346 : decode cX3_distance 346 = .ok (.if_icmp .ne 8, 3) := dk_160 0 8 (dk_at dksX3_distance_15 0 rfl rfl)
theorem dX3_distance_349 : decode cX3_distance 349 = .ok (.bipush (-4), 2) := dk_16 252 (dk_at dksX3_distance_15 3 rfl rfl)
theorem dX3_distance_351 : decode cX3_distance 351 = .ok (.goto 4, 3) := dk_167 0 4 (dk_at dksX3_distance_15 5 rfl rfl)
theorem dX3_distance_354 : decode cX3_distance 354 = .ok (.iload_n 3, 1) := dk_29 (dk_at dksX3_distance_15 8 rfl rfl)
theorem dX3_distance_355 : decode cX3_distance 355 = .ok (.ireturn, 1) := dk_172 (dk_at dksX3_distance_15 9 rfl rfl)
abbrev cX3_told : ByteArray := prog_19_method_59_code
def yX3_told : MethodName := ⟨RX3, "told", "(I)I"⟩
def dkwX3_told_3 : List UInt8 := [172, 2, 172]
abbrev dktX3_told_3 : List UInt8 := dkwX3_told_3 ++ []
def dkwX3_told_2 : List UInt8 := [42, 180, 0, 45, 172, 42, 180, 0, 250, 172, 42, 180, 1, 4, 172, 42, 180, 1, 7, 172, 42, 180, 0, 42]
abbrev dktX3_told_2 : List UInt8 := dkwX3_told_2 ++ dktX3_told_3
def dkwX3_told_1 : List UInt8 := [170, 0, 0, 0, 0, 0, 60, 0, 0, 0, 0, 0, 0, 0, 4, 0, 0, 0, 35, 0, 0, 0, 40, 0, 0, 0, 45, 0, 0, 0, 50, 0, 0, 0, 55]
abbrev dktX3_told_1 : List UInt8 := dkwX3_told_1 ++ dktX3_told_2
def dkwX3_told_0 : List UInt8 := [27]
abbrev dktX3_told_0 : List UInt8 := dkwX3_told_0 ++ dktX3_told_1
theorem dksX3_told_0 : cX3_told.data.toList.drop 0 = dktX3_told_0 := by decide +kernel
theorem dksX3_told_1 : cX3_told.data.toList.drop 1 = dktX3_told_1 := dk_seg dksX3_told_0 1 rfl rfl
theorem dksX3_told_2 : cX3_told.data.toList.drop 36 = dktX3_told_2 := dk_seg dksX3_told_1 35 rfl rfl
theorem dksX3_told_3 : cX3_told.data.toList.drop 60 = dktX3_told_3 := dk_seg dksX3_told_2 24 rfl rfl
theorem dX3_told_0 : decode cX3_told 0 = .ok (.iload_n 1, 1) := dk_27 (dk_at dksX3_told_0 0 rfl rfl)
theorem dX3_told_1 : decode cX3_told 1 = .ok (.tableswitch 60 0 4 #[35, 40, 45, 50, 55], 35) := by decide +kernel
theorem dX3_told_36 : decode cX3_told 36 = .ok (.aload_n 0, 1) := dk_42 (dk_at dksX3_told_2 0 rfl rfl)
theorem dX3_told_37 : decode cX3_told 37 = .ok (.getfield 45, 3) := dk_180 0 45 (dk_at dksX3_told_2 1 rfl rfl)
theorem dX3_told_40 : decode cX3_told 40 = .ok (.ireturn, 1) := dk_172 (dk_at dksX3_told_2 4 rfl rfl)
theorem dX3_told_41 : decode cX3_told 41 = .ok (.aload_n 0, 1) := dk_42 (dk_at dksX3_told_2 5 rfl rfl)
theorem dX3_told_42 : decode cX3_told 42 = .ok (.getfield 250, 3) := dk_180 0 250 (dk_at dksX3_told_2 6 rfl rfl)
theorem dX3_told_45 : decode cX3_told 45 = .ok (.ireturn, 1) := dk_172 (dk_at dksX3_told_2 9 rfl rfl)
theorem dX3_told_46 : decode cX3_told 46 = .ok (.aload_n 0, 1) := dk_42 (dk_at dksX3_told_2 10 rfl rfl)
theorem dX3_told_47 : decode cX3_told 47 = .ok (.getfield 260, 3) := dk_180 1 4 (dk_at dksX3_told_2 11 rfl rfl)
theorem dX3_told_50 : decode cX3_told 50 = .ok (.ireturn, 1) := dk_172 (dk_at dksX3_told_2 14 rfl rfl)
theorem dX3_told_51 : decode cX3_told 51 = .ok (.aload_n 0, 1) := dk_42 (dk_at dksX3_told_2 15 rfl rfl)
theorem dX3_told_52 : decode cX3_told 52 = .ok (.getfield 263, 3) := dk_180 1 7 (dk_at dksX3_told_2 16 rfl rfl)
theorem dX3_told_55 : decode cX3_told 55 = .ok (.ireturn, 1) := dk_172 (dk_at dksX3_told_2 19 rfl rfl)
theorem dX3_told_56 : decode cX3_told 56 = .ok (.aload_n 0, 1) := dk_42 (dk_at dksX3_told_2 20 rfl rfl)
theorem dX3_told_57 : decode cX3_told 57 = .ok (.getfield 42, 3) := dk_180 0 42 (dk_at dksX3_told_2 21 rfl rfl)
theorem dX3_told_60 : decode cX3_told 60 = .ok (.ireturn, 1) := dk_172 (dk_at dksX3_told_3 0 rfl rfl)
theorem dX3_told_61 : decode cX3_told 61 = .ok (.iconst (-1), 1) := dk_2 (dk_at dksX3_told_3 1 rfl rfl)
theorem dX3_told_62 : decode cX3_told 62 = .ok (.ireturn, 1) := dk_172 (dk_at dksX3_told_3 2 rfl rfl)
abbrev cX3_slip_2 : ByteArray := prog_19_method_60_code
def yX3_slip_2 : MethodName := ⟨RX3, "slip", "(II)I"⟩
def dkwX3_slip_2_1 : List UInt8 := [184, 0, 132, 153, 0, 16, 42, 180, 0, 48, 7, 27, 104, 28, 96, 46, 167, 0, 4, 2, 172]
abbrev dktX3_slip_2_1 : List UInt8 := dkwX3_slip_2_1 ++ []
def dkwX3_slip_2_0 : List UInt8 := [27, 133, 9, 42, 180, 0, 250, 4, 100, 133, 184, 0, 132, 153, 0, 28, 28, 133, 9, 20, 1, 51]
abbrev dktX3_slip_2_0 : List UInt8 := dkwX3_slip_2_0 ++ dktX3_slip_2_1
theorem dksX3_slip_2_0 : cX3_slip_2.data.toList.drop 0 = dktX3_slip_2_0 := by decide +kernel
theorem dksX3_slip_2_1 : cX3_slip_2.data.toList.drop 22 = dktX3_slip_2_1 := dk_seg dksX3_slip_2_0 22 rfl rfl
theorem dX3_slip_2_0 : decode cX3_slip_2 0 = .ok (.iload_n 1, 1) := dk_27 (dk_at dksX3_slip_2_0 0 rfl rfl)
theorem dX3_slip_2_1 : decode cX3_slip_2 1 = .ok (.i2l, 1) := dk_133 (dk_at dksX3_slip_2_0 1 rfl rfl)
theorem dX3_slip_2_2 : decode cX3_slip_2 2 = .ok (.lconst 0, 1) := dk_9 (dk_at dksX3_slip_2_0 2 rfl rfl)
theorem dX3_slip_2_3 : decode cX3_slip_2 3 = .ok (.aload_n 0, 1) := dk_42 (dk_at dksX3_slip_2_0 3 rfl rfl)
theorem dX3_slip_2_4 : decode cX3_slip_2 4 = .ok (.getfield 250, 3) := dk_180 0 250 (dk_at dksX3_slip_2_0 4 rfl rfl)
theorem dX3_slip_2_7 : decode cX3_slip_2 7 = .ok (.iconst 1, 1) := dk_4 (dk_at dksX3_slip_2_0 7 rfl rfl)
theorem dX3_slip_2_8 : decode cX3_slip_2 8 = .ok (.isub, 1) := dk_100 (dk_at dksX3_slip_2_0 8 rfl rfl)
theorem dX3_slip_2_9 : decode cX3_slip_2 9 = .ok (.i2l, 1) := dk_133 (dk_at dksX3_slip_2_0 9 rfl rfl)
theorem dX3_slip_2_10 : decode cX3_slip_2 10 = .ok (.invokestatic 132, 3) := dk_184 0 132 (dk_at dksX3_slip_2_0 10 rfl rfl)
theorem dX3_slip_2_13 : decode cX3_slip_2 13 = .ok (.ifCond .eq 28, 3) := dk_153 0 28 (dk_at dksX3_slip_2_0 13 rfl rfl)
theorem dX3_slip_2_16 : decode cX3_slip_2 16 = .ok (.iload_n 2, 1) := dk_28 (dk_at dksX3_slip_2_0 16 rfl rfl)
theorem dX3_slip_2_17 : decode cX3_slip_2 17 = .ok (.i2l, 1) := dk_133 (dk_at dksX3_slip_2_0 17 rfl rfl)
theorem dX3_slip_2_18 : decode cX3_slip_2 18 = .ok (.lconst 0, 1) := dk_9 (dk_at dksX3_slip_2_0 18 rfl rfl)
theorem dX3_slip_2_19 : decode cX3_slip_2 19 = .ok (.ldc2_w 307, 3) := dk_20 1 51 (dk_at dksX3_slip_2_0 19 rfl rfl)
theorem dX3_slip_2_22 : decode cX3_slip_2 22 = .ok (.invokestatic 132, 3) := dk_184 0 132 (dk_at dksX3_slip_2_1 0 rfl rfl)
theorem dX3_slip_2_25 : decode cX3_slip_2 25 = .ok (.ifCond .eq 16, 3) := dk_153 0 16 (dk_at dksX3_slip_2_1 3 rfl rfl)
theorem dX3_slip_2_28 : decode cX3_slip_2 28 = .ok (.aload_n 0, 1) := dk_42 (dk_at dksX3_slip_2_1 6 rfl rfl)
theorem dX3_slip_2_29 : decode cX3_slip_2 29 = .ok (.getfield 48, 3) := dk_180 0 48 (dk_at dksX3_slip_2_1 7 rfl rfl)
theorem dX3_slip_2_32 : decode cX3_slip_2 32 = .ok (.iconst 4, 1) := dk_7 (dk_at dksX3_slip_2_1 10 rfl rfl)
theorem dX3_slip_2_33 : decode cX3_slip_2 33 = .ok (.iload_n 1, 1) := dk_27 (dk_at dksX3_slip_2_1 11 rfl rfl)
theorem dX3_slip_2_34 : decode cX3_slip_2 34 = .ok (.imul, 1) := dk_104 (dk_at dksX3_slip_2_1 12 rfl rfl)
theorem dX3_slip_2_35 : decode cX3_slip_2 35 = .ok (.iload_n 2, 1) := dk_28 (dk_at dksX3_slip_2_1 13 rfl rfl)
theorem dX3_slip_2_36 : decode cX3_slip_2 36 = .ok (.iadd, 1) := dk_96 (dk_at dksX3_slip_2_1 14 rfl rfl)
theorem dX3_slip_2_37 : decode cX3_slip_2 37 = .ok (.iaload, 1) := dk_46 (dk_at dksX3_slip_2_1 15 rfl rfl)
theorem dX3_slip_2_38 : decode cX3_slip_2 38 = .ok (.goto 4, 3) := dk_167 0 4 (dk_at dksX3_slip_2_1 16 rfl rfl)
theorem dX3_slip_2_41 : decode cX3_slip_2 41 = .ok (.iconst (-1), 1) := dk_2 (dk_at dksX3_slip_2_1 19 rfl rfl)
theorem dX3_slip_2_42 : decode cX3_slip_2 42 = .ok (.ireturn, 1) := dk_172 (dk_at dksX3_slip_2_1 20 rfl rfl)
abbrev cX3_word : ByteArray := prog_19_method_61_code
def yX3_word : MethodName := ⟨RX3, "word", "(I)I"⟩
def dkwX3_word_1 : List UInt8 := [167, 0, 4, 2, 172]
abbrev dktX3_word_1 : List UInt8 := dkwX3_word_1 ++ []
def dkwX3_word_0 : List UInt8 := [27, 133, 9, 42, 180, 1, 4, 4, 100, 133, 184, 0, 132, 153, 0, 12, 42, 180, 0, 51, 27, 46]
abbrev dktX3_word_0 : List UInt8 := dkwX3_word_0 ++ dktX3_word_1
theorem dksX3_word_0 : cX3_word.data.toList.drop 0 = dktX3_word_0 := by decide +kernel
theorem dksX3_word_1 : cX3_word.data.toList.drop 22 = dktX3_word_1 := dk_seg dksX3_word_0 22 rfl rfl
theorem dX3_word_0 : decode cX3_word 0 = .ok (.iload_n 1, 1) := dk_27 (dk_at dksX3_word_0 0 rfl rfl)
theorem dX3_word_1 : decode cX3_word 1 = .ok (.i2l, 1) := dk_133 (dk_at dksX3_word_0 1 rfl rfl)
theorem dX3_word_2 : decode cX3_word 2 = .ok (.lconst 0, 1) := dk_9 (dk_at dksX3_word_0 2 rfl rfl)
theorem dX3_word_3 : decode cX3_word 3 = .ok (.aload_n 0, 1) := dk_42 (dk_at dksX3_word_0 3 rfl rfl)
theorem dX3_word_4 : decode cX3_word 4 = .ok (.getfield 260, 3) := dk_180 1 4 (dk_at dksX3_word_0 4 rfl rfl)
theorem dX3_word_7 : decode cX3_word 7 = .ok (.iconst 1, 1) := dk_4 (dk_at dksX3_word_0 7 rfl rfl)
theorem dX3_word_8 : decode cX3_word 8 = .ok (.isub, 1) := dk_100 (dk_at dksX3_word_0 8 rfl rfl)
theorem dX3_word_9 : decode cX3_word 9 = .ok (.i2l, 1) := dk_133 (dk_at dksX3_word_0 9 rfl rfl)
theorem dX3_word_10 : decode cX3_word 10 = .ok (.invokestatic 132, 3) := dk_184 0 132 (dk_at dksX3_word_0 10 rfl rfl)
theorem dX3_word_13 : decode cX3_word 13 = .ok (.ifCond .eq 12, 3) := dk_153 0 12 (dk_at dksX3_word_0 13 rfl rfl)
theorem dX3_word_16 : decode cX3_word 16 = .ok (.aload_n 0, 1) := dk_42 (dk_at dksX3_word_0 16 rfl rfl)
theorem dX3_word_17 : decode cX3_word 17 = .ok (.getfield 51, 3) := dk_180 0 51 (dk_at dksX3_word_0 17 rfl rfl)
theorem dX3_word_20 : decode cX3_word 20 = .ok (.iload_n 1, 1) := dk_27 (dk_at dksX3_word_0 20 rfl rfl)
theorem dX3_word_21 : decode cX3_word 21 = .ok (.iaload, 1) := dk_46 (dk_at dksX3_word_0 21 rfl rfl)
theorem dX3_word_22 : decode cX3_word 22 = .ok (.goto 4, 3) := dk_167 0 4 (dk_at dksX3_word_1 0 rfl rfl)
theorem dX3_word_25 : decode cX3_word 25 = .ok (.iconst (-1), 1) := dk_2 (dk_at dksX3_word_1 3 rfl rfl)
theorem dX3_word_26 : decode cX3_word 26 = .ok (.ireturn, 1) := dk_172 (dk_at dksX3_word_1 4 rfl rfl)
abbrev cX3_node : ByteArray := prog_19_method_62_code
def yX3_node : MethodName := ⟨RX3, "node", "(II)I"⟩
def dkwX3_node_1 : List UInt8 := [184, 0, 132, 153, 0, 16, 42, 180, 0, 54, 8, 27, 104, 28, 96, 46, 167, 0, 4, 2, 172]
abbrev dktX3_node_1 : List UInt8 := dkwX3_node_1 ++ []
def dkwX3_node_0 : List UInt8 := [27, 133, 9, 42, 180, 1, 7, 4, 100, 133, 184, 0, 132, 153, 0, 28, 28, 133, 9, 20, 0, 151]
abbrev dktX3_node_0 : List UInt8 := dkwX3_node_0 ++ dktX3_node_1
theorem dksX3_node_0 : cX3_node.data.toList.drop 0 = dktX3_node_0 := by decide +kernel
theorem dksX3_node_1 : cX3_node.data.toList.drop 22 = dktX3_node_1 := dk_seg dksX3_node_0 22 rfl rfl
theorem dX3_node_0 : decode cX3_node 0 = .ok (.iload_n 1, 1) := dk_27 (dk_at dksX3_node_0 0 rfl rfl)
theorem dX3_node_1 : decode cX3_node 1 = .ok (.i2l, 1) := dk_133 (dk_at dksX3_node_0 1 rfl rfl)
theorem dX3_node_2 : decode cX3_node 2 = .ok (.lconst 0, 1) := dk_9 (dk_at dksX3_node_0 2 rfl rfl)
theorem dX3_node_3 : decode cX3_node 3 = .ok (.aload_n 0, 1) := dk_42 (dk_at dksX3_node_0 3 rfl rfl)
theorem dX3_node_4 : decode cX3_node 4 = .ok (.getfield 263, 3) := dk_180 1 7 (dk_at dksX3_node_0 4 rfl rfl)
theorem dX3_node_7 : decode cX3_node 7 = .ok (.iconst 1, 1) := dk_4 (dk_at dksX3_node_0 7 rfl rfl)
theorem dX3_node_8 : decode cX3_node 8 = .ok (.isub, 1) := dk_100 (dk_at dksX3_node_0 8 rfl rfl)
theorem dX3_node_9 : decode cX3_node 9 = .ok (.i2l, 1) := dk_133 (dk_at dksX3_node_0 9 rfl rfl)
theorem dX3_node_10 : decode cX3_node 10 = .ok (.invokestatic 132, 3) := dk_184 0 132 (dk_at dksX3_node_0 10 rfl rfl)
theorem dX3_node_13 : decode cX3_node 13 = .ok (.ifCond .eq 28, 3) := dk_153 0 28 (dk_at dksX3_node_0 13 rfl rfl)
theorem dX3_node_16 : decode cX3_node 16 = .ok (.iload_n 2, 1) := dk_28 (dk_at dksX3_node_0 16 rfl rfl)
theorem dX3_node_17 : decode cX3_node 17 = .ok (.i2l, 1) := dk_133 (dk_at dksX3_node_0 17 rfl rfl)
theorem dX3_node_18 : decode cX3_node 18 = .ok (.lconst 0, 1) := dk_9 (dk_at dksX3_node_0 18 rfl rfl)
theorem dX3_node_19 : decode cX3_node 19 = .ok (.ldc2_w 151, 3) := dk_20 0 151 (dk_at dksX3_node_0 19 rfl rfl)
theorem dX3_node_22 : decode cX3_node 22 = .ok (.invokestatic 132, 3) := dk_184 0 132 (dk_at dksX3_node_1 0 rfl rfl)
theorem dX3_node_25 : decode cX3_node 25 = .ok (.ifCond .eq 16, 3) := dk_153 0 16 (dk_at dksX3_node_1 3 rfl rfl)
theorem dX3_node_28 : decode cX3_node 28 = .ok (.aload_n 0, 1) := dk_42 (dk_at dksX3_node_1 6 rfl rfl)
theorem dX3_node_29 : decode cX3_node 29 = .ok (.getfield 54, 3) := dk_180 0 54 (dk_at dksX3_node_1 7 rfl rfl)
theorem dX3_node_32 : decode cX3_node 32 = .ok (.iconst 5, 1) := dk_8 (dk_at dksX3_node_1 10 rfl rfl)
theorem dX3_node_33 : decode cX3_node 33 = .ok (.iload_n 1, 1) := dk_27 (dk_at dksX3_node_1 11 rfl rfl)
theorem dX3_node_34 : decode cX3_node 34 = .ok (.imul, 1) := dk_104 (dk_at dksX3_node_1 12 rfl rfl)
theorem dX3_node_35 : decode cX3_node 35 = .ok (.iload_n 2, 1) := dk_28 (dk_at dksX3_node_1 13 rfl rfl)
theorem dX3_node_36 : decode cX3_node 36 = .ok (.iadd, 1) := dk_96 (dk_at dksX3_node_1 14 rfl rfl)
theorem dX3_node_37 : decode cX3_node 37 = .ok (.iaload, 1) := dk_46 (dk_at dksX3_node_1 15 rfl rfl)
theorem dX3_node_38 : decode cX3_node 38 = .ok (.goto 4, 3) := dk_167 0 4 (dk_at dksX3_node_1 16 rfl rfl)
theorem dX3_node_41 : decode cX3_node 41 = .ok (.iconst (-1), 1) := dk_2 (dk_at dksX3_node_1 19 rfl rfl)
theorem dX3_node_42 : decode cX3_node 42 = .ok (.ireturn, 1) := dk_172 (dk_at dksX3_node_1 20 rfl rfl)
abbrev cX3_sure : ByteArray := prog_19_method_63_code
def yX3_sure : MethodName := ⟨RX3, "sure", "(I)I"⟩
def dkwX3_sure_5 : List UInt8 := [167, 0, 4, 3, 172]
abbrev dktX3_sure_5 : List UInt8 := dkwX3_sure_5 ++ []
def dkwX3_sure_4 : List UInt8 := [28, 16, 252, 159, 0, 20, 42, 28, 182, 1, 35, 20, 0, 226, 109, 136, 42, 180, 0, 45, 164, 0, 7, 4]
abbrev dktX3_sure_4 : List UInt8 := dkwX3_sure_4 ++ dktX3_sure_5
def dkwX3_sure_3 : List UInt8 := [104, 5, 96, 46, 181, 0, 175, 42, 42, 180, 0, 42, 42, 180, 0, 156, 182, 1, 25, 42, 182, 1, 28, 61]
abbrev dktX3_sure_3 : List UInt8 := dkwX3_sure_3 ++ dktX3_sure_4
def dkwX3_sure_2 : List UInt8 := [181, 0, 169, 42, 42, 180, 0, 48, 7, 27, 104, 4, 96, 46, 181, 0, 172, 42, 42, 180, 0, 48, 7, 27]
abbrev dktX3_sure_2 : List UInt8 := dkwX3_sure_2 ++ dktX3_sure_3
def dkwX3_sure_1 : List UInt8 := [153, 0, 11, 42, 180, 0, 42, 4, 164, 0, 6, 16, 253, 172, 42, 42, 180, 0, 48, 7, 27, 104, 46]
abbrev dktX3_sure_1 : List UInt8 := dkwX3_sure_1 ++ dktX3_sure_2
def dkwX3_sure_0 : List UInt8 := [27, 133, 9, 42, 180, 0, 250, 4, 100, 133, 184, 0, 132, 154, 0, 5, 2, 172, 42, 180, 0, 125]
abbrev dktX3_sure_0 : List UInt8 := dkwX3_sure_0 ++ dktX3_sure_1
theorem dksX3_sure_0 : cX3_sure.data.toList.drop 0 = dktX3_sure_0 := by decide +kernel
theorem dksX3_sure_1 : cX3_sure.data.toList.drop 22 = dktX3_sure_1 := dk_seg dksX3_sure_0 22 rfl rfl
theorem dksX3_sure_2 : cX3_sure.data.toList.drop 45 = dktX3_sure_2 := dk_seg dksX3_sure_1 23 rfl rfl
theorem dksX3_sure_3 : cX3_sure.data.toList.drop 69 = dktX3_sure_3 := dk_seg dksX3_sure_2 24 rfl rfl
theorem dksX3_sure_4 : cX3_sure.data.toList.drop 93 = dktX3_sure_4 := dk_seg dksX3_sure_3 24 rfl rfl
theorem dksX3_sure_5 : cX3_sure.data.toList.drop 117 = dktX3_sure_5 := dk_seg dksX3_sure_4 24 rfl rfl
theorem dX3_sure_0 : decode cX3_sure 0 = .ok (.iload_n 1, 1) := dk_27 (dk_at dksX3_sure_0 0 rfl rfl)
theorem dX3_sure_1 : decode cX3_sure 1 = .ok (.i2l, 1) := dk_133 (dk_at dksX3_sure_0 1 rfl rfl)
theorem dX3_sure_2 : decode cX3_sure 2 = .ok (.lconst 0, 1) := dk_9 (dk_at dksX3_sure_0 2 rfl rfl)
theorem dX3_sure_3 : decode cX3_sure 3 = .ok (.aload_n 0, 1) := dk_42 (dk_at dksX3_sure_0 3 rfl rfl)
theorem dX3_sure_4 : decode cX3_sure 4 = .ok (.getfield 250, 3) := dk_180 0 250 (dk_at dksX3_sure_0 4 rfl rfl)
theorem dX3_sure_7 : decode cX3_sure 7 = .ok (.iconst 1, 1) := dk_4 (dk_at dksX3_sure_0 7 rfl rfl)
theorem dX3_sure_8 : decode cX3_sure 8 = .ok (.isub, 1) := dk_100 (dk_at dksX3_sure_0 8 rfl rfl)
theorem dX3_sure_9 : decode cX3_sure 9 = .ok (.i2l, 1) := dk_133 (dk_at dksX3_sure_0 9 rfl rfl)
theorem dX3_sure_10 : decode cX3_sure 10 = .ok (.invokestatic 132, 3) := dk_184 0 132 (dk_at dksX3_sure_0 10 rfl rfl)
theorem dX3_sure_13 : decode cX3_sure 13 = .ok (.ifCond .ne 5, 3) := dk_154 0 5 (dk_at dksX3_sure_0 13 rfl rfl)
theorem dX3_sure_16 : decode cX3_sure 16 = .ok (.iconst (-1), 1) := dk_2 (dk_at dksX3_sure_0 16 rfl rfl)
theorem dX3_sure_17 : decode cX3_sure 17 = .ok (.ireturn, 1) := dk_172 (dk_at dksX3_sure_0 17 rfl rfl)
theorem dX3_sure_18 : decode cX3_sure 18 = .ok (.aload_n 0, 1) := dk_42 (dk_at dksX3_sure_0 18 rfl rfl)
theorem dX3_sure_19 : decode cX3_sure 19 = .ok (.getfield 125, 3) := dk_180 0 125 (dk_at dksX3_sure_0 19 rfl rfl)
theorem dX3_sure_22 : decode cX3_sure 22 = .ok (.ifCond .eq 11, 3) := dk_153 0 11 (dk_at dksX3_sure_1 0 rfl rfl)
theorem dX3_sure_25 : decode cX3_sure 25 = .ok (.aload_n 0, 1) := dk_42 (dk_at dksX3_sure_1 3 rfl rfl)
theorem dX3_sure_26 : decode cX3_sure 26 = .ok (.getfield 42, 3) := dk_180 0 42 (dk_at dksX3_sure_1 4 rfl rfl)
theorem dX3_sure_29 : decode cX3_sure 29 = .ok (.iconst 1, 1) := dk_4 (dk_at dksX3_sure_1 7 rfl rfl)
theorem dX3_sure_30 : decode cX3_sure 30 = .ok (.if_icmp .le 6, 3) := dk_164 0 6 (dk_at dksX3_sure_1 8 rfl rfl)
theorem dX3_sure_33 : decode cX3_sure 33 = .ok (.bipush (-3), 2) := dk_16 253 (dk_at dksX3_sure_1 11 rfl rfl)
theorem dX3_sure_35 : decode cX3_sure 35 = .ok (.ireturn, 1) := dk_172 (dk_at dksX3_sure_1 13 rfl rfl)
theorem dX3_sure_36 : decode cX3_sure 36 = .ok (.aload_n 0, 1) := dk_42 (dk_at dksX3_sure_1 14 rfl rfl)
theorem dX3_sure_37 : decode cX3_sure 37 = .ok (.aload_n 0, 1) := dk_42 (dk_at dksX3_sure_1 15 rfl rfl)
theorem dX3_sure_38 : decode cX3_sure 38 = .ok (.getfield 48, 3) := dk_180 0 48 (dk_at dksX3_sure_1 16 rfl rfl)
theorem dX3_sure_41 : decode cX3_sure 41 = .ok (.iconst 4, 1) := dk_7 (dk_at dksX3_sure_1 19 rfl rfl)
theorem dX3_sure_42 : decode cX3_sure 42 = .ok (.iload_n 1, 1) := dk_27 (dk_at dksX3_sure_1 20 rfl rfl)
theorem dX3_sure_43 : decode cX3_sure 43 = .ok (.imul, 1) := dk_104 (dk_at dksX3_sure_1 21 rfl rfl)
theorem dX3_sure_44 : decode cX3_sure 44 = .ok (.iaload, 1) := dk_46 (dk_at dksX3_sure_1 22 rfl rfl)
theorem dX3_sure_45 : decode cX3_sure 45 = .ok (.putfield 169, 3) := dk_181 0 169 (dk_at dksX3_sure_2 0 rfl rfl)
theorem dX3_sure_48 : decode cX3_sure 48 = .ok (.aload_n 0, 1) := dk_42 (dk_at dksX3_sure_2 3 rfl rfl)
theorem dX3_sure_49 : decode cX3_sure 49 = .ok (.aload_n 0, 1) := dk_42 (dk_at dksX3_sure_2 4 rfl rfl)
theorem dX3_sure_50 : decode cX3_sure 50 = .ok (.getfield 48, 3) := dk_180 0 48 (dk_at dksX3_sure_2 5 rfl rfl)
theorem dX3_sure_53 : decode cX3_sure 53 = .ok (.iconst 4, 1) := dk_7 (dk_at dksX3_sure_2 8 rfl rfl)
theorem dX3_sure_54 : decode cX3_sure 54 = .ok (.iload_n 1, 1) := dk_27 (dk_at dksX3_sure_2 9 rfl rfl)
theorem dX3_sure_55 : decode cX3_sure 55 = .ok (.imul, 1) := dk_104 (dk_at dksX3_sure_2 10 rfl rfl)
theorem dX3_sure_56 : decode cX3_sure 56 = .ok (.iconst 1, 1) := dk_4 (dk_at dksX3_sure_2 11 rfl rfl)
theorem dX3_sure_57 : decode cX3_sure 57 = .ok (.iadd, 1) := dk_96 (dk_at dksX3_sure_2 12 rfl rfl)
theorem dX3_sure_58 : decode cX3_sure 58 = .ok (.iaload, 1) := dk_46 (dk_at dksX3_sure_2 13 rfl rfl)
theorem dX3_sure_59 : decode cX3_sure 59 = .ok (.putfield 172, 3) := dk_181 0 172 (dk_at dksX3_sure_2 14 rfl rfl)
theorem dX3_sure_62 : decode cX3_sure 62 = .ok (.aload_n 0, 1) := dk_42 (dk_at dksX3_sure_2 17 rfl rfl)
theorem dX3_sure_63 : decode cX3_sure 63 = .ok (.aload_n 0, 1) := dk_42 (dk_at dksX3_sure_2 18 rfl rfl)
theorem dX3_sure_64 : decode cX3_sure 64 = .ok (.getfield 48, 3) := dk_180 0 48 (dk_at dksX3_sure_2 19 rfl rfl)
theorem dX3_sure_67 : decode cX3_sure 67 = .ok (.iconst 4, 1) := dk_7 (dk_at dksX3_sure_2 22 rfl rfl)
theorem dX3_sure_68 : decode cX3_sure 68 = .ok (.iload_n 1, 1) := dk_27 (dk_at dksX3_sure_2 23 rfl rfl)
theorem dX3_sure_69 : decode cX3_sure 69 = .ok (.imul, 1) := dk_104 (dk_at dksX3_sure_3 0 rfl rfl)
theorem dX3_sure_70 : decode cX3_sure 70 = .ok (.iconst 2, 1) := dk_5 (dk_at dksX3_sure_3 1 rfl rfl)
theorem dX3_sure_71 : decode cX3_sure 71 = .ok (.iadd, 1) := dk_96 (dk_at dksX3_sure_3 2 rfl rfl)
theorem dX3_sure_72 : decode cX3_sure 72 = .ok (.iaload, 1) := dk_46 (dk_at dksX3_sure_3 3 rfl rfl)
theorem dX3_sure_73 : decode cX3_sure 73 = .ok (.putfield 175, 3) := dk_181 0 175 (dk_at dksX3_sure_3 4 rfl rfl)
theorem dX3_sure_76 : decode cX3_sure 76 = .ok (.aload_n 0, 1) := dk_42 (dk_at dksX3_sure_3 7 rfl rfl)
theorem dX3_sure_77 : decode cX3_sure 77 = .ok (.aload_n 0, 1) := dk_42 (dk_at dksX3_sure_3 8 rfl rfl)
theorem dX3_sure_78 : decode cX3_sure 78 = .ok (.getfield 42, 3) := dk_180 0 42 (dk_at dksX3_sure_3 9 rfl rfl)
theorem dX3_sure_81 : decode cX3_sure 81 = .ok (.aload_n 0, 1) := dk_42 (dk_at dksX3_sure_3 12 rfl rfl)
theorem dX3_sure_82 : decode cX3_sure 82 = .ok (.getfield 156, 3) := dk_180 0 156 (dk_at dksX3_sure_3 13 rfl rfl)
theorem dX3_sure_85 : decode cX3_sure 85 = .ok (.invokevirtual 281, 3) := dk_182 1 25 (dk_at dksX3_sure_3 16 rfl rfl)
theorem dX3_sure_88 : decode cX3_sure 88 = .ok (.aload_n 0, 1) := dk_42 (dk_at dksX3_sure_3 19 rfl rfl)
theorem dX3_sure_89 : decode cX3_sure 89 = .ok (.invokevirtual 284, 3) := dk_182 1 28 (dk_at dksX3_sure_3 20 rfl rfl)
theorem dX3_sure_92 : decode cX3_sure 92 = .ok (.istore_n 2, 1) := dk_61 (dk_at dksX3_sure_3 23 rfl rfl)
theorem dX3_sure_93 : decode cX3_sure 93 = .ok (.iload_n 2, 1) := dk_28 (dk_at dksX3_sure_4 0 rfl rfl)
theorem dX3_sure_94 : decode cX3_sure 94 = .ok (.bipush (-4), 2) := dk_16 252 (dk_at dksX3_sure_4 1 rfl rfl)
theorem dX3_sure_96 : decode cX3_sure 96 = .ok (.if_icmp .eq 20, 3) := dk_159 0 20 (dk_at dksX3_sure_4 3 rfl rfl)
theorem dX3_sure_99 : decode cX3_sure 99 = .ok (.aload_n 0, 1) := dk_42 (dk_at dksX3_sure_4 6 rfl rfl)
theorem dX3_sure_100 : decode cX3_sure 100 = .ok (.iload_n 2, 1) := dk_28 (dk_at dksX3_sure_4 7 rfl rfl)
theorem dX3_sure_101 : decode cX3_sure 101 = .ok (.invokevirtual 291, 3) := dk_182 1 35 (dk_at dksX3_sure_4 8 rfl rfl)
theorem dX3_sure_104 : decode cX3_sure 104 = .ok (.ldc2_w 226, 3) := dk_20 0 226 (dk_at dksX3_sure_4 11 rfl rfl)
theorem dX3_sure_107 : decode cX3_sure 107 = .ok (.ldiv, 1) := dk_109 (dk_at dksX3_sure_4 14 rfl rfl)
theorem dX3_sure_108 : decode cX3_sure 108 = .ok (.l2i, 1) := dk_136 (dk_at dksX3_sure_4 15 rfl rfl)
theorem dX3_sure_109 : decode cX3_sure 109 = .ok (.aload_n 0, 1) := dk_42 (dk_at dksX3_sure_4 16 rfl rfl)
theorem dX3_sure_110 : decode cX3_sure 110 = .ok (.getfield 45, 3) := dk_180 0 45 (dk_at dksX3_sure_4 17 rfl rfl)
theorem dX3_sure_113 : decode cX3_sure 113 = .ok (.if_icmp .le 7, 3) := dk_164 0 7 (dk_at dksX3_sure_4 20 rfl rfl)
theorem dX3_sure_116 : decode cX3_sure 116 = .ok (.iconst 1, 1) := dk_4 (dk_at dksX3_sure_4 23 rfl rfl)
theorem dX3_sure_117 : decode cX3_sure 117 = .ok (.goto 4, 3) := dk_167 0 4 (dk_at dksX3_sure_5 0 rfl rfl)
theorem dX3_sure_120 : decode cX3_sure 120 = .ok (.iconst 0, 1) := dk_3 (dk_at dksX3_sure_5 3 rfl rfl)
theorem dX3_sure_121 : decode cX3_sure 121 = .ok (.ireturn, 1) := dk_172 (dk_at dksX3_sure_5 4 rfl rfl)
abbrev cX3_count : ByteArray := prog_19_method_64_code
def yX3_count : MethodName := ⟨RX3, "count", "(I)I"⟩
def dkwX3_count_7 : List UInt8 := [132, 4, 1, 167, 255, 214, 132, 3, 1, 167, 255, 197, 28, 172, 2, 172]
abbrev dktX3_count_7 : List UInt8 := dkwX3_count_7 ++ []
def dkwX3_count_6 : List UInt8 := [21, 4, 104, 5, 96, 46, 42, 180, 0, 39, 29, 46, 160, 0, 7, 4, 167, 0, 4, 3, 96, 61]
abbrev dktX3_count_6 : List UInt8 := dkwX3_count_6 ++ dktX3_count_7
def dkwX3_count_5 : List UInt8 := [162, 0, 57, 3, 54, 4, 21, 4, 42, 180, 0, 33, 3, 46, 162, 0, 37, 28, 42, 180, 0, 36, 7]
abbrev dktX3_count_5 : List UInt8 := dkwX3_count_5 ++ dktX3_count_6
def dkwX3_count_4 : List UInt8 := [164, 0, 12, 42, 180, 0, 156, 4, 100, 167, 0, 4, 3, 96, 61, 3, 62, 29, 42, 180, 0, 156]
abbrev dktX3_count_4 : List UInt8 := dkwX3_count_4 ++ dktX3_count_5
def dkwX3_count_3 : List UInt8 := [180, 0, 33, 4, 46, 172, 42, 180, 0, 156, 172, 42, 180, 0, 156, 4, 96, 42, 180, 0, 156, 4]
abbrev dktX3_count_3 : List UInt8 := dkwX3_count_3 ++ dktX3_count_4
def dkwX3_count_2 : List UInt8 := [42, 180, 0, 122, 172, 42, 180, 0, 129, 172, 42, 180, 0, 140, 172, 42, 180, 0, 33, 3, 46, 172, 42]
abbrev dktX3_count_2 : List UInt8 := dkwX3_count_2 ++ dktX3_count_3
def dkwX3_count_1 : List UInt8 := [170, 0, 0, 0, 0, 0, 169, 0, 0, 0, 0, 0, 0, 0, 6, 0, 0, 0, 43, 0, 0, 0, 48, 0, 0, 0, 53, 0, 0, 0, 58, 0, 0, 0, 65, 0, 0, 0, 72, 0, 0, 0, 77]
abbrev dktX3_count_1 : List UInt8 := dkwX3_count_1 ++ dktX3_count_2
def dkwX3_count_0 : List UInt8 := [27]
abbrev dktX3_count_0 : List UInt8 := dkwX3_count_0 ++ dktX3_count_1
theorem dksX3_count_0 : cX3_count.data.toList.drop 0 = dktX3_count_0 := by decide +kernel
theorem dksX3_count_1 : cX3_count.data.toList.drop 1 = dktX3_count_1 := dk_seg dksX3_count_0 1 rfl rfl
theorem dksX3_count_2 : cX3_count.data.toList.drop 44 = dktX3_count_2 := dk_seg dksX3_count_1 43 rfl rfl
theorem dksX3_count_3 : cX3_count.data.toList.drop 67 = dktX3_count_3 := dk_seg dksX3_count_2 23 rfl rfl
theorem dksX3_count_4 : cX3_count.data.toList.drop 89 = dktX3_count_4 := dk_seg dksX3_count_3 22 rfl rfl
theorem dksX3_count_5 : cX3_count.data.toList.drop 111 = dktX3_count_5 := dk_seg dksX3_count_4 22 rfl rfl
theorem dksX3_count_6 : cX3_count.data.toList.drop 134 = dktX3_count_6 := dk_seg dksX3_count_5 23 rfl rfl
theorem dksX3_count_7 : cX3_count.data.toList.drop 156 = dktX3_count_7 := dk_seg dksX3_count_6 22 rfl rfl
theorem dX3_count_0 : decode cX3_count 0 = .ok (.iload_n 1, 1) := dk_27 (dk_at dksX3_count_0 0 rfl rfl)
theorem dX3_count_1 : decode cX3_count 1 = .ok (.tableswitch 169 0 6 #[43, 48, 53, 58, 65, 72, 77], 43) := by decide +kernel
theorem dX3_count_44 : decode cX3_count 44 = .ok (.aload_n 0, 1) := dk_42 (dk_at dksX3_count_2 0 rfl rfl)
theorem dX3_count_45 : decode cX3_count 45 = .ok (.getfield 122, 3) := dk_180 0 122 (dk_at dksX3_count_2 1 rfl rfl)
theorem dX3_count_48 : decode cX3_count 48 = .ok (.ireturn, 1) := dk_172 (dk_at dksX3_count_2 4 rfl rfl)
theorem dX3_count_49 : decode cX3_count 49 = .ok (.aload_n 0, 1) := dk_42 (dk_at dksX3_count_2 5 rfl rfl)
theorem dX3_count_50 : decode cX3_count 50 = .ok (.getfield 129, 3) := dk_180 0 129 (dk_at dksX3_count_2 6 rfl rfl)
theorem dX3_count_53 : decode cX3_count 53 = .ok (.ireturn, 1) := dk_172 (dk_at dksX3_count_2 9 rfl rfl)
theorem dX3_count_54 : decode cX3_count 54 = .ok (.aload_n 0, 1) := dk_42 (dk_at dksX3_count_2 10 rfl rfl)
theorem dX3_count_55 : decode cX3_count 55 = .ok (.getfield 140, 3) := dk_180 0 140 (dk_at dksX3_count_2 11 rfl rfl)
theorem dX3_count_58 : decode cX3_count 58 = .ok (.ireturn, 1) := dk_172 (dk_at dksX3_count_2 14 rfl rfl)
theorem dX3_count_59 : decode cX3_count 59 = .ok (.aload_n 0, 1) := dk_42 (dk_at dksX3_count_2 15 rfl rfl)
theorem dX3_count_60 : decode cX3_count 60 = .ok (.getfield 33, 3) := dk_180 0 33 (dk_at dksX3_count_2 16 rfl rfl)
theorem dX3_count_63 : decode cX3_count 63 = .ok (.iconst 0, 1) := dk_3 (dk_at dksX3_count_2 19 rfl rfl)
theorem dX3_count_64 : decode cX3_count 64 = .ok (.iaload, 1) := dk_46 (dk_at dksX3_count_2 20 rfl rfl)
theorem dX3_count_65 : decode cX3_count 65 = .ok (.ireturn, 1) := dk_172 (dk_at dksX3_count_2 21 rfl rfl)
theorem dX3_count_66 : decode cX3_count 66 = .ok (.aload_n 0, 1) := dk_42 (dk_at dksX3_count_2 22 rfl rfl)
theorem dX3_count_67 : decode cX3_count 67 = .ok (.getfield 33, 3) := dk_180 0 33 (dk_at dksX3_count_3 0 rfl rfl)
theorem dX3_count_70 : decode cX3_count 70 = .ok (.iconst 1, 1) := dk_4 (dk_at dksX3_count_3 3 rfl rfl)
theorem dX3_count_71 : decode cX3_count 71 = .ok (.iaload, 1) := dk_46 (dk_at dksX3_count_3 4 rfl rfl)
theorem dX3_count_72 : decode cX3_count 72 = .ok (.ireturn, 1) := dk_172 (dk_at dksX3_count_3 5 rfl rfl)
theorem dX3_count_73 : decode cX3_count 73 = .ok (.aload_n 0, 1) := dk_42 (dk_at dksX3_count_3 6 rfl rfl)
theorem dX3_count_74 : decode cX3_count 74 = .ok (.getfield 156, 3) := dk_180 0 156 (dk_at dksX3_count_3 7 rfl rfl)
theorem dX3_count_77 : decode cX3_count 77 = .ok (.ireturn, 1) := dk_172 (dk_at dksX3_count_3 10 rfl rfl)
theorem dX3_count_78 : decode cX3_count 78 = .ok (.aload_n 0, 1) := dk_42 (dk_at dksX3_count_3 11 rfl rfl)
theorem dX3_count_79 : decode cX3_count 79 = .ok (.getfield 156, 3) := dk_180 0 156 (dk_at dksX3_count_3 12 rfl rfl)
theorem dX3_count_82 : decode cX3_count 82 = .ok (.iconst 1, 1) := dk_4 (dk_at dksX3_count_3 15 rfl rfl)
theorem dX3_count_83 : decode cX3_count 83 = .ok (.iadd, 1) := dk_96 (dk_at dksX3_count_3 16 rfl rfl)
theorem dX3_count_84 : decode cX3_count 84 = .ok (.aload_n 0, 1) := dk_42 (dk_at dksX3_count_3 17 rfl rfl)
theorem dX3_count_85 : decode cX3_count 85 = .ok (.getfield 156, 3) := dk_180 0 156 (dk_at dksX3_count_3 18 rfl rfl)
theorem dX3_count_88 : decode cX3_count 88 = .ok (.iconst 1, 1) := dk_4 (dk_at dksX3_count_3 21 rfl rfl)
theorem dX3_count_89 : decode cX3_count 89 = .ok (.if_icmp .le 12, 3) := dk_164 0 12 (dk_at dksX3_count_4 0 rfl rfl)
theorem dX3_count_92 : decode cX3_count 92 = .ok (.aload_n 0, 1) := dk_42 (dk_at dksX3_count_4 3 rfl rfl)
theorem dX3_count_93 : decode cX3_count 93 = .ok (.getfield 156, 3) := dk_180 0 156 (dk_at dksX3_count_4 4 rfl rfl)
theorem dX3_count_96 : decode cX3_count 96 = .ok (.iconst 1, 1) := dk_4 (dk_at dksX3_count_4 7 rfl rfl)
theorem dX3_count_97 : decode cX3_count 97 = .ok (.isub, 1) := dk_100 (dk_at dksX3_count_4 8 rfl rfl)
theorem dX3_count_98 : decode cX3_count 98 = .ok (.goto 4, 3) := dk_167 0 4 (dk_at dksX3_count_4 9 rfl rfl)
theorem dX3_count_101 : decode cX3_count 101 = .ok (.iconst 0, 1) := dk_3 (dk_at dksX3_count_4 12 rfl rfl)
theorem dX3_count_102 : decode cX3_count 102 = .ok (.iadd, 1) := dk_96 (dk_at dksX3_count_4 13 rfl rfl)
theorem dX3_count_103 : decode cX3_count 103 = .ok (.istore_n 2, 1) := dk_61 (dk_at dksX3_count_4 14 rfl rfl)
theorem dX3_count_104 : decode cX3_count 104 = .ok (.iconst 0, 1) := dk_3 (dk_at dksX3_count_4 15 rfl rfl)
theorem dX3_count_105 : decode cX3_count 105 = .ok (.istore_n 3, 1) := dk_62 (dk_at dksX3_count_4 16 rfl rfl)
theorem dX3_count_106 : decode cX3_count 106 = .ok (.iload_n 3, 1) := dk_29 (dk_at dksX3_count_4 17 rfl rfl)
theorem dX3_count_107 : decode cX3_count 107 = .ok (.aload_n 0, 1) := dk_42 (dk_at dksX3_count_4 18 rfl rfl)
theorem dX3_count_108 : decode cX3_count 108 = .ok (.getfield 156, 3) := dk_180 0 156 (dk_at dksX3_count_4 19 rfl rfl)
theorem dX3_count_111 : decode cX3_count 111 = .ok (.if_icmp .ge 57, 3) := dk_162 0 57 (dk_at dksX3_count_5 0 rfl rfl)
theorem dX3_count_114 : decode cX3_count 114 = .ok (.iconst 0, 1) := dk_3 (dk_at dksX3_count_5 3 rfl rfl)
theorem dX3_count_115 : decode cX3_count 115 = .ok (.istore 4, 2) := dk_54 4 (dk_at dksX3_count_5 4 rfl rfl)
theorem dX3_count_117 : decode cX3_count 117 = .ok (.iload 4, 2) := dk_21 4 (dk_at dksX3_count_5 6 rfl rfl)
theorem dX3_count_119 : decode cX3_count 119 = .ok (.aload_n 0, 1) := dk_42 (dk_at dksX3_count_5 8 rfl rfl)
theorem dX3_count_120 : decode cX3_count 120 = .ok (.getfield 33, 3) := dk_180 0 33 (dk_at dksX3_count_5 9 rfl rfl)
theorem dX3_count_123 : decode cX3_count 123 = .ok (.iconst 0, 1) := dk_3 (dk_at dksX3_count_5 12 rfl rfl)
theorem dX3_count_124 : decode cX3_count 124 = .ok (.iaload, 1) := dk_46 (dk_at dksX3_count_5 13 rfl rfl)
theorem dX3_count_125 : decode cX3_count 125 = .ok (.if_icmp .ge 37, 3) := dk_162 0 37 (dk_at dksX3_count_5 14 rfl rfl)
theorem dX3_count_128 : decode cX3_count 128 = .ok (.iload_n 2, 1) := dk_28 (dk_at dksX3_count_5 17 rfl rfl)
theorem dX3_count_129 : decode cX3_count 129 = .ok (.aload_n 0, 1) := dk_42 (dk_at dksX3_count_5 18 rfl rfl)
theorem dX3_count_130 : decode cX3_count 130 = .ok (.getfield 36, 3) := dk_180 0 36 (dk_at dksX3_count_5 19 rfl rfl)
theorem dX3_count_133 : decode cX3_count 133 = .ok (.iconst 4, 1) := dk_7 (dk_at dksX3_count_5 22 rfl rfl)
theorem dX3_count_134 : decode cX3_count 134 = .ok (.iload 4, 2) := dk_21 4 (dk_at dksX3_count_6 0 rfl rfl)
theorem dX3_count_136 : decode cX3_count 136 = .ok (.imul, 1) := dk_104 (dk_at dksX3_count_6 2 rfl rfl)
theorem dX3_count_137 : decode cX3_count 137 = .ok (.iconst 2, 1) := dk_5 (dk_at dksX3_count_6 3 rfl rfl)
theorem dX3_count_138 : decode cX3_count 138 = .ok (.iadd, 1) := dk_96 (dk_at dksX3_count_6 4 rfl rfl)
theorem dX3_count_139 : decode cX3_count 139 = .ok (.iaload, 1) := dk_46 (dk_at dksX3_count_6 5 rfl rfl)
theorem dX3_count_140 : decode cX3_count 140 = .ok (.aload_n 0, 1) := dk_42 (dk_at dksX3_count_6 6 rfl rfl)
theorem dX3_count_141 : decode cX3_count 141 = .ok (.getfield 39, 3) := dk_180 0 39 (dk_at dksX3_count_6 7 rfl rfl)
theorem dX3_count_144 : decode cX3_count 144 = .ok (.iload_n 3, 1) := dk_29 (dk_at dksX3_count_6 10 rfl rfl)
theorem dX3_count_145 : decode cX3_count 145 = .ok (.iaload, 1) := dk_46 (dk_at dksX3_count_6 11 rfl rfl)
theorem dX3_count_146 : decode cX3_count 146 = .ok (.if_icmp .ne 7, 3) := dk_160 0 7 (dk_at dksX3_count_6 12 rfl rfl)
theorem dX3_count_149 : decode cX3_count 149 = .ok (.iconst 1, 1) := dk_4 (dk_at dksX3_count_6 15 rfl rfl)
theorem dX3_count_150 : decode cX3_count 150 = .ok (.goto 4, 3) := dk_167 0 4 (dk_at dksX3_count_6 16 rfl rfl)
theorem dX3_count_153 : decode cX3_count 153 = .ok (.iconst 0, 1) := dk_3 (dk_at dksX3_count_6 19 rfl rfl)
theorem dX3_count_154 : decode cX3_count 154 = .ok (.iadd, 1) := dk_96 (dk_at dksX3_count_6 20 rfl rfl)
theorem dX3_count_155 : decode cX3_count 155 = .ok (.istore_n 2, 1) := dk_61 (dk_at dksX3_count_6 21 rfl rfl)
theorem dX3_count_156 : decode cX3_count 156 = .ok (.iinc 4 1, 3) := dk_132 4 1 (dk_at dksX3_count_7 0 rfl rfl)
theorem dX3_count_159 : decode cX3_count 159 = .ok (.goto (-42), 3) := dk_167 255 214 (dk_at dksX3_count_7 3 rfl rfl)
theorem dX3_count_162 : decode cX3_count 162 = .ok (.iinc 3 1, 3) := dk_132 3 1 (dk_at dksX3_count_7 6 rfl rfl)
theorem dX3_count_165 : decode cX3_count 165 = .ok (.goto (-59), 3) := dk_167 255 197 (dk_at dksX3_count_7 9 rfl rfl)
theorem dX3_count_168 : decode cX3_count 168 = .ok (.iload_n 2, 1) := dk_28 (dk_at dksX3_count_7 12 rfl rfl)
theorem dX3_count_169 : decode cX3_count 169 = .ok (.ireturn, 1) := dk_172 (dk_at dksX3_count_7 13 rfl rfl)
theorem dX3_count_170 : decode cX3_count 170 = .ok (.iconst (-1), 1) := dk_2 (dk_at dksX3_count_7 14 rfl rfl)
theorem dX3_count_171 : decode cX3_count 171 = .ok (.ireturn, 1) := dk_172 (dk_at dksX3_count_7 15 rfl rfl)
theorem q63 : (Jvm.Cond.initialized "MendReaderModel") ∈ lw_all := lw_g (lw_at lw_m1 7 rfl) rfl
theorem q379 : (Jvm.Cond.selects "MendReaderModel" ({ cls := "java/lang/Object", name := "getClass", desc := "()Ljava/lang/Class;" } : Jvm.MethodName) ({ cls := "java/lang/Object", name := "getClass", desc := "()Ljava/lang/Class;" } : Jvm.MethodName)) ∈ lw_all := lw_g (lw_at lw_m2 83 rfl) rfl
theorem q1328 : (Jvm.Cond.instantiable "MendReaderModel" (56 : Nat)) ∈ lw_all := lw_g (lw_at lw_m6 72 rfl) rfl
theorem q1330 : (Jvm.Cond.instanceMethod ({ cls := "MendReaderModel", name := "<init>", desc := "()V" } : Jvm.MethodName)) ∈ lw_all := lw_g (lw_at lw_m6 74 rfl) rfl
theorem q1331 : (Jvm.Cond.code ({ cls := "MendReaderModel", name := "<init>", desc := "()V" } : Jvm.MethodName) prog_19_method_1_code (1 : Nat) (Option.none : Option Jvm.ClassFile.FieldType)) ∈ lw_all := lw_g (lw_at lw_m6 75 rfl) rfl
theorem q1332 : (Jvm.Cond.methodLink "MendReaderModel" (1 : Nat) ({ cls := "java/lang/Object", name := "<init>", desc := "()V" } : Jvm.MethodName)) ∈ lw_all := lw_g (lw_at lw_m6 76 rfl) rfl
theorem q1333 : (Jvm.Cond.constant "MendReaderModel" (91 : Nat) (64896 : Int32)) ∈ lw_all := lw_g (lw_at lw_m6 77 rfl) rfl
theorem q1334 : (Jvm.Cond.fieldLink "MendReaderModel" (122 : Nat) "MendReaderModel" "tokens" "I") ∈ lw_all := lw_g (lw_at lw_m6 78 rfl) rfl
theorem q1335 : (Jvm.Cond.fieldLink "MendReaderModel" (7 : Nat) "MendReaderModel" "fence" "[Z") ∈ lw_all := lw_g (lw_at lw_m6 79 rfl) rfl
theorem q1336 : (Jvm.Cond.fieldLink "MendReaderModel" (13 : Nat) "MendReaderModel" "prices" "[I") ∈ lw_all := lw_g (lw_at lw_m6 80 rfl) rfl
theorem q1337 : (Jvm.Cond.fieldLink "MendReaderModel" (17 : Nat) "MendReaderModel" "turnedPrice" "I") ∈ lw_all := lw_g (lw_at lw_m6 81 rfl) rfl
theorem q1338 : (Jvm.Cond.fieldLink "MendReaderModel" (21 : Nat) "MendReaderModel" "runPrice" "I") ∈ lw_all := lw_g (lw_at lw_m6 82 rfl) rfl
theorem q1339 : (Jvm.Cond.fieldLink "MendReaderModel" (129 : Nat) "MendReaderModel" "names" "I") ∈ lw_all := lw_g (lw_at lw_m6 83 rfl) rfl
theorem q1340 : (Jvm.Cond.fieldLink "MendReaderModel" (146 : Nat) "MendReaderModel" "start" "I") ∈ lw_all := lw_g (lw_at lw_m6 84 rfl) rfl
theorem q1341 : (Jvm.Cond.fieldLink "MendReaderModel" (140 : Nat) "MendReaderModel" "rules" "I") ∈ lw_all := lw_g (lw_at lw_m6 85 rfl) rfl
theorem q1342 : (Jvm.Cond.fieldLink "MendReaderModel" (24 : Nat) "MendReaderModel" "ruleName" "[I") ∈ lw_all := lw_g (lw_at lw_m6 86 rfl) rfl
theorem q1343 : (Jvm.Cond.fieldLink "MendReaderModel" (27 : Nat) "MendReaderModel" "ruleMany" "[I") ∈ lw_all := lw_g (lw_at lw_m6 87 rfl) rfl
theorem q1344 : (Jvm.Cond.fieldLink "MendReaderModel" (30 : Nat) "MendReaderModel" "symbols" "[I") ∈ lw_all := lw_g (lw_at lw_m6 88 rfl) rfl
theorem q1345 : (Jvm.Cond.fieldLink "MendReaderModel" (33 : Nat) "MendReaderModel" "forms" "[I") ∈ lw_all := lw_g (lw_at lw_m6 89 rfl) rfl
theorem q1346 : (Jvm.Cond.fieldLink "MendReaderModel" (36 : Nat) "MendReaderModel" "formRow" "[I") ∈ lw_all := lw_g (lw_at lw_m6 90 rfl) rfl
theorem q1347 : (Jvm.Cond.fieldLink "MendReaderModel" (153 : Nat) "MendReaderModel" "fences" "Z") ∈ lw_all := lw_g (lw_at lw_m6 91 rfl) rfl
theorem q1348 : (Jvm.Cond.fieldLink "MendReaderModel" (156 : Nat) "MendReaderModel" "size" "I") ∈ lw_all := lw_g (lw_at lw_m6 92 rfl) rfl
theorem q1349 : (Jvm.Cond.fieldLink "MendReaderModel" (39 : Nat) "MendReaderModel" "text" "[I") ∈ lw_all := lw_g (lw_at lw_m6 93 rfl) rfl
theorem q1350 : (Jvm.Cond.fieldLink "MendReaderModel" (125 : Nat) "MendReaderModel" "isFresh" "Z") ∈ lw_all := lw_g (lw_at lw_m6 94 rfl) rfl
theorem q1351 : (Jvm.Cond.fieldLink "MendReaderModel" (42 : Nat) "MendReaderModel" "which" "I") ∈ lw_all := lw_g (lw_at lw_m6 95 rfl) rfl
theorem q1352 : (Jvm.Cond.fieldLink "MendReaderModel" (181 : Nat) "MendReaderModel" "onlyFrom" "I") ∈ lw_all := lw_g (lw_at lw_m6 96 rfl) rfl
theorem q1353 : (Jvm.Cond.fieldLink "MendReaderModel" (184 : Nat) "MendReaderModel" "onlyTo" "I") ∈ lw_all := lw_g (lw_at lw_m6 97 rfl) rfl
theorem q1354 : (Jvm.Cond.fieldLink "MendReaderModel" (288 : Nat) "MendReaderModel" "isRead" "Z") ∈ lw_all := lw_g (lw_at lw_m6 98 rfl) rfl
theorem q1355 : (Jvm.Cond.fieldLink "MendReaderModel" (45 : Nat) "MendReaderModel" "readPrice" "I") ∈ lw_all := lw_g (lw_at lw_m6 99 rfl) rfl
theorem q1356 : (Jvm.Cond.fieldLink "MendReaderModel" (250 : Nat) "MendReaderModel" "slips" "I") ∈ lw_all := lw_g (lw_at lw_m6 100 rfl) rfl
theorem q1357 : (Jvm.Cond.fieldLink "MendReaderModel" (48 : Nat) "MendReaderModel" "slipRow" "[I") ∈ lw_all := lw_g (lw_at lw_m6 101 rfl) rfl
theorem q1358 : (Jvm.Cond.fieldLink "MendReaderModel" (260 : Nat) "MendReaderModel" "words" "I") ∈ lw_all := lw_g (lw_at lw_m6 102 rfl) rfl
theorem q1359 : (Jvm.Cond.fieldLink "MendReaderModel" (51 : Nat) "MendReaderModel" "word" "[I") ∈ lw_all := lw_g (lw_at lw_m6 103 rfl) rfl
theorem q1360 : (Jvm.Cond.fieldLink "MendReaderModel" (263 : Nat) "MendReaderModel" "nodes" "I") ∈ lw_all := lw_g (lw_at lw_m6 104 rfl) rfl
theorem q1361 : (Jvm.Cond.fieldLink "MendReaderModel" (54 : Nat) "MendReaderModel" "nodeRow" "[I") ∈ lw_all := lw_g (lw_at lw_m6 105 rfl) rfl
theorem q1362 : (Jvm.Cond.fieldLink "MendReaderModel" (159 : Nat) "MendReaderModel" "knots" "I") ∈ lw_all := lw_g (lw_at lw_m6 106 rfl) rfl
theorem q1363 : (Jvm.Cond.fieldLink "MendReaderModel" (57 : Nat) "MendReaderModel" "knotSort" "[I") ∈ lw_all := lw_g (lw_at lw_m6 107 rfl) rfl
theorem q1364 : (Jvm.Cond.fieldLink "MendReaderModel" (60 : Nat) "MendReaderModel" "knotPlace" "[I") ∈ lw_all := lw_g (lw_at lw_m6 108 rfl) rfl
theorem q1365 : (Jvm.Cond.fieldLink "MendReaderModel" (63 : Nat) "MendReaderModel" "knotForm" "[I") ∈ lw_all := lw_g (lw_at lw_m6 109 rfl) rfl
theorem q1366 : (Jvm.Cond.fieldLink "MendReaderModel" (66 : Nat) "MendReaderModel" "realAt" "[I") ∈ lw_all := lw_g (lw_at lw_m6 110 rfl) rfl
theorem q1367 : (Jvm.Cond.fieldLink "MendReaderModel" (166 : Nat) "MendReaderModel" "mode" "I") ∈ lw_all := lw_g (lw_at lw_m6 111 rfl) rfl
theorem q1368 : (Jvm.Cond.fieldLink "MendReaderModel" (192 : Nat) "MendReaderModel" "length" "I") ∈ lw_all := lw_g (lw_at lw_m6 112 rfl) rfl
theorem q1369 : (Jvm.Cond.fieldLink "MendReaderModel" (169 : Nat) "MendReaderModel" "outKind" "I") ∈ lw_all := lw_g (lw_at lw_m6 113 rfl) rfl
theorem q1370 : (Jvm.Cond.fieldLink "MendReaderModel" (172 : Nat) "MendReaderModel" "outAt" "I") ∈ lw_all := lw_g (lw_at lw_m6 114 rfl) rfl
theorem q1371 : (Jvm.Cond.fieldLink "MendReaderModel" (175 : Nat) "MendReaderModel" "outWhat" "I") ∈ lw_all := lw_g (lw_at lw_m6 115 rfl) rfl
theorem q1372 : (Jvm.Cond.fieldLink "MendReaderModel" (69 : Nat) "MendReaderModel" "skip" "[I") ∈ lw_all := lw_g (lw_at lw_m6 116 rfl) rfl
theorem q1373 : (Jvm.Cond.fieldLink "MendReaderModel" (72 : Nat) "MendReaderModel" "skipBy" "[I") ∈ lw_all := lw_g (lw_at lw_m6 117 rfl) rfl
theorem q1374 : (Jvm.Cond.fieldLink "MendReaderModel" (75 : Nat) "MendReaderModel" "reads" "[I") ∈ lw_all := lw_g (lw_at lw_m6 118 rfl) rfl
theorem q1375 : (Jvm.Cond.fieldLink "MendReaderModel" (78 : Nat) "MendReaderModel" "readFrom" "[I") ∈ lw_all := lw_g (lw_at lw_m6 119 rfl) rfl
theorem q1376 : (Jvm.Cond.fieldLink "MendReaderModel" (81 : Nat) "MendReaderModel" "readKind" "[I") ∈ lw_all := lw_g (lw_at lw_m6 120 rfl) rfl
theorem q1377 : (Jvm.Cond.fieldLink "MendReaderModel" (84 : Nat) "MendReaderModel" "readForm" "[I") ∈ lw_all := lw_g (lw_at lw_m6 121 rfl) rfl
theorem q1378 : (Jvm.Cond.fieldLink "MendReaderModel" (87 : Nat) "MendReaderModel" "costs" "[J") ∈ lw_all := lw_g (lw_at lw_m6 122 rfl) rfl
theorem q1379 : (Jvm.Cond.fieldLink "MendReaderModel" (92 : Nat) "MendReaderModel" "firsts" "[J") ∈ lw_all := lw_g (lw_at lw_m6 123 rfl) rfl
theorem q1380 : (Jvm.Cond.fieldLink "MendReaderModel" (247 : Nat) "MendReaderModel" "pile" "I") ∈ lw_all := lw_g (lw_at lw_m6 124 rfl) rfl
theorem q1381 : (Jvm.Cond.fieldLink "MendReaderModel" (95 : Nat) "MendReaderModel" "pileSymbol" "[I") ∈ lw_all := lw_g (lw_at lw_m6 125 rfl) rfl
theorem q1382 : (Jvm.Cond.fieldLink "MendReaderModel" (98 : Nat) "MendReaderModel" "pileFrom" "[I") ∈ lw_all := lw_g (lw_at lw_m6 126 rfl) rfl
theorem q1383 : (Jvm.Cond.fieldLink "MendReaderModel" (101 : Nat) "MendReaderModel" "pileTo" "[I") ∈ lw_all := lw_g (lw_at lw_m6 127 rfl) rfl
theorem q1384 : (Jvm.Cond.fieldLink "MendReaderModel" (104 : Nat) "MendReaderModel" "pileNode" "[I") ∈ lw_all := lw_g (lw_at lw_m6 128 rfl) rfl
theorem q1385 : (Jvm.Cond.fieldLink "MendReaderModel" (107 : Nat) "MendReaderModel" "shelfKind" "[I") ∈ lw_all := lw_g (lw_at lw_m6 129 rfl) rfl
theorem q1386 : (Jvm.Cond.fieldLink "MendReaderModel" (110 : Nat) "MendReaderModel" "shelfMany" "[I") ∈ lw_all := lw_g (lw_at lw_m6 130 rfl) rfl
theorem q1387 : (Jvm.Cond.fieldLink "MendReaderModel" (113 : Nat) "MendReaderModel" "shelfRow" "[I") ∈ lw_all := lw_g (lw_at lw_m6 131 rfl) rfl
theorem q1388 : (Jvm.Cond.fieldLink "MendReaderModel" (116 : Nat) "MendReaderModel" "reached" "[I") ∈ lw_all := lw_g (lw_at lw_m6 132 rfl) rfl
theorem q1389 : (Jvm.Cond.fieldLink "MendReaderModel" (119 : Nat) "MendReaderModel" "next" "[I") ∈ lw_all := lw_g (lw_at lw_m6 133 rfl) rfl
theorem q1390 : (Jvm.Cond.lays "MendReaderModel" "MendReaderModel" "tokens" "I") ∈ lw_all := lw_g (lw_at lw_m6 134 rfl) rfl
theorem q1391 : (Jvm.Cond.soleField "MendReaderModel" "tokens") ∈ lw_all := lw_g (lw_at lw_m6 135 rfl) rfl
theorem q1392 : (Jvm.Cond.laysFinal "MendReaderModel" "MendReaderModel" "fence" "[Z") ∈ lw_all := lw_g (lw_at lw_m6 136 rfl) rfl
theorem q1393 : (Jvm.Cond.soleField "MendReaderModel" "fence") ∈ lw_all := lw_g (lw_at lw_m6 137 rfl) rfl
theorem q1394 : (Jvm.Cond.laysFinal "MendReaderModel" "MendReaderModel" "prices" "[I") ∈ lw_all := lw_g (lw_at lw_m6 138 rfl) rfl
theorem q1395 : (Jvm.Cond.soleField "MendReaderModel" "prices") ∈ lw_all := lw_g (lw_at lw_m6 139 rfl) rfl
theorem q1396 : (Jvm.Cond.lays "MendReaderModel" "MendReaderModel" "turnedPrice" "I") ∈ lw_all := lw_g (lw_at lw_m6 140 rfl) rfl
theorem q1397 : (Jvm.Cond.soleField "MendReaderModel" "turnedPrice") ∈ lw_all := lw_g (lw_at lw_m6 141 rfl) rfl
theorem q1398 : (Jvm.Cond.lays "MendReaderModel" "MendReaderModel" "runPrice" "I") ∈ lw_all := lw_g (lw_at lw_m6 142 rfl) rfl
theorem q1399 : (Jvm.Cond.soleField "MendReaderModel" "runPrice") ∈ lw_all := lw_g (lw_at lw_m6 143 rfl) rfl
theorem q1400 : (Jvm.Cond.lays "MendReaderModel" "MendReaderModel" "names" "I") ∈ lw_all := lw_g (lw_at lw_m6 144 rfl) rfl
theorem q1401 : (Jvm.Cond.soleField "MendReaderModel" "names") ∈ lw_all := lw_g (lw_at lw_m6 145 rfl) rfl
theorem q1402 : (Jvm.Cond.lays "MendReaderModel" "MendReaderModel" "start" "I") ∈ lw_all := lw_g (lw_at lw_m6 146 rfl) rfl
theorem q1403 : (Jvm.Cond.soleField "MendReaderModel" "start") ∈ lw_all := lw_g (lw_at lw_m6 147 rfl) rfl
theorem q1404 : (Jvm.Cond.lays "MendReaderModel" "MendReaderModel" "rules" "I") ∈ lw_all := lw_g (lw_at lw_m6 148 rfl) rfl
theorem q1405 : (Jvm.Cond.soleField "MendReaderModel" "rules") ∈ lw_all := lw_g (lw_at lw_m6 149 rfl) rfl
theorem q1406 : (Jvm.Cond.laysFinal "MendReaderModel" "MendReaderModel" "ruleName" "[I") ∈ lw_all := lw_g (lw_at lw_m6 150 rfl) rfl
theorem q1407 : (Jvm.Cond.soleField "MendReaderModel" "ruleName") ∈ lw_all := lw_g (lw_at lw_m6 151 rfl) rfl
theorem q1408 : (Jvm.Cond.laysFinal "MendReaderModel" "MendReaderModel" "ruleMany" "[I") ∈ lw_all := lw_g (lw_at lw_m6 152 rfl) rfl
theorem q1409 : (Jvm.Cond.soleField "MendReaderModel" "ruleMany") ∈ lw_all := lw_g (lw_at lw_m6 153 rfl) rfl
theorem q1410 : (Jvm.Cond.laysFinal "MendReaderModel" "MendReaderModel" "symbols" "[I") ∈ lw_all := lw_g (lw_at lw_m6 154 rfl) rfl
theorem q1411 : (Jvm.Cond.soleField "MendReaderModel" "symbols") ∈ lw_all := lw_g (lw_at lw_m6 155 rfl) rfl
theorem q1412 : (Jvm.Cond.laysFinal "MendReaderModel" "MendReaderModel" "forms" "[I") ∈ lw_all := lw_g (lw_at lw_m6 156 rfl) rfl
theorem q1413 : (Jvm.Cond.soleField "MendReaderModel" "forms") ∈ lw_all := lw_g (lw_at lw_m6 157 rfl) rfl
theorem q1414 : (Jvm.Cond.laysFinal "MendReaderModel" "MendReaderModel" "formRow" "[I") ∈ lw_all := lw_g (lw_at lw_m6 158 rfl) rfl
theorem q1415 : (Jvm.Cond.soleField "MendReaderModel" "formRow") ∈ lw_all := lw_g (lw_at lw_m6 159 rfl) rfl
theorem q1416 : (Jvm.Cond.lays "MendReaderModel" "MendReaderModel" "fences" "Z") ∈ lw_all := lw_g (lw_at lw_m6 160 rfl) rfl
theorem q1417 : (Jvm.Cond.soleField "MendReaderModel" "fences") ∈ lw_all := lw_g (lw_at lw_m6 161 rfl) rfl
theorem q1418 : (Jvm.Cond.lays "MendReaderModel" "MendReaderModel" "size" "I") ∈ lw_all := lw_g (lw_at lw_m6 162 rfl) rfl
theorem q1419 : (Jvm.Cond.soleField "MendReaderModel" "size") ∈ lw_all := lw_g (lw_at lw_m6 163 rfl) rfl
theorem q1420 : (Jvm.Cond.laysFinal "MendReaderModel" "MendReaderModel" "text" "[I") ∈ lw_all := lw_g (lw_at lw_m6 164 rfl) rfl
theorem q1421 : (Jvm.Cond.soleField "MendReaderModel" "text") ∈ lw_all := lw_g (lw_at lw_m6 165 rfl) rfl
theorem q1422 : (Jvm.Cond.lays "MendReaderModel" "MendReaderModel" "isFresh" "Z") ∈ lw_all := lw_g (lw_at lw_m6 166 rfl) rfl
theorem q1423 : (Jvm.Cond.soleField "MendReaderModel" "isFresh") ∈ lw_all := lw_g (lw_at lw_m6 167 rfl) rfl
theorem q1424 : (Jvm.Cond.lays "MendReaderModel" "MendReaderModel" "which" "I") ∈ lw_all := lw_g (lw_at lw_m6 168 rfl) rfl
theorem q1425 : (Jvm.Cond.soleField "MendReaderModel" "which") ∈ lw_all := lw_g (lw_at lw_m6 169 rfl) rfl
theorem q1426 : (Jvm.Cond.lays "MendReaderModel" "MendReaderModel" "onlyFrom" "I") ∈ lw_all := lw_g (lw_at lw_m6 170 rfl) rfl
theorem q1427 : (Jvm.Cond.soleField "MendReaderModel" "onlyFrom") ∈ lw_all := lw_g (lw_at lw_m6 171 rfl) rfl
theorem q1428 : (Jvm.Cond.lays "MendReaderModel" "MendReaderModel" "onlyTo" "I") ∈ lw_all := lw_g (lw_at lw_m6 172 rfl) rfl
theorem q1429 : (Jvm.Cond.soleField "MendReaderModel" "onlyTo") ∈ lw_all := lw_g (lw_at lw_m6 173 rfl) rfl
theorem q1430 : (Jvm.Cond.lays "MendReaderModel" "MendReaderModel" "isRead" "Z") ∈ lw_all := lw_g (lw_at lw_m6 174 rfl) rfl
theorem q1431 : (Jvm.Cond.soleField "MendReaderModel" "isRead") ∈ lw_all := lw_g (lw_at lw_m6 175 rfl) rfl
theorem q1432 : (Jvm.Cond.lays "MendReaderModel" "MendReaderModel" "readPrice" "I") ∈ lw_all := lw_g (lw_at lw_m6 176 rfl) rfl
theorem q1433 : (Jvm.Cond.soleField "MendReaderModel" "readPrice") ∈ lw_all := lw_g (lw_at lw_m6 177 rfl) rfl
theorem q1434 : (Jvm.Cond.lays "MendReaderModel" "MendReaderModel" "slips" "I") ∈ lw_all := lw_g (lw_at lw_m6 178 rfl) rfl
theorem q1435 : (Jvm.Cond.soleField "MendReaderModel" "slips") ∈ lw_all := lw_g (lw_at lw_m6 179 rfl) rfl
theorem q1436 : (Jvm.Cond.laysFinal "MendReaderModel" "MendReaderModel" "slipRow" "[I") ∈ lw_all := lw_g (lw_at lw_m6 180 rfl) rfl
theorem q1437 : (Jvm.Cond.soleField "MendReaderModel" "slipRow") ∈ lw_all := lw_g (lw_at lw_m6 181 rfl) rfl
theorem q1438 : (Jvm.Cond.lays "MendReaderModel" "MendReaderModel" "words" "I") ∈ lw_all := lw_g (lw_at lw_m6 182 rfl) rfl
theorem q1439 : (Jvm.Cond.soleField "MendReaderModel" "words") ∈ lw_all := lw_g (lw_at lw_m6 183 rfl) rfl
theorem q1440 : (Jvm.Cond.laysFinal "MendReaderModel" "MendReaderModel" "word" "[I") ∈ lw_all := lw_g (lw_at lw_m6 184 rfl) rfl
theorem q1441 : (Jvm.Cond.soleField "MendReaderModel" "word") ∈ lw_all := lw_g (lw_at lw_m6 185 rfl) rfl
theorem q1442 : (Jvm.Cond.lays "MendReaderModel" "MendReaderModel" "nodes" "I") ∈ lw_all := lw_g (lw_at lw_m6 186 rfl) rfl
theorem q1443 : (Jvm.Cond.soleField "MendReaderModel" "nodes") ∈ lw_all := lw_g (lw_at lw_m6 187 rfl) rfl
theorem q1444 : (Jvm.Cond.laysFinal "MendReaderModel" "MendReaderModel" "nodeRow" "[I") ∈ lw_all := lw_g (lw_at lw_m6 188 rfl) rfl
theorem q1445 : (Jvm.Cond.soleField "MendReaderModel" "nodeRow") ∈ lw_all := lw_g (lw_at lw_m6 189 rfl) rfl
theorem q1446 : (Jvm.Cond.lays "MendReaderModel" "MendReaderModel" "knots" "I") ∈ lw_all := lw_g (lw_at lw_m6 190 rfl) rfl
theorem q1447 : (Jvm.Cond.soleField "MendReaderModel" "knots") ∈ lw_all := lw_g (lw_at lw_m6 191 rfl) rfl
theorem q1448 : (Jvm.Cond.laysFinal "MendReaderModel" "MendReaderModel" "knotSort" "[I") ∈ lw_all := lw_g (lw_at lw_m6 192 rfl) rfl
theorem q1449 : (Jvm.Cond.soleField "MendReaderModel" "knotSort") ∈ lw_all := lw_g (lw_at lw_m6 193 rfl) rfl
theorem q1450 : (Jvm.Cond.laysFinal "MendReaderModel" "MendReaderModel" "knotPlace" "[I") ∈ lw_all := lw_g (lw_at lw_m6 194 rfl) rfl
theorem q1451 : (Jvm.Cond.soleField "MendReaderModel" "knotPlace") ∈ lw_all := lw_g (lw_at lw_m6 195 rfl) rfl
theorem q1452 : (Jvm.Cond.laysFinal "MendReaderModel" "MendReaderModel" "knotForm" "[I") ∈ lw_all := lw_g (lw_at lw_m6 196 rfl) rfl
theorem q1453 : (Jvm.Cond.soleField "MendReaderModel" "knotForm") ∈ lw_all := lw_g (lw_at lw_m6 197 rfl) rfl
theorem q1454 : (Jvm.Cond.laysFinal "MendReaderModel" "MendReaderModel" "realAt" "[I") ∈ lw_all := lw_g (lw_at lw_m6 198 rfl) rfl
theorem q1455 : (Jvm.Cond.soleField "MendReaderModel" "realAt") ∈ lw_all := lw_g (lw_at lw_m6 199 rfl) rfl
theorem q1456 : (Jvm.Cond.lays "MendReaderModel" "MendReaderModel" "mode" "I") ∈ lw_all := lw_g (lw_at lw_m6 200 rfl) rfl
theorem q1457 : (Jvm.Cond.soleField "MendReaderModel" "mode") ∈ lw_all := lw_g (lw_at lw_m6 201 rfl) rfl
theorem q1458 : (Jvm.Cond.lays "MendReaderModel" "MendReaderModel" "length" "I") ∈ lw_all := lw_g (lw_at lw_m6 202 rfl) rfl
theorem q1459 : (Jvm.Cond.soleField "MendReaderModel" "length") ∈ lw_all := lw_g (lw_at lw_m6 203 rfl) rfl
theorem q1460 : (Jvm.Cond.lays "MendReaderModel" "MendReaderModel" "outKind" "I") ∈ lw_all := lw_g (lw_at lw_m6 204 rfl) rfl
theorem q1461 : (Jvm.Cond.soleField "MendReaderModel" "outKind") ∈ lw_all := lw_g (lw_at lw_m6 205 rfl) rfl
theorem q1462 : (Jvm.Cond.lays "MendReaderModel" "MendReaderModel" "outAt" "I") ∈ lw_all := lw_g (lw_at lw_m6 206 rfl) rfl
theorem q1463 : (Jvm.Cond.soleField "MendReaderModel" "outAt") ∈ lw_all := lw_g (lw_at lw_m6 207 rfl) rfl
theorem q1464 : (Jvm.Cond.lays "MendReaderModel" "MendReaderModel" "outWhat" "I") ∈ lw_all := lw_g (lw_at lw_m6 208 rfl) rfl
theorem q1465 : (Jvm.Cond.soleField "MendReaderModel" "outWhat") ∈ lw_all := lw_g (lw_at lw_m6 209 rfl) rfl
theorem q1466 : (Jvm.Cond.laysFinal "MendReaderModel" "MendReaderModel" "skip" "[I") ∈ lw_all := lw_g (lw_at lw_m6 210 rfl) rfl
theorem q1467 : (Jvm.Cond.soleField "MendReaderModel" "skip") ∈ lw_all := lw_g (lw_at lw_m6 211 rfl) rfl
theorem q1468 : (Jvm.Cond.laysFinal "MendReaderModel" "MendReaderModel" "skipBy" "[I") ∈ lw_all := lw_g (lw_at lw_m6 212 rfl) rfl
theorem q1469 : (Jvm.Cond.soleField "MendReaderModel" "skipBy") ∈ lw_all := lw_g (lw_at lw_m6 213 rfl) rfl
theorem q1470 : (Jvm.Cond.laysFinal "MendReaderModel" "MendReaderModel" "reads" "[I") ∈ lw_all := lw_g (lw_at lw_m6 214 rfl) rfl
theorem q1471 : (Jvm.Cond.soleField "MendReaderModel" "reads") ∈ lw_all := lw_g (lw_at lw_m6 215 rfl) rfl
theorem q1472 : (Jvm.Cond.laysFinal "MendReaderModel" "MendReaderModel" "readFrom" "[I") ∈ lw_all := lw_g (lw_at lw_m6 216 rfl) rfl
theorem q1473 : (Jvm.Cond.soleField "MendReaderModel" "readFrom") ∈ lw_all := lw_g (lw_at lw_m6 217 rfl) rfl
theorem q1474 : (Jvm.Cond.laysFinal "MendReaderModel" "MendReaderModel" "readKind" "[I") ∈ lw_all := lw_g (lw_at lw_m6 218 rfl) rfl
theorem q1475 : (Jvm.Cond.soleField "MendReaderModel" "readKind") ∈ lw_all := lw_g (lw_at lw_m6 219 rfl) rfl
theorem q1476 : (Jvm.Cond.laysFinal "MendReaderModel" "MendReaderModel" "readForm" "[I") ∈ lw_all := lw_g (lw_at lw_m6 220 rfl) rfl
theorem q1477 : (Jvm.Cond.soleField "MendReaderModel" "readForm") ∈ lw_all := lw_g (lw_at lw_m6 221 rfl) rfl
theorem q1478 : (Jvm.Cond.laysFinal "MendReaderModel" "MendReaderModel" "costs" "[J") ∈ lw_all := lw_g (lw_at lw_m6 222 rfl) rfl
theorem q1479 : (Jvm.Cond.soleField "MendReaderModel" "costs") ∈ lw_all := lw_g (lw_at lw_m6 223 rfl) rfl
theorem q1480 : (Jvm.Cond.laysFinal "MendReaderModel" "MendReaderModel" "firsts" "[J") ∈ lw_all := lw_g (lw_at lw_m6 224 rfl) rfl
theorem q1481 : (Jvm.Cond.soleField "MendReaderModel" "firsts") ∈ lw_all := lw_g (lw_at lw_m6 225 rfl) rfl
theorem q1482 : (Jvm.Cond.lays "MendReaderModel" "MendReaderModel" "pile" "I") ∈ lw_all := lw_g (lw_at lw_m6 226 rfl) rfl
theorem q1483 : (Jvm.Cond.soleField "MendReaderModel" "pile") ∈ lw_all := lw_g (lw_at lw_m6 227 rfl) rfl
theorem q1484 : (Jvm.Cond.laysFinal "MendReaderModel" "MendReaderModel" "pileSymbol" "[I") ∈ lw_all := lw_g (lw_at lw_m6 228 rfl) rfl
theorem q1485 : (Jvm.Cond.soleField "MendReaderModel" "pileSymbol") ∈ lw_all := lw_g (lw_at lw_m6 229 rfl) rfl
theorem q1486 : (Jvm.Cond.laysFinal "MendReaderModel" "MendReaderModel" "pileFrom" "[I") ∈ lw_all := lw_g (lw_at lw_m6 230 rfl) rfl
theorem q1487 : (Jvm.Cond.soleField "MendReaderModel" "pileFrom") ∈ lw_all := lw_g (lw_at lw_m6 231 rfl) rfl
theorem q1488 : (Jvm.Cond.laysFinal "MendReaderModel" "MendReaderModel" "pileTo" "[I") ∈ lw_all := lw_g (lw_at lw_m6 232 rfl) rfl
theorem q1489 : (Jvm.Cond.soleField "MendReaderModel" "pileTo") ∈ lw_all := lw_g (lw_at lw_m6 233 rfl) rfl
theorem q1490 : (Jvm.Cond.laysFinal "MendReaderModel" "MendReaderModel" "pileNode" "[I") ∈ lw_all := lw_g (lw_at lw_m6 234 rfl) rfl
theorem q1491 : (Jvm.Cond.soleField "MendReaderModel" "pileNode") ∈ lw_all := lw_g (lw_at lw_m6 235 rfl) rfl
theorem q1492 : (Jvm.Cond.laysFinal "MendReaderModel" "MendReaderModel" "shelfKind" "[I") ∈ lw_all := lw_g (lw_at lw_m6 236 rfl) rfl
theorem q1493 : (Jvm.Cond.soleField "MendReaderModel" "shelfKind") ∈ lw_all := lw_g (lw_at lw_m6 237 rfl) rfl
theorem q1494 : (Jvm.Cond.laysFinal "MendReaderModel" "MendReaderModel" "shelfMany" "[I") ∈ lw_all := lw_g (lw_at lw_m6 238 rfl) rfl
theorem q1495 : (Jvm.Cond.soleField "MendReaderModel" "shelfMany") ∈ lw_all := lw_g (lw_at lw_m6 239 rfl) rfl
theorem q1496 : (Jvm.Cond.laysFinal "MendReaderModel" "MendReaderModel" "shelfRow" "[I") ∈ lw_all := lw_g (lw_at lw_m7 0 rfl) rfl
theorem q1497 : (Jvm.Cond.soleField "MendReaderModel" "shelfRow") ∈ lw_all := lw_g (lw_at lw_m7 1 rfl) rfl
theorem q1498 : (Jvm.Cond.laysFinal "MendReaderModel" "MendReaderModel" "reached" "[I") ∈ lw_all := lw_g (lw_at lw_m7 2 rfl) rfl
theorem q1499 : (Jvm.Cond.soleField "MendReaderModel" "reached") ∈ lw_all := lw_g (lw_at lw_m7 3 rfl) rfl
theorem q1500 : (Jvm.Cond.laysFinal "MendReaderModel" "MendReaderModel" "next" "[I") ∈ lw_all := lw_g (lw_at lw_m7 4 rfl) rfl
theorem q1501 : (Jvm.Cond.soleField "MendReaderModel" "next") ∈ lw_all := lw_g (lw_at lw_m7 5 rfl) rfl
theorem q1502 : (Jvm.Cond.superclass "MendReaderModel" "java/lang/Object") ∈ lw_all := lw_g (lw_at lw_m7 6 rfl) rfl
theorem q1504 : (Jvm.Cond.instanceMethod ({ cls := "MendReaderModel", name := "token", desc := "(Z)I" } : Jvm.MethodName)) ∈ lw_all := lw_g (lw_at lw_m7 8 rfl) rfl
theorem q1505 : (Jvm.Cond.selects "MendReaderModel" ({ cls := "MendReaderModel", name := "token", desc := "(Z)I" } : Jvm.MethodName) ({ cls := "MendReaderModel", name := "token", desc := "(Z)I" } : Jvm.MethodName)) ∈ lw_all := lw_g (lw_at lw_m7 9 rfl) rfl
theorem q1506 : (Jvm.Cond.code ({ cls := "MendReaderModel", name := "token", desc := "(Z)I" } : Jvm.MethodName) prog_19_method_4_code (2 : Nat) (Option.some Jvm.ClassFile.FieldType.int)) ∈ lw_all := lw_g (lw_at lw_m7 10 rfl) rfl
theorem q1508 : (Jvm.Cond.instanceMethod ({ cls := "MendReaderModel", name := "name", desc := "()I" } : Jvm.MethodName)) ∈ lw_all := lw_g (lw_at lw_m7 12 rfl) rfl
theorem q1509 : (Jvm.Cond.selects "MendReaderModel" ({ cls := "MendReaderModel", name := "name", desc := "()I" } : Jvm.MethodName) ({ cls := "MendReaderModel", name := "name", desc := "()I" } : Jvm.MethodName)) ∈ lw_all := lw_g (lw_at lw_m7 13 rfl) rfl
theorem q1510 : (Jvm.Cond.code ({ cls := "MendReaderModel", name := "name", desc := "()I" } : Jvm.MethodName) prog_19_method_5_code (1 : Nat) (Option.some Jvm.ClassFile.FieldType.int)) ∈ lw_all := lw_g (lw_at lw_m7 14 rfl) rfl
theorem q1512 : (Jvm.Cond.instanceMethod ({ cls := "MendReaderModel", name := "rule", desc := "(I)I" } : Jvm.MethodName)) ∈ lw_all := lw_g (lw_at lw_m7 16 rfl) rfl
theorem q1513 : (Jvm.Cond.selects "MendReaderModel" ({ cls := "MendReaderModel", name := "rule", desc := "(I)I" } : Jvm.MethodName) ({ cls := "MendReaderModel", name := "rule", desc := "(I)I" } : Jvm.MethodName)) ∈ lw_all := lw_g (lw_at lw_m7 17 rfl) rfl
theorem q1514 : (Jvm.Cond.code ({ cls := "MendReaderModel", name := "rule", desc := "(I)I" } : Jvm.MethodName) prog_19_method_8_code (2 : Nat) (Option.some Jvm.ClassFile.FieldType.int)) ∈ lw_all := lw_g (lw_at lw_m7 18 rfl) rfl
theorem q1515 : (Jvm.Cond.methodLink "MendReaderModel" (136 : Nat) ({ cls := "MendReaderModel", name := "isName", desc := "(I)Z" } : Jvm.MethodName)) ∈ lw_all := lw_g (lw_at lw_m7 19 rfl) rfl
theorem q1516 : (Jvm.Cond.privateMethod ({ cls := "MendReaderModel", name := "isName", desc := "(I)Z" } : Jvm.MethodName)) ∈ lw_tbl := lw_at lw_m7 20 rfl
theorem q1517 : (Jvm.Cond.instanceMethod ({ cls := "MendReaderModel", name := "isName", desc := "(I)Z" } : Jvm.MethodName)) ∈ lw_all := lw_g (lw_at lw_m7 21 rfl) rfl
theorem q1518 : (Jvm.Cond.code ({ cls := "MendReaderModel", name := "isName", desc := "(I)Z" } : Jvm.MethodName) prog_19_method_7_code (2 : Nat) (Option.some Jvm.ClassFile.FieldType.boolean)) ∈ lw_all := lw_g (lw_at lw_m7 22 rfl) rfl
theorem q1519 : (Jvm.Cond.methodLink "MendReaderModel" (132 : Nat) ({ cls := "MendReaderModel", name := "in", desc := "(JJJ)Z" } : Jvm.MethodName)) ∈ lw_all := lw_g (lw_at lw_m7 23 rfl) rfl
theorem q1520 : (Jvm.Cond.static ({ cls := "MendReaderModel", name := "in", desc := "(JJJ)Z" } : Jvm.MethodName)) ∈ lw_all := lw_g (lw_at lw_m7 24 rfl) rfl
theorem q1521 : (Jvm.Cond.code ({ cls := "MendReaderModel", name := "in", desc := "(JJJ)Z" } : Jvm.MethodName) prog_19_method_3_code (6 : Nat) (Option.some Jvm.ClassFile.FieldType.boolean)) ∈ lw_all := lw_g (lw_at lw_m7 25 rfl) rfl
theorem q1523 : (Jvm.Cond.instanceMethod ({ cls := "MendReaderModel", name := "symbol", desc := "(III)I" } : Jvm.MethodName)) ∈ lw_all := lw_g (lw_at lw_m7 27 rfl) rfl
theorem q1524 : (Jvm.Cond.selects "MendReaderModel" ({ cls := "MendReaderModel", name := "symbol", desc := "(III)I" } : Jvm.MethodName) ({ cls := "MendReaderModel", name := "symbol", desc := "(III)I" } : Jvm.MethodName)) ∈ lw_all := lw_g (lw_at lw_m7 28 rfl) rfl
theorem q1525 : (Jvm.Cond.code ({ cls := "MendReaderModel", name := "symbol", desc := "(III)I" } : Jvm.MethodName) prog_19_method_9_code (4 : Nat) (Option.some Jvm.ClassFile.FieldType.int)) ∈ lw_all := lw_g (lw_at lw_m7 29 rfl) rfl
theorem q1526 : (Jvm.Cond.methodLink "MendReaderModel" (143 : Nat) ({ cls := "MendReaderModel", name := "isToken", desc := "(I)Z" } : Jvm.MethodName)) ∈ lw_all := lw_g (lw_at lw_m7 30 rfl) rfl
theorem q1527 : (Jvm.Cond.privateMethod ({ cls := "MendReaderModel", name := "isToken", desc := "(I)Z" } : Jvm.MethodName)) ∈ lw_tbl := lw_at lw_m7 31 rfl
theorem q1528 : (Jvm.Cond.instanceMethod ({ cls := "MendReaderModel", name := "isToken", desc := "(I)Z" } : Jvm.MethodName)) ∈ lw_all := lw_g (lw_at lw_m7 32 rfl) rfl
theorem q1529 : (Jvm.Cond.code ({ cls := "MendReaderModel", name := "isToken", desc := "(I)Z" } : Jvm.MethodName) prog_19_method_6_code (2 : Nat) (Option.some Jvm.ClassFile.FieldType.boolean)) ∈ lw_all := lw_g (lw_at lw_m7 33 rfl) rfl
theorem q1531 : (Jvm.Cond.instanceMethod ({ cls := "MendReaderModel", name := "start", desc := "(I)I" } : Jvm.MethodName)) ∈ lw_all := lw_g (lw_at lw_m7 35 rfl) rfl
theorem q1532 : (Jvm.Cond.selects "MendReaderModel" ({ cls := "MendReaderModel", name := "start", desc := "(I)I" } : Jvm.MethodName) ({ cls := "MendReaderModel", name := "start", desc := "(I)I" } : Jvm.MethodName)) ∈ lw_all := lw_g (lw_at lw_m7 36 rfl) rfl
theorem q1533 : (Jvm.Cond.code ({ cls := "MendReaderModel", name := "start", desc := "(I)I" } : Jvm.MethodName) prog_19_method_10_code (3 : Nat) (Option.some Jvm.ClassFile.FieldType.int)) ∈ lw_all := lw_g (lw_at lw_m7 37 rfl) rfl
theorem q1535 : (Jvm.Cond.instanceMethod ({ cls := "MendReaderModel", name := "price", desc := "(III)I" } : Jvm.MethodName)) ∈ lw_all := lw_g (lw_at lw_m7 39 rfl) rfl
theorem q1536 : (Jvm.Cond.selects "MendReaderModel" ({ cls := "MendReaderModel", name := "price", desc := "(III)I" } : Jvm.MethodName) ({ cls := "MendReaderModel", name := "price", desc := "(III)I" } : Jvm.MethodName)) ∈ lw_all := lw_g (lw_at lw_m7 40 rfl) rfl
theorem q1537 : (Jvm.Cond.code ({ cls := "MendReaderModel", name := "price", desc := "(III)I" } : Jvm.MethodName) prog_19_method_11_code (5 : Nat) (Option.some Jvm.ClassFile.FieldType.int)) ∈ lw_all := lw_g (lw_at lw_m7 41 rfl) rfl
theorem q1538 : (Jvm.Cond.constantLong "MendReaderModel" (149 : Nat) (100 : Int64)) ∈ lw_all := lw_g (lw_at lw_m7 42 rfl) rfl
theorem q1539 : (Jvm.Cond.constantLong "MendReaderModel" (151 : Nat) (4 : Int64)) ∈ lw_all := lw_g (lw_at lw_m7 43 rfl) rfl
theorem q1541 : (Jvm.Cond.instanceMethod ({ cls := "MendReaderModel", name := "form", desc := "(IIIII)I" } : Jvm.MethodName)) ∈ lw_all := lw_g (lw_at lw_m7 45 rfl) rfl
theorem q1542 : (Jvm.Cond.selects "MendReaderModel" ({ cls := "MendReaderModel", name := "form", desc := "(IIIII)I" } : Jvm.MethodName) ({ cls := "MendReaderModel", name := "form", desc := "(IIIII)I" } : Jvm.MethodName)) ∈ lw_all := lw_g (lw_at lw_m7 46 rfl) rfl
theorem q1543 : (Jvm.Cond.code ({ cls := "MendReaderModel", name := "form", desc := "(IIIII)I" } : Jvm.MethodName) prog_19_method_12_code (7 : Nat) (Option.some Jvm.ClassFile.FieldType.int)) ∈ lw_all := lw_g (lw_at lw_m7 47 rfl) rfl
theorem q1545 : (Jvm.Cond.instanceMethod ({ cls := "MendReaderModel", name := "fences", desc := "(Z)I" } : Jvm.MethodName)) ∈ lw_all := lw_g (lw_at lw_m7 49 rfl) rfl
theorem q1546 : (Jvm.Cond.selects "MendReaderModel" ({ cls := "MendReaderModel", name := "fences", desc := "(Z)I" } : Jvm.MethodName) ({ cls := "MendReaderModel", name := "fences", desc := "(Z)I" } : Jvm.MethodName)) ∈ lw_all := lw_g (lw_at lw_m7 50 rfl) rfl
theorem q1547 : (Jvm.Cond.code ({ cls := "MendReaderModel", name := "fences", desc := "(Z)I" } : Jvm.MethodName) prog_19_method_13_code (3 : Nat) (Option.some Jvm.ClassFile.FieldType.int)) ∈ lw_all := lw_g (lw_at lw_m7 51 rfl) rfl
theorem q1549 : (Jvm.Cond.instanceMethod ({ cls := "MendReaderModel", name := "put", desc := "(II)I" } : Jvm.MethodName)) ∈ lw_all := lw_g (lw_at lw_m7 53 rfl) rfl
theorem q1550 : (Jvm.Cond.selects "MendReaderModel" ({ cls := "MendReaderModel", name := "put", desc := "(II)I" } : Jvm.MethodName) ({ cls := "MendReaderModel", name := "put", desc := "(II)I" } : Jvm.MethodName)) ∈ lw_all := lw_g (lw_at lw_m7 54 rfl) rfl
theorem q1551 : (Jvm.Cond.code ({ cls := "MendReaderModel", name := "put", desc := "(II)I" } : Jvm.MethodName) prog_19_method_14_code (4 : Nat) (Option.some Jvm.ClassFile.FieldType.int)) ∈ lw_all := lw_g (lw_at lw_m7 55 rfl) rfl
theorem q1553 : (Jvm.Cond.instanceMethod ({ cls := "MendReaderModel", name := "take", desc := "(I)I" } : Jvm.MethodName)) ∈ lw_all := lw_g (lw_at lw_m7 57 rfl) rfl
theorem q1554 : (Jvm.Cond.selects "MendReaderModel" ({ cls := "MendReaderModel", name := "take", desc := "(I)I" } : Jvm.MethodName) ({ cls := "MendReaderModel", name := "take", desc := "(I)I" } : Jvm.MethodName)) ∈ lw_all := lw_g (lw_at lw_m7 58 rfl) rfl
theorem q1555 : (Jvm.Cond.code ({ cls := "MendReaderModel", name := "take", desc := "(I)I" } : Jvm.MethodName) prog_19_method_15_code (3 : Nat) (Option.some Jvm.ClassFile.FieldType.int)) ∈ lw_all := lw_g (lw_at lw_m7 59 rfl) rfl
theorem q1557 : (Jvm.Cond.instanceMethod ({ cls := "MendReaderModel", name := "at", desc := "(I)I" } : Jvm.MethodName)) ∈ lw_all := lw_g (lw_at lw_m7 61 rfl) rfl
theorem q1558 : (Jvm.Cond.selects "MendReaderModel" ({ cls := "MendReaderModel", name := "at", desc := "(I)I" } : Jvm.MethodName) ({ cls := "MendReaderModel", name := "at", desc := "(I)I" } : Jvm.MethodName)) ∈ lw_all := lw_g (lw_at lw_m7 62 rfl) rfl
theorem q1559 : (Jvm.Cond.code ({ cls := "MendReaderModel", name := "at", desc := "(I)I" } : Jvm.MethodName) prog_19_method_16_code (2 : Nat) (Option.some Jvm.ClassFile.FieldType.int)) ∈ lw_all := lw_g (lw_at lw_m7 63 rfl) rfl
theorem q1561 : (Jvm.Cond.instanceMethod ({ cls := "MendReaderModel", name := "read", desc := "()I" } : Jvm.MethodName)) ∈ lw_all := lw_g (lw_at lw_m7 65 rfl) rfl
theorem q1562 : (Jvm.Cond.selects "MendReaderModel" ({ cls := "MendReaderModel", name := "read", desc := "()I" } : Jvm.MethodName) ({ cls := "MendReaderModel", name := "read", desc := "()I" } : Jvm.MethodName)) ∈ lw_all := lw_g (lw_at lw_m7 66 rfl) rfl
theorem q1563 : (Jvm.Cond.code ({ cls := "MendReaderModel", name := "read", desc := "()I" } : Jvm.MethodName) prog_19_method_45_code (1 : Nat) (Option.some Jvm.ClassFile.FieldType.int)) ∈ lw_all := lw_g (lw_at lw_m7 67 rfl) rfl
theorem q1564 : (Jvm.Cond.methodLink "MendReaderModel" (298 : Nat) ({ cls := "MendReaderModel", name := "mends", desc := "(I)I" } : Jvm.MethodName)) ∈ lw_all := lw_g (lw_at lw_m7 68 rfl) rfl
theorem q1565 : (Jvm.Cond.privateMethod ({ cls := "MendReaderModel", name := "mends", desc := "(I)I" } : Jvm.MethodName)) ∈ lw_tbl := lw_at lw_m7 69 rfl
theorem q1566 : (Jvm.Cond.instanceMethod ({ cls := "MendReaderModel", name := "mends", desc := "(I)I" } : Jvm.MethodName)) ∈ lw_all := lw_g (lw_at lw_m7 70 rfl) rfl
theorem q1567 : (Jvm.Cond.code ({ cls := "MendReaderModel", name := "mends", desc := "(I)I" } : Jvm.MethodName) prog_19_method_44_code (5 : Nat) (Option.some Jvm.ClassFile.FieldType.int)) ∈ lw_all := lw_g (lw_at lw_m7 71 rfl) rfl
theorem q1568 : (Jvm.Cond.methodLink "MendReaderModel" (281 : Nat) ({ cls := "MendReaderModel", name := "layAll", desc := "(II)V" } : Jvm.MethodName)) ∈ lw_all := lw_g (lw_at lw_m7 72 rfl) rfl
theorem q1569 : (Jvm.Cond.privateMethod ({ cls := "MendReaderModel", name := "layAll", desc := "(II)V" } : Jvm.MethodName)) ∈ lw_tbl := lw_at lw_m7 73 rfl
theorem q1570 : (Jvm.Cond.instanceMethod ({ cls := "MendReaderModel", name := "layAll", desc := "(II)V" } : Jvm.MethodName)) ∈ lw_all := lw_g (lw_at lw_m7 74 rfl) rfl
theorem q1571 : (Jvm.Cond.code ({ cls := "MendReaderModel", name := "layAll", desc := "(II)V" } : Jvm.MethodName) prog_19_method_43_code (3 : Nat) (Option.none : Option Jvm.ClassFile.FieldType)) ∈ lw_all := lw_g (lw_at lw_m7 75 rfl) rfl
theorem q1572 : (Jvm.Cond.methodLink "MendReaderModel" (275 : Nat) ({ cls := "MendReaderModel", name := "layReads", desc := "(I)V" } : Jvm.MethodName)) ∈ lw_all := lw_g (lw_at lw_m7 76 rfl) rfl
theorem q1573 : (Jvm.Cond.privateMethod ({ cls := "MendReaderModel", name := "layReads", desc := "(I)V" } : Jvm.MethodName)) ∈ lw_tbl := lw_at lw_m7 77 rfl
theorem q1574 : (Jvm.Cond.instanceMethod ({ cls := "MendReaderModel", name := "layReads", desc := "(I)V" } : Jvm.MethodName)) ∈ lw_all := lw_g (lw_at lw_m7 78 rfl) rfl
theorem q1575 : (Jvm.Cond.code ({ cls := "MendReaderModel", name := "layReads", desc := "(I)V" } : Jvm.MethodName) prog_19_method_28_code (3 : Nat) (Option.none : Option Jvm.ClassFile.FieldType)) ∈ lw_all := lw_g (lw_at lw_m7 79 rfl) rfl
theorem q1576 : (Jvm.Cond.methodLink "MendReaderModel" (214 : Nat) ({ cls := "MendReaderModel", name := "layKnots", desc := "(I)V" } : Jvm.MethodName)) ∈ lw_all := lw_g (lw_at lw_m7 80 rfl) rfl
theorem q1577 : (Jvm.Cond.privateMethod ({ cls := "MendReaderModel", name := "layKnots", desc := "(I)V" } : Jvm.MethodName)) ∈ lw_tbl := lw_at lw_m7 81 rfl
theorem q1578 : (Jvm.Cond.instanceMethod ({ cls := "MendReaderModel", name := "layKnots", desc := "(I)V" } : Jvm.MethodName)) ∈ lw_all := lw_g (lw_at lw_m7 82 rfl) rfl
theorem q1579 : (Jvm.Cond.code ({ cls := "MendReaderModel", name := "layKnots", desc := "(I)V" } : Jvm.MethodName) prog_19_method_18_code (5 : Nat) (Option.none : Option Jvm.ClassFile.FieldType)) ∈ lw_all := lw_g (lw_at lw_m7 83 rfl) rfl
theorem q1580 : (Jvm.Cond.methodLink "MendReaderModel" (162 : Nat) ({ cls := "MendReaderModel", name := "knot", desc := "(III)V" } : Jvm.MethodName)) ∈ lw_all := lw_g (lw_at lw_m7 84 rfl) rfl
theorem q1581 : (Jvm.Cond.privateMethod ({ cls := "MendReaderModel", name := "knot", desc := "(III)V" } : Jvm.MethodName)) ∈ lw_tbl := lw_at lw_m7 85 rfl
theorem q1582 : (Jvm.Cond.instanceMethod ({ cls := "MendReaderModel", name := "knot", desc := "(III)V" } : Jvm.MethodName)) ∈ lw_all := lw_g (lw_at lw_m7 86 rfl) rfl
theorem q1583 : (Jvm.Cond.code ({ cls := "MendReaderModel", name := "knot", desc := "(III)V" } : Jvm.MethodName) prog_19_method_17_code (4 : Nat) (Option.none : Option Jvm.ClassFile.FieldType)) ∈ lw_all := lw_g (lw_at lw_m7 87 rfl) rfl
theorem q1584 : (Jvm.Cond.methodLink "MendReaderModel" (218 : Nat) ({ cls := "MendReaderModel", name := "laySkips", desc := "()V" } : Jvm.MethodName)) ∈ lw_all := lw_g (lw_at lw_m7 88 rfl) rfl
theorem q1585 : (Jvm.Cond.privateMethod ({ cls := "MendReaderModel", name := "laySkips", desc := "()V" } : Jvm.MethodName)) ∈ lw_tbl := lw_at lw_m7 89 rfl
theorem q1586 : (Jvm.Cond.instanceMethod ({ cls := "MendReaderModel", name := "laySkips", desc := "()V" } : Jvm.MethodName)) ∈ lw_all := lw_g (lw_at lw_m7 90 rfl) rfl
theorem q1587 : (Jvm.Cond.code ({ cls := "MendReaderModel", name := "laySkips", desc := "()V" } : Jvm.MethodName) prog_19_method_22_code (6 : Nat) (Option.none : Option Jvm.ClassFile.FieldType)) ∈ lw_all := lw_g (lw_at lw_m7 91 rfl) rfl
theorem q1588 : (Jvm.Cond.constant "MendReaderModel" (191 : Nat) (1000000000 : Int32)) ∈ lw_all := lw_g (lw_at lw_m7 92 rfl) rfl
theorem q1589 : (Jvm.Cond.methodLink "MendReaderModel" (195 : Nat) ({ cls := "MendReaderModel", name := "skipPrice", desc := "(II)I" } : Jvm.MethodName)) ∈ lw_all := lw_g (lw_at lw_m7 93 rfl) rfl
theorem q1590 : (Jvm.Cond.privateMethod ({ cls := "MendReaderModel", name := "skipPrice", desc := "(II)I" } : Jvm.MethodName)) ∈ lw_tbl := lw_at lw_m7 94 rfl
theorem q1591 : (Jvm.Cond.instanceMethod ({ cls := "MendReaderModel", name := "skipPrice", desc := "(II)I" } : Jvm.MethodName)) ∈ lw_all := lw_g (lw_at lw_m7 95 rfl) rfl
theorem q1592 : (Jvm.Cond.code ({ cls := "MendReaderModel", name := "skipPrice", desc := "(II)I" } : Jvm.MethodName) prog_19_method_21_code (3 : Nat) (Option.some Jvm.ClassFile.FieldType.int)) ∈ lw_all := lw_g (lw_at lw_m7 96 rfl) rfl
theorem q1593 : (Jvm.Cond.methodLink "MendReaderModel" (187 : Nat) ({ cls := "MendReaderModel", name := "mayBe", desc := "(IIII)Z" } : Jvm.MethodName)) ∈ lw_all := lw_g (lw_at lw_m7 97 rfl) rfl
theorem q1594 : (Jvm.Cond.privateMethod ({ cls := "MendReaderModel", name := "mayBe", desc := "(IIII)Z" } : Jvm.MethodName)) ∈ lw_tbl := lw_at lw_m7 98 rfl
theorem q1595 : (Jvm.Cond.instanceMethod ({ cls := "MendReaderModel", name := "mayBe", desc := "(IIII)Z" } : Jvm.MethodName)) ∈ lw_all := lw_g (lw_at lw_m7 99 rfl) rfl
theorem q1596 : (Jvm.Cond.code ({ cls := "MendReaderModel", name := "mayBe", desc := "(IIII)Z" } : Jvm.MethodName) prog_19_method_20_code (7 : Nat) (Option.some Jvm.ClassFile.FieldType.boolean)) ∈ lw_all := lw_g (lw_at lw_m7 100 rfl) rfl
theorem q1597 : (Jvm.Cond.methodLink "MendReaderModel" (178 : Nat) ({ cls := "MendReaderModel", name := "isFenced", desc := "(I)Z" } : Jvm.MethodName)) ∈ lw_all := lw_g (lw_at lw_m7 101 rfl) rfl
theorem q1598 : (Jvm.Cond.privateMethod ({ cls := "MendReaderModel", name := "isFenced", desc := "(I)Z" } : Jvm.MethodName)) ∈ lw_tbl := lw_at lw_m7 102 rfl
theorem q1599 : (Jvm.Cond.instanceMethod ({ cls := "MendReaderModel", name := "isFenced", desc := "(I)Z" } : Jvm.MethodName)) ∈ lw_all := lw_g (lw_at lw_m7 103 rfl) rfl
theorem q1600 : (Jvm.Cond.code ({ cls := "MendReaderModel", name := "isFenced", desc := "(I)Z" } : Jvm.MethodName) prog_19_method_19_code (2 : Nat) (Option.some Jvm.ClassFile.FieldType.boolean)) ∈ lw_all := lw_g (lw_at lw_m7 104 rfl) rfl
theorem q1601 : (Jvm.Cond.methodLink "MendReaderModel" (221 : Nat) ({ cls := "MendReaderModel", name := "laySteps", desc := "(I)V" } : Jvm.MethodName)) ∈ lw_all := lw_g (lw_at lw_m7 105 rfl) rfl
theorem q1602 : (Jvm.Cond.privateMethod ({ cls := "MendReaderModel", name := "laySteps", desc := "(I)V" } : Jvm.MethodName)) ∈ lw_tbl := lw_at lw_m7 106 rfl
theorem q1603 : (Jvm.Cond.instanceMethod ({ cls := "MendReaderModel", name := "laySteps", desc := "(I)V" } : Jvm.MethodName)) ∈ lw_all := lw_g (lw_at lw_m7 107 rfl) rfl
theorem q1604 : (Jvm.Cond.code ({ cls := "MendReaderModel", name := "laySteps", desc := "(I)V" } : Jvm.MethodName) prog_19_method_26_code (7 : Nat) (Option.none : Option Jvm.ClassFile.FieldType)) ∈ lw_all := lw_g (lw_at lw_m7 108 rfl) rfl
theorem q1605 : (Jvm.Cond.methodLink "MendReaderModel" (203 : Nat) ({ cls := "MendReaderModel", name := "lostPrice", desc := "(II)I" } : Jvm.MethodName)) ∈ lw_all := lw_g (lw_at lw_m7 109 rfl) rfl
theorem q1606 : (Jvm.Cond.privateMethod ({ cls := "MendReaderModel", name := "lostPrice", desc := "(II)I" } : Jvm.MethodName)) ∈ lw_tbl := lw_at lw_m7 110 rfl
theorem q1607 : (Jvm.Cond.instanceMethod ({ cls := "MendReaderModel", name := "lostPrice", desc := "(II)I" } : Jvm.MethodName)) ∈ lw_all := lw_g (lw_at lw_m7 111 rfl) rfl
theorem q1608 : (Jvm.Cond.code ({ cls := "MendReaderModel", name := "lostPrice", desc := "(II)I" } : Jvm.MethodName) prog_19_method_25_code (4 : Nat) (Option.some Jvm.ClassFile.FieldType.int)) ∈ lw_all := lw_g (lw_at lw_m7 112 rfl) rfl
theorem q1609 : (Jvm.Cond.methodLink "MendReaderModel" (206 : Nat) ({ cls := "MendReaderModel", name := "step", desc := "(IIIIII)V" } : Jvm.MethodName)) ∈ lw_all := lw_g (lw_at lw_m7 113 rfl) rfl
theorem q1610 : (Jvm.Cond.privateMethod ({ cls := "MendReaderModel", name := "step", desc := "(IIIIII)V" } : Jvm.MethodName)) ∈ lw_tbl := lw_at lw_m7 114 rfl
theorem q1611 : (Jvm.Cond.instanceMethod ({ cls := "MendReaderModel", name := "step", desc := "(IIIIII)V" } : Jvm.MethodName)) ∈ lw_all := lw_g (lw_at lw_m7 115 rfl) rfl
theorem q1612 : (Jvm.Cond.code ({ cls := "MendReaderModel", name := "step", desc := "(IIIIII)V" } : Jvm.MethodName) prog_19_method_23_code (9 : Nat) (Option.none : Option Jvm.ClassFile.FieldType)) ∈ lw_all := lw_g (lw_at lw_m7 116 rfl) rfl
theorem q1613 : (Jvm.Cond.methodLink "MendReaderModel" (199 : Nat) ({ cls := "MendReaderModel", name := "readBy", desc := "(IIIIIII)V" } : Jvm.MethodName)) ∈ lw_all := lw_g (lw_at lw_m7 117 rfl) rfl
theorem q1614 : (Jvm.Cond.privateMethod ({ cls := "MendReaderModel", name := "readBy", desc := "(IIIIIII)V" } : Jvm.MethodName)) ∈ lw_tbl := lw_at lw_m7 118 rfl
theorem q1615 : (Jvm.Cond.instanceMethod ({ cls := "MendReaderModel", name := "readBy", desc := "(IIIIIII)V" } : Jvm.MethodName)) ∈ lw_all := lw_g (lw_at lw_m7 119 rfl) rfl
theorem q1616 : (Jvm.Cond.code ({ cls := "MendReaderModel", name := "readBy", desc := "(IIIIIII)V" } : Jvm.MethodName) prog_19_method_24_code (10 : Nat) (Option.none : Option Jvm.ClassFile.FieldType)) ∈ lw_all := lw_g (lw_at lw_m7 120 rfl) rfl
theorem q1617 : (Jvm.Cond.methodLink "MendReaderModel" (210 : Nat) ({ cls := "MendReaderModel", name := "specialAt", desc := "(III)I" } : Jvm.MethodName)) ∈ lw_all := lw_g (lw_at lw_m7 121 rfl) rfl
theorem q1618 : (Jvm.Cond.privateMethod ({ cls := "MendReaderModel", name := "specialAt", desc := "(III)I" } : Jvm.MethodName)) ∈ lw_tbl := lw_at lw_m7 122 rfl
theorem q1619 : (Jvm.Cond.instanceMethod ({ cls := "MendReaderModel", name := "specialAt", desc := "(III)I" } : Jvm.MethodName)) ∈ lw_all := lw_g (lw_at lw_m7 123 rfl) rfl
theorem q1620 : (Jvm.Cond.code ({ cls := "MendReaderModel", name := "specialAt", desc := "(III)I" } : Jvm.MethodName) prog_19_method_27_code (5 : Nat) (Option.some Jvm.ClassFile.FieldType.int)) ∈ lw_all := lw_g (lw_at lw_m7 124 rfl) rfl
theorem q1621 : (Jvm.Cond.methodLink "MendReaderModel" (278 : Nat) ({ cls := "MendReaderModel", name := "layCosts", desc := "()V" } : Jvm.MethodName)) ∈ lw_all := lw_g (lw_at lw_m7 125 rfl) rfl
theorem q1622 : (Jvm.Cond.privateMethod ({ cls := "MendReaderModel", name := "layCosts", desc := "()V" } : Jvm.MethodName)) ∈ lw_tbl := lw_at lw_m7 126 rfl
theorem q1623 : (Jvm.Cond.instanceMethod ({ cls := "MendReaderModel", name := "layCosts", desc := "()V" } : Jvm.MethodName)) ∈ lw_all := lw_g (lw_at lw_m7 127 rfl) rfl
theorem q1624 : (Jvm.Cond.code ({ cls := "MendReaderModel", name := "layCosts", desc := "()V" } : Jvm.MethodName) prog_19_method_34_code (3 : Nat) (Option.none : Option Jvm.ClassFile.FieldType)) ∈ lw_all := lw_g (lw_at lw_m7 128 rfl) rfl
theorem q1625 : (Jvm.Cond.constantLong "MendReaderModel" (224 : Nat) (1152921504606846976 : Int64)) ∈ lw_all := lw_g (lw_at lw_m7 129 rfl) rfl
theorem q1626 : (Jvm.Cond.methodLink "MendReaderModel" (243 : Nat) ({ cls := "MendReaderModel", name := "settle", desc := "(II)V" } : Jvm.MethodName)) ∈ lw_all := lw_g (lw_at lw_m7 130 rfl) rfl
theorem q1627 : (Jvm.Cond.privateMethod ({ cls := "MendReaderModel", name := "settle", desc := "(II)V" } : Jvm.MethodName)) ∈ lw_tbl := lw_at lw_m7 131 rfl
theorem q1628 : (Jvm.Cond.instanceMethod ({ cls := "MendReaderModel", name := "settle", desc := "(II)V" } : Jvm.MethodName)) ∈ lw_all := lw_g (lw_at lw_m7 132 rfl) rfl
theorem q1629 : (Jvm.Cond.code ({ cls := "MendReaderModel", name := "settle", desc := "(II)V" } : Jvm.MethodName) prog_19_method_33_code (8 : Nat) (Option.none : Option Jvm.ClassFile.FieldType)) ∈ lw_all := lw_g (lw_at lw_m7 133 rfl) rfl
theorem q1630 : (Jvm.Cond.methodLink "MendReaderModel" (240 : Nat) ({ cls := "MendReaderModel", name := "ruleCost", desc := "(III)J" } : Jvm.MethodName)) ∈ lw_all := lw_g (lw_at lw_m7 134 rfl) rfl
theorem q1631 : (Jvm.Cond.privateMethod ({ cls := "MendReaderModel", name := "ruleCost", desc := "(III)J" } : Jvm.MethodName)) ∈ lw_tbl := lw_at lw_m7 135 rfl
theorem q1632 : (Jvm.Cond.instanceMethod ({ cls := "MendReaderModel", name := "ruleCost", desc := "(III)J" } : Jvm.MethodName)) ∈ lw_all := lw_g (lw_at lw_m7 136 rfl) rfl
theorem q1633 : (Jvm.Cond.code ({ cls := "MendReaderModel", name := "ruleCost", desc := "(III)J" } : Jvm.MethodName) prog_19_method_32_code (12 : Nat) (Option.some Jvm.ClassFile.FieldType.long)) ∈ lw_all := lw_g (lw_at lw_m7 137 rfl) rfl
theorem q1634 : (Jvm.Cond.methodLink "MendReaderModel" (228 : Nat) ({ cls := "MendReaderModel", name := "cost", desc := "(III)J" } : Jvm.MethodName)) ∈ lw_all := lw_g (lw_at lw_m7 138 rfl) rfl
theorem q1635 : (Jvm.Cond.privateMethod ({ cls := "MendReaderModel", name := "cost", desc := "(III)J" } : Jvm.MethodName)) ∈ lw_tbl := lw_at lw_m7 139 rfl
theorem q1636 : (Jvm.Cond.instanceMethod ({ cls := "MendReaderModel", name := "cost", desc := "(III)J" } : Jvm.MethodName)) ∈ lw_all := lw_g (lw_at lw_m7 140 rfl) rfl
theorem q1637 : (Jvm.Cond.code ({ cls := "MendReaderModel", name := "cost", desc := "(III)J" } : Jvm.MethodName) prog_19_method_29_code (5 : Nat) (Option.some Jvm.ClassFile.FieldType.long)) ∈ lw_all := lw_g (lw_at lw_m7 141 rfl) rfl
theorem q1638 : (Jvm.Cond.constantLong "MendReaderModel" (226 : Nat) (4294967296 : Int64)) ∈ lw_all := lw_g (lw_at lw_m7 142 rfl) rfl
theorem q1639 : (Jvm.Cond.methodLink "MendReaderModel" (236 : Nat) ({ cls := "MendReaderModel", name := "both", desc := "(IIII)J" } : Jvm.MethodName)) ∈ lw_all := lw_g (lw_at lw_m7 143 rfl) rfl
theorem q1640 : (Jvm.Cond.privateMethod ({ cls := "MendReaderModel", name := "both", desc := "(IIII)J" } : Jvm.MethodName)) ∈ lw_tbl := lw_at lw_m7 144 rfl
theorem q1641 : (Jvm.Cond.instanceMethod ({ cls := "MendReaderModel", name := "both", desc := "(IIII)J" } : Jvm.MethodName)) ∈ lw_all := lw_g (lw_at lw_m7 145 rfl) rfl
theorem q1642 : (Jvm.Cond.code ({ cls := "MendReaderModel", name := "both", desc := "(IIII)J" } : Jvm.MethodName) prog_19_method_31_code (10 : Nat) (Option.some Jvm.ClassFile.FieldType.long)) ∈ lw_all := lw_g (lw_at lw_m7 146 rfl) rfl
theorem q1643 : (Jvm.Cond.methodLink "MendReaderModel" (232 : Nat) ({ cls := "MendReaderModel", name := "sum", desc := "(JJ)J" } : Jvm.MethodName)) ∈ lw_all := lw_g (lw_at lw_m7 147 rfl) rfl
theorem q1644 : (Jvm.Cond.static ({ cls := "MendReaderModel", name := "sum", desc := "(JJ)J" } : Jvm.MethodName)) ∈ lw_all := lw_g (lw_at lw_m7 148 rfl) rfl
theorem q1645 : (Jvm.Cond.code ({ cls := "MendReaderModel", name := "sum", desc := "(JJ)J" } : Jvm.MethodName) prog_19_method_30_code (4 : Nat) (Option.some Jvm.ClassFile.FieldType.long)) ∈ lw_all := lw_g (lw_at lw_m7 149 rfl) rfl
theorem q1646 : (Jvm.Cond.methodLink "MendReaderModel" (284 : Nat) ({ cls := "MendReaderModel", name := "mendingTo", desc := "()I" } : Jvm.MethodName)) ∈ lw_all := lw_g (lw_at lw_m7 150 rfl) rfl
theorem q1647 : (Jvm.Cond.privateMethod ({ cls := "MendReaderModel", name := "mendingTo", desc := "()I" } : Jvm.MethodName)) ∈ lw_tbl := lw_at lw_m7 151 rfl
theorem q1648 : (Jvm.Cond.instanceMethod ({ cls := "MendReaderModel", name := "mendingTo", desc := "()I" } : Jvm.MethodName)) ∈ lw_all := lw_g (lw_at lw_m7 152 rfl) rfl
theorem q1649 : (Jvm.Cond.code ({ cls := "MendReaderModel", name := "mendingTo", desc := "()I" } : Jvm.MethodName) prog_19_method_41_code (8 : Nat) (Option.some Jvm.ClassFile.FieldType.int)) ∈ lw_all := lw_g (lw_at lw_m7 153 rfl) rfl
theorem q1650 : (Jvm.Cond.methodLink "MendReaderModel" (291 : Nat) ({ cls := "MendReaderModel", name := "costOf", desc := "(I)J" } : Jvm.MethodName)) ∈ lw_all := lw_g (lw_at lw_m7 154 rfl) rfl
theorem q1651 : (Jvm.Cond.privateMethod ({ cls := "MendReaderModel", name := "costOf", desc := "(I)J" } : Jvm.MethodName)) ∈ lw_tbl := lw_at lw_m7 155 rfl
theorem q1652 : (Jvm.Cond.instanceMethod ({ cls := "MendReaderModel", name := "costOf", desc := "(I)J" } : Jvm.MethodName)) ∈ lw_all := lw_g (lw_at lw_m7 156 rfl) rfl
theorem q1653 : (Jvm.Cond.code ({ cls := "MendReaderModel", name := "costOf", desc := "(I)J" } : Jvm.MethodName) prog_19_method_42_code (2 : Nat) (Option.some Jvm.ClassFile.FieldType.long)) ∈ lw_all := lw_g (lw_at lw_m7 157 rfl) rfl
theorem q1654 : (Jvm.Cond.methodLink "MendReaderModel" (295 : Nat) ({ cls := "MendReaderModel", name := "layTree", desc := "(I)V" } : Jvm.MethodName)) ∈ lw_all := lw_g (lw_at lw_m7 158 rfl) rfl
theorem q1655 : (Jvm.Cond.privateMethod ({ cls := "MendReaderModel", name := "layTree", desc := "(I)V" } : Jvm.MethodName)) ∈ lw_tbl := lw_at lw_m7 159 rfl
theorem q1656 : (Jvm.Cond.instanceMethod ({ cls := "MendReaderModel", name := "layTree", desc := "(I)V" } : Jvm.MethodName)) ∈ lw_all := lw_g (lw_at lw_m7 160 rfl) rfl
theorem q1657 : (Jvm.Cond.code ({ cls := "MendReaderModel", name := "layTree", desc := "(I)V" } : Jvm.MethodName) prog_19_method_40_code (6 : Nat) (Option.none : Option Jvm.ClassFile.FieldType)) ∈ lw_all := lw_g (lw_at lw_m7 161 rfl) rfl
theorem q1658 : (Jvm.Cond.methodLink "MendReaderModel" (266 : Nat) ({ cls := "MendReaderModel", name := "push", desc := "(IIII)V" } : Jvm.MethodName)) ∈ lw_all := lw_g (lw_at lw_m7 162 rfl) rfl
theorem q1659 : (Jvm.Cond.privateMethod ({ cls := "MendReaderModel", name := "push", desc := "(IIII)V" } : Jvm.MethodName)) ∈ lw_tbl := lw_at lw_m7 163 rfl
theorem q1660 : (Jvm.Cond.instanceMethod ({ cls := "MendReaderModel", name := "push", desc := "(IIII)V" } : Jvm.MethodName)) ∈ lw_all := lw_g (lw_at lw_m7 164 rfl) rfl
theorem q1661 : (Jvm.Cond.code ({ cls := "MendReaderModel", name := "push", desc := "(IIII)V" } : Jvm.MethodName) prog_19_method_35_code (5 : Nat) (Option.none : Option Jvm.ClassFile.FieldType)) ∈ lw_all := lw_g (lw_at lw_m7 165 rfl) rfl
theorem q1662 : (Jvm.Cond.methodLink "MendReaderModel" (269 : Nat) ({ cls := "MendReaderModel", name := "layName", desc := "(IIII)V" } : Jvm.MethodName)) ∈ lw_all := lw_g (lw_at lw_m7 166 rfl) rfl
theorem q1663 : (Jvm.Cond.privateMethod ({ cls := "MendReaderModel", name := "layName", desc := "(IIII)V" } : Jvm.MethodName)) ∈ lw_tbl := lw_at lw_m7 167 rfl
theorem q1664 : (Jvm.Cond.instanceMethod ({ cls := "MendReaderModel", name := "layName", desc := "(IIII)V" } : Jvm.MethodName)) ∈ lw_all := lw_g (lw_at lw_m7 168 rfl) rfl
theorem q1665 : (Jvm.Cond.code ({ cls := "MendReaderModel", name := "layName", desc := "(IIII)V" } : Jvm.MethodName) prog_19_method_39_code (17 : Nat) (Option.none : Option Jvm.ClassFile.FieldType)) ∈ lw_all := lw_g (lw_at lw_m7 169 rfl) rfl
theorem q1666 : (Jvm.Cond.methodLink "MendReaderModel" (272 : Nat) ({ cls := "MendReaderModel", name := "layToken", desc := "(III)V" } : Jvm.MethodName)) ∈ lw_all := lw_g (lw_at lw_m7 170 rfl) rfl
theorem q1667 : (Jvm.Cond.privateMethod ({ cls := "MendReaderModel", name := "layToken", desc := "(III)V" } : Jvm.MethodName)) ∈ lw_tbl := lw_at lw_m7 171 rfl
theorem q1668 : (Jvm.Cond.instanceMethod ({ cls := "MendReaderModel", name := "layToken", desc := "(III)V" } : Jvm.MethodName)) ∈ lw_all := lw_g (lw_at lw_m7 172 rfl) rfl
theorem q1669 : (Jvm.Cond.code ({ cls := "MendReaderModel", name := "layToken", desc := "(III)V" } : Jvm.MethodName) prog_19_method_38_code (9 : Nat) (Option.none : Option Jvm.ClassFile.FieldType)) ∈ lw_all := lw_g (lw_at lw_m7 173 rfl) rfl
theorem q1670 : (Jvm.Cond.methodLink "MendReaderModel" (257 : Nat) ({ cls := "MendReaderModel", name := "laySkipping", desc := "(II)V" } : Jvm.MethodName)) ∈ lw_all := lw_g (lw_at lw_m7 174 rfl) rfl
theorem q1671 : (Jvm.Cond.privateMethod ({ cls := "MendReaderModel", name := "laySkipping", desc := "(II)V" } : Jvm.MethodName)) ∈ lw_tbl := lw_at lw_m7 175 rfl
theorem q1672 : (Jvm.Cond.instanceMethod ({ cls := "MendReaderModel", name := "laySkipping", desc := "(II)V" } : Jvm.MethodName)) ∈ lw_all := lw_g (lw_at lw_m7 176 rfl) rfl
theorem q1673 : (Jvm.Cond.code ({ cls := "MendReaderModel", name := "laySkipping", desc := "(II)V" } : Jvm.MethodName) prog_19_method_37_code (5 : Nat) (Option.none : Option Jvm.ClassFile.FieldType)) ∈ lw_all := lw_g (lw_at lw_m7 177 rfl) rfl
theorem q1674 : (Jvm.Cond.methodLink "MendReaderModel" (253 : Nat) ({ cls := "MendReaderModel", name := "slip", desc := "(IIII)V" } : Jvm.MethodName)) ∈ lw_all := lw_g (lw_at lw_m7 178 rfl) rfl
theorem q1675 : (Jvm.Cond.privateMethod ({ cls := "MendReaderModel", name := "slip", desc := "(IIII)V" } : Jvm.MethodName)) ∈ lw_tbl := lw_at lw_m7 179 rfl
theorem q1676 : (Jvm.Cond.instanceMethod ({ cls := "MendReaderModel", name := "slip", desc := "(IIII)V" } : Jvm.MethodName)) ∈ lw_all := lw_g (lw_at lw_m7 180 rfl) rfl
theorem q1677 : (Jvm.Cond.code ({ cls := "MendReaderModel", name := "slip", desc := "(IIII)V" } : Jvm.MethodName) prog_19_method_36_code (5 : Nat) (Option.none : Option Jvm.ClassFile.FieldType)) ∈ lw_all := lw_g (lw_at lw_m7 181 rfl) rfl
theorem q1679 : (Jvm.Cond.instanceMethod ({ cls := "MendReaderModel", name := "only", desc := "(II)I" } : Jvm.MethodName)) ∈ lw_all := lw_g (lw_at lw_m7 183 rfl) rfl
theorem q1680 : (Jvm.Cond.selects "MendReaderModel" ({ cls := "MendReaderModel", name := "only", desc := "(II)I" } : Jvm.MethodName) ({ cls := "MendReaderModel", name := "only", desc := "(II)I" } : Jvm.MethodName)) ∈ lw_all := lw_g (lw_at lw_m7 184 rfl) rfl
theorem q1681 : (Jvm.Cond.code ({ cls := "MendReaderModel", name := "only", desc := "(II)I" } : Jvm.MethodName) prog_19_method_46_code (3 : Nat) (Option.some Jvm.ClassFile.FieldType.int)) ∈ lw_all := lw_g (lw_at lw_m7 185 rfl) rfl
theorem q1683 : (Jvm.Cond.instanceMethod ({ cls := "MendReaderModel", name := "complete", desc := "()I" } : Jvm.MethodName)) ∈ lw_all := lw_g (lw_at lw_m7 187 rfl) rfl
theorem q1684 : (Jvm.Cond.selects "MendReaderModel" ({ cls := "MendReaderModel", name := "complete", desc := "()I" } : Jvm.MethodName) ({ cls := "MendReaderModel", name := "complete", desc := "()I" } : Jvm.MethodName)) ∈ lw_all := lw_g (lw_at lw_m7 188 rfl) rfl
theorem q1685 : (Jvm.Cond.code ({ cls := "MendReaderModel", name := "complete", desc := "()I" } : Jvm.MethodName) prog_19_method_47_code (1 : Nat) (Option.some Jvm.ClassFile.FieldType.int)) ∈ lw_all := lw_g (lw_at lw_m7 189 rfl) rfl
theorem q1687 : (Jvm.Cond.instanceMethod ({ cls := "MendReaderModel", name := "begins", desc := "()I" } : Jvm.MethodName)) ∈ lw_all := lw_g (lw_at lw_m7 191 rfl) rfl
theorem q1688 : (Jvm.Cond.selects "MendReaderModel" ({ cls := "MendReaderModel", name := "begins", desc := "()I" } : Jvm.MethodName) ({ cls := "MendReaderModel", name := "begins", desc := "()I" } : Jvm.MethodName)) ∈ lw_all := lw_g (lw_at lw_m7 192 rfl) rfl
theorem q1689 : (Jvm.Cond.code ({ cls := "MendReaderModel", name := "begins", desc := "()I" } : Jvm.MethodName) prog_19_method_48_code (1 : Nat) (Option.some Jvm.ClassFile.FieldType.int)) ∈ lw_all := lw_g (lw_at lw_m7 193 rfl) rfl
theorem q1691 : (Jvm.Cond.instanceMethod ({ cls := "MendReaderModel", name := "wanted", desc := "(I)I" } : Jvm.MethodName)) ∈ lw_all := lw_g (lw_at lw_m7 195 rfl) rfl
theorem q1692 : (Jvm.Cond.selects "MendReaderModel" ({ cls := "MendReaderModel", name := "wanted", desc := "(I)I" } : Jvm.MethodName) ({ cls := "MendReaderModel", name := "wanted", desc := "(I)I" } : Jvm.MethodName)) ∈ lw_all := lw_g (lw_at lw_m7 196 rfl) rfl
theorem q1693 : (Jvm.Cond.code ({ cls := "MendReaderModel", name := "wanted", desc := "(I)I" } : Jvm.MethodName) prog_19_method_49_code (2 : Nat) (Option.some Jvm.ClassFile.FieldType.int)) ∈ lw_all := lw_g (lw_at lw_m7 197 rfl) rfl
theorem q1695 : (Jvm.Cond.instanceMethod ({ cls := "MendReaderModel", name := "stretch", desc := "(III)I" } : Jvm.MethodName)) ∈ lw_all := lw_g (lw_at lw_m7 199 rfl) rfl
theorem q1696 : (Jvm.Cond.selects "MendReaderModel" ({ cls := "MendReaderModel", name := "stretch", desc := "(III)I" } : Jvm.MethodName) ({ cls := "MendReaderModel", name := "stretch", desc := "(III)I" } : Jvm.MethodName)) ∈ lw_all := lw_g (lw_at lw_m7 200 rfl) rfl
theorem q1697 : (Jvm.Cond.code ({ cls := "MendReaderModel", name := "stretch", desc := "(III)I" } : Jvm.MethodName) prog_19_method_50_code (6 : Nat) (Option.some Jvm.ClassFile.FieldType.int)) ∈ lw_all := lw_g (lw_at lw_m7 201 rfl) rfl
theorem q1699 : (Jvm.Cond.instanceMethod ({ cls := "MendReaderModel", name := "shelve", desc := "(II)I" } : Jvm.MethodName)) ∈ lw_all := lw_g (lw_at lw_m7 203 rfl) rfl
theorem q1700 : (Jvm.Cond.selects "MendReaderModel" ({ cls := "MendReaderModel", name := "shelve", desc := "(II)I" } : Jvm.MethodName) ({ cls := "MendReaderModel", name := "shelve", desc := "(II)I" } : Jvm.MethodName)) ∈ lw_all := lw_g (lw_at lw_m7 204 rfl) rfl
theorem q1701 : (Jvm.Cond.code ({ cls := "MendReaderModel", name := "shelve", desc := "(II)I" } : Jvm.MethodName) prog_19_method_53_code (7 : Nat) (Option.some Jvm.ClassFile.FieldType.int)) ∈ lw_all := lw_g (lw_at lw_m7 205 rfl) rfl
theorem q1702 : (Jvm.Cond.methodLink "MendReaderModel" (304 : Nat) ({ cls := "MendReaderModel", name := "isShelf", desc := "(I)Z" } : Jvm.MethodName)) ∈ lw_all := lw_g (lw_at lw_m7 206 rfl) rfl
theorem q1703 : (Jvm.Cond.static ({ cls := "MendReaderModel", name := "isShelf", desc := "(I)Z" } : Jvm.MethodName)) ∈ lw_all := lw_g (lw_at lw_m7 207 rfl) rfl
theorem q1704 : (Jvm.Cond.code ({ cls := "MendReaderModel", name := "isShelf", desc := "(I)Z" } : Jvm.MethodName) prog_19_method_51_code (1 : Nat) (Option.some Jvm.ClassFile.FieldType.boolean)) ∈ lw_all := lw_g (lw_at lw_m7 208 rfl) rfl
theorem q1705 : (Jvm.Cond.constantLong "MendReaderModel" (302 : Nat) (5 : Int64)) ∈ lw_all := lw_g (lw_at lw_m7 209 rfl) rfl
theorem q1706 : (Jvm.Cond.constantLong "MendReaderModel" (307 : Nat) (3 : Int64)) ∈ lw_all := lw_g (lw_at lw_m7 210 rfl) rfl
theorem q1708 : (Jvm.Cond.instanceMethod ({ cls := "MendReaderModel", name := "rowAt", desc := "(II)I" } : Jvm.MethodName)) ∈ lw_all := lw_g (lw_at lw_m7 212 rfl) rfl
theorem q1709 : (Jvm.Cond.selects "MendReaderModel" ({ cls := "MendReaderModel", name := "rowAt", desc := "(II)I" } : Jvm.MethodName) ({ cls := "MendReaderModel", name := "rowAt", desc := "(II)I" } : Jvm.MethodName)) ∈ lw_all := lw_g (lw_at lw_m7 213 rfl) rfl
theorem q1710 : (Jvm.Cond.code ({ cls := "MendReaderModel", name := "rowAt", desc := "(II)I" } : Jvm.MethodName) prog_19_method_54_code (4 : Nat) (Option.some Jvm.ClassFile.FieldType.int)) ∈ lw_all := lw_g (lw_at lw_m7 214 rfl) rfl
theorem q1711 : (Jvm.Cond.methodLink "MendReaderModel" (309 : Nat) ({ cls := "MendReaderModel", name := "against", desc := "(II)I" } : Jvm.MethodName)) ∈ lw_all := lw_g (lw_at lw_m7 215 rfl) rfl
theorem q1712 : (Jvm.Cond.privateMethod ({ cls := "MendReaderModel", name := "against", desc := "(II)I" } : Jvm.MethodName)) ∈ lw_tbl := lw_at lw_m7 216 rfl
theorem q1713 : (Jvm.Cond.instanceMethod ({ cls := "MendReaderModel", name := "against", desc := "(II)I" } : Jvm.MethodName)) ∈ lw_all := lw_g (lw_at lw_m7 217 rfl) rfl
theorem q1714 : (Jvm.Cond.code ({ cls := "MendReaderModel", name := "against", desc := "(II)I" } : Jvm.MethodName) prog_19_method_52_code (3 : Nat) (Option.some Jvm.ClassFile.FieldType.int)) ∈ lw_all := lw_g (lw_at lw_m7 218 rfl) rfl
theorem q1716 : (Jvm.Cond.instanceMethod ({ cls := "MendReaderModel", name := "treeAt", desc := "(III)I" } : Jvm.MethodName)) ∈ lw_all := lw_g (lw_at lw_m7 220 rfl) rfl
theorem q1717 : (Jvm.Cond.selects "MendReaderModel" ({ cls := "MendReaderModel", name := "treeAt", desc := "(III)I" } : Jvm.MethodName) ({ cls := "MendReaderModel", name := "treeAt", desc := "(III)I" } : Jvm.MethodName)) ∈ lw_all := lw_g (lw_at lw_m7 221 rfl) rfl
theorem q1718 : (Jvm.Cond.code ({ cls := "MendReaderModel", name := "treeAt", desc := "(III)I" } : Jvm.MethodName) prog_19_method_55_code (5 : Nat) (Option.some Jvm.ClassFile.FieldType.int)) ∈ lw_all := lw_g (lw_at lw_m7 222 rfl) rfl
theorem q1720 : (Jvm.Cond.instanceMethod ({ cls := "MendReaderModel", name := "slipAt", desc := "(III)I" } : Jvm.MethodName)) ∈ lw_all := lw_g (lw_at lw_m7 224 rfl) rfl
theorem q1721 : (Jvm.Cond.selects "MendReaderModel" ({ cls := "MendReaderModel", name := "slipAt", desc := "(III)I" } : Jvm.MethodName) ({ cls := "MendReaderModel", name := "slipAt", desc := "(III)I" } : Jvm.MethodName)) ∈ lw_all := lw_g (lw_at lw_m7 225 rfl) rfl
theorem q1722 : (Jvm.Cond.code ({ cls := "MendReaderModel", name := "slipAt", desc := "(III)I" } : Jvm.MethodName) prog_19_method_56_code (5 : Nat) (Option.some Jvm.ClassFile.FieldType.int)) ∈ lw_all := lw_g (lw_at lw_m7 226 rfl) rfl
theorem q1724 : (Jvm.Cond.instanceMethod ({ cls := "MendReaderModel", name := "paste", desc := "(III)I" } : Jvm.MethodName)) ∈ lw_all := lw_g (lw_at lw_m7 228 rfl) rfl
theorem q1725 : (Jvm.Cond.selects "MendReaderModel" ({ cls := "MendReaderModel", name := "paste", desc := "(III)I" } : Jvm.MethodName) ({ cls := "MendReaderModel", name := "paste", desc := "(III)I" } : Jvm.MethodName)) ∈ lw_all := lw_g (lw_at lw_m7 229 rfl) rfl
theorem q1726 : (Jvm.Cond.code ({ cls := "MendReaderModel", name := "paste", desc := "(III)I" } : Jvm.MethodName) prog_19_method_57_code (6 : Nat) (Option.some Jvm.ClassFile.FieldType.int)) ∈ lw_all := lw_g (lw_at lw_m7 230 rfl) rfl
theorem q1728 : (Jvm.Cond.instanceMethod ({ cls := "MendReaderModel", name := "distance", desc := "(I)I" } : Jvm.MethodName)) ∈ lw_all := lw_g (lw_at lw_m7 232 rfl) rfl
theorem q1729 : (Jvm.Cond.selects "MendReaderModel" ({ cls := "MendReaderModel", name := "distance", desc := "(I)I" } : Jvm.MethodName) ({ cls := "MendReaderModel", name := "distance", desc := "(I)I" } : Jvm.MethodName)) ∈ lw_all := lw_g (lw_at lw_m7 233 rfl) rfl
theorem q1730 : (Jvm.Cond.code ({ cls := "MendReaderModel", name := "distance", desc := "(I)I" } : Jvm.MethodName) prog_19_method_58_code (8 : Nat) (Option.some Jvm.ClassFile.FieldType.int)) ∈ lw_all := lw_g (lw_at lw_m7 234 rfl) rfl
theorem q1732 : (Jvm.Cond.instanceMethod ({ cls := "MendReaderModel", name := "told", desc := "(I)I" } : Jvm.MethodName)) ∈ lw_all := lw_g (lw_at lw_m7 236 rfl) rfl
theorem q1733 : (Jvm.Cond.selects "MendReaderModel" ({ cls := "MendReaderModel", name := "told", desc := "(I)I" } : Jvm.MethodName) ({ cls := "MendReaderModel", name := "told", desc := "(I)I" } : Jvm.MethodName)) ∈ lw_all := lw_g (lw_at lw_m7 237 rfl) rfl
theorem q1734 : (Jvm.Cond.code ({ cls := "MendReaderModel", name := "told", desc := "(I)I" } : Jvm.MethodName) prog_19_method_59_code (2 : Nat) (Option.some Jvm.ClassFile.FieldType.int)) ∈ lw_all := lw_g (lw_at lw_m7 238 rfl) rfl
theorem q1736 : (Jvm.Cond.instanceMethod ({ cls := "MendReaderModel", name := "slip", desc := "(II)I" } : Jvm.MethodName)) ∈ lw_all := lw_g (lw_at lw_m8 0 rfl) rfl
theorem q1737 : (Jvm.Cond.selects "MendReaderModel" ({ cls := "MendReaderModel", name := "slip", desc := "(II)I" } : Jvm.MethodName) ({ cls := "MendReaderModel", name := "slip", desc := "(II)I" } : Jvm.MethodName)) ∈ lw_all := lw_g (lw_at lw_m8 1 rfl) rfl
theorem q1738 : (Jvm.Cond.code ({ cls := "MendReaderModel", name := "slip", desc := "(II)I" } : Jvm.MethodName) prog_19_method_60_code (3 : Nat) (Option.some Jvm.ClassFile.FieldType.int)) ∈ lw_all := lw_g (lw_at lw_m8 2 rfl) rfl
theorem q1740 : (Jvm.Cond.instanceMethod ({ cls := "MendReaderModel", name := "word", desc := "(I)I" } : Jvm.MethodName)) ∈ lw_all := lw_g (lw_at lw_m8 4 rfl) rfl
theorem q1741 : (Jvm.Cond.selects "MendReaderModel" ({ cls := "MendReaderModel", name := "word", desc := "(I)I" } : Jvm.MethodName) ({ cls := "MendReaderModel", name := "word", desc := "(I)I" } : Jvm.MethodName)) ∈ lw_all := lw_g (lw_at lw_m8 5 rfl) rfl
theorem q1742 : (Jvm.Cond.code ({ cls := "MendReaderModel", name := "word", desc := "(I)I" } : Jvm.MethodName) prog_19_method_61_code (2 : Nat) (Option.some Jvm.ClassFile.FieldType.int)) ∈ lw_all := lw_g (lw_at lw_m8 6 rfl) rfl
theorem q1744 : (Jvm.Cond.instanceMethod ({ cls := "MendReaderModel", name := "node", desc := "(II)I" } : Jvm.MethodName)) ∈ lw_all := lw_g (lw_at lw_m8 8 rfl) rfl
theorem q1745 : (Jvm.Cond.selects "MendReaderModel" ({ cls := "MendReaderModel", name := "node", desc := "(II)I" } : Jvm.MethodName) ({ cls := "MendReaderModel", name := "node", desc := "(II)I" } : Jvm.MethodName)) ∈ lw_all := lw_g (lw_at lw_m8 9 rfl) rfl
theorem q1746 : (Jvm.Cond.code ({ cls := "MendReaderModel", name := "node", desc := "(II)I" } : Jvm.MethodName) prog_19_method_62_code (3 : Nat) (Option.some Jvm.ClassFile.FieldType.int)) ∈ lw_all := lw_g (lw_at lw_m8 10 rfl) rfl
theorem q1748 : (Jvm.Cond.instanceMethod ({ cls := "MendReaderModel", name := "sure", desc := "(I)I" } : Jvm.MethodName)) ∈ lw_all := lw_g (lw_at lw_m8 12 rfl) rfl
theorem q1749 : (Jvm.Cond.selects "MendReaderModel" ({ cls := "MendReaderModel", name := "sure", desc := "(I)I" } : Jvm.MethodName) ({ cls := "MendReaderModel", name := "sure", desc := "(I)I" } : Jvm.MethodName)) ∈ lw_all := lw_g (lw_at lw_m8 13 rfl) rfl
theorem q1750 : (Jvm.Cond.code ({ cls := "MendReaderModel", name := "sure", desc := "(I)I" } : Jvm.MethodName) prog_19_method_63_code (3 : Nat) (Option.some Jvm.ClassFile.FieldType.int)) ∈ lw_all := lw_g (lw_at lw_m8 14 rfl) rfl
theorem q1752 : (Jvm.Cond.instanceMethod ({ cls := "MendReaderModel", name := "count", desc := "(I)I" } : Jvm.MethodName)) ∈ lw_all := lw_g (lw_at lw_m8 16 rfl) rfl
theorem q1753 : (Jvm.Cond.selects "MendReaderModel" ({ cls := "MendReaderModel", name := "count", desc := "(I)I" } : Jvm.MethodName) ({ cls := "MendReaderModel", name := "count", desc := "(I)I" } : Jvm.MethodName)) ∈ lw_all := lw_g (lw_at lw_m8 17 rfl) rfl
theorem q1754 : (Jvm.Cond.code ({ cls := "MendReaderModel", name := "count", desc := "(I)I" } : Jvm.MethodName) prog_19_method_64_code (5 : Nat) (Option.some Jvm.ClassFile.FieldType.int)) ∈ lw_all := lw_g (lw_at lw_m8 18 rfl) rfl
theorem q1777 : (Jvm.Cond.castable "MendReaderModel" "java/lang/Object") ∈ lw_tbl := lw_at lw_m8 41 rfl
theorem in_X3 : ∀ w ∈ wsX30, w ∈ lw_all := lw_in wsX30 [1390, 1392, 1394, 1396, 1398, 1400, 1402, 1404, 1406, 1408, 1410, 1412, 1414, 1416, 1418, 1420, 1422, 1424, 1426, 1428, 1430, 1432, 1434, 1436, 1438, 1440, 1442, 1444, 1446, 1448, 1450, 1452, 1454, 1456, 1458, 1460, 1462, 1464, 1466, 1468, 1470, 1472, 1474, 1476, 1478, 1480, 1482, 1484, 1486, 1488, 1490, 1492, 1494, 1496, 1498, 1500] (by decide +kernel) (by decide +kernel)
