/-! MendReader -/
set_option maxRecDepth 100000
def RX0 : String := "MendReader"
def TX0 : u_T := fun k => match k with
  | 0 => ("MendReader", "tokens", "I", false)
  | 1 => ("MendReader", "isFence", "[Z", true)
  | 2 => ("MendReader", "prices", "[[I", true)
  | 3 => ("MendReader", "turnedPrice", "I", false)
  | 4 => ("MendReader", "runPrice", "I", false)
  | 5 => ("MendReader", "names", "I", false)
  | 6 => ("MendReader", "start", "I", false)
  | 7 => ("MendReader", "rules", "Ljava/util/List;", true)
  | 8 => ("MendReader", "stuck", "Ljava/util/List;", true)
  | 9 => ("MendReader", "parted", "Ljava/util/List;", true)
  | 10 => ("MendReader", "fences", "Z", false)
  | 11 => ("MendReader", "text", "[I", false)
  | 12 => ("MendReader", "changed", "Z", false)
  | 13 => ("MendReader", "readCells", "[[[J", true)
  | 14 => ("MendReader", "treeCells", "[[[J", true)
  | 15 => ("MendReader", "restCells", "[[[J", true)
  | 16 => ("MendReader", "price", "I", false)
  | 17 => ("MendReader", "way", "LMendReader$Way;", false)
  | 18 => ("MendReader", "tree", "LMendReader$Tree;", false)
  | 19 => ("MendReader", "slips", "Ljava/util/List;", true)
  | 20 => ("MendReader", "latest", "LMendReader$Slips;", false)
  | 21 => ("MendReader", "words", "[I", true)
  | 22 => ("MendReader", "wordMany", "I", false)
  | _ => ("MendReader", "shelves", "[LMendReader$Shelf;", true)
def tyX0 : Nat → FieldType := fun k => match k with
  | 0 => .int
  | 1 => .array .boolean
  | 2 => .array (.array .int)
  | 3 => .int
  | 4 => .int
  | 5 => .int
  | 6 => .int
  | 7 => .object "java/util/List"
  | 8 => .object "java/util/List"
  | 9 => .object "java/util/List"
  | 10 => .boolean
  | 11 => .array .int
  | 12 => .boolean
  | 13 => .array (.array (.array .long))
  | 14 => .array (.array (.array .long))
  | 15 => .array (.array (.array .long))
  | 16 => .int
  | 17 => .object "MendReader$Way"
  | 18 => .object "MendReader$Tree"
  | 19 => .object "java/util/List"
  | 20 => .object "MendReader$Slips"
  | 21 => .array .int
  | 22 => .int
  | _ => .array (.object "MendReader$Shelf")
abbrev wsX00 : List Cond := u_ws RX0 TX0 24
set_option maxRecDepth 100000 in
theorem nmX0 : ∀ a, a < 24 → ∀ b, b < 24 → a ≠ b → (TX0 a).2.1 ≠ (TX0 b).2.1 := by decide +kernel
set_option maxRecDepth 100000 in
theorem tyX0_ok : ∀ k, k < 24 → parseFieldDescriptor (TX0 k).2.2.1 = some (tyX0 k) := by decide +kernel
abbrev cX0_init : ByteArray := prog_1_method_2_code
def yX0_init : MethodName := ⟨RX0, "<init>", "()V"⟩
def dkwX0_init_7 : List UInt8 := [16, 6, 189, 0, 76, 181, 0, 78, 177]
abbrev dktX0_init_7 : List UInt8 := dkwX0_init_7 ++ []
def dkwX0_init_6 : List UInt8 := [181, 0, 63, 42, 187, 0, 66, 89, 183, 0, 68, 181, 0, 69, 42, 17, 1, 44, 188, 10, 181, 0, 73, 42]
abbrev dktX0_init_6 : List UInt8 := dkwX0_init_6 ++ dktX0_init_7
def dkwX0_init_5 : List UInt8 := [16, 252, 181, 0, 53, 42, 187, 0, 56, 89, 183, 0, 58, 181, 0, 59, 42, 187, 0, 25, 89, 183, 0, 27]
abbrev dktX0_init_5 : List UInt8 := dkwX0_init_5 ++ dktX0_init_6
def dkwX0_init_4 : List UInt8 := [16, 55, 197, 0, 42, 3, 181, 0, 47, 42, 16, 96, 16, 55, 16, 55, 197, 0, 42, 3, 181, 0, 50, 42]
abbrev dktX0_init_4 : List UInt8 := dkwX0_init_4 ++ dktX0_init_5
def dkwX0_init_3 : List UInt8 := [188, 10, 181, 0, 38, 42, 16, 12, 16, 55, 16, 55, 197, 0, 42, 3, 181, 0, 44, 42, 16, 8, 16, 55]
abbrev dktX0_init_3 : List UInt8 := dkwX0_init_3 ++ dktX0_init_4
def dkwX0_init_2 : List UInt8 := [187, 0, 25, 89, 183, 0, 27, 181, 0, 32, 42, 187, 0, 25, 89, 183, 0, 27, 181, 0, 35, 42, 3]
abbrev dktX0_init_2 : List UInt8 := dkwX0_init_2 ++ dktX0_init_3
def dkwX0_init_1 : List UInt8 := [16, 10, 181, 0, 18, 42, 16, 15, 181, 0, 22, 42, 187, 0, 25, 89, 183, 0, 27, 181, 0, 28, 42]
abbrev dktX0_init_1 : List UInt8 := dkwX0_init_1 ++ dktX0_init_2
def dkwX0_init_0 : List UInt8 := [42, 183, 0, 3, 42, 16, 12, 188, 4, 181, 0, 9, 42, 6, 16, 12, 197, 0, 13, 2, 181, 0, 15, 42]
abbrev dktX0_init_0 : List UInt8 := dkwX0_init_0 ++ dktX0_init_1
theorem dksX0_init_0 : cX0_init.data.toList.drop 0 = dktX0_init_0 := by decide +kernel
theorem dksX0_init_1 : cX0_init.data.toList.drop 24 = dktX0_init_1 := dk_seg dksX0_init_0 24 rfl rfl
theorem dksX0_init_2 : cX0_init.data.toList.drop 47 = dktX0_init_2 := dk_seg dksX0_init_1 23 rfl rfl
theorem dksX0_init_3 : cX0_init.data.toList.drop 70 = dktX0_init_3 := dk_seg dksX0_init_2 23 rfl rfl
theorem dksX0_init_4 : cX0_init.data.toList.drop 94 = dktX0_init_4 := dk_seg dksX0_init_3 24 rfl rfl
theorem dksX0_init_5 : cX0_init.data.toList.drop 118 = dktX0_init_5 := dk_seg dksX0_init_4 24 rfl rfl
theorem dksX0_init_6 : cX0_init.data.toList.drop 142 = dktX0_init_6 := dk_seg dksX0_init_5 24 rfl rfl
theorem dksX0_init_7 : cX0_init.data.toList.drop 166 = dktX0_init_7 := dk_seg dksX0_init_6 24 rfl rfl
theorem dX0_init_0 : decode cX0_init 0 = .ok (.aload_n 0, 1) := dk_42 (dk_at dksX0_init_0 0 rfl rfl)
theorem dX0_init_1 : decode cX0_init 1 = .ok (.invokespecial 3, 3) := dk_183 0 3 (dk_at dksX0_init_0 1 rfl rfl)
theorem dX0_init_4 : decode cX0_init 4 = .ok (.aload_n 0, 1) := dk_42 (dk_at dksX0_init_0 4 rfl rfl)
theorem dX0_init_5 : decode cX0_init 5 = .ok (.bipush 12, 2) := dk_16 12 (dk_at dksX0_init_0 5 rfl rfl)
theorem dX0_init_7 : decode cX0_init 7 = .ok (.newarray .boolean, 2) := dk_188_4 (dk_at dksX0_init_0 7 rfl rfl)
theorem dX0_init_9 : decode cX0_init 9 = .ok (.putfield 9, 3) := dk_181 0 9 (dk_at dksX0_init_0 9 rfl rfl)
theorem dX0_init_12 : decode cX0_init 12 = .ok (.aload_n 0, 1) := dk_42 (dk_at dksX0_init_0 12 rfl rfl)
theorem dX0_init_13 : decode cX0_init 13 = .ok (.iconst 3, 1) := dk_6 (dk_at dksX0_init_0 13 rfl rfl)
theorem dX0_init_14 : decode cX0_init 14 = .ok (.bipush 12, 2) := dk_16 12 (dk_at dksX0_init_0 14 rfl rfl)
theorem dX0_init_16 : decode cX0_init 16 = .ok (.multianewarray 13 2, 4) := by decide +kernel
theorem dX0_init_20 : decode cX0_init 20 = .ok (.putfield 15, 3) := dk_181 0 15 (dk_at dksX0_init_0 20 rfl rfl)
theorem dX0_init_23 : decode cX0_init 23 = .ok (.aload_n 0, 1) := dk_42 (dk_at dksX0_init_0 23 rfl rfl)
theorem dX0_init_24 : decode cX0_init 24 = .ok (.bipush 10, 2) := dk_16 10 (dk_at dksX0_init_1 0 rfl rfl)
theorem dX0_init_26 : decode cX0_init 26 = .ok (.putfield 18, 3) := dk_181 0 18 (dk_at dksX0_init_1 2 rfl rfl)
theorem dX0_init_29 : decode cX0_init 29 = .ok (.aload_n 0, 1) := dk_42 (dk_at dksX0_init_1 5 rfl rfl)
theorem dX0_init_30 : decode cX0_init 30 = .ok (.bipush 15, 2) := dk_16 15 (dk_at dksX0_init_1 6 rfl rfl)
theorem dX0_init_32 : decode cX0_init 32 = .ok (.putfield 22, 3) := dk_181 0 22 (dk_at dksX0_init_1 8 rfl rfl)
theorem dX0_init_35 : decode cX0_init 35 = .ok (.aload_n 0, 1) := dk_42 (dk_at dksX0_init_1 11 rfl rfl)
theorem dX0_init_36 : decode cX0_init 36 = .ok (.new 25, 3) := dk_187 0 25 (dk_at dksX0_init_1 12 rfl rfl)
theorem dX0_init_39 : decode cX0_init 39 = .ok (.dup, 1) := dk_89 (dk_at dksX0_init_1 15 rfl rfl)
theorem dX0_init_40 : decode cX0_init 40 = .ok (.invokespecial 27, 3) := dk_183 0 27 (dk_at dksX0_init_1 16 rfl rfl)
theorem dX0_init_43 : decode cX0_init 43 = .ok (.putfield 28, 3) := dk_181 0 28 (dk_at dksX0_init_1 19 rfl rfl)
theorem dX0_init_46 : decode cX0_init 46 = .ok (.aload_n 0, 1) := dk_42 (dk_at dksX0_init_1 22 rfl rfl)
theorem dX0_init_47 : decode cX0_init 47 = .ok (.new 25, 3) := dk_187 0 25 (dk_at dksX0_init_2 0 rfl rfl)
theorem dX0_init_50 : decode cX0_init 50 = .ok (.dup, 1) := dk_89 (dk_at dksX0_init_2 3 rfl rfl)
theorem dX0_init_51 : decode cX0_init 51 = .ok (.invokespecial 27, 3) := dk_183 0 27 (dk_at dksX0_init_2 4 rfl rfl)
theorem dX0_init_54 : decode cX0_init 54 = .ok (.putfield 32, 3) := dk_181 0 32 (dk_at dksX0_init_2 7 rfl rfl)
theorem dX0_init_57 : decode cX0_init 57 = .ok (.aload_n 0, 1) := dk_42 (dk_at dksX0_init_2 10 rfl rfl)
theorem dX0_init_58 : decode cX0_init 58 = .ok (.new 25, 3) := dk_187 0 25 (dk_at dksX0_init_2 11 rfl rfl)
theorem dX0_init_61 : decode cX0_init 61 = .ok (.dup, 1) := dk_89 (dk_at dksX0_init_2 14 rfl rfl)
theorem dX0_init_62 : decode cX0_init 62 = .ok (.invokespecial 27, 3) := dk_183 0 27 (dk_at dksX0_init_2 15 rfl rfl)
theorem dX0_init_65 : decode cX0_init 65 = .ok (.putfield 35, 3) := dk_181 0 35 (dk_at dksX0_init_2 18 rfl rfl)
theorem dX0_init_68 : decode cX0_init 68 = .ok (.aload_n 0, 1) := dk_42 (dk_at dksX0_init_2 21 rfl rfl)
theorem dX0_init_69 : decode cX0_init 69 = .ok (.iconst 0, 1) := dk_3 (dk_at dksX0_init_2 22 rfl rfl)
theorem dX0_init_70 : decode cX0_init 70 = .ok (.newarray .int, 2) := dk_188_10 (dk_at dksX0_init_3 0 rfl rfl)
theorem dX0_init_72 : decode cX0_init 72 = .ok (.putfield 38, 3) := dk_181 0 38 (dk_at dksX0_init_3 2 rfl rfl)
theorem dX0_init_75 : decode cX0_init 75 = .ok (.aload_n 0, 1) := dk_42 (dk_at dksX0_init_3 5 rfl rfl)
theorem dX0_init_76 : decode cX0_init 76 = .ok (.bipush 12, 2) := dk_16 12 (dk_at dksX0_init_3 6 rfl rfl)
theorem dX0_init_78 : decode cX0_init 78 = .ok (.bipush 55, 2) := dk_16 55 (dk_at dksX0_init_3 8 rfl rfl)
theorem dX0_init_80 : decode cX0_init 80 = .ok (.bipush 55, 2) := dk_16 55 (dk_at dksX0_init_3 10 rfl rfl)
theorem dX0_init_82 : decode cX0_init 82 = .ok (.multianewarray 42 3, 4) := by decide +kernel
theorem dX0_init_86 : decode cX0_init 86 = .ok (.putfield 44, 3) := dk_181 0 44 (dk_at dksX0_init_3 16 rfl rfl)
theorem dX0_init_89 : decode cX0_init 89 = .ok (.aload_n 0, 1) := dk_42 (dk_at dksX0_init_3 19 rfl rfl)
theorem dX0_init_90 : decode cX0_init 90 = .ok (.bipush 8, 2) := dk_16 8 (dk_at dksX0_init_3 20 rfl rfl)
theorem dX0_init_92 : decode cX0_init 92 = .ok (.bipush 55, 2) := dk_16 55 (dk_at dksX0_init_3 22 rfl rfl)
theorem dX0_init_94 : decode cX0_init 94 = .ok (.bipush 55, 2) := dk_16 55 (dk_at dksX0_init_4 0 rfl rfl)
theorem dX0_init_96 : decode cX0_init 96 = .ok (.multianewarray 42 3, 4) := by decide +kernel
theorem dX0_init_100 : decode cX0_init 100 = .ok (.putfield 47, 3) := dk_181 0 47 (dk_at dksX0_init_4 6 rfl rfl)
theorem dX0_init_103 : decode cX0_init 103 = .ok (.aload_n 0, 1) := dk_42 (dk_at dksX0_init_4 9 rfl rfl)
theorem dX0_init_104 : decode cX0_init 104 = .ok (.bipush 96, 2) := dk_16 96 (dk_at dksX0_init_4 10 rfl rfl)
theorem dX0_init_106 : decode cX0_init 106 = .ok (.bipush 55, 2) := dk_16 55 (dk_at dksX0_init_4 12 rfl rfl)
theorem dX0_init_108 : decode cX0_init 108 = .ok (.bipush 55, 2) := dk_16 55 (dk_at dksX0_init_4 14 rfl rfl)
theorem dX0_init_110 : decode cX0_init 110 = .ok (.multianewarray 42 3, 4) := by decide +kernel
theorem dX0_init_114 : decode cX0_init 114 = .ok (.putfield 50, 3) := dk_181 0 50 (dk_at dksX0_init_4 20 rfl rfl)
theorem dX0_init_117 : decode cX0_init 117 = .ok (.aload_n 0, 1) := dk_42 (dk_at dksX0_init_4 23 rfl rfl)
theorem dX0_init_118 : decode cX0_init 118 = .ok (.bipush (-4), 2) := dk_16 252 (dk_at dksX0_init_5 0 rfl rfl)
theorem dX0_init_120 : decode cX0_init 120 = .ok (.putfield 53, 3) := dk_181 0 53 (dk_at dksX0_init_5 2 rfl rfl)
theorem dX0_init_123 : decode cX0_init 123 = .ok (.aload_n 0, 1) := dk_42 (dk_at dksX0_init_5 5 rfl rfl)
theorem dX0_init_124 : decode cX0_init 124 = .ok (.new 56, 3) := dk_187 0 56 (dk_at dksX0_init_5 6 rfl rfl)
theorem dX0_init_127 : decode cX0_init 127 = .ok (.dup, 1) := dk_89 (dk_at dksX0_init_5 9 rfl rfl)
theorem dX0_init_128 : decode cX0_init 128 = .ok (.invokespecial 58, 3) := dk_183 0 58 (dk_at dksX0_init_5 10 rfl rfl)
theorem dX0_init_131 : decode cX0_init 131 = .ok (.putfield 59, 3) := dk_181 0 59 (dk_at dksX0_init_5 13 rfl rfl)
theorem dX0_init_134 : decode cX0_init 134 = .ok (.aload_n 0, 1) := dk_42 (dk_at dksX0_init_5 16 rfl rfl)
theorem dX0_init_135 : decode cX0_init 135 = .ok (.new 25, 3) := dk_187 0 25 (dk_at dksX0_init_5 17 rfl rfl)
theorem dX0_init_138 : decode cX0_init 138 = .ok (.dup, 1) := dk_89 (dk_at dksX0_init_5 20 rfl rfl)
theorem dX0_init_139 : decode cX0_init 139 = .ok (.invokespecial 27, 3) := dk_183 0 27 (dk_at dksX0_init_5 21 rfl rfl)
theorem dX0_init_142 : decode cX0_init 142 = .ok (.putfield 63, 3) := dk_181 0 63 (dk_at dksX0_init_6 0 rfl rfl)
theorem dX0_init_145 : decode cX0_init 145 = .ok (.aload_n 0, 1) := dk_42 (dk_at dksX0_init_6 3 rfl rfl)
theorem dX0_init_146 : decode cX0_init 146 = .ok (.new 66, 3) := dk_187 0 66 (dk_at dksX0_init_6 4 rfl rfl)
theorem dX0_init_149 : decode cX0_init 149 = .ok (.dup, 1) := dk_89 (dk_at dksX0_init_6 7 rfl rfl)
theorem dX0_init_150 : decode cX0_init 150 = .ok (.invokespecial 68, 3) := dk_183 0 68 (dk_at dksX0_init_6 8 rfl rfl)
theorem dX0_init_153 : decode cX0_init 153 = .ok (.putfield 69, 3) := dk_181 0 69 (dk_at dksX0_init_6 11 rfl rfl)
theorem dX0_init_156 : decode cX0_init 156 = .ok (.aload_n 0, 1) := dk_42 (dk_at dksX0_init_6 14 rfl rfl)
theorem dX0_init_157 : decode cX0_init 157 = .ok (.sipush 300, 3) := dk_17 1 44 (dk_at dksX0_init_6 15 rfl rfl)
theorem dX0_init_160 : decode cX0_init 160 = .ok (.newarray .int, 2) := dk_188_10 (dk_at dksX0_init_6 18 rfl rfl)
theorem dX0_init_162 : decode cX0_init 162 = .ok (.putfield 73, 3) := dk_181 0 73 (dk_at dksX0_init_6 20 rfl rfl)
theorem dX0_init_165 : decode cX0_init 165 = .ok (.aload_n 0, 1) := dk_42 (dk_at dksX0_init_6 23 rfl rfl)
theorem dX0_init_166 : decode cX0_init 166 = .ok (.bipush 6, 2) := dk_16 6 (dk_at dksX0_init_7 0 rfl rfl)
theorem dX0_init_168 : decode cX0_init 168 = .ok (.anewarray 76, 3) := dk_189 0 76 (dk_at dksX0_init_7 2 rfl rfl)
theorem dX0_init_171 : decode cX0_init 171 = .ok (.putfield 78, 3) := dk_181 0 78 (dk_at dksX0_init_7 5 rfl rfl)
theorem dX0_init_174 : decode cX0_init 174 = .ok (.return_, 1) := dk_177 (dk_at dksX0_init_7 8 rfl rfl)
abbrev cX0_token : ByteArray := prog_1_method_5_code
def yX0_token : MethodName := ⟨RX0, "token", "(Z)I"⟩
def dkwX0_token_3 : List UInt8 := [42, 4, 181, 0, 92, 42, 180, 0, 82, 4, 100, 172]
abbrev dktX0_token_3 : List UInt8 := dkwX0_token_3 ++ []
def dkwX0_token_2 : List UInt8 := [79, 42, 180, 0, 15, 5, 50, 42, 180, 0, 82, 16, 12, 79, 42, 89, 180, 0, 82, 4, 96, 181, 0, 82]
abbrev dktX0_token_2 : List UInt8 := dkwX0_token_2 ++ dktX0_token_3
def dkwX0_token_1 : List UInt8 := [180, 0, 15, 3, 50, 42, 180, 0, 82, 16, 10, 79, 42, 180, 0, 15, 4, 50, 42, 180, 0, 82, 16, 10]
abbrev dktX0_token_1 : List UInt8 := dkwX0_token_1 ++ dktX0_token_2
def dkwX0_token_0 : List UInt8 := [42, 180, 0, 82, 16, 12, 160, 0, 6, 16, 254, 172, 42, 180, 0, 9, 42, 180, 0, 82, 27, 84, 42]
abbrev dktX0_token_0 : List UInt8 := dkwX0_token_0 ++ dktX0_token_1
theorem dksX0_token_0 : cX0_token.data.toList.drop 0 = dktX0_token_0 := by decide +kernel
theorem dksX0_token_1 : cX0_token.data.toList.drop 23 = dktX0_token_1 := dk_seg dksX0_token_0 23 rfl rfl
theorem dksX0_token_2 : cX0_token.data.toList.drop 47 = dktX0_token_2 := dk_seg dksX0_token_1 24 rfl rfl
theorem dksX0_token_3 : cX0_token.data.toList.drop 71 = dktX0_token_3 := dk_seg dksX0_token_2 24 rfl rfl
theorem dX0_token_0 : decode cX0_token 0 = .ok (.aload_n 0, 1) := dk_42 (dk_at dksX0_token_0 0 rfl rfl)
theorem dX0_token_1 : decode cX0_token 1 = .ok (.getfield 82, 3) := dk_180 0 82 (dk_at dksX0_token_0 1 rfl rfl)
theorem dX0_token_4 : decode cX0_token 4 = .ok (.bipush 12, 2) := dk_16 12 (dk_at dksX0_token_0 4 rfl rfl)
theorem dX0_token_6 : decode cX0_token 6 = .ok (.if_icmp .ne 6, 3) := dk_160 0 6 (dk_at dksX0_token_0 6 rfl rfl)
theorem dX0_token_9 : decode cX0_token 9 = .ok (.bipush (-2), 2) := dk_16 254 (dk_at dksX0_token_0 9 rfl rfl)
theorem dX0_token_11 : decode cX0_token 11 = .ok (.ireturn, 1) := dk_172 (dk_at dksX0_token_0 11 rfl rfl)
theorem dX0_token_12 : decode cX0_token 12 = .ok (.aload_n 0, 1) := dk_42 (dk_at dksX0_token_0 12 rfl rfl)
theorem dX0_token_13 : decode cX0_token 13 = .ok (.getfield 9, 3) := dk_180 0 9 (dk_at dksX0_token_0 13 rfl rfl)
theorem dX0_token_16 : decode cX0_token 16 = .ok (.aload_n 0, 1) := dk_42 (dk_at dksX0_token_0 16 rfl rfl)
theorem dX0_token_17 : decode cX0_token 17 = .ok (.getfield 82, 3) := dk_180 0 82 (dk_at dksX0_token_0 17 rfl rfl)
theorem dX0_token_20 : decode cX0_token 20 = .ok (.iload_n 1, 1) := dk_27 (dk_at dksX0_token_0 20 rfl rfl)
theorem dX0_token_21 : decode cX0_token 21 = .ok (.bastore, 1) := dk_84 (dk_at dksX0_token_0 21 rfl rfl)
theorem dX0_token_22 : decode cX0_token 22 = .ok (.aload_n 0, 1) := dk_42 (dk_at dksX0_token_0 22 rfl rfl)
theorem dX0_token_23 : decode cX0_token 23 = .ok (.getfield 15, 3) := dk_180 0 15 (dk_at dksX0_token_1 0 rfl rfl)
theorem dX0_token_26 : decode cX0_token 26 = .ok (.iconst 0, 1) := dk_3 (dk_at dksX0_token_1 3 rfl rfl)
theorem dX0_token_27 : decode cX0_token 27 = .ok (.aaload, 1) := dk_50 (dk_at dksX0_token_1 4 rfl rfl)
theorem dX0_token_28 : decode cX0_token 28 = .ok (.aload_n 0, 1) := dk_42 (dk_at dksX0_token_1 5 rfl rfl)
theorem dX0_token_29 : decode cX0_token 29 = .ok (.getfield 82, 3) := dk_180 0 82 (dk_at dksX0_token_1 6 rfl rfl)
theorem dX0_token_32 : decode cX0_token 32 = .ok (.bipush 10, 2) := dk_16 10 (dk_at dksX0_token_1 9 rfl rfl)
theorem dX0_token_34 : decode cX0_token 34 = .ok (.iastore, 1) := dk_79 (dk_at dksX0_token_1 11 rfl rfl)
theorem dX0_token_35 : decode cX0_token 35 = .ok (.aload_n 0, 1) := dk_42 (dk_at dksX0_token_1 12 rfl rfl)
theorem dX0_token_36 : decode cX0_token 36 = .ok (.getfield 15, 3) := dk_180 0 15 (dk_at dksX0_token_1 13 rfl rfl)
theorem dX0_token_39 : decode cX0_token 39 = .ok (.iconst 1, 1) := dk_4 (dk_at dksX0_token_1 16 rfl rfl)
theorem dX0_token_40 : decode cX0_token 40 = .ok (.aaload, 1) := dk_50 (dk_at dksX0_token_1 17 rfl rfl)
theorem dX0_token_41 : decode cX0_token 41 = .ok (.aload_n 0, 1) := dk_42 (dk_at dksX0_token_1 18 rfl rfl)
theorem dX0_token_42 : decode cX0_token 42 = .ok (.getfield 82, 3) := dk_180 0 82 (dk_at dksX0_token_1 19 rfl rfl)
theorem dX0_token_45 : decode cX0_token 45 = .ok (.bipush 10, 2) := dk_16 10 (dk_at dksX0_token_1 22 rfl rfl)
theorem dX0_token_47 : decode cX0_token 47 = .ok (.iastore, 1) := dk_79 (dk_at dksX0_token_2 0 rfl rfl)
theorem dX0_token_48 : decode cX0_token 48 = .ok (.aload_n 0, 1) := dk_42 (dk_at dksX0_token_2 1 rfl rfl)
theorem dX0_token_49 : decode cX0_token 49 = .ok (.getfield 15, 3) := dk_180 0 15 (dk_at dksX0_token_2 2 rfl rfl)
theorem dX0_token_52 : decode cX0_token 52 = .ok (.iconst 2, 1) := dk_5 (dk_at dksX0_token_2 5 rfl rfl)
theorem dX0_token_53 : decode cX0_token 53 = .ok (.aaload, 1) := dk_50 (dk_at dksX0_token_2 6 rfl rfl)
theorem dX0_token_54 : decode cX0_token 54 = .ok (.aload_n 0, 1) := dk_42 (dk_at dksX0_token_2 7 rfl rfl)
theorem dX0_token_55 : decode cX0_token 55 = .ok (.getfield 82, 3) := dk_180 0 82 (dk_at dksX0_token_2 8 rfl rfl)
theorem dX0_token_58 : decode cX0_token 58 = .ok (.bipush 12, 2) := dk_16 12 (dk_at dksX0_token_2 11 rfl rfl)
theorem dX0_token_60 : decode cX0_token 60 = .ok (.iastore, 1) := dk_79 (dk_at dksX0_token_2 13 rfl rfl)
theorem dX0_token_61 : decode cX0_token 61 = .ok (.aload_n 0, 1) := dk_42 (dk_at dksX0_token_2 14 rfl rfl)
theorem dX0_token_62 : decode cX0_token 62 = .ok (.dup, 1) := dk_89 (dk_at dksX0_token_2 15 rfl rfl)
theorem dX0_token_63 : decode cX0_token 63 = .ok (.getfield 82, 3) := dk_180 0 82 (dk_at dksX0_token_2 16 rfl rfl)
theorem dX0_token_66 : decode cX0_token 66 = .ok (.iconst 1, 1) := dk_4 (dk_at dksX0_token_2 19 rfl rfl)
theorem dX0_token_67 : decode cX0_token 67 = .ok (.iadd, 1) := dk_96 (dk_at dksX0_token_2 20 rfl rfl)
theorem dX0_token_68 : decode cX0_token 68 = .ok (.putfield 82, 3) := dk_181 0 82 (dk_at dksX0_token_2 21 rfl rfl)
theorem dX0_token_71 : decode cX0_token 71 = .ok (.aload_n 0, 1) := dk_42 (dk_at dksX0_token_3 0 rfl rfl)
theorem dX0_token_72 : decode cX0_token 72 = .ok (.iconst 1, 1) := dk_4 (dk_at dksX0_token_3 1 rfl rfl)
theorem dX0_token_73 : decode cX0_token 73 = .ok (.putfield 92, 3) := dk_181 0 92 (dk_at dksX0_token_3 2 rfl rfl)
theorem dX0_token_76 : decode cX0_token 76 = .ok (.aload_n 0, 1) := dk_42 (dk_at dksX0_token_3 5 rfl rfl)
theorem dX0_token_77 : decode cX0_token 77 = .ok (.getfield 82, 3) := dk_180 0 82 (dk_at dksX0_token_3 6 rfl rfl)
theorem dX0_token_80 : decode cX0_token 80 = .ok (.iconst 1, 1) := dk_4 (dk_at dksX0_token_3 9 rfl rfl)
theorem dX0_token_81 : decode cX0_token 81 = .ok (.isub, 1) := dk_100 (dk_at dksX0_token_3 10 rfl rfl)
theorem dX0_token_82 : decode cX0_token 82 = .ok (.ireturn, 1) := dk_172 (dk_at dksX0_token_3 11 rfl rfl)
abbrev cX0_name : ByteArray := prog_1_method_6_code
def yX0_name : MethodName := ⟨RX0, "name", "()I"⟩
def dkwX0_name_1 : List UInt8 := [181, 0, 92, 42, 180, 0, 89, 4, 100, 172]
abbrev dktX0_name_1 : List UInt8 := dkwX0_name_1 ++ []
def dkwX0_name_0 : List UInt8 := [42, 180, 0, 89, 16, 8, 160, 0, 6, 16, 254, 172, 42, 89, 180, 0, 89, 4, 96, 181, 0, 89, 42, 4]
abbrev dktX0_name_0 : List UInt8 := dkwX0_name_0 ++ dktX0_name_1
theorem dksX0_name_0 : cX0_name.data.toList.drop 0 = dktX0_name_0 := by decide +kernel
theorem dksX0_name_1 : cX0_name.data.toList.drop 24 = dktX0_name_1 := dk_seg dksX0_name_0 24 rfl rfl
theorem dX0_name_0 : decode cX0_name 0 = .ok (.aload_n 0, 1) := dk_42 (dk_at dksX0_name_0 0 rfl rfl)
theorem dX0_name_1 : decode cX0_name 1 = .ok (.getfield 89, 3) := dk_180 0 89 (dk_at dksX0_name_0 1 rfl rfl)
theorem dX0_name_4 : decode cX0_name 4 = .ok (.bipush 8, 2) := dk_16 8 (dk_at dksX0_name_0 4 rfl rfl)
theorem dX0_name_6 : decode cX0_name 6 = .ok (.if_icmp .ne 6, 3) := dk_160 0 6 (dk_at dksX0_name_0 6 rfl rfl)
theorem dX0_name_9 : decode cX0_name 9 = .ok (.bipush (-2), 2) := dk_16 254 (dk_at dksX0_name_0 9 rfl rfl)
theorem dX0_name_11 : decode cX0_name 11 = .ok (.ireturn, 1) := dk_172 (dk_at dksX0_name_0 11 rfl rfl)
theorem dX0_name_12 : decode cX0_name 12 = .ok (.aload_n 0, 1) := dk_42 (dk_at dksX0_name_0 12 rfl rfl)
theorem dX0_name_13 : decode cX0_name 13 = .ok (.dup, 1) := dk_89 (dk_at dksX0_name_0 13 rfl rfl)
theorem dX0_name_14 : decode cX0_name 14 = .ok (.getfield 89, 3) := dk_180 0 89 (dk_at dksX0_name_0 14 rfl rfl)
theorem dX0_name_17 : decode cX0_name 17 = .ok (.iconst 1, 1) := dk_4 (dk_at dksX0_name_0 17 rfl rfl)
theorem dX0_name_18 : decode cX0_name 18 = .ok (.iadd, 1) := dk_96 (dk_at dksX0_name_0 18 rfl rfl)
theorem dX0_name_19 : decode cX0_name 19 = .ok (.putfield 89, 3) := dk_181 0 89 (dk_at dksX0_name_0 19 rfl rfl)
theorem dX0_name_22 : decode cX0_name 22 = .ok (.aload_n 0, 1) := dk_42 (dk_at dksX0_name_0 22 rfl rfl)
theorem dX0_name_23 : decode cX0_name 23 = .ok (.iconst 1, 1) := dk_4 (dk_at dksX0_name_0 23 rfl rfl)
theorem dX0_name_24 : decode cX0_name 24 = .ok (.putfield 92, 3) := dk_181 0 92 (dk_at dksX0_name_1 0 rfl rfl)
theorem dX0_name_27 : decode cX0_name 27 = .ok (.aload_n 0, 1) := dk_42 (dk_at dksX0_name_1 3 rfl rfl)
theorem dX0_name_28 : decode cX0_name 28 = .ok (.getfield 89, 3) := dk_180 0 89 (dk_at dksX0_name_1 4 rfl rfl)
theorem dX0_name_31 : decode cX0_name 31 = .ok (.iconst 1, 1) := dk_4 (dk_at dksX0_name_1 7 rfl rfl)
theorem dX0_name_32 : decode cX0_name 32 = .ok (.isub, 1) := dk_100 (dk_at dksX0_name_1 8 rfl rfl)
theorem dX0_name_33 : decode cX0_name 33 = .ok (.ireturn, 1) := dk_172 (dk_at dksX0_name_1 9 rfl rfl)
abbrev cX0_rule : ByteArray := prog_1_method_7_code
def yX0_rule : MethodName := ⟨RX0, "rule", "(I)I"⟩
def dkwX0_rule_2 : List UInt8 := [185, 0, 111, 2, 0, 87, 42, 4, 181, 0, 92, 42, 180, 0, 28, 185, 0, 100, 1, 0, 4, 100, 172]
abbrev dktX0_rule_2 : List UInt8 := dkwX0_rule_2 ++ []
def dkwX0_rule_1 : List UInt8 := [16, 254, 172, 42, 180, 0, 28, 187, 0, 106, 89, 42, 180, 0, 28, 185, 0, 100, 1, 0, 27, 183, 0, 108]
abbrev dktX0_rule_1 : List UInt8 := dkwX0_rule_1 ++ dktX0_rule_2
def dkwX0_rule_0 : List UInt8 := [42, 27, 182, 0, 96, 154, 0, 5, 2, 172, 42, 180, 0, 28, 185, 0, 100, 1, 0, 16, 24, 160, 0, 6]
abbrev dktX0_rule_0 : List UInt8 := dkwX0_rule_0 ++ dktX0_rule_1
theorem dksX0_rule_0 : cX0_rule.data.toList.drop 0 = dktX0_rule_0 := by decide +kernel
theorem dksX0_rule_1 : cX0_rule.data.toList.drop 24 = dktX0_rule_1 := dk_seg dksX0_rule_0 24 rfl rfl
theorem dksX0_rule_2 : cX0_rule.data.toList.drop 48 = dktX0_rule_2 := dk_seg dksX0_rule_1 24 rfl rfl
theorem dX0_rule_0 : decode cX0_rule 0 = .ok (.aload_n 0, 1) := dk_42 (dk_at dksX0_rule_0 0 rfl rfl)
theorem dX0_rule_1 : decode cX0_rule 1 = .ok (.iload_n 1, 1) := dk_27 (dk_at dksX0_rule_0 1 rfl rfl)
theorem dX0_rule_2 : decode cX0_rule 2 = .ok (.invokevirtual 96, 3) := dk_182 0 96 (dk_at dksX0_rule_0 2 rfl rfl)
theorem dX0_rule_5 : decode cX0_rule 5 = .ok (.ifCond .ne 5, 3) := dk_154 0 5 (dk_at dksX0_rule_0 5 rfl rfl)
theorem dX0_rule_8 : decode cX0_rule 8 = .ok (.iconst (-1), 1) := dk_2 (dk_at dksX0_rule_0 8 rfl rfl)
theorem dX0_rule_9 : decode cX0_rule 9 = .ok (.ireturn, 1) := dk_172 (dk_at dksX0_rule_0 9 rfl rfl)
theorem dX0_rule_10 : decode cX0_rule 10 = .ok (.aload_n 0, 1) := dk_42 (dk_at dksX0_rule_0 10 rfl rfl)
theorem dX0_rule_11 : decode cX0_rule 11 = .ok (.getfield 28, 3) := dk_180 0 28 (dk_at dksX0_rule_0 11 rfl rfl)
theorem dX0_rule_14 : decode cX0_rule 14 = .ok (.invokeinterface 100 1, 5) := by decide +kernel
theorem dX0_rule_19 : decode cX0_rule 19 = .ok (.bipush 24, 2) := dk_16 24 (dk_at dksX0_rule_0 19 rfl rfl)
theorem dX0_rule_21 : decode cX0_rule 21 = .ok (.if_icmp .ne 6, 3) := dk_160 0 6 (dk_at dksX0_rule_0 21 rfl rfl)
theorem dX0_rule_24 : decode cX0_rule 24 = .ok (.bipush (-2), 2) := dk_16 254 (dk_at dksX0_rule_1 0 rfl rfl)
theorem dX0_rule_26 : decode cX0_rule 26 = .ok (.ireturn, 1) := dk_172 (dk_at dksX0_rule_1 2 rfl rfl)
theorem dX0_rule_27 : decode cX0_rule 27 = .ok (.aload_n 0, 1) := dk_42 (dk_at dksX0_rule_1 3 rfl rfl)
theorem dX0_rule_28 : decode cX0_rule 28 = .ok (.getfield 28, 3) := dk_180 0 28 (dk_at dksX0_rule_1 4 rfl rfl)
theorem dX0_rule_31 : decode cX0_rule 31 = .ok (.new 106, 3) := dk_187 0 106 (dk_at dksX0_rule_1 7 rfl rfl)
theorem dX0_rule_34 : decode cX0_rule 34 = .ok (.dup, 1) := dk_89 (dk_at dksX0_rule_1 10 rfl rfl)
theorem dX0_rule_35 : decode cX0_rule 35 = .ok (.aload_n 0, 1) := dk_42 (dk_at dksX0_rule_1 11 rfl rfl)
theorem dX0_rule_36 : decode cX0_rule 36 = .ok (.getfield 28, 3) := dk_180 0 28 (dk_at dksX0_rule_1 12 rfl rfl)
theorem dX0_rule_39 : decode cX0_rule 39 = .ok (.invokeinterface 100 1, 5) := by decide +kernel
theorem dX0_rule_44 : decode cX0_rule 44 = .ok (.iload_n 1, 1) := dk_27 (dk_at dksX0_rule_1 20 rfl rfl)
theorem dX0_rule_45 : decode cX0_rule 45 = .ok (.invokespecial 108, 3) := dk_183 0 108 (dk_at dksX0_rule_1 21 rfl rfl)
theorem dX0_rule_48 : decode cX0_rule 48 = .ok (.invokeinterface 111 2, 5) := by decide +kernel
theorem dX0_rule_53 : decode cX0_rule 53 = .ok (.pop, 1) := dk_87 (dk_at dksX0_rule_2 5 rfl rfl)
theorem dX0_rule_54 : decode cX0_rule 54 = .ok (.aload_n 0, 1) := dk_42 (dk_at dksX0_rule_2 6 rfl rfl)
theorem dX0_rule_55 : decode cX0_rule 55 = .ok (.iconst 1, 1) := dk_4 (dk_at dksX0_rule_2 7 rfl rfl)
theorem dX0_rule_56 : decode cX0_rule 56 = .ok (.putfield 92, 3) := dk_181 0 92 (dk_at dksX0_rule_2 8 rfl rfl)
theorem dX0_rule_59 : decode cX0_rule 59 = .ok (.aload_n 0, 1) := dk_42 (dk_at dksX0_rule_2 11 rfl rfl)
theorem dX0_rule_60 : decode cX0_rule 60 = .ok (.getfield 28, 3) := dk_180 0 28 (dk_at dksX0_rule_2 12 rfl rfl)
theorem dX0_rule_63 : decode cX0_rule 63 = .ok (.invokeinterface 100 1, 5) := by decide +kernel
theorem dX0_rule_68 : decode cX0_rule 68 = .ok (.iconst 1, 1) := dk_4 (dk_at dksX0_rule_2 20 rfl rfl)
theorem dX0_rule_69 : decode cX0_rule 69 = .ok (.isub, 1) := dk_100 (dk_at dksX0_rule_2 21 rfl rfl)
theorem dX0_rule_70 : decode cX0_rule 70 = .ok (.ireturn, 1) := dk_172 (dk_at dksX0_rule_2 22 rfl rfl)
abbrev cX0_isName : ByteArray := prog_1_method_4_code
def yX0_isName : MethodName := ⟨RX0, "isName", "(I)Z"⟩
def dkwX0_isName_0 : List UInt8 := [27, 133, 9, 42, 180, 0, 89, 4, 100, 133, 184, 0, 85, 172]
abbrev dktX0_isName_0 : List UInt8 := dkwX0_isName_0 ++ []
theorem dksX0_isName_0 : cX0_isName.data.toList.drop 0 = dktX0_isName_0 := by decide +kernel
theorem dX0_isName_0 : decode cX0_isName 0 = .ok (.iload_n 1, 1) := dk_27 (dk_at dksX0_isName_0 0 rfl rfl)
theorem dX0_isName_1 : decode cX0_isName 1 = .ok (.i2l, 1) := dk_133 (dk_at dksX0_isName_0 1 rfl rfl)
theorem dX0_isName_2 : decode cX0_isName 2 = .ok (.lconst 0, 1) := dk_9 (dk_at dksX0_isName_0 2 rfl rfl)
theorem dX0_isName_3 : decode cX0_isName 3 = .ok (.aload_n 0, 1) := dk_42 (dk_at dksX0_isName_0 3 rfl rfl)
theorem dX0_isName_4 : decode cX0_isName 4 = .ok (.getfield 89, 3) := dk_180 0 89 (dk_at dksX0_isName_0 4 rfl rfl)
theorem dX0_isName_7 : decode cX0_isName 7 = .ok (.iconst 1, 1) := dk_4 (dk_at dksX0_isName_0 7 rfl rfl)
theorem dX0_isName_8 : decode cX0_isName 8 = .ok (.isub, 1) := dk_100 (dk_at dksX0_isName_0 8 rfl rfl)
theorem dX0_isName_9 : decode cX0_isName 9 = .ok (.i2l, 1) := dk_133 (dk_at dksX0_isName_0 9 rfl rfl)
theorem dX0_isName_10 : decode cX0_isName 10 = .ok (.invokestatic 85, 3) := dk_184 0 85 (dk_at dksX0_isName_0 10 rfl rfl)
theorem dX0_isName_13 : decode cX0_isName 13 = .ok (.ireturn, 1) := dk_172 (dk_at dksX0_isName_0 13 rfl rfl)
abbrev cX0_in : ByteArray := prog_1_method_1_code
def yX0_in : MethodName := ⟨RX0, "in", "(JJJ)Z"⟩
def dkwX0_in_0 : List UInt8 := [30, 32, 148, 155, 0, 14, 30, 22, 4, 148, 157, 0, 7, 4, 167, 0, 4, 3, 172]
abbrev dktX0_in_0 : List UInt8 := dkwX0_in_0 ++ []
theorem dksX0_in_0 : cX0_in.data.toList.drop 0 = dktX0_in_0 := by decide +kernel
theorem dX0_in_0 : decode cX0_in 0 = .ok (.lload_n 0, 1) := dk_30 (dk_at dksX0_in_0 0 rfl rfl)
theorem dX0_in_1 : decode cX0_in 1 = .ok (.lload_n 2, 1) := dk_32 (dk_at dksX0_in_0 1 rfl rfl)
theorem dX0_in_2 : decode cX0_in 2 = .ok (.lcmp, 1) := dk_148 (dk_at dksX0_in_0 2 rfl rfl)
theorem dX0_in_3 : decode cX0_in 3 = .ok (.ifCond .lt 14, 3) := dk_155 0 14 (dk_at dksX0_in_0 3 rfl rfl)
theorem dX0_in_6 : decode cX0_in 6 = .ok (.lload_n 0, 1) := dk_30 (dk_at dksX0_in_0 6 rfl rfl)
theorem dX0_in_7 : decode cX0_in 7 = .ok (.lload 4, 2) := dk_22 4 (dk_at dksX0_in_0 7 rfl rfl)
theorem dX0_in_9 : decode cX0_in 9 = .ok (.lcmp, 1) := dk_148 (dk_at dksX0_in_0 9 rfl rfl)
theorem dX0_in_10 : decode cX0_in 10 = .ok (.ifCond .gt 7, 3) := dk_157 0 7 (dk_at dksX0_in_0 10 rfl rfl)
theorem dX0_in_13 : decode cX0_in 13 = .ok (.iconst 1, 1) := dk_4 (dk_at dksX0_in_0 13 rfl rfl)
theorem dX0_in_14 : decode cX0_in 14 = .ok (.goto 4, 3) := dk_167 0 4 (dk_at dksX0_in_0 14 rfl rfl)
theorem dX0_in_17 : decode cX0_in 17 = .ok (.iconst 0, 1) := dk_3 (dk_at dksX0_in_0 17 rfl rfl)
theorem dX0_in_18 : decode cX0_in 18 = .ok (.ireturn, 1) := dk_172 (dk_at dksX0_in_0 18 rfl rfl)
abbrev cX0_symbol : ByteArray := prog_1_method_8_code
def yX0_symbol : MethodName := ⟨RX0, "symbol", "(III)I"⟩
def dkwX0_symbol_5 : List UInt8 := [4, 181, 0, 92, 25, 4, 180, 0, 122, 172]
abbrev dktX0_symbol_5 : List UInt8 := dkwX0_symbol_5 ++ []
def dkwX0_symbol_4 : List UInt8 := [25, 4, 180, 0, 127, 25, 4, 180, 0, 122, 29, 79, 25, 4, 89, 180, 0, 122, 4, 96, 181, 0, 122, 42]
abbrev dktX0_symbol_4 : List UInt8 := dkwX0_symbol_4 ++ dktX0_symbol_5
def dkwX0_symbol_3 : List UInt8 := [25, 4, 180, 0, 122, 6, 160, 0, 6, 16, 254, 172, 25, 4, 180, 0, 124, 25, 4, 180, 0, 122, 28, 79]
abbrev dktX0_symbol_3 : List UInt8 := dkwX0_symbol_3 ++ dktX0_symbol_4
def dkwX0_symbol_2 : List UInt8 := [182, 0, 96, 154, 0, 5, 2, 172, 42, 180, 0, 28, 27, 185, 0, 118, 2, 0, 192, 0, 106, 58, 4]
abbrev dktX0_symbol_2 : List UInt8 := dkwX0_symbol_2 ++ dktX0_symbol_3
def dkwX0_symbol_1 : List UInt8 := [10, 184, 0, 85, 153, 0, 26, 28, 154, 0, 14, 42, 29, 182, 0, 115, 154, 0, 16, 167, 0, 11, 42, 29]
abbrev dktX0_symbol_1 : List UInt8 := dkwX0_symbol_1 ++ dktX0_symbol_2
def dkwX0_symbol_0 : List UInt8 := [27, 133, 9, 42, 180, 0, 28, 185, 0, 100, 1, 0, 4, 100, 133, 184, 0, 85, 153, 0, 36, 28, 133, 9]
abbrev dktX0_symbol_0 : List UInt8 := dkwX0_symbol_0 ++ dktX0_symbol_1
theorem dksX0_symbol_0 : cX0_symbol.data.toList.drop 0 = dktX0_symbol_0 := by decide +kernel
theorem dksX0_symbol_1 : cX0_symbol.data.toList.drop 24 = dktX0_symbol_1 := dk_seg dksX0_symbol_0 24 rfl rfl
theorem dksX0_symbol_2 : cX0_symbol.data.toList.drop 48 = dktX0_symbol_2 := dk_seg dksX0_symbol_1 24 rfl rfl
theorem dksX0_symbol_3 : cX0_symbol.data.toList.drop 71 = dktX0_symbol_3 := dk_seg dksX0_symbol_2 23 rfl rfl
theorem dksX0_symbol_4 : cX0_symbol.data.toList.drop 95 = dktX0_symbol_4 := dk_seg dksX0_symbol_3 24 rfl rfl
theorem dksX0_symbol_5 : cX0_symbol.data.toList.drop 119 = dktX0_symbol_5 := dk_seg dksX0_symbol_4 24 rfl rfl
theorem dX0_symbol_0 : decode cX0_symbol 0 = .ok (.iload_n 1, 1) := dk_27 (dk_at dksX0_symbol_0 0 rfl rfl)
theorem dX0_symbol_1 : decode cX0_symbol 1 = .ok (.i2l, 1) := dk_133 (dk_at dksX0_symbol_0 1 rfl rfl)
theorem dX0_symbol_2 : decode cX0_symbol 2 = .ok (.lconst 0, 1) := dk_9 (dk_at dksX0_symbol_0 2 rfl rfl)
theorem dX0_symbol_3 : decode cX0_symbol 3 = .ok (.aload_n 0, 1) := dk_42 (dk_at dksX0_symbol_0 3 rfl rfl)
theorem dX0_symbol_4 : decode cX0_symbol 4 = .ok (.getfield 28, 3) := dk_180 0 28 (dk_at dksX0_symbol_0 4 rfl rfl)
theorem dX0_symbol_7 : decode cX0_symbol 7 = .ok (.invokeinterface 100 1, 5) := by decide +kernel
theorem dX0_symbol_12 : decode cX0_symbol 12 = .ok (.iconst 1, 1) := dk_4 (dk_at dksX0_symbol_0 12 rfl rfl)
theorem dX0_symbol_13 : decode cX0_symbol 13 = .ok (.isub, 1) := dk_100 (dk_at dksX0_symbol_0 13 rfl rfl)
theorem dX0_symbol_14 : decode cX0_symbol 14 = .ok (.i2l, 1) := dk_133 (dk_at dksX0_symbol_0 14 rfl rfl)
theorem dX0_symbol_15 : decode cX0_symbol 15 = .ok (.invokestatic 85, 3) := dk_184 0 85 (dk_at dksX0_symbol_0 15 rfl rfl)
theorem dX0_symbol_18 : decode cX0_symbol 18 = .ok (.ifCond .eq 36, 3) := dk_153 0 36 (dk_at dksX0_symbol_0 18 rfl rfl)
theorem dX0_symbol_21 : decode cX0_symbol 21 = .ok (.iload_n 2, 1) := dk_28 (dk_at dksX0_symbol_0 21 rfl rfl)
theorem dX0_symbol_22 : decode cX0_symbol 22 = .ok (.i2l, 1) := dk_133 (dk_at dksX0_symbol_0 22 rfl rfl)
theorem dX0_symbol_23 : decode cX0_symbol 23 = .ok (.lconst 0, 1) := dk_9 (dk_at dksX0_symbol_0 23 rfl rfl)
theorem dX0_symbol_24 : decode cX0_symbol 24 = .ok (.lconst 1, 1) := dk_10 (dk_at dksX0_symbol_1 0 rfl rfl)
theorem dX0_symbol_25 : decode cX0_symbol 25 = .ok (.invokestatic 85, 3) := dk_184 0 85 (dk_at dksX0_symbol_1 1 rfl rfl)
theorem dX0_symbol_28 : decode cX0_symbol 28 = .ok (.ifCond .eq 26, 3) := dk_153 0 26 (dk_at dksX0_symbol_1 4 rfl rfl)
theorem dX0_symbol_31 : decode cX0_symbol 31 = .ok (.iload_n 2, 1) := dk_28 (dk_at dksX0_symbol_1 7 rfl rfl)
theorem dX0_symbol_32 : decode cX0_symbol 32 = .ok (.ifCond .ne 14, 3) := dk_154 0 14 (dk_at dksX0_symbol_1 8 rfl rfl)
theorem dX0_symbol_35 : decode cX0_symbol 35 = .ok (.aload_n 0, 1) := dk_42 (dk_at dksX0_symbol_1 11 rfl rfl)
theorem dX0_symbol_36 : decode cX0_symbol 36 = .ok (.iload_n 3, 1) := dk_29 (dk_at dksX0_symbol_1 12 rfl rfl)
theorem dX0_symbol_37 : decode cX0_symbol 37 = .ok (.invokevirtual 115, 3) := dk_182 0 115 (dk_at dksX0_symbol_1 13 rfl rfl)
theorem dX0_symbol_40 : decode cX0_symbol 40 = .ok (.ifCond .ne 16, 3) := dk_154 0 16 (dk_at dksX0_symbol_1 16 rfl rfl)
theorem dX0_symbol_43 : decode cX0_symbol 43 = .ok (.goto 11, 3) := dk_167 0 11 (dk_at dksX0_symbol_1 19 rfl rfl)
theorem dX0_symbol_46 : decode cX0_symbol 46 = .ok (.aload_n 0, 1) := dk_42 (dk_at dksX0_symbol_1 22 rfl rfl)
theorem dX0_symbol_47 : decode cX0_symbol 47 = .ok (.iload_n 3, 1) := dk_29 (dk_at dksX0_symbol_1 23 rfl rfl)
theorem dX0_symbol_48 : decode cX0_symbol 48 = .ok (.invokevirtual 96, 3) := dk_182 0 96 (dk_at dksX0_symbol_2 0 rfl rfl)
theorem dX0_symbol_51 : decode cX0_symbol 51 = .ok (.ifCond .ne 5, 3) := dk_154 0 5 (dk_at dksX0_symbol_2 3 rfl rfl)
theorem dX0_symbol_54 : decode cX0_symbol 54 = .ok (.iconst (-1), 1) := dk_2 (dk_at dksX0_symbol_2 6 rfl rfl)
theorem dX0_symbol_55 : decode cX0_symbol 55 = .ok (.ireturn, 1) := dk_172 (dk_at dksX0_symbol_2 7 rfl rfl)
theorem dX0_symbol_56 : decode cX0_symbol 56 = .ok (.aload_n 0, 1) := dk_42 (dk_at dksX0_symbol_2 8 rfl rfl)
theorem dX0_symbol_57 : decode cX0_symbol 57 = .ok (.getfield 28, 3) := dk_180 0 28 (dk_at dksX0_symbol_2 9 rfl rfl)
theorem dX0_symbol_60 : decode cX0_symbol 60 = .ok (.iload_n 1, 1) := dk_27 (dk_at dksX0_symbol_2 12 rfl rfl)
theorem dX0_symbol_61 : decode cX0_symbol 61 = .ok (.invokeinterface 118 2, 5) := by decide +kernel
theorem dX0_symbol_66 : decode cX0_symbol 66 = .ok (.checkcast 106, 3) := dk_192 0 106 (dk_at dksX0_symbol_2 18 rfl rfl)
theorem dX0_symbol_69 : decode cX0_symbol 69 = .ok (.astore 4, 2) := dk_58 4 (dk_at dksX0_symbol_2 21 rfl rfl)
theorem dX0_symbol_71 : decode cX0_symbol 71 = .ok (.aload 4, 2) := dk_25 4 (dk_at dksX0_symbol_3 0 rfl rfl)
theorem dX0_symbol_73 : decode cX0_symbol 73 = .ok (.getfield 122, 3) := dk_180 0 122 (dk_at dksX0_symbol_3 2 rfl rfl)
theorem dX0_symbol_76 : decode cX0_symbol 76 = .ok (.iconst 3, 1) := dk_6 (dk_at dksX0_symbol_3 5 rfl rfl)
theorem dX0_symbol_77 : decode cX0_symbol 77 = .ok (.if_icmp .ne 6, 3) := dk_160 0 6 (dk_at dksX0_symbol_3 6 rfl rfl)
theorem dX0_symbol_80 : decode cX0_symbol 80 = .ok (.bipush (-2), 2) := dk_16 254 (dk_at dksX0_symbol_3 9 rfl rfl)
theorem dX0_symbol_82 : decode cX0_symbol 82 = .ok (.ireturn, 1) := dk_172 (dk_at dksX0_symbol_3 11 rfl rfl)
theorem dX0_symbol_83 : decode cX0_symbol 83 = .ok (.aload 4, 2) := dk_25 4 (dk_at dksX0_symbol_3 12 rfl rfl)
theorem dX0_symbol_85 : decode cX0_symbol 85 = .ok (.getfield 124, 3) := dk_180 0 124 (dk_at dksX0_symbol_3 14 rfl rfl)
theorem dX0_symbol_88 : decode cX0_symbol 88 = .ok (.aload 4, 2) := dk_25 4 (dk_at dksX0_symbol_3 17 rfl rfl)
theorem dX0_symbol_90 : decode cX0_symbol 90 = .ok (.getfield 122, 3) := dk_180 0 122 (dk_at dksX0_symbol_3 19 rfl rfl)
theorem dX0_symbol_93 : decode cX0_symbol 93 = .ok (.iload_n 2, 1) := dk_28 (dk_at dksX0_symbol_3 22 rfl rfl)
theorem dX0_symbol_94 : decode cX0_symbol 94 = .ok (.iastore, 1) := dk_79 (dk_at dksX0_symbol_3 23 rfl rfl)
theorem dX0_symbol_95 : decode cX0_symbol 95 = .ok (.aload 4, 2) := dk_25 4 (dk_at dksX0_symbol_4 0 rfl rfl)
theorem dX0_symbol_97 : decode cX0_symbol 97 = .ok (.getfield 127, 3) := dk_180 0 127 (dk_at dksX0_symbol_4 2 rfl rfl)
theorem dX0_symbol_100 : decode cX0_symbol 100 = .ok (.aload 4, 2) := dk_25 4 (dk_at dksX0_symbol_4 5 rfl rfl)
theorem dX0_symbol_102 : decode cX0_symbol 102 = .ok (.getfield 122, 3) := dk_180 0 122 (dk_at dksX0_symbol_4 7 rfl rfl)
theorem dX0_symbol_105 : decode cX0_symbol 105 = .ok (.iload_n 3, 1) := dk_29 (dk_at dksX0_symbol_4 10 rfl rfl)
theorem dX0_symbol_106 : decode cX0_symbol 106 = .ok (.iastore, 1) := dk_79 (dk_at dksX0_symbol_4 11 rfl rfl)
theorem dX0_symbol_107 : decode cX0_symbol 107 = .ok (.aload 4, 2) := dk_25 4 (dk_at dksX0_symbol_4 12 rfl rfl)
theorem dX0_symbol_109 : decode cX0_symbol 109 = .ok (.dup, 1) := dk_89 (dk_at dksX0_symbol_4 14 rfl rfl)
theorem dX0_symbol_110 : decode cX0_symbol 110 = .ok (.getfield 122, 3) := dk_180 0 122 (dk_at dksX0_symbol_4 15 rfl rfl)
theorem dX0_symbol_113 : decode cX0_symbol 113 = .ok (.iconst 1, 1) := dk_4 (dk_at dksX0_symbol_4 18 rfl rfl)
theorem dX0_symbol_114 : decode cX0_symbol 114 = .ok (.iadd, 1) := dk_96 (dk_at dksX0_symbol_4 19 rfl rfl)
theorem dX0_symbol_115 : decode cX0_symbol 115 = .ok (.putfield 122, 3) := dk_181 0 122 (dk_at dksX0_symbol_4 20 rfl rfl)
theorem dX0_symbol_118 : decode cX0_symbol 118 = .ok (.aload_n 0, 1) := dk_42 (dk_at dksX0_symbol_4 23 rfl rfl)
theorem dX0_symbol_119 : decode cX0_symbol 119 = .ok (.iconst 1, 1) := dk_4 (dk_at dksX0_symbol_5 0 rfl rfl)
theorem dX0_symbol_120 : decode cX0_symbol 120 = .ok (.putfield 92, 3) := dk_181 0 92 (dk_at dksX0_symbol_5 1 rfl rfl)
theorem dX0_symbol_123 : decode cX0_symbol 123 = .ok (.aload 4, 2) := dk_25 4 (dk_at dksX0_symbol_5 4 rfl rfl)
theorem dX0_symbol_125 : decode cX0_symbol 125 = .ok (.getfield 122, 3) := dk_180 0 122 (dk_at dksX0_symbol_5 6 rfl rfl)
theorem dX0_symbol_128 : decode cX0_symbol 128 = .ok (.ireturn, 1) := dk_172 (dk_at dksX0_symbol_5 9 rfl rfl)
abbrev cX0_isToken : ByteArray := prog_1_method_3_code
def yX0_isToken : MethodName := ⟨RX0, "isToken", "(I)Z"⟩
def dkwX0_isToken_0 : List UInt8 := [27, 133, 9, 42, 180, 0, 82, 4, 100, 133, 184, 0, 85, 172]
abbrev dktX0_isToken_0 : List UInt8 := dkwX0_isToken_0 ++ []
theorem dksX0_isToken_0 : cX0_isToken.data.toList.drop 0 = dktX0_isToken_0 := by decide +kernel
theorem dX0_isToken_0 : decode cX0_isToken 0 = .ok (.iload_n 1, 1) := dk_27 (dk_at dksX0_isToken_0 0 rfl rfl)
theorem dX0_isToken_1 : decode cX0_isToken 1 = .ok (.i2l, 1) := dk_133 (dk_at dksX0_isToken_0 1 rfl rfl)
theorem dX0_isToken_2 : decode cX0_isToken 2 = .ok (.lconst 0, 1) := dk_9 (dk_at dksX0_isToken_0 2 rfl rfl)
theorem dX0_isToken_3 : decode cX0_isToken 3 = .ok (.aload_n 0, 1) := dk_42 (dk_at dksX0_isToken_0 3 rfl rfl)
theorem dX0_isToken_4 : decode cX0_isToken 4 = .ok (.getfield 82, 3) := dk_180 0 82 (dk_at dksX0_isToken_0 4 rfl rfl)
theorem dX0_isToken_7 : decode cX0_isToken 7 = .ok (.iconst 1, 1) := dk_4 (dk_at dksX0_isToken_0 7 rfl rfl)
theorem dX0_isToken_8 : decode cX0_isToken 8 = .ok (.isub, 1) := dk_100 (dk_at dksX0_isToken_0 8 rfl rfl)
theorem dX0_isToken_9 : decode cX0_isToken 9 = .ok (.i2l, 1) := dk_133 (dk_at dksX0_isToken_0 9 rfl rfl)
theorem dX0_isToken_10 : decode cX0_isToken 10 = .ok (.invokestatic 85, 3) := dk_184 0 85 (dk_at dksX0_isToken_0 10 rfl rfl)
theorem dX0_isToken_13 : decode cX0_isToken 13 = .ok (.ireturn, 1) := dk_172 (dk_at dksX0_isToken_0 13 rfl rfl)
abbrev cX0_start : ByteArray := prog_1_method_9_code
def yX0_start : MethodName := ⟨RX0, "start", "(I)I"⟩
def dkwX0_start_1 : List UInt8 := [181, 0, 92, 28, 172]
abbrev dktX0_start_1 : List UInt8 := dkwX0_start_1 ++ []
def dkwX0_start_0 : List UInt8 := [42, 27, 182, 0, 96, 154, 0, 5, 2, 172, 42, 180, 0, 130, 61, 42, 27, 181, 0, 130, 42, 4]
abbrev dktX0_start_0 : List UInt8 := dkwX0_start_0 ++ dktX0_start_1
theorem dksX0_start_0 : cX0_start.data.toList.drop 0 = dktX0_start_0 := by decide +kernel
theorem dksX0_start_1 : cX0_start.data.toList.drop 22 = dktX0_start_1 := dk_seg dksX0_start_0 22 rfl rfl
theorem dX0_start_0 : decode cX0_start 0 = .ok (.aload_n 0, 1) := dk_42 (dk_at dksX0_start_0 0 rfl rfl)
theorem dX0_start_1 : decode cX0_start 1 = .ok (.iload_n 1, 1) := dk_27 (dk_at dksX0_start_0 1 rfl rfl)
theorem dX0_start_2 : decode cX0_start 2 = .ok (.invokevirtual 96, 3) := dk_182 0 96 (dk_at dksX0_start_0 2 rfl rfl)
theorem dX0_start_5 : decode cX0_start 5 = .ok (.ifCond .ne 5, 3) := dk_154 0 5 (dk_at dksX0_start_0 5 rfl rfl)
theorem dX0_start_8 : decode cX0_start 8 = .ok (.iconst (-1), 1) := dk_2 (dk_at dksX0_start_0 8 rfl rfl)
theorem dX0_start_9 : decode cX0_start 9 = .ok (.ireturn, 1) := dk_172 (dk_at dksX0_start_0 9 rfl rfl)
theorem dX0_start_10 : decode cX0_start 10 = .ok (.aload_n 0, 1) := dk_42 (dk_at dksX0_start_0 10 rfl rfl)
theorem dX0_start_11 : decode cX0_start 11 = .ok (.getfield 130, 3) := dk_180 0 130 (dk_at dksX0_start_0 11 rfl rfl)
theorem dX0_start_14 : decode cX0_start 14 = .ok (.istore_n 2, 1) := dk_61 (dk_at dksX0_start_0 14 rfl rfl)
theorem dX0_start_15 : decode cX0_start 15 = .ok (.aload_n 0, 1) := dk_42 (dk_at dksX0_start_0 15 rfl rfl)
theorem dX0_start_16 : decode cX0_start 16 = .ok (.iload_n 1, 1) := dk_27 (dk_at dksX0_start_0 16 rfl rfl)
theorem dX0_start_17 : decode cX0_start 17 = .ok (.putfield 130, 3) := dk_181 0 130 (dk_at dksX0_start_0 17 rfl rfl)
theorem dX0_start_20 : decode cX0_start 20 = .ok (.aload_n 0, 1) := dk_42 (dk_at dksX0_start_0 20 rfl rfl)
theorem dX0_start_21 : decode cX0_start 21 = .ok (.iconst 1, 1) := dk_4 (dk_at dksX0_start_0 21 rfl rfl)
theorem dX0_start_22 : decode cX0_start 22 = .ok (.putfield 92, 3) := dk_181 0 92 (dk_at dksX0_start_1 0 rfl rfl)
theorem dX0_start_25 : decode cX0_start 25 = .ok (.iload_n 2, 1) := dk_28 (dk_at dksX0_start_1 3 rfl rfl)
theorem dX0_start_26 : decode cX0_start 26 = .ok (.ireturn, 1) := dk_172 (dk_at dksX0_start_1 4 rfl rfl)
abbrev cX0_price : ByteArray := prog_1_method_10_code
def yX0_price : MethodName := ⟨RX0, "price", "(III)I"⟩
def dkwX0_price_5 : List UInt8 := [4, 181, 0, 92, 21, 4, 172]
abbrev dktX0_price_5 : List UInt8 := dkwX0_price_5 ++ []
def dkwX0_price_4 : List UInt8 := [29, 79, 167, 0, 21, 27, 6, 160, 0, 11, 42, 29, 181, 0, 18, 167, 0, 8, 42, 29, 181, 0, 22, 42]
abbrev dktX0_price_4 : List UInt8 := dkwX0_price_4 ++ dktX0_price_5
def dkwX0_price_3 : List UInt8 := [180, 0, 18, 167, 0, 7, 42, 180, 0, 22, 54, 4, 27, 6, 162, 0, 15, 42, 180, 0, 15, 27, 50, 28]
abbrev dktX0_price_3 : List UInt8 := dkwX0_price_3 ++ dktX0_price_4
def dkwX0_price_2 : List UInt8 := [27, 6, 162, 0, 14, 42, 180, 0, 15, 27, 50, 28, 46, 167, 0, 19, 27, 6, 160, 0, 10, 42]
abbrev dktX0_price_2 : List UInt8 := dkwX0_price_2 ++ dktX0_price_3
def dkwX0_price_1 : List UInt8 := [154, 0, 10, 167, 0, 19, 28, 154, 0, 15, 29, 133, 10, 20, 0, 135, 184, 0, 85, 154, 0, 5, 2, 172]
abbrev dktX0_price_1 : List UInt8 := dkwX0_price_1 ++ dktX0_price_2
def dkwX0_price_0 : List UInt8 := [27, 133, 9, 20, 0, 133, 184, 0, 85, 153, 0, 35, 27, 6, 162, 0, 14, 42, 28, 182, 0, 115]
abbrev dktX0_price_0 : List UInt8 := dkwX0_price_0 ++ dktX0_price_1
theorem dksX0_price_0 : cX0_price.data.toList.drop 0 = dktX0_price_0 := by decide +kernel
theorem dksX0_price_1 : cX0_price.data.toList.drop 22 = dktX0_price_1 := dk_seg dksX0_price_0 22 rfl rfl
theorem dksX0_price_2 : cX0_price.data.toList.drop 46 = dktX0_price_2 := dk_seg dksX0_price_1 24 rfl rfl
theorem dksX0_price_3 : cX0_price.data.toList.drop 68 = dktX0_price_3 := dk_seg dksX0_price_2 22 rfl rfl
theorem dksX0_price_4 : cX0_price.data.toList.drop 92 = dktX0_price_4 := dk_seg dksX0_price_3 24 rfl rfl
theorem dksX0_price_5 : cX0_price.data.toList.drop 116 = dktX0_price_5 := dk_seg dksX0_price_4 24 rfl rfl
theorem dX0_price_0 : decode cX0_price 0 = .ok (.iload_n 1, 1) := dk_27 (dk_at dksX0_price_0 0 rfl rfl)
theorem dX0_price_1 : decode cX0_price 1 = .ok (.i2l, 1) := dk_133 (dk_at dksX0_price_0 1 rfl rfl)
theorem dX0_price_2 : decode cX0_price 2 = .ok (.lconst 0, 1) := dk_9 (dk_at dksX0_price_0 2 rfl rfl)
theorem dX0_price_3 : decode cX0_price 3 = .ok (.ldc2_w 133, 3) := dk_20 0 133 (dk_at dksX0_price_0 3 rfl rfl)
theorem dX0_price_6 : decode cX0_price 6 = .ok (.invokestatic 85, 3) := dk_184 0 85 (dk_at dksX0_price_0 6 rfl rfl)
theorem dX0_price_9 : decode cX0_price 9 = .ok (.ifCond .eq 35, 3) := dk_153 0 35 (dk_at dksX0_price_0 9 rfl rfl)
theorem dX0_price_12 : decode cX0_price 12 = .ok (.iload_n 1, 1) := dk_27 (dk_at dksX0_price_0 12 rfl rfl)
theorem dX0_price_13 : decode cX0_price 13 = .ok (.iconst 3, 1) := dk_6 (dk_at dksX0_price_0 13 rfl rfl)
theorem dX0_price_14 : decode cX0_price 14 = .ok (.if_icmp .ge 14, 3) := dk_162 0 14 (dk_at dksX0_price_0 14 rfl rfl)
theorem dX0_price_17 : decode cX0_price 17 = .ok (.aload_n 0, 1) := dk_42 (dk_at dksX0_price_0 17 rfl rfl)
theorem dX0_price_18 : decode cX0_price 18 = .ok (.iload_n 2, 1) := dk_28 (dk_at dksX0_price_0 18 rfl rfl)
theorem dX0_price_19 : decode cX0_price 19 = .ok (.invokevirtual 115, 3) := dk_182 0 115 (dk_at dksX0_price_0 19 rfl rfl)
theorem dX0_price_22 : decode cX0_price 22 = .ok (.ifCond .ne 10, 3) := dk_154 0 10 (dk_at dksX0_price_1 0 rfl rfl)
theorem dX0_price_25 : decode cX0_price 25 = .ok (.goto 19, 3) := dk_167 0 19 (dk_at dksX0_price_1 3 rfl rfl)
theorem dX0_price_28 : decode cX0_price 28 = .ok (.iload_n 2, 1) := dk_28 (dk_at dksX0_price_1 6 rfl rfl)
theorem dX0_price_29 : decode cX0_price 29 = .ok (.ifCond .ne 15, 3) := dk_154 0 15 (dk_at dksX0_price_1 7 rfl rfl)
theorem dX0_price_32 : decode cX0_price 32 = .ok (.iload_n 3, 1) := dk_29 (dk_at dksX0_price_1 10 rfl rfl)
theorem dX0_price_33 : decode cX0_price 33 = .ok (.i2l, 1) := dk_133 (dk_at dksX0_price_1 11 rfl rfl)
theorem dX0_price_34 : decode cX0_price 34 = .ok (.lconst 1, 1) := dk_10 (dk_at dksX0_price_1 12 rfl rfl)
theorem dX0_price_35 : decode cX0_price 35 = .ok (.ldc2_w 135, 3) := dk_20 0 135 (dk_at dksX0_price_1 13 rfl rfl)
theorem dX0_price_38 : decode cX0_price 38 = .ok (.invokestatic 85, 3) := dk_184 0 85 (dk_at dksX0_price_1 16 rfl rfl)
theorem dX0_price_41 : decode cX0_price 41 = .ok (.ifCond .ne 5, 3) := dk_154 0 5 (dk_at dksX0_price_1 19 rfl rfl)
theorem dX0_price_44 : decode cX0_price 44 = .ok (.iconst (-1), 1) := dk_2 (dk_at dksX0_price_1 22 rfl rfl)
theorem dX0_price_45 : decode cX0_price 45 = .ok (.ireturn, 1) := dk_172 (dk_at dksX0_price_1 23 rfl rfl)
theorem dX0_price_46 : decode cX0_price 46 = .ok (.iload_n 1, 1) := dk_27 (dk_at dksX0_price_2 0 rfl rfl)
theorem dX0_price_47 : decode cX0_price 47 = .ok (.iconst 3, 1) := dk_6 (dk_at dksX0_price_2 1 rfl rfl)
theorem dX0_price_48 : decode cX0_price 48 = .ok (.if_icmp .ge 14, 3) := dk_162 0 14 (dk_at dksX0_price_2 2 rfl rfl)
theorem dX0_price_51 : decode cX0_price 51 = .ok (.aload_n 0, 1) := dk_42 (dk_at dksX0_price_2 5 rfl rfl)
theorem dX0_price_52 : decode cX0_price 52 = .ok (.getfield 15, 3) := dk_180 0 15 (dk_at dksX0_price_2 6 rfl rfl)
theorem dX0_price_55 : decode cX0_price 55 = .ok (.iload_n 1, 1) := dk_27 (dk_at dksX0_price_2 9 rfl rfl)
theorem dX0_price_56 : decode cX0_price 56 = .ok (.aaload, 1) := dk_50 (dk_at dksX0_price_2 10 rfl rfl)
theorem dX0_price_57 : decode cX0_price 57 = .ok (.iload_n 2, 1) := dk_28 (dk_at dksX0_price_2 11 rfl rfl)
theorem dX0_price_58 : decode cX0_price 58 = .ok (.iaload, 1) := dk_46 (dk_at dksX0_price_2 12 rfl rfl)
theorem dX0_price_59 : decode cX0_price 59 = .ok (.goto 19, 3) := dk_167 0 19 (dk_at dksX0_price_2 13 rfl rfl)
theorem dX0_price_62 : decode cX0_price 62 = .ok (.iload_n 1, 1) := dk_27 (dk_at dksX0_price_2 16 rfl rfl)
theorem dX0_price_63 : decode cX0_price 63 = .ok (.iconst 3, 1) := dk_6 (dk_at dksX0_price_2 17 rfl rfl)
theorem dX0_price_64 : decode cX0_price 64 = .ok (.if_icmp .ne 10, 3) := dk_160 0 10 (dk_at dksX0_price_2 18 rfl rfl)
theorem dX0_price_67 : decode cX0_price 67 = .ok (.aload_n 0, 1) := dk_42 (dk_at dksX0_price_2 21 rfl rfl)
theorem dX0_price_68 : decode cX0_price 68 = .ok (.getfield 18, 3) := dk_180 0 18 (dk_at dksX0_price_3 0 rfl rfl)
theorem dX0_price_71 : decode cX0_price 71 = .ok (.goto 7, 3) := dk_167 0 7 (dk_at dksX0_price_3 3 rfl rfl)
theorem dX0_price_74 : decode cX0_price 74 = .ok (.aload_n 0, 1) := dk_42 (dk_at dksX0_price_3 6 rfl rfl)
theorem dX0_price_75 : decode cX0_price 75 = .ok (.getfield 22, 3) := dk_180 0 22 (dk_at dksX0_price_3 7 rfl rfl)
theorem dX0_price_78 : decode cX0_price 78 = .ok (.istore 4, 2) := dk_54 4 (dk_at dksX0_price_3 10 rfl rfl)
theorem dX0_price_80 : decode cX0_price 80 = .ok (.iload_n 1, 1) := dk_27 (dk_at dksX0_price_3 12 rfl rfl)
theorem dX0_price_81 : decode cX0_price 81 = .ok (.iconst 3, 1) := dk_6 (dk_at dksX0_price_3 13 rfl rfl)
theorem dX0_price_82 : decode cX0_price 82 = .ok (.if_icmp .ge 15, 3) := dk_162 0 15 (dk_at dksX0_price_3 14 rfl rfl)
theorem dX0_price_85 : decode cX0_price 85 = .ok (.aload_n 0, 1) := dk_42 (dk_at dksX0_price_3 17 rfl rfl)
theorem dX0_price_86 : decode cX0_price 86 = .ok (.getfield 15, 3) := dk_180 0 15 (dk_at dksX0_price_3 18 rfl rfl)
theorem dX0_price_89 : decode cX0_price 89 = .ok (.iload_n 1, 1) := dk_27 (dk_at dksX0_price_3 21 rfl rfl)
theorem dX0_price_90 : decode cX0_price 90 = .ok (.aaload, 1) := dk_50 (dk_at dksX0_price_3 22 rfl rfl)
theorem dX0_price_91 : decode cX0_price 91 = .ok (.iload_n 2, 1) := dk_28 (dk_at dksX0_price_3 23 rfl rfl)
theorem dX0_price_92 : decode cX0_price 92 = .ok (.iload_n 3, 1) := dk_29 (dk_at dksX0_price_4 0 rfl rfl)
theorem dX0_price_93 : decode cX0_price 93 = .ok (.iastore, 1) := dk_79 (dk_at dksX0_price_4 1 rfl rfl)
theorem dX0_price_94 : decode cX0_price 94 = .ok (.goto 21, 3) := dk_167 0 21 (dk_at dksX0_price_4 2 rfl rfl)
theorem dX0_price_97 : decode cX0_price 97 = .ok (.iload_n 1, 1) := dk_27 (dk_at dksX0_price_4 5 rfl rfl)
theorem dX0_price_98 : decode cX0_price 98 = .ok (.iconst 3, 1) := dk_6 (dk_at dksX0_price_4 6 rfl rfl)
theorem dX0_price_99 : decode cX0_price 99 = .ok (.if_icmp .ne 11, 3) := dk_160 0 11 (dk_at dksX0_price_4 7 rfl rfl)
theorem dX0_price_102 : decode cX0_price 102 = .ok (.aload_n 0, 1) := dk_42 (dk_at dksX0_price_4 10 rfl rfl)
theorem dX0_price_103 : decode cX0_price 103 = .ok (.iload_n 3, 1) := dk_29 (dk_at dksX0_price_4 11 rfl rfl)
theorem dX0_price_104 : decode cX0_price 104 = .ok (.putfield 18, 3) := dk_181 0 18 (dk_at dksX0_price_4 12 rfl rfl)
theorem dX0_price_107 : decode cX0_price 107 = .ok (.goto 8, 3) := dk_167 0 8 (dk_at dksX0_price_4 15 rfl rfl)
theorem dX0_price_110 : decode cX0_price 110 = .ok (.aload_n 0, 1) := dk_42 (dk_at dksX0_price_4 18 rfl rfl)
theorem dX0_price_111 : decode cX0_price 111 = .ok (.iload_n 3, 1) := dk_29 (dk_at dksX0_price_4 19 rfl rfl)
theorem dX0_price_112 : decode cX0_price 112 = .ok (.putfield 22, 3) := dk_181 0 22 (dk_at dksX0_price_4 20 rfl rfl)
theorem dX0_price_115 : decode cX0_price 115 = .ok (.aload_n 0, 1) := dk_42 (dk_at dksX0_price_4 23 rfl rfl)
theorem dX0_price_116 : decode cX0_price 116 = .ok (.iconst 1, 1) := dk_4 (dk_at dksX0_price_5 0 rfl rfl)
theorem dX0_price_117 : decode cX0_price 117 = .ok (.putfield 92, 3) := dk_181 0 92 (dk_at dksX0_price_5 1 rfl rfl)
theorem dX0_price_120 : decode cX0_price 120 = .ok (.iload 4, 2) := dk_21 4 (dk_at dksX0_price_5 4 rfl rfl)
theorem dX0_price_122 : decode cX0_price 122 = .ok (.ireturn, 1) := dk_172 (dk_at dksX0_price_5 6 rfl rfl)
abbrev cX0_form : ByteArray := prog_1_method_11_code
def yX0_form : MethodName := ⟨RX0, "form", "(IIIII)I"⟩
def dkwX0_form_4 : List UInt8 := [183, 0, 139, 185, 0, 111, 2, 0, 87, 42, 4, 181, 0, 92, 25, 6, 185, 0, 100, 1, 0, 4, 100, 172]
abbrev dktX0_form_4 : List UInt8 := dkwX0_form_4 ++ []
def dkwX0_form_3 : List UInt8 := [185, 0, 100, 1, 0, 6, 160, 0, 6, 16, 254, 172, 25, 6, 187, 0, 137, 89, 28, 29, 21, 4, 21, 5]
abbrev dktX0_form_3 : List UInt8 := dkwX0_form_3 ++ dktX0_form_4
def dkwX0_form_2 : List UInt8 := [154, 0, 5, 2, 172, 27, 154, 0, 10, 42, 180, 0, 32, 167, 0, 7, 42, 180, 0, 35, 58, 6, 25, 6]
abbrev dktX0_form_2 : List UInt8 := dkwX0_form_2 ++ dktX0_form_3
def dkwX0_form_1 : List UInt8 := [153, 0, 25, 42, 21, 4, 182, 0, 115, 153, 0, 16, 21, 5, 133, 10, 20, 0, 135, 184, 0, 85]
abbrev dktX0_form_1 : List UInt8 := dkwX0_form_1 ++ dktX0_form_2
def dkwX0_form_0 : List UInt8 := [27, 133, 9, 10, 184, 0, 85, 153, 0, 41, 42, 28, 182, 0, 115, 153, 0, 33, 42, 29, 182, 0, 115]
abbrev dktX0_form_0 : List UInt8 := dkwX0_form_0 ++ dktX0_form_1
theorem dksX0_form_0 : cX0_form.data.toList.drop 0 = dktX0_form_0 := by decide +kernel
theorem dksX0_form_1 : cX0_form.data.toList.drop 23 = dktX0_form_1 := dk_seg dksX0_form_0 23 rfl rfl
theorem dksX0_form_2 : cX0_form.data.toList.drop 45 = dktX0_form_2 := dk_seg dksX0_form_1 22 rfl rfl
theorem dksX0_form_3 : cX0_form.data.toList.drop 69 = dktX0_form_3 := dk_seg dksX0_form_2 24 rfl rfl
theorem dksX0_form_4 : cX0_form.data.toList.drop 93 = dktX0_form_4 := dk_seg dksX0_form_3 24 rfl rfl
theorem dX0_form_0 : decode cX0_form 0 = .ok (.iload_n 1, 1) := dk_27 (dk_at dksX0_form_0 0 rfl rfl)
theorem dX0_form_1 : decode cX0_form 1 = .ok (.i2l, 1) := dk_133 (dk_at dksX0_form_0 1 rfl rfl)
theorem dX0_form_2 : decode cX0_form 2 = .ok (.lconst 0, 1) := dk_9 (dk_at dksX0_form_0 2 rfl rfl)
theorem dX0_form_3 : decode cX0_form 3 = .ok (.lconst 1, 1) := dk_10 (dk_at dksX0_form_0 3 rfl rfl)
theorem dX0_form_4 : decode cX0_form 4 = .ok (.invokestatic 85, 3) := dk_184 0 85 (dk_at dksX0_form_0 4 rfl rfl)
theorem dX0_form_7 : decode cX0_form 7 = .ok (.ifCond .eq 41, 3) := dk_153 0 41 (dk_at dksX0_form_0 7 rfl rfl)
theorem dX0_form_10 : decode cX0_form 10 = .ok (.aload_n 0, 1) := dk_42 (dk_at dksX0_form_0 10 rfl rfl)
theorem dX0_form_11 : decode cX0_form 11 = .ok (.iload_n 2, 1) := dk_28 (dk_at dksX0_form_0 11 rfl rfl)
theorem dX0_form_12 : decode cX0_form 12 = .ok (.invokevirtual 115, 3) := dk_182 0 115 (dk_at dksX0_form_0 12 rfl rfl)
theorem dX0_form_15 : decode cX0_form 15 = .ok (.ifCond .eq 33, 3) := dk_153 0 33 (dk_at dksX0_form_0 15 rfl rfl)
theorem dX0_form_18 : decode cX0_form 18 = .ok (.aload_n 0, 1) := dk_42 (dk_at dksX0_form_0 18 rfl rfl)
theorem dX0_form_19 : decode cX0_form 19 = .ok (.iload_n 3, 1) := dk_29 (dk_at dksX0_form_0 19 rfl rfl)
theorem dX0_form_20 : decode cX0_form 20 = .ok (.invokevirtual 115, 3) := dk_182 0 115 (dk_at dksX0_form_0 20 rfl rfl)
theorem dX0_form_23 : decode cX0_form 23 = .ok (.ifCond .eq 25, 3) := dk_153 0 25 (dk_at dksX0_form_1 0 rfl rfl)
theorem dX0_form_26 : decode cX0_form 26 = .ok (.aload_n 0, 1) := dk_42 (dk_at dksX0_form_1 3 rfl rfl)
theorem dX0_form_27 : decode cX0_form 27 = .ok (.iload 4, 2) := dk_21 4 (dk_at dksX0_form_1 4 rfl rfl)
theorem dX0_form_29 : decode cX0_form 29 = .ok (.invokevirtual 115, 3) := dk_182 0 115 (dk_at dksX0_form_1 6 rfl rfl)
theorem dX0_form_32 : decode cX0_form 32 = .ok (.ifCond .eq 16, 3) := dk_153 0 16 (dk_at dksX0_form_1 9 rfl rfl)
theorem dX0_form_35 : decode cX0_form 35 = .ok (.iload 5, 2) := dk_21 5 (dk_at dksX0_form_1 12 rfl rfl)
theorem dX0_form_37 : decode cX0_form 37 = .ok (.i2l, 1) := dk_133 (dk_at dksX0_form_1 14 rfl rfl)
theorem dX0_form_38 : decode cX0_form 38 = .ok (.lconst 1, 1) := dk_10 (dk_at dksX0_form_1 15 rfl rfl)
theorem dX0_form_39 : decode cX0_form 39 = .ok (.ldc2_w 135, 3) := dk_20 0 135 (dk_at dksX0_form_1 16 rfl rfl)
theorem dX0_form_42 : decode cX0_form 42 = .ok (.invokestatic 85, 3) := dk_184 0 85 (dk_at dksX0_form_1 19 rfl rfl)
theorem dX0_form_45 : decode cX0_form 45 = .ok (.ifCond .ne 5, 3) := dk_154 0 5 (dk_at dksX0_form_2 0 rfl rfl)
theorem dX0_form_48 : decode cX0_form 48 = .ok (.iconst (-1), 1) := dk_2 (dk_at dksX0_form_2 3 rfl rfl)
theorem dX0_form_49 : decode cX0_form 49 = .ok (.ireturn, 1) := dk_172 (dk_at dksX0_form_2 4 rfl rfl)
theorem dX0_form_50 : decode cX0_form 50 = .ok (.iload_n 1, 1) := dk_27 (dk_at dksX0_form_2 5 rfl rfl)
theorem dX0_form_51 : decode cX0_form 51 = .ok (.ifCond .ne 10, 3) := dk_154 0 10 (dk_at dksX0_form_2 6 rfl rfl)
theorem dX0_form_54 : decode cX0_form 54 = .ok (.aload_n 0, 1) := dk_42 (dk_at dksX0_form_2 9 rfl rfl)
theorem dX0_form_55 : decode cX0_form 55 = .ok (.getfield 32, 3) := dk_180 0 32 (dk_at dksX0_form_2 10 rfl rfl)
theorem dX0_form_58 : decode cX0_form 58 = .ok (.goto 7, 3) := dk_167 0 7 (dk_at dksX0_form_2 13 rfl rfl)
theorem dX0_form_61 : decode cX0_form 61 = .ok (.aload_n 0, 1) := dk_42 (dk_at dksX0_form_2 16 rfl rfl)
theorem dX0_form_62 : decode cX0_form 62 = .ok (.getfield 35, 3) := dk_180 0 35 (dk_at dksX0_form_2 17 rfl rfl)
theorem dX0_form_65 : decode cX0_form 65 = .ok (.astore 6, 2) := dk_58 6 (dk_at dksX0_form_2 20 rfl rfl)
theorem dX0_form_67 : decode cX0_form 67 = .ok (.aload 6, 2) := dk_25 6 (dk_at dksX0_form_2 22 rfl rfl)
theorem dX0_form_69 : decode cX0_form 69 = .ok (.invokeinterface 100 1, 5) := by decide +kernel
theorem dX0_form_74 : decode cX0_form 74 = .ok (.iconst 3, 1) := dk_6 (dk_at dksX0_form_3 5 rfl rfl)
theorem dX0_form_75 : decode cX0_form 75 = .ok (.if_icmp .ne 6, 3) := dk_160 0 6 (dk_at dksX0_form_3 6 rfl rfl)
theorem dX0_form_78 : decode cX0_form 78 = .ok (.bipush (-2), 2) := dk_16 254 (dk_at dksX0_form_3 9 rfl rfl)
theorem dX0_form_80 : decode cX0_form 80 = .ok (.ireturn, 1) := dk_172 (dk_at dksX0_form_3 11 rfl rfl)
theorem dX0_form_81 : decode cX0_form 81 = .ok (.aload 6, 2) := dk_25 6 (dk_at dksX0_form_3 12 rfl rfl)
theorem dX0_form_83 : decode cX0_form 83 = .ok (.new 137, 3) := dk_187 0 137 (dk_at dksX0_form_3 14 rfl rfl)
theorem dX0_form_86 : decode cX0_form 86 = .ok (.dup, 1) := dk_89 (dk_at dksX0_form_3 17 rfl rfl)
theorem dX0_form_87 : decode cX0_form 87 = .ok (.iload_n 2, 1) := dk_28 (dk_at dksX0_form_3 18 rfl rfl)
theorem dX0_form_88 : decode cX0_form 88 = .ok (.iload_n 3, 1) := dk_29 (dk_at dksX0_form_3 19 rfl rfl)
theorem dX0_form_89 : decode cX0_form 89 = .ok (.iload 4, 2) := dk_21 4 (dk_at dksX0_form_3 20 rfl rfl)
theorem dX0_form_91 : decode cX0_form 91 = .ok (.iload 5, 2) := dk_21 5 (dk_at dksX0_form_3 22 rfl rfl)
theorem dX0_form_93 : decode cX0_form 93 = .ok (.invokespecial 139, 3) := dk_183 0 139 (dk_at dksX0_form_4 0 rfl rfl)
theorem dX0_form_96 : decode cX0_form 96 = .ok (.invokeinterface 111 2, 5) := by decide +kernel
theorem dX0_form_101 : decode cX0_form 101 = .ok (.pop, 1) := dk_87 (dk_at dksX0_form_4 8 rfl rfl)
theorem dX0_form_102 : decode cX0_form 102 = .ok (.aload_n 0, 1) := dk_42 (dk_at dksX0_form_4 9 rfl rfl)
theorem dX0_form_103 : decode cX0_form 103 = .ok (.iconst 1, 1) := dk_4 (dk_at dksX0_form_4 10 rfl rfl)
theorem dX0_form_104 : decode cX0_form 104 = .ok (.putfield 92, 3) := dk_181 0 92 (dk_at dksX0_form_4 11 rfl rfl)
theorem dX0_form_107 : decode cX0_form 107 = .ok (.aload 6, 2) := dk_25 6 (dk_at dksX0_form_4 14 rfl rfl)
theorem dX0_form_109 : decode cX0_form 109 = .ok (.invokeinterface 100 1, 5) := by decide +kernel
theorem dX0_form_114 : decode cX0_form 114 = .ok (.iconst 1, 1) := dk_4 (dk_at dksX0_form_4 21 rfl rfl)
theorem dX0_form_115 : decode cX0_form 115 = .ok (.isub, 1) := dk_100 (dk_at dksX0_form_4 22 rfl rfl)
theorem dX0_form_116 : decode cX0_form 116 = .ok (.ireturn, 1) := dk_172 (dk_at dksX0_form_4 23 rfl rfl)
abbrev cX0_fences : ByteArray := prog_1_method_12_code
def yX0_fences : MethodName := ⟨RX0, "fences", "(Z)I"⟩
def dkwX0_fences_1 : List UInt8 := [172]
abbrev dktX0_fences_1 : List UInt8 := dkwX0_fences_1 ++ []
def dkwX0_fences_0 : List UInt8 := [42, 180, 0, 142, 153, 0, 7, 4, 167, 0, 4, 3, 61, 42, 27, 181, 0, 142, 42, 4, 181, 0, 92, 28]
abbrev dktX0_fences_0 : List UInt8 := dkwX0_fences_0 ++ dktX0_fences_1
theorem dksX0_fences_0 : cX0_fences.data.toList.drop 0 = dktX0_fences_0 := by decide +kernel
theorem dksX0_fences_1 : cX0_fences.data.toList.drop 24 = dktX0_fences_1 := dk_seg dksX0_fences_0 24 rfl rfl
theorem dX0_fences_0 : decode cX0_fences 0 = .ok (.aload_n 0, 1) := dk_42 (dk_at dksX0_fences_0 0 rfl rfl)
theorem dX0_fences_1 : decode cX0_fences 1 = .ok (.getfield 142, 3) := dk_180 0 142 (dk_at dksX0_fences_0 1 rfl rfl)
theorem dX0_fences_4 : decode cX0_fences 4 = .ok (.ifCond .eq 7, 3) := dk_153 0 7 (dk_at dksX0_fences_0 4 rfl rfl)
theorem dX0_fences_7 : decode cX0_fences 7 = .ok (.iconst 1, 1) := dk_4 (dk_at dksX0_fences_0 7 rfl rfl)
theorem dX0_fences_8 : decode cX0_fences 8 = .ok (.goto 4, 3) := dk_167 0 4 (dk_at dksX0_fences_0 8 rfl rfl)
theorem dX0_fences_11 : decode cX0_fences 11 = .ok (.iconst 0, 1) := dk_3 (dk_at dksX0_fences_0 11 rfl rfl)
theorem dX0_fences_12 : decode cX0_fences 12 = .ok (.istore_n 2, 1) := dk_61 (dk_at dksX0_fences_0 12 rfl rfl)
theorem dX0_fences_13 : decode cX0_fences 13 = .ok (.aload_n 0, 1) := dk_42 (dk_at dksX0_fences_0 13 rfl rfl)
theorem dX0_fences_14 : decode cX0_fences 14 = .ok (.iload_n 1, 1) := dk_27 (dk_at dksX0_fences_0 14 rfl rfl)
theorem dX0_fences_15 : decode cX0_fences 15 = .ok (.putfield 142, 3) := dk_181 0 142 (dk_at dksX0_fences_0 15 rfl rfl)
theorem dX0_fences_18 : decode cX0_fences 18 = .ok (.aload_n 0, 1) := dk_42 (dk_at dksX0_fences_0 18 rfl rfl)
theorem dX0_fences_19 : decode cX0_fences 19 = .ok (.iconst 1, 1) := dk_4 (dk_at dksX0_fences_0 19 rfl rfl)
theorem dX0_fences_20 : decode cX0_fences 20 = .ok (.putfield 92, 3) := dk_181 0 92 (dk_at dksX0_fences_0 20 rfl rfl)
theorem dX0_fences_23 : decode cX0_fences 23 = .ok (.iload_n 2, 1) := dk_28 (dk_at dksX0_fences_0 23 rfl rfl)
theorem dX0_fences_24 : decode cX0_fences 24 = .ok (.ireturn, 1) := dk_172 (dk_at dksX0_fences_1 0 rfl rfl)
abbrev cX0_put : ByteArray := prog_1_method_13_code
def yX0_put : MethodName := ⟨RX0, "put", "(II)I"⟩
def dkwX0_put_2 : List UInt8 := [181, 0, 38, 42, 4, 181, 0, 92, 42, 180, 0, 38, 190, 172]
abbrev dktX0_put_2 : List UInt8 := dkwX0_put_2 ++ []
def dkwX0_put_1 : List UInt8 := [172, 42, 180, 0, 38, 190, 16, 10, 160, 0, 6, 16, 254, 172, 42, 42, 180, 0, 38, 27, 28, 184, 0, 145]
abbrev dktX0_put_1 : List UInt8 := dkwX0_put_1 ++ dktX0_put_2
def dkwX0_put_0 : List UInt8 := [27, 133, 9, 42, 180, 0, 38, 190, 133, 184, 0, 85, 153, 0, 11, 42, 28, 182, 0, 115, 154, 0, 5, 2]
abbrev dktX0_put_0 : List UInt8 := dkwX0_put_0 ++ dktX0_put_1
theorem dksX0_put_0 : cX0_put.data.toList.drop 0 = dktX0_put_0 := by decide +kernel
theorem dksX0_put_1 : cX0_put.data.toList.drop 24 = dktX0_put_1 := dk_seg dksX0_put_0 24 rfl rfl
theorem dksX0_put_2 : cX0_put.data.toList.drop 48 = dktX0_put_2 := dk_seg dksX0_put_1 24 rfl rfl
theorem dX0_put_0 : decode cX0_put 0 = .ok (.iload_n 1, 1) := dk_27 (dk_at dksX0_put_0 0 rfl rfl)
theorem dX0_put_1 : decode cX0_put 1 = .ok (.i2l, 1) := dk_133 (dk_at dksX0_put_0 1 rfl rfl)
theorem dX0_put_2 : decode cX0_put 2 = .ok (.lconst 0, 1) := dk_9 (dk_at dksX0_put_0 2 rfl rfl)
theorem dX0_put_3 : decode cX0_put 3 = .ok (.aload_n 0, 1) := dk_42 (dk_at dksX0_put_0 3 rfl rfl)
theorem dX0_put_4 : decode cX0_put 4 = .ok (.getfield 38, 3) := dk_180 0 38 (dk_at dksX0_put_0 4 rfl rfl)
theorem dX0_put_7 : decode cX0_put 7 = .ok (.arraylength, 1) := dk_190 (dk_at dksX0_put_0 7 rfl rfl)
theorem dX0_put_8 : decode cX0_put 8 = .ok (.i2l, 1) := dk_133 (dk_at dksX0_put_0 8 rfl rfl)
theorem dX0_put_9 : decode cX0_put 9 = .ok (.invokestatic 85, 3) := dk_184 0 85 (dk_at dksX0_put_0 9 rfl rfl)
theorem dX0_put_12 : decode cX0_put 12 = .ok (.ifCond .eq 11, 3) := dk_153 0 11 (dk_at dksX0_put_0 12 rfl rfl)
theorem dX0_put_15 : decode cX0_put 15 = .ok (.aload_n 0, 1) := dk_42 (dk_at dksX0_put_0 15 rfl rfl)
theorem dX0_put_16 : decode cX0_put 16 = .ok (.iload_n 2, 1) := dk_28 (dk_at dksX0_put_0 16 rfl rfl)
theorem dX0_put_17 : decode cX0_put 17 = .ok (.invokevirtual 115, 3) := dk_182 0 115 (dk_at dksX0_put_0 17 rfl rfl)
theorem dX0_put_20 : decode cX0_put 20 = .ok (.ifCond .ne 5, 3) := dk_154 0 5 (dk_at dksX0_put_0 20 rfl rfl)
theorem dX0_put_23 : decode cX0_put 23 = .ok (.iconst (-1), 1) := dk_2 (dk_at dksX0_put_0 23 rfl rfl)
theorem dX0_put_24 : decode cX0_put 24 = .ok (.ireturn, 1) := dk_172 (dk_at dksX0_put_1 0 rfl rfl)
theorem dX0_put_25 : decode cX0_put 25 = .ok (.aload_n 0, 1) := dk_42 (dk_at dksX0_put_1 1 rfl rfl)
theorem dX0_put_26 : decode cX0_put 26 = .ok (.getfield 38, 3) := dk_180 0 38 (dk_at dksX0_put_1 2 rfl rfl)
theorem dX0_put_29 : decode cX0_put 29 = .ok (.arraylength, 1) := dk_190 (dk_at dksX0_put_1 5 rfl rfl)
theorem dX0_put_30 : decode cX0_put 30 = .ok (.bipush 10, 2) := dk_16 10 (dk_at dksX0_put_1 6 rfl rfl)
theorem dX0_put_32 : decode cX0_put 32 = .ok (.if_icmp .ne 6, 3) := dk_160 0 6 (dk_at dksX0_put_1 8 rfl rfl)
theorem dX0_put_35 : decode cX0_put 35 = .ok (.bipush (-2), 2) := dk_16 254 (dk_at dksX0_put_1 11 rfl rfl)
theorem dX0_put_37 : decode cX0_put 37 = .ok (.ireturn, 1) := dk_172 (dk_at dksX0_put_1 13 rfl rfl)
theorem dX0_put_38 : decode cX0_put 38 = .ok (.aload_n 0, 1) := dk_42 (dk_at dksX0_put_1 14 rfl rfl)
theorem dX0_put_39 : decode cX0_put 39 = .ok (.aload_n 0, 1) := dk_42 (dk_at dksX0_put_1 15 rfl rfl)
theorem dX0_put_40 : decode cX0_put 40 = .ok (.getfield 38, 3) := dk_180 0 38 (dk_at dksX0_put_1 16 rfl rfl)
theorem dX0_put_43 : decode cX0_put 43 = .ok (.iload_n 1, 1) := dk_27 (dk_at dksX0_put_1 19 rfl rfl)
theorem dX0_put_44 : decode cX0_put 44 = .ok (.iload_n 2, 1) := dk_28 (dk_at dksX0_put_1 20 rfl rfl)
theorem dX0_put_45 : decode cX0_put 45 = .ok (.invokestatic 145, 3) := dk_184 0 145 (dk_at dksX0_put_1 21 rfl rfl)
theorem dX0_put_48 : decode cX0_put 48 = .ok (.putfield 38, 3) := dk_181 0 38 (dk_at dksX0_put_2 0 rfl rfl)
theorem dX0_put_51 : decode cX0_put 51 = .ok (.aload_n 0, 1) := dk_42 (dk_at dksX0_put_2 3 rfl rfl)
theorem dX0_put_52 : decode cX0_put 52 = .ok (.iconst 1, 1) := dk_4 (dk_at dksX0_put_2 4 rfl rfl)
theorem dX0_put_53 : decode cX0_put 53 = .ok (.putfield 92, 3) := dk_181 0 92 (dk_at dksX0_put_2 5 rfl rfl)
theorem dX0_put_56 : decode cX0_put 56 = .ok (.aload_n 0, 1) := dk_42 (dk_at dksX0_put_2 8 rfl rfl)
theorem dX0_put_57 : decode cX0_put 57 = .ok (.getfield 38, 3) := dk_180 0 38 (dk_at dksX0_put_2 9 rfl rfl)
theorem dX0_put_60 : decode cX0_put 60 = .ok (.arraylength, 1) := dk_190 (dk_at dksX0_put_2 12 rfl rfl)
theorem dX0_put_61 : decode cX0_put 61 = .ok (.ireturn, 1) := dk_172 (dk_at dksX0_put_2 13 rfl rfl)
abbrev cX0_with : ByteArray := prog_1_method_14_code
def yX0_with : MethodName := ⟨RX0, "with", "([III)[I"⟩
def dkwX0_with_1 : List UInt8 := [96, 42, 190, 27, 100, 184, 0, 149, 45, 176]
abbrev dktX0_with_1 : List UInt8 := dkwX0_with_1 ++ []
def dkwX0_with_0 : List UInt8 := [42, 190, 4, 96, 188, 10, 78, 42, 3, 45, 3, 27, 184, 0, 149, 45, 27, 28, 79, 42, 27, 45, 27, 4]
abbrev dktX0_with_0 : List UInt8 := dkwX0_with_0 ++ dktX0_with_1
theorem dksX0_with_0 : cX0_with.data.toList.drop 0 = dktX0_with_0 := by decide +kernel
theorem dksX0_with_1 : cX0_with.data.toList.drop 24 = dktX0_with_1 := dk_seg dksX0_with_0 24 rfl rfl
theorem dX0_with_0 : decode cX0_with 0 = .ok (.aload_n 0, 1) := dk_42 (dk_at dksX0_with_0 0 rfl rfl)
theorem dX0_with_1 : decode cX0_with 1 = .ok (.arraylength, 1) := dk_190 (dk_at dksX0_with_0 1 rfl rfl)
theorem dX0_with_2 : decode cX0_with 2 = .ok (.iconst 1, 1) := dk_4 (dk_at dksX0_with_0 2 rfl rfl)
theorem dX0_with_3 : decode cX0_with 3 = .ok (.iadd, 1) := dk_96 (dk_at dksX0_with_0 3 rfl rfl)
theorem dX0_with_4 : decode cX0_with 4 = .ok (.newarray .int, 2) := dk_188_10 (dk_at dksX0_with_0 4 rfl rfl)
theorem dX0_with_6 : decode cX0_with 6 = .ok (.astore_n 3, 1) := dk_78 (dk_at dksX0_with_0 6 rfl rfl)
theorem dX0_with_7 : decode cX0_with 7 = .ok (.aload_n 0, 1) := dk_42 (dk_at dksX0_with_0 7 rfl rfl)
theorem dX0_with_8 : decode cX0_with 8 = .ok (.iconst 0, 1) := dk_3 (dk_at dksX0_with_0 8 rfl rfl)
theorem dX0_with_9 : decode cX0_with 9 = .ok (.aload_n 3, 1) := dk_45 (dk_at dksX0_with_0 9 rfl rfl)
theorem dX0_with_10 : decode cX0_with 10 = .ok (.iconst 0, 1) := dk_3 (dk_at dksX0_with_0 10 rfl rfl)
theorem dX0_with_11 : decode cX0_with 11 = .ok (.iload_n 1, 1) := dk_27 (dk_at dksX0_with_0 11 rfl rfl)
theorem dX0_with_12 : decode cX0_with 12 = .ok (.invokestatic 149, 3) := dk_184 0 149 (dk_at dksX0_with_0 12 rfl rfl)
theorem dX0_with_15 : decode cX0_with 15 = .ok (.aload_n 3, 1) := dk_45 (dk_at dksX0_with_0 15 rfl rfl)
theorem dX0_with_16 : decode cX0_with 16 = .ok (.iload_n 1, 1) := dk_27 (dk_at dksX0_with_0 16 rfl rfl)
theorem dX0_with_17 : decode cX0_with 17 = .ok (.iload_n 2, 1) := dk_28 (dk_at dksX0_with_0 17 rfl rfl)
theorem dX0_with_18 : decode cX0_with 18 = .ok (.iastore, 1) := dk_79 (dk_at dksX0_with_0 18 rfl rfl)
theorem dX0_with_19 : decode cX0_with 19 = .ok (.aload_n 0, 1) := dk_42 (dk_at dksX0_with_0 19 rfl rfl)
theorem dX0_with_20 : decode cX0_with 20 = .ok (.iload_n 1, 1) := dk_27 (dk_at dksX0_with_0 20 rfl rfl)
theorem dX0_with_21 : decode cX0_with 21 = .ok (.aload_n 3, 1) := dk_45 (dk_at dksX0_with_0 21 rfl rfl)
theorem dX0_with_22 : decode cX0_with 22 = .ok (.iload_n 1, 1) := dk_27 (dk_at dksX0_with_0 22 rfl rfl)
theorem dX0_with_23 : decode cX0_with 23 = .ok (.iconst 1, 1) := dk_4 (dk_at dksX0_with_0 23 rfl rfl)
theorem dX0_with_24 : decode cX0_with 24 = .ok (.iadd, 1) := dk_96 (dk_at dksX0_with_1 0 rfl rfl)
theorem dX0_with_25 : decode cX0_with 25 = .ok (.aload_n 0, 1) := dk_42 (dk_at dksX0_with_1 1 rfl rfl)
theorem dX0_with_26 : decode cX0_with 26 = .ok (.arraylength, 1) := dk_190 (dk_at dksX0_with_1 2 rfl rfl)
theorem dX0_with_27 : decode cX0_with 27 = .ok (.iload_n 1, 1) := dk_27 (dk_at dksX0_with_1 3 rfl rfl)
theorem dX0_with_28 : decode cX0_with 28 = .ok (.isub, 1) := dk_100 (dk_at dksX0_with_1 4 rfl rfl)
theorem dX0_with_29 : decode cX0_with 29 = .ok (.invokestatic 149, 3) := dk_184 0 149 (dk_at dksX0_with_1 5 rfl rfl)
theorem dX0_with_32 : decode cX0_with 32 = .ok (.aload_n 3, 1) := dk_45 (dk_at dksX0_with_1 8 rfl rfl)
theorem dX0_with_33 : decode cX0_with 33 = .ok (.areturn, 1) := dk_176 (dk_at dksX0_with_1 9 rfl rfl)
abbrev cX0_take : ByteArray := prog_1_method_15_code
def yX0_take : MethodName := ⟨RX0, "take", "(I)I"⟩
def dkwX0_take_2 : List UInt8 := [27, 44, 190, 27, 100, 184, 0, 149, 42, 44, 181, 0, 38, 42, 4, 181, 0, 92, 42, 180, 0, 38, 190, 172]
abbrev dktX0_take_2 : List UInt8 := dkwX0_take_2 ++ []
def dkwX0_take_1 : List UInt8 := [4, 100, 188, 10, 77, 42, 180, 0, 38, 3, 44, 3, 27, 184, 0, 149, 42, 180, 0, 38, 27, 4, 96, 44]
abbrev dktX0_take_1 : List UInt8 := dkwX0_take_1 ++ dktX0_take_2
def dkwX0_take_0 : List UInt8 := [27, 133, 9, 42, 180, 0, 38, 190, 4, 100, 133, 184, 0, 85, 154, 0, 5, 2, 172, 42, 180, 0, 38, 190]
abbrev dktX0_take_0 : List UInt8 := dkwX0_take_0 ++ dktX0_take_1
theorem dksX0_take_0 : cX0_take.data.toList.drop 0 = dktX0_take_0 := by decide +kernel
theorem dksX0_take_1 : cX0_take.data.toList.drop 24 = dktX0_take_1 := dk_seg dksX0_take_0 24 rfl rfl
theorem dksX0_take_2 : cX0_take.data.toList.drop 48 = dktX0_take_2 := dk_seg dksX0_take_1 24 rfl rfl
theorem dX0_take_0 : decode cX0_take 0 = .ok (.iload_n 1, 1) := dk_27 (dk_at dksX0_take_0 0 rfl rfl)
theorem dX0_take_1 : decode cX0_take 1 = .ok (.i2l, 1) := dk_133 (dk_at dksX0_take_0 1 rfl rfl)
theorem dX0_take_2 : decode cX0_take 2 = .ok (.lconst 0, 1) := dk_9 (dk_at dksX0_take_0 2 rfl rfl)
theorem dX0_take_3 : decode cX0_take 3 = .ok (.aload_n 0, 1) := dk_42 (dk_at dksX0_take_0 3 rfl rfl)
theorem dX0_take_4 : decode cX0_take 4 = .ok (.getfield 38, 3) := dk_180 0 38 (dk_at dksX0_take_0 4 rfl rfl)
theorem dX0_take_7 : decode cX0_take 7 = .ok (.arraylength, 1) := dk_190 (dk_at dksX0_take_0 7 rfl rfl)
theorem dX0_take_8 : decode cX0_take 8 = .ok (.iconst 1, 1) := dk_4 (dk_at dksX0_take_0 8 rfl rfl)
theorem dX0_take_9 : decode cX0_take 9 = .ok (.isub, 1) := dk_100 (dk_at dksX0_take_0 9 rfl rfl)
theorem dX0_take_10 : decode cX0_take 10 = .ok (.i2l, 1) := dk_133 (dk_at dksX0_take_0 10 rfl rfl)
theorem dX0_take_11 : decode cX0_take 11 = .ok (.invokestatic 85, 3) := dk_184 0 85 (dk_at dksX0_take_0 11 rfl rfl)
theorem dX0_take_14 : decode cX0_take 14 = .ok (.ifCond .ne 5, 3) := dk_154 0 5 (dk_at dksX0_take_0 14 rfl rfl)
theorem dX0_take_17 : decode cX0_take 17 = .ok (.iconst (-1), 1) := dk_2 (dk_at dksX0_take_0 17 rfl rfl)
theorem dX0_take_18 : decode cX0_take 18 = .ok (.ireturn, 1) := dk_172 (dk_at dksX0_take_0 18 rfl rfl)
theorem dX0_take_19 : decode cX0_take 19 = .ok (.aload_n 0, 1) := dk_42 (dk_at dksX0_take_0 19 rfl rfl)
theorem dX0_take_20 : decode cX0_take 20 = .ok (.getfield 38, 3) := dk_180 0 38 (dk_at dksX0_take_0 20 rfl rfl)
theorem dX0_take_23 : decode cX0_take 23 = .ok (.arraylength, 1) := dk_190 (dk_at dksX0_take_0 23 rfl rfl)
theorem dX0_take_24 : decode cX0_take 24 = .ok (.iconst 1, 1) := dk_4 (dk_at dksX0_take_1 0 rfl rfl)
theorem dX0_take_25 : decode cX0_take 25 = .ok (.isub, 1) := dk_100 (dk_at dksX0_take_1 1 rfl rfl)
theorem dX0_take_26 : decode cX0_take 26 = .ok (.newarray .int, 2) := dk_188_10 (dk_at dksX0_take_1 2 rfl rfl)
theorem dX0_take_28 : decode cX0_take 28 = .ok (.astore_n 2, 1) := dk_77 (dk_at dksX0_take_1 4 rfl rfl)
theorem dX0_take_29 : decode cX0_take 29 = .ok (.aload_n 0, 1) := dk_42 (dk_at dksX0_take_1 5 rfl rfl)
theorem dX0_take_30 : decode cX0_take 30 = .ok (.getfield 38, 3) := dk_180 0 38 (dk_at dksX0_take_1 6 rfl rfl)
theorem dX0_take_33 : decode cX0_take 33 = .ok (.iconst 0, 1) := dk_3 (dk_at dksX0_take_1 9 rfl rfl)
theorem dX0_take_34 : decode cX0_take 34 = .ok (.aload_n 2, 1) := dk_44 (dk_at dksX0_take_1 10 rfl rfl)
theorem dX0_take_35 : decode cX0_take 35 = .ok (.iconst 0, 1) := dk_3 (dk_at dksX0_take_1 11 rfl rfl)
theorem dX0_take_36 : decode cX0_take 36 = .ok (.iload_n 1, 1) := dk_27 (dk_at dksX0_take_1 12 rfl rfl)
theorem dX0_take_37 : decode cX0_take 37 = .ok (.invokestatic 149, 3) := dk_184 0 149 (dk_at dksX0_take_1 13 rfl rfl)
theorem dX0_take_40 : decode cX0_take 40 = .ok (.aload_n 0, 1) := dk_42 (dk_at dksX0_take_1 16 rfl rfl)
theorem dX0_take_41 : decode cX0_take 41 = .ok (.getfield 38, 3) := dk_180 0 38 (dk_at dksX0_take_1 17 rfl rfl)
theorem dX0_take_44 : decode cX0_take 44 = .ok (.iload_n 1, 1) := dk_27 (dk_at dksX0_take_1 20 rfl rfl)
theorem dX0_take_45 : decode cX0_take 45 = .ok (.iconst 1, 1) := dk_4 (dk_at dksX0_take_1 21 rfl rfl)
theorem dX0_take_46 : decode cX0_take 46 = .ok (.iadd, 1) := dk_96 (dk_at dksX0_take_1 22 rfl rfl)
theorem dX0_take_47 : decode cX0_take 47 = .ok (.aload_n 2, 1) := dk_44 (dk_at dksX0_take_1 23 rfl rfl)
theorem dX0_take_48 : decode cX0_take 48 = .ok (.iload_n 1, 1) := dk_27 (dk_at dksX0_take_2 0 rfl rfl)
theorem dX0_take_49 : decode cX0_take 49 = .ok (.aload_n 2, 1) := dk_44 (dk_at dksX0_take_2 1 rfl rfl)
theorem dX0_take_50 : decode cX0_take 50 = .ok (.arraylength, 1) := dk_190 (dk_at dksX0_take_2 2 rfl rfl)
theorem dX0_take_51 : decode cX0_take 51 = .ok (.iload_n 1, 1) := dk_27 (dk_at dksX0_take_2 3 rfl rfl)
theorem dX0_take_52 : decode cX0_take 52 = .ok (.isub, 1) := dk_100 (dk_at dksX0_take_2 4 rfl rfl)
theorem dX0_take_53 : decode cX0_take 53 = .ok (.invokestatic 149, 3) := dk_184 0 149 (dk_at dksX0_take_2 5 rfl rfl)
theorem dX0_take_56 : decode cX0_take 56 = .ok (.aload_n 0, 1) := dk_42 (dk_at dksX0_take_2 8 rfl rfl)
theorem dX0_take_57 : decode cX0_take 57 = .ok (.aload_n 2, 1) := dk_44 (dk_at dksX0_take_2 9 rfl rfl)
theorem dX0_take_58 : decode cX0_take 58 = .ok (.putfield 38, 3) := dk_181 0 38 (dk_at dksX0_take_2 10 rfl rfl)
theorem dX0_take_61 : decode cX0_take 61 = .ok (.aload_n 0, 1) := dk_42 (dk_at dksX0_take_2 13 rfl rfl)
theorem dX0_take_62 : decode cX0_take 62 = .ok (.iconst 1, 1) := dk_4 (dk_at dksX0_take_2 14 rfl rfl)
theorem dX0_take_63 : decode cX0_take 63 = .ok (.putfield 92, 3) := dk_181 0 92 (dk_at dksX0_take_2 15 rfl rfl)
theorem dX0_take_66 : decode cX0_take 66 = .ok (.aload_n 0, 1) := dk_42 (dk_at dksX0_take_2 18 rfl rfl)
theorem dX0_take_67 : decode cX0_take 67 = .ok (.getfield 38, 3) := dk_180 0 38 (dk_at dksX0_take_2 19 rfl rfl)
theorem dX0_take_70 : decode cX0_take 70 = .ok (.arraylength, 1) := dk_190 (dk_at dksX0_take_2 22 rfl rfl)
theorem dX0_take_71 : decode cX0_take 71 = .ok (.ireturn, 1) := dk_172 (dk_at dksX0_take_2 23 rfl rfl)
abbrev cX0_at : ByteArray := prog_1_method_16_code
def yX0_at : MethodName := ⟨RX0, "at", "(I)I"⟩
def dkwX0_at_1 : List UInt8 := [167, 0, 4, 2, 172]
abbrev dktX0_at_1 : List UInt8 := dkwX0_at_1 ++ []
def dkwX0_at_0 : List UInt8 := [27, 133, 9, 42, 180, 0, 38, 190, 4, 100, 133, 184, 0, 85, 153, 0, 12, 42, 180, 0, 38, 27, 46]
abbrev dktX0_at_0 : List UInt8 := dkwX0_at_0 ++ dktX0_at_1
theorem dksX0_at_0 : cX0_at.data.toList.drop 0 = dktX0_at_0 := by decide +kernel
theorem dksX0_at_1 : cX0_at.data.toList.drop 23 = dktX0_at_1 := dk_seg dksX0_at_0 23 rfl rfl
theorem dX0_at_0 : decode cX0_at 0 = .ok (.iload_n 1, 1) := dk_27 (dk_at dksX0_at_0 0 rfl rfl)
theorem dX0_at_1 : decode cX0_at 1 = .ok (.i2l, 1) := dk_133 (dk_at dksX0_at_0 1 rfl rfl)
theorem dX0_at_2 : decode cX0_at 2 = .ok (.lconst 0, 1) := dk_9 (dk_at dksX0_at_0 2 rfl rfl)
theorem dX0_at_3 : decode cX0_at 3 = .ok (.aload_n 0, 1) := dk_42 (dk_at dksX0_at_0 3 rfl rfl)
theorem dX0_at_4 : decode cX0_at 4 = .ok (.getfield 38, 3) := dk_180 0 38 (dk_at dksX0_at_0 4 rfl rfl)
theorem dX0_at_7 : decode cX0_at 7 = .ok (.arraylength, 1) := dk_190 (dk_at dksX0_at_0 7 rfl rfl)
theorem dX0_at_8 : decode cX0_at 8 = .ok (.iconst 1, 1) := dk_4 (dk_at dksX0_at_0 8 rfl rfl)
theorem dX0_at_9 : decode cX0_at 9 = .ok (.isub, 1) := dk_100 (dk_at dksX0_at_0 9 rfl rfl)
theorem dX0_at_10 : decode cX0_at 10 = .ok (.i2l, 1) := dk_133 (dk_at dksX0_at_0 10 rfl rfl)
theorem dX0_at_11 : decode cX0_at 11 = .ok (.invokestatic 85, 3) := dk_184 0 85 (dk_at dksX0_at_0 11 rfl rfl)
theorem dX0_at_14 : decode cX0_at 14 = .ok (.ifCond .eq 12, 3) := dk_153 0 12 (dk_at dksX0_at_0 14 rfl rfl)
theorem dX0_at_17 : decode cX0_at 17 = .ok (.aload_n 0, 1) := dk_42 (dk_at dksX0_at_0 17 rfl rfl)
theorem dX0_at_18 : decode cX0_at 18 = .ok (.getfield 38, 3) := dk_180 0 38 (dk_at dksX0_at_0 18 rfl rfl)
theorem dX0_at_21 : decode cX0_at 21 = .ok (.iload_n 1, 1) := dk_27 (dk_at dksX0_at_0 21 rfl rfl)
theorem dX0_at_22 : decode cX0_at 22 = .ok (.iaload, 1) := dk_46 (dk_at dksX0_at_0 22 rfl rfl)
theorem dX0_at_23 : decode cX0_at 23 = .ok (.goto 4, 3) := dk_167 0 4 (dk_at dksX0_at_1 0 rfl rfl)
theorem dX0_at_26 : decode cX0_at 26 = .ok (.iconst (-1), 1) := dk_2 (dk_at dksX0_at_1 3 rfl rfl)
theorem dX0_at_27 : decode cX0_at 27 = .ok (.ireturn, 1) := dk_172 (dk_at dksX0_at_1 4 rfl rfl)
abbrev cX0_read : ByteArray := prog_1_method_21_code
def yX0_read : MethodName := ⟨RX0, "read", "()I"⟩
def dkwX0_read_0 : List UInt8 := [42, 3, 3, 3, 182, 0, 240, 172]
abbrev dktX0_read_0 : List UInt8 := dkwX0_read_0 ++ []
theorem dksX0_read_0 : cX0_read.data.toList.drop 0 = dktX0_read_0 := by decide +kernel
theorem dX0_read_0 : decode cX0_read 0 = .ok (.aload_n 0, 1) := dk_42 (dk_at dksX0_read_0 0 rfl rfl)
theorem dX0_read_1 : decode cX0_read 1 = .ok (.iconst 0, 1) := dk_3 (dk_at dksX0_read_0 1 rfl rfl)
theorem dX0_read_2 : decode cX0_read 2 = .ok (.iconst 0, 1) := dk_3 (dk_at dksX0_read_0 2 rfl rfl)
theorem dX0_read_3 : decode cX0_read 3 = .ok (.iconst 0, 1) := dk_3 (dk_at dksX0_read_0 3 rfl rfl)
theorem dX0_read_4 : decode cX0_read 4 = .ok (.invokevirtual 240, 3) := dk_182 0 240 (dk_at dksX0_read_0 4 rfl rfl)
theorem dX0_read_7 : decode cX0_read 7 = .ok (.ireturn, 1) := dk_172 (dk_at dksX0_read_0 7 rfl rfl)
abbrev cX0_reads : ByteArray := prog_1_method_20_code
def yX0_reads : MethodName := ⟨RX0, "reads", "(III)I"⟩
def dkwX0_reads_10 : List UInt8 := [42, 25, 4, 182, 0, 236, 181, 0, 69, 42, 180, 0, 53, 172]
abbrev dktX0_reads_10 : List UInt8 := dkwX0_reads_10 ++ []
def dkwX0_reads_9 : List UInt8 := [180, 0, 216, 21, 5, 46, 16, 252, 182, 0, 230, 25, 8, 21, 5, 42, 180, 0, 38, 190, 182, 0, 233, 42]
abbrev dktX0_reads_9 : List UInt8 := dkwX0_reads_9 ++ dktX0_reads_10
def dkwX0_reads_8 : List UInt8 := [25, 4, 183, 0, 227, 58, 8, 25, 8, 42, 180, 0, 130, 25, 4, 180, 0, 216, 3, 46, 25, 4]
abbrev dktX0_reads_8 : List UInt8 := dkwX0_reads_8 ++ dktX0_reads_9
def dkwX0_reads_7 : List UInt8 := [97, 136, 181, 0, 53, 22, 6, 20, 0, 219, 113, 20, 0, 135, 148, 157, 0, 63, 187, 0, 225, 89, 42]
abbrev dktX0_reads_7 : List UInt8 := dkwX0_reads_7 ++ dktX0_reads_8
def dkwX0_reads_6 : List UInt8 := [47, 55, 6, 42, 22, 6, 20, 0, 219, 109, 25, 4, 180, 0, 221, 21, 5, 50, 42, 180, 0, 38, 190, 47]
abbrev dktX0_reads_6 : List UInt8 := dkwX0_reads_6 ++ dktX0_reads_7
def dkwX0_reads_5 : List UInt8 := [180, 0, 214, 42, 180, 0, 130, 50, 25, 4, 180, 0, 216, 3, 46, 50, 25, 4, 180, 0, 216, 21, 5, 46]
abbrev dktX0_reads_5 : List UInt8 := dkwX0_reads_5 ++ dktX0_reads_6
def dkwX0_reads_4 : List UInt8 := [182, 0, 211, 54, 5, 42, 16, 252, 181, 0, 53, 21, 5, 16, 252, 160, 0, 6, 16, 252, 172, 25, 4]
abbrev dktX0_reads_4 : List UInt8 := dkwX0_reads_4 ++ dktX0_reads_5
def dkwX0_reads_3 : List UInt8 := [183, 0, 58, 181, 0, 59, 42, 3, 181, 0, 92, 42, 187, 0, 66, 89, 183, 0, 68, 181, 0, 69, 25, 4]
abbrev dktX0_reads_3 : List UInt8 := dkwX0_reads_3 ++ dktX0_reads_4
def dkwX0_reads_2 : List UInt8 := [182, 0, 202, 42, 180, 0, 63, 185, 0, 205, 1, 0, 42, 3, 181, 0, 208, 42, 187, 0, 56, 89]
abbrev dktX0_reads_2 : List UInt8 := dkwX0_reads_2 ++ dktX0_reads_3
def dkwX0_reads_1 : List UInt8 := [181, 0, 193, 187, 0, 197, 89, 42, 42, 180, 0, 38, 42, 180, 0, 193, 183, 0, 199, 58, 4, 25, 4]
abbrev dktX0_reads_1 : List UInt8 := dkwX0_reads_1 ++ dktX0_reads_2
def dkwX0_reads_0 : List UInt8 := [42, 180, 0, 89, 154, 0, 6, 16, 253, 172, 42, 187, 0, 164, 89, 27, 28, 29, 1, 183, 0, 190]
abbrev dktX0_reads_0 : List UInt8 := dkwX0_reads_0 ++ dktX0_reads_1
theorem dksX0_reads_0 : cX0_reads.data.toList.drop 0 = dktX0_reads_0 := by decide +kernel
theorem dksX0_reads_1 : cX0_reads.data.toList.drop 22 = dktX0_reads_1 := dk_seg dksX0_reads_0 22 rfl rfl
theorem dksX0_reads_2 : cX0_reads.data.toList.drop 45 = dktX0_reads_2 := dk_seg dksX0_reads_1 23 rfl rfl
theorem dksX0_reads_3 : cX0_reads.data.toList.drop 67 = dktX0_reads_3 := dk_seg dksX0_reads_2 22 rfl rfl
theorem dksX0_reads_4 : cX0_reads.data.toList.drop 91 = dktX0_reads_4 := dk_seg dksX0_reads_3 24 rfl rfl
theorem dksX0_reads_5 : cX0_reads.data.toList.drop 114 = dktX0_reads_5 := dk_seg dksX0_reads_4 23 rfl rfl
theorem dksX0_reads_6 : cX0_reads.data.toList.drop 138 = dktX0_reads_6 := dk_seg dksX0_reads_5 24 rfl rfl
theorem dksX0_reads_7 : cX0_reads.data.toList.drop 162 = dktX0_reads_7 := dk_seg dksX0_reads_6 24 rfl rfl
theorem dksX0_reads_8 : cX0_reads.data.toList.drop 185 = dktX0_reads_8 := dk_seg dksX0_reads_7 23 rfl rfl
theorem dksX0_reads_9 : cX0_reads.data.toList.drop 207 = dktX0_reads_9 := dk_seg dksX0_reads_8 22 rfl rfl
theorem dksX0_reads_10 : cX0_reads.data.toList.drop 231 = dktX0_reads_10 := dk_seg dksX0_reads_9 24 rfl rfl
theorem dX0_reads_0 : decode cX0_reads 0 = .ok (.aload_n 0, 1) := dk_42 (dk_at dksX0_reads_0 0 rfl rfl)
theorem dX0_reads_1 : decode cX0_reads 1 = .ok (.getfield 89, 3) := dk_180 0 89 (dk_at dksX0_reads_0 1 rfl rfl)
theorem dX0_reads_4 : decode cX0_reads 4 = .ok (.ifCond .ne 6, 3) := dk_154 0 6 (dk_at dksX0_reads_0 4 rfl rfl)
theorem dX0_reads_7 : decode cX0_reads 7 = .ok (.bipush (-3), 2) := dk_16 253 (dk_at dksX0_reads_0 7 rfl rfl)
theorem dX0_reads_9 : decode cX0_reads 9 = .ok (.ireturn, 1) := dk_172 (dk_at dksX0_reads_0 9 rfl rfl)
theorem dX0_reads_10 : decode cX0_reads 10 = .ok (.aload_n 0, 1) := dk_42 (dk_at dksX0_reads_0 10 rfl rfl)
theorem dX0_reads_11 : decode cX0_reads 11 = .ok (.new 164, 3) := dk_187 0 164 (dk_at dksX0_reads_0 11 rfl rfl)
theorem dX0_reads_14 : decode cX0_reads 14 = .ok (.dup, 1) := dk_89 (dk_at dksX0_reads_0 14 rfl rfl)
theorem dX0_reads_15 : decode cX0_reads 15 = .ok (.iload_n 1, 1) := dk_27 (dk_at dksX0_reads_0 15 rfl rfl)
theorem dX0_reads_16 : decode cX0_reads 16 = .ok (.iload_n 2, 1) := dk_28 (dk_at dksX0_reads_0 16 rfl rfl)
theorem dX0_reads_17 : decode cX0_reads 17 = .ok (.iload_n 3, 1) := dk_29 (dk_at dksX0_reads_0 17 rfl rfl)
theorem dX0_reads_18 : decode cX0_reads 18 = .ok (.aconst_null, 1) := dk_1 (dk_at dksX0_reads_0 18 rfl rfl)
theorem dX0_reads_19 : decode cX0_reads 19 = .ok (.invokespecial 190, 3) := dk_183 0 190 (dk_at dksX0_reads_0 19 rfl rfl)
theorem dX0_reads_22 : decode cX0_reads 22 = .ok (.putfield 193, 3) := dk_181 0 193 (dk_at dksX0_reads_1 0 rfl rfl)
theorem dX0_reads_25 : decode cX0_reads 25 = .ok (.new 197, 3) := dk_187 0 197 (dk_at dksX0_reads_1 3 rfl rfl)
theorem dX0_reads_28 : decode cX0_reads 28 = .ok (.dup, 1) := dk_89 (dk_at dksX0_reads_1 6 rfl rfl)
theorem dX0_reads_29 : decode cX0_reads 29 = .ok (.aload_n 0, 1) := dk_42 (dk_at dksX0_reads_1 7 rfl rfl)
theorem dX0_reads_30 : decode cX0_reads 30 = .ok (.aload_n 0, 1) := dk_42 (dk_at dksX0_reads_1 8 rfl rfl)
theorem dX0_reads_31 : decode cX0_reads 31 = .ok (.getfield 38, 3) := dk_180 0 38 (dk_at dksX0_reads_1 9 rfl rfl)
theorem dX0_reads_34 : decode cX0_reads 34 = .ok (.aload_n 0, 1) := dk_42 (dk_at dksX0_reads_1 12 rfl rfl)
theorem dX0_reads_35 : decode cX0_reads 35 = .ok (.getfield 193, 3) := dk_180 0 193 (dk_at dksX0_reads_1 13 rfl rfl)
theorem dX0_reads_38 : decode cX0_reads 38 = .ok (.invokespecial 199, 3) := dk_183 0 199 (dk_at dksX0_reads_1 16 rfl rfl)
theorem dX0_reads_41 : decode cX0_reads 41 = .ok (.astore 4, 2) := dk_58 4 (dk_at dksX0_reads_1 19 rfl rfl)
theorem dX0_reads_43 : decode cX0_reads 43 = .ok (.aload 4, 2) := dk_25 4 (dk_at dksX0_reads_1 21 rfl rfl)
theorem dX0_reads_45 : decode cX0_reads 45 = .ok (.invokevirtual 202, 3) := dk_182 0 202 (dk_at dksX0_reads_2 0 rfl rfl)
theorem dX0_reads_48 : decode cX0_reads 48 = .ok (.aload_n 0, 1) := dk_42 (dk_at dksX0_reads_2 3 rfl rfl)
theorem dX0_reads_49 : decode cX0_reads 49 = .ok (.getfield 63, 3) := dk_180 0 63 (dk_at dksX0_reads_2 4 rfl rfl)
theorem dX0_reads_52 : decode cX0_reads 52 = .ok (.invokeinterface 205 1, 5) := by decide +kernel
theorem dX0_reads_57 : decode cX0_reads 57 = .ok (.aload_n 0, 1) := dk_42 (dk_at dksX0_reads_2 12 rfl rfl)
theorem dX0_reads_58 : decode cX0_reads 58 = .ok (.iconst 0, 1) := dk_3 (dk_at dksX0_reads_2 13 rfl rfl)
theorem dX0_reads_59 : decode cX0_reads 59 = .ok (.putfield 208, 3) := dk_181 0 208 (dk_at dksX0_reads_2 14 rfl rfl)
theorem dX0_reads_62 : decode cX0_reads 62 = .ok (.aload_n 0, 1) := dk_42 (dk_at dksX0_reads_2 17 rfl rfl)
theorem dX0_reads_63 : decode cX0_reads 63 = .ok (.new 56, 3) := dk_187 0 56 (dk_at dksX0_reads_2 18 rfl rfl)
theorem dX0_reads_66 : decode cX0_reads 66 = .ok (.dup, 1) := dk_89 (dk_at dksX0_reads_2 21 rfl rfl)
theorem dX0_reads_67 : decode cX0_reads 67 = .ok (.invokespecial 58, 3) := dk_183 0 58 (dk_at dksX0_reads_3 0 rfl rfl)
theorem dX0_reads_70 : decode cX0_reads 70 = .ok (.putfield 59, 3) := dk_181 0 59 (dk_at dksX0_reads_3 3 rfl rfl)
theorem dX0_reads_73 : decode cX0_reads 73 = .ok (.aload_n 0, 1) := dk_42 (dk_at dksX0_reads_3 6 rfl rfl)
theorem dX0_reads_74 : decode cX0_reads 74 = .ok (.iconst 0, 1) := dk_3 (dk_at dksX0_reads_3 7 rfl rfl)
theorem dX0_reads_75 : decode cX0_reads 75 = .ok (.putfield 92, 3) := dk_181 0 92 (dk_at dksX0_reads_3 8 rfl rfl)
theorem dX0_reads_78 : decode cX0_reads 78 = .ok (.aload_n 0, 1) := dk_42 (dk_at dksX0_reads_3 11 rfl rfl)
theorem dX0_reads_79 : decode cX0_reads 79 = .ok (.new 66, 3) := dk_187 0 66 (dk_at dksX0_reads_3 12 rfl rfl)
theorem dX0_reads_82 : decode cX0_reads 82 = .ok (.dup, 1) := dk_89 (dk_at dksX0_reads_3 15 rfl rfl)
theorem dX0_reads_83 : decode cX0_reads 83 = .ok (.invokespecial 68, 3) := dk_183 0 68 (dk_at dksX0_reads_3 16 rfl rfl)
theorem dX0_reads_86 : decode cX0_reads 86 = .ok (.putfield 69, 3) := dk_181 0 69 (dk_at dksX0_reads_3 19 rfl rfl)
theorem dX0_reads_89 : decode cX0_reads 89 = .ok (.aload 4, 2) := dk_25 4 (dk_at dksX0_reads_3 22 rfl rfl)
theorem dX0_reads_91 : decode cX0_reads 91 = .ok (.invokevirtual 211, 3) := dk_182 0 211 (dk_at dksX0_reads_4 0 rfl rfl)
theorem dX0_reads_94 : decode cX0_reads 94 = .ok (.istore 5, 2) := dk_54 5 (dk_at dksX0_reads_4 3 rfl rfl)
theorem dX0_reads_96 : decode cX0_reads 96 = .ok (.aload_n 0, 1) := dk_42 (dk_at dksX0_reads_4 5 rfl rfl)
theorem dX0_reads_97 : decode cX0_reads 97 = .ok (.bipush (-4), 2) := dk_16 252 (dk_at dksX0_reads_4 6 rfl rfl)
theorem dX0_reads_99 : decode cX0_reads 99 = .ok (.putfield 53, 3) := dk_181 0 53 (dk_at dksX0_reads_4 8 rfl rfl)
theorem dX0_reads_102 : decode cX0_reads 102 = .ok (.iload 5, 2) := dk_21 5 (dk_at dksX0_reads_4 11 rfl rfl)
theorem dX0_reads_104 : decode cX0_reads 104 = .ok (.bipush (-4), 2) := dk_16 252 (dk_at dksX0_reads_4 13 rfl rfl)
theorem dX0_reads_106 : decode cX0_reads 106 = .ok (.if_icmp .ne 6, 3) := dk_160 0 6 (dk_at dksX0_reads_4 15 rfl rfl)
theorem dX0_reads_109 : decode cX0_reads 109 = .ok (.bipush (-4), 2) := dk_16 252 (dk_at dksX0_reads_4 18 rfl rfl)
theorem dX0_reads_111 : decode cX0_reads 111 = .ok (.ireturn, 1) := dk_172 (dk_at dksX0_reads_4 20 rfl rfl)
theorem dX0_reads_112 : decode cX0_reads 112 = .ok (.aload 4, 2) := dk_25 4 (dk_at dksX0_reads_4 21 rfl rfl)
theorem dX0_reads_114 : decode cX0_reads 114 = .ok (.getfield 214, 3) := dk_180 0 214 (dk_at dksX0_reads_5 0 rfl rfl)
theorem dX0_reads_117 : decode cX0_reads 117 = .ok (.aload_n 0, 1) := dk_42 (dk_at dksX0_reads_5 3 rfl rfl)
theorem dX0_reads_118 : decode cX0_reads 118 = .ok (.getfield 130, 3) := dk_180 0 130 (dk_at dksX0_reads_5 4 rfl rfl)
theorem dX0_reads_121 : decode cX0_reads 121 = .ok (.aaload, 1) := dk_50 (dk_at dksX0_reads_5 7 rfl rfl)
theorem dX0_reads_122 : decode cX0_reads 122 = .ok (.aload 4, 2) := dk_25 4 (dk_at dksX0_reads_5 8 rfl rfl)
theorem dX0_reads_124 : decode cX0_reads 124 = .ok (.getfield 216, 3) := dk_180 0 216 (dk_at dksX0_reads_5 10 rfl rfl)
theorem dX0_reads_127 : decode cX0_reads 127 = .ok (.iconst 0, 1) := dk_3 (dk_at dksX0_reads_5 13 rfl rfl)
theorem dX0_reads_128 : decode cX0_reads 128 = .ok (.iaload, 1) := dk_46 (dk_at dksX0_reads_5 14 rfl rfl)
theorem dX0_reads_129 : decode cX0_reads 129 = .ok (.aaload, 1) := dk_50 (dk_at dksX0_reads_5 15 rfl rfl)
theorem dX0_reads_130 : decode cX0_reads 130 = .ok (.aload 4, 2) := dk_25 4 (dk_at dksX0_reads_5 16 rfl rfl)
theorem dX0_reads_132 : decode cX0_reads 132 = .ok (.getfield 216, 3) := dk_180 0 216 (dk_at dksX0_reads_5 18 rfl rfl)
theorem dX0_reads_135 : decode cX0_reads 135 = .ok (.iload 5, 2) := dk_21 5 (dk_at dksX0_reads_5 21 rfl rfl)
theorem dX0_reads_137 : decode cX0_reads 137 = .ok (.iaload, 1) := dk_46 (dk_at dksX0_reads_5 23 rfl rfl)
theorem dX0_reads_138 : decode cX0_reads 138 = .ok (.laload, 1) := dk_47 (dk_at dksX0_reads_6 0 rfl rfl)
theorem dX0_reads_139 : decode cX0_reads 139 = .ok (.lstore 6, 2) := dk_55 6 (dk_at dksX0_reads_6 1 rfl rfl)
theorem dX0_reads_141 : decode cX0_reads 141 = .ok (.aload_n 0, 1) := dk_42 (dk_at dksX0_reads_6 3 rfl rfl)
theorem dX0_reads_142 : decode cX0_reads 142 = .ok (.lload 6, 2) := dk_22 6 (dk_at dksX0_reads_6 4 rfl rfl)
theorem dX0_reads_144 : decode cX0_reads 144 = .ok (.ldc2_w 219, 3) := dk_20 0 219 (dk_at dksX0_reads_6 6 rfl rfl)
theorem dX0_reads_147 : decode cX0_reads 147 = .ok (.ldiv, 1) := dk_109 (dk_at dksX0_reads_6 9 rfl rfl)
theorem dX0_reads_148 : decode cX0_reads 148 = .ok (.aload 4, 2) := dk_25 4 (dk_at dksX0_reads_6 10 rfl rfl)
theorem dX0_reads_150 : decode cX0_reads 150 = .ok (.getfield 221, 3) := dk_180 0 221 (dk_at dksX0_reads_6 12 rfl rfl)
theorem dX0_reads_153 : decode cX0_reads 153 = .ok (.iload 5, 2) := dk_21 5 (dk_at dksX0_reads_6 15 rfl rfl)
theorem dX0_reads_155 : decode cX0_reads 155 = .ok (.aaload, 1) := dk_50 (dk_at dksX0_reads_6 17 rfl rfl)
theorem dX0_reads_156 : decode cX0_reads 156 = .ok (.aload_n 0, 1) := dk_42 (dk_at dksX0_reads_6 18 rfl rfl)
theorem dX0_reads_157 : decode cX0_reads 157 = .ok (.getfield 38, 3) := dk_180 0 38 (dk_at dksX0_reads_6 19 rfl rfl)
theorem dX0_reads_160 : decode cX0_reads 160 = .ok (.arraylength, 1) := dk_190 (dk_at dksX0_reads_6 22 rfl rfl)
theorem dX0_reads_161 : decode cX0_reads 161 = .ok (.laload, 1) := dk_47 (dk_at dksX0_reads_6 23 rfl rfl)
theorem dX0_reads_162 : decode cX0_reads 162 = .ok (.ladd, 1) := dk_97 (dk_at dksX0_reads_7 0 rfl rfl)
theorem dX0_reads_163 : decode cX0_reads 163 = .ok (.l2i, 1) := dk_136 (dk_at dksX0_reads_7 1 rfl rfl)
theorem dX0_reads_164 : decode cX0_reads 164 = .ok (.putfield 53, 3) := dk_181 0 53 (dk_at dksX0_reads_7 2 rfl rfl)
theorem dX0_reads_167 : decode cX0_reads 167 = .ok (.lload 6, 2) := dk_22 6 (dk_at dksX0_reads_7 5 rfl rfl)
theorem dX0_reads_169 : decode cX0_reads 169 = .ok (.ldc2_w 219, 3) := dk_20 0 219 (dk_at dksX0_reads_7 7 rfl rfl)
theorem dX0_reads_172 : decode cX0_reads 172 = .ok (.lrem, 1) := dk_113 (dk_at dksX0_reads_7 10 rfl rfl)
theorem dX0_reads_173 : decode cX0_reads 173 = .ok (.ldc2_w 135, 3) := dk_20 0 135 (dk_at dksX0_reads_7 11 rfl rfl)
theorem dX0_reads_176 : decode cX0_reads 176 = .ok (.lcmp, 1) := dk_148 (dk_at dksX0_reads_7 14 rfl rfl)
theorem dX0_reads_177 : decode cX0_reads 177 = .ok (.ifCond .gt 63, 3) := dk_157 0 63 (dk_at dksX0_reads_7 15 rfl rfl)
theorem dX0_reads_180 : decode cX0_reads 180 = .ok (.new 225, 3) := dk_187 0 225 (dk_at dksX0_reads_7 18 rfl rfl)
theorem dX0_reads_183 : decode cX0_reads 183 = .ok (.dup, 1) := dk_89 (dk_at dksX0_reads_7 21 rfl rfl)
theorem dX0_reads_184 : decode cX0_reads 184 = .ok (.aload_n 0, 1) := dk_42 (dk_at dksX0_reads_7 22 rfl rfl)
theorem dX0_reads_185 : decode cX0_reads 185 = .ok (.aload 4, 2) := dk_25 4 (dk_at dksX0_reads_8 0 rfl rfl)
theorem dX0_reads_187 : decode cX0_reads 187 = .ok (.invokespecial 227, 3) := dk_183 0 227 (dk_at dksX0_reads_8 2 rfl rfl)
theorem dX0_reads_190 : decode cX0_reads 190 = .ok (.astore 8, 2) := dk_58 8 (dk_at dksX0_reads_8 5 rfl rfl)
theorem dX0_reads_192 : decode cX0_reads 192 = .ok (.aload 8, 2) := dk_25 8 (dk_at dksX0_reads_8 7 rfl rfl)
theorem dX0_reads_194 : decode cX0_reads 194 = .ok (.aload_n 0, 1) := dk_42 (dk_at dksX0_reads_8 9 rfl rfl)
theorem dX0_reads_195 : decode cX0_reads 195 = .ok (.getfield 130, 3) := dk_180 0 130 (dk_at dksX0_reads_8 10 rfl rfl)
theorem dX0_reads_198 : decode cX0_reads 198 = .ok (.aload 4, 2) := dk_25 4 (dk_at dksX0_reads_8 13 rfl rfl)
theorem dX0_reads_200 : decode cX0_reads 200 = .ok (.getfield 216, 3) := dk_180 0 216 (dk_at dksX0_reads_8 15 rfl rfl)
theorem dX0_reads_203 : decode cX0_reads 203 = .ok (.iconst 0, 1) := dk_3 (dk_at dksX0_reads_8 18 rfl rfl)
theorem dX0_reads_204 : decode cX0_reads 204 = .ok (.iaload, 1) := dk_46 (dk_at dksX0_reads_8 19 rfl rfl)
theorem dX0_reads_205 : decode cX0_reads 205 = .ok (.aload 4, 2) := dk_25 4 (dk_at dksX0_reads_8 20 rfl rfl)
theorem dX0_reads_207 : decode cX0_reads 207 = .ok (.getfield 216, 3) := dk_180 0 216 (dk_at dksX0_reads_9 0 rfl rfl)
theorem dX0_reads_210 : decode cX0_reads 210 = .ok (.iload 5, 2) := dk_21 5 (dk_at dksX0_reads_9 3 rfl rfl)
theorem dX0_reads_212 : decode cX0_reads 212 = .ok (.iaload, 1) := dk_46 (dk_at dksX0_reads_9 5 rfl rfl)
theorem dX0_reads_213 : decode cX0_reads 213 = .ok (.bipush (-4), 2) := dk_16 252 (dk_at dksX0_reads_9 6 rfl rfl)
theorem dX0_reads_215 : decode cX0_reads 215 = .ok (.invokevirtual 230, 3) := dk_182 0 230 (dk_at dksX0_reads_9 8 rfl rfl)
theorem dX0_reads_218 : decode cX0_reads 218 = .ok (.aload 8, 2) := dk_25 8 (dk_at dksX0_reads_9 11 rfl rfl)
theorem dX0_reads_220 : decode cX0_reads 220 = .ok (.iload 5, 2) := dk_21 5 (dk_at dksX0_reads_9 13 rfl rfl)
theorem dX0_reads_222 : decode cX0_reads 222 = .ok (.aload_n 0, 1) := dk_42 (dk_at dksX0_reads_9 15 rfl rfl)
theorem dX0_reads_223 : decode cX0_reads 223 = .ok (.getfield 38, 3) := dk_180 0 38 (dk_at dksX0_reads_9 16 rfl rfl)
theorem dX0_reads_226 : decode cX0_reads 226 = .ok (.arraylength, 1) := dk_190 (dk_at dksX0_reads_9 19 rfl rfl)
theorem dX0_reads_227 : decode cX0_reads 227 = .ok (.invokevirtual 233, 3) := dk_182 0 233 (dk_at dksX0_reads_9 20 rfl rfl)
theorem dX0_reads_230 : decode cX0_reads 230 = .ok (.aload_n 0, 1) := dk_42 (dk_at dksX0_reads_9 23 rfl rfl)
theorem dX0_reads_231 : decode cX0_reads 231 = .ok (.aload_n 0, 1) := dk_42 (dk_at dksX0_reads_10 0 rfl rfl)
theorem dX0_reads_232 : decode cX0_reads 232 = .ok (.aload 4, 2) := dk_25 4 (dk_at dksX0_reads_10 1 rfl rfl)
theorem dX0_reads_234 : decode cX0_reads 234 = .ok (.invokevirtual 236, 3) := dk_182 0 236 (dk_at dksX0_reads_10 3 rfl rfl)
theorem dX0_reads_237 : decode cX0_reads 237 = .ok (.putfield 69, 3) := dk_181 0 69 (dk_at dksX0_reads_10 6 rfl rfl)
theorem dX0_reads_240 : decode cX0_reads 240 = .ok (.aload_n 0, 1) := dk_42 (dk_at dksX0_reads_10 9 rfl rfl)
theorem dX0_reads_241 : decode cX0_reads 241 = .ok (.getfield 53, 3) := dk_180 0 53 (dk_at dksX0_reads_10 10 rfl rfl)
theorem dX0_reads_244 : decode cX0_reads 244 = .ok (.ireturn, 1) := dk_172 (dk_at dksX0_reads_10 13 rfl rfl)
abbrev cX0_may : ByteArray := prog_1_method_17_code
def yX0_may : MethodName := ⟨RX0, "may", "(LMendReader$Way;LMendReader$Step;I)Z"⟩
def dkwX0_may_5 : List UInt8 := [167, 0, 4, 3, 172]
abbrev dktX0_may_5 : List UInt8 := dkwX0_may_5 ++ []
def dkwX0_may_4 : List UInt8 := [44, 182, 0, 176, 43, 180, 0, 179, 161, 0, 18, 44, 182, 0, 182, 43, 180, 0, 185, 163, 0, 7, 4]
abbrev dktX0_may_4 : List UInt8 := dkwX0_may_4 ++ dktX0_may_5
def dkwX0_may_3 : List UInt8 := [182, 0, 168, 154, 0, 11, 43, 44, 182, 0, 172, 153, 0, 5, 3, 172, 43, 180, 0, 163, 4, 160, 0, 25]
abbrev dktX0_may_3 : List UInt8 := dkwX0_may_3 ++ dktX0_may_4
def dkwX0_may_2 : List UInt8 := [180, 0, 163, 5, 159, 0, 33, 43, 180, 0, 163, 7, 159, 0, 25, 42, 180, 0, 142, 153, 0, 10, 44]
abbrev dktX0_may_2 : List UInt8 := dkwX0_may_2 ++ dktX0_may_3
def dkwX0_may_1 : List UInt8 := [182, 0, 155, 153, 0, 16, 43, 180, 0, 163, 4, 164, 0, 10, 21, 4, 153, 0, 5, 4, 172, 43]
abbrev dktX0_may_1 : List UInt8 := dkwX0_may_1 ++ dktX0_may_2
def dkwX0_may_0 : List UInt8 := [44, 182, 0, 155, 4, 160, 0, 15, 44, 180, 0, 160, 29, 160, 0, 7, 4, 167, 0, 4, 3, 54, 4, 44]
abbrev dktX0_may_0 : List UInt8 := dkwX0_may_0 ++ dktX0_may_1
theorem dksX0_may_0 : cX0_may.data.toList.drop 0 = dktX0_may_0 := by decide +kernel
theorem dksX0_may_1 : cX0_may.data.toList.drop 24 = dktX0_may_1 := dk_seg dksX0_may_0 24 rfl rfl
theorem dksX0_may_2 : cX0_may.data.toList.drop 46 = dktX0_may_2 := dk_seg dksX0_may_1 22 rfl rfl
theorem dksX0_may_3 : cX0_may.data.toList.drop 69 = dktX0_may_3 := dk_seg dksX0_may_2 23 rfl rfl
theorem dksX0_may_4 : cX0_may.data.toList.drop 93 = dktX0_may_4 := dk_seg dksX0_may_3 24 rfl rfl
theorem dksX0_may_5 : cX0_may.data.toList.drop 116 = dktX0_may_5 := dk_seg dksX0_may_4 23 rfl rfl
theorem dX0_may_0 : decode cX0_may 0 = .ok (.aload_n 2, 1) := dk_44 (dk_at dksX0_may_0 0 rfl rfl)
theorem dX0_may_1 : decode cX0_may 1 = .ok (.invokevirtual 155, 3) := dk_182 0 155 (dk_at dksX0_may_0 1 rfl rfl)
theorem dX0_may_4 : decode cX0_may 4 = .ok (.iconst 1, 1) := dk_4 (dk_at dksX0_may_0 4 rfl rfl)
theorem dX0_may_5 : decode cX0_may 5 = .ok (.if_icmp .ne 15, 3) := dk_160 0 15 (dk_at dksX0_may_0 5 rfl rfl)
theorem dX0_may_8 : decode cX0_may 8 = .ok (.aload_n 2, 1) := dk_44 (dk_at dksX0_may_0 8 rfl rfl)
theorem dX0_may_9 : decode cX0_may 9 = .ok (.getfield 160, 3) := dk_180 0 160 (dk_at dksX0_may_0 9 rfl rfl)
theorem dX0_may_12 : decode cX0_may 12 = .ok (.iload_n 3, 1) := dk_29 (dk_at dksX0_may_0 12 rfl rfl)
theorem dX0_may_13 : decode cX0_may 13 = .ok (.if_icmp .ne 7, 3) := dk_160 0 7 (dk_at dksX0_may_0 13 rfl rfl)
theorem dX0_may_16 : decode cX0_may 16 = .ok (.iconst 1, 1) := dk_4 (dk_at dksX0_may_0 16 rfl rfl)
theorem dX0_may_17 : decode cX0_may 17 = .ok (.goto 4, 3) := dk_167 0 4 (dk_at dksX0_may_0 17 rfl rfl)
theorem dX0_may_20 : decode cX0_may 20 = .ok (.iconst 0, 1) := dk_3 (dk_at dksX0_may_0 20 rfl rfl)
theorem dX0_may_21 : decode cX0_may 21 = .ok (.istore 4, 2) := dk_54 4 (dk_at dksX0_may_0 21 rfl rfl)
theorem dX0_may_23 : decode cX0_may 23 = .ok (.aload_n 2, 1) := dk_44 (dk_at dksX0_may_0 23 rfl rfl)
theorem dX0_may_24 : decode cX0_may 24 = .ok (.invokevirtual 155, 3) := dk_182 0 155 (dk_at dksX0_may_1 0 rfl rfl)
theorem dX0_may_27 : decode cX0_may 27 = .ok (.ifCond .eq 16, 3) := dk_153 0 16 (dk_at dksX0_may_1 3 rfl rfl)
theorem dX0_may_30 : decode cX0_may 30 = .ok (.aload_n 1, 1) := dk_43 (dk_at dksX0_may_1 6 rfl rfl)
theorem dX0_may_31 : decode cX0_may 31 = .ok (.getfield 163, 3) := dk_180 0 163 (dk_at dksX0_may_1 7 rfl rfl)
theorem dX0_may_34 : decode cX0_may 34 = .ok (.iconst 1, 1) := dk_4 (dk_at dksX0_may_1 10 rfl rfl)
theorem dX0_may_35 : decode cX0_may 35 = .ok (.if_icmp .le 10, 3) := dk_164 0 10 (dk_at dksX0_may_1 11 rfl rfl)
theorem dX0_may_38 : decode cX0_may 38 = .ok (.iload 4, 2) := dk_21 4 (dk_at dksX0_may_1 14 rfl rfl)
theorem dX0_may_40 : decode cX0_may 40 = .ok (.ifCond .eq 5, 3) := dk_153 0 5 (dk_at dksX0_may_1 16 rfl rfl)
theorem dX0_may_43 : decode cX0_may 43 = .ok (.iconst 1, 1) := dk_4 (dk_at dksX0_may_1 19 rfl rfl)
theorem dX0_may_44 : decode cX0_may 44 = .ok (.ireturn, 1) := dk_172 (dk_at dksX0_may_1 20 rfl rfl)
theorem dX0_may_45 : decode cX0_may 45 = .ok (.aload_n 1, 1) := dk_43 (dk_at dksX0_may_1 21 rfl rfl)
theorem dX0_may_46 : decode cX0_may 46 = .ok (.getfield 163, 3) := dk_180 0 163 (dk_at dksX0_may_2 0 rfl rfl)
theorem dX0_may_49 : decode cX0_may 49 = .ok (.iconst 2, 1) := dk_5 (dk_at dksX0_may_2 3 rfl rfl)
theorem dX0_may_50 : decode cX0_may 50 = .ok (.if_icmp .eq 33, 3) := dk_159 0 33 (dk_at dksX0_may_2 4 rfl rfl)
theorem dX0_may_53 : decode cX0_may 53 = .ok (.aload_n 1, 1) := dk_43 (dk_at dksX0_may_2 7 rfl rfl)
theorem dX0_may_54 : decode cX0_may 54 = .ok (.getfield 163, 3) := dk_180 0 163 (dk_at dksX0_may_2 8 rfl rfl)
theorem dX0_may_57 : decode cX0_may 57 = .ok (.iconst 4, 1) := dk_7 (dk_at dksX0_may_2 11 rfl rfl)
theorem dX0_may_58 : decode cX0_may 58 = .ok (.if_icmp .eq 25, 3) := dk_159 0 25 (dk_at dksX0_may_2 12 rfl rfl)
theorem dX0_may_61 : decode cX0_may 61 = .ok (.aload_n 0, 1) := dk_42 (dk_at dksX0_may_2 15 rfl rfl)
theorem dX0_may_62 : decode cX0_may 62 = .ok (.getfield 142, 3) := dk_180 0 142 (dk_at dksX0_may_2 16 rfl rfl)
theorem dX0_may_65 : decode cX0_may 65 = .ok (.ifCond .eq 10, 3) := dk_153 0 10 (dk_at dksX0_may_2 19 rfl rfl)
theorem dX0_may_68 : decode cX0_may 68 = .ok (.aload_n 2, 1) := dk_44 (dk_at dksX0_may_2 22 rfl rfl)
theorem dX0_may_69 : decode cX0_may 69 = .ok (.invokevirtual 168, 3) := dk_182 0 168 (dk_at dksX0_may_3 0 rfl rfl)
theorem dX0_may_72 : decode cX0_may 72 = .ok (.ifCond .ne 11, 3) := dk_154 0 11 (dk_at dksX0_may_3 3 rfl rfl)
theorem dX0_may_75 : decode cX0_may 75 = .ok (.aload_n 1, 1) := dk_43 (dk_at dksX0_may_3 6 rfl rfl)
theorem dX0_may_76 : decode cX0_may 76 = .ok (.aload_n 2, 1) := dk_44 (dk_at dksX0_may_3 7 rfl rfl)
theorem dX0_may_77 : decode cX0_may 77 = .ok (.invokevirtual 172, 3) := dk_182 0 172 (dk_at dksX0_may_3 8 rfl rfl)
theorem dX0_may_80 : decode cX0_may 80 = .ok (.ifCond .eq 5, 3) := dk_153 0 5 (dk_at dksX0_may_3 11 rfl rfl)
theorem dX0_may_83 : decode cX0_may 83 = .ok (.iconst 0, 1) := dk_3 (dk_at dksX0_may_3 14 rfl rfl)
theorem dX0_may_84 : decode cX0_may 84 = .ok (.ireturn, 1) := dk_172 (dk_at dksX0_may_3 15 rfl rfl)
theorem dX0_may_85 : decode cX0_may 85 = .ok (.aload_n 1, 1) := dk_43 (dk_at dksX0_may_3 16 rfl rfl)
theorem dX0_may_86 : decode cX0_may 86 = .ok (.getfield 163, 3) := dk_180 0 163 (dk_at dksX0_may_3 17 rfl rfl)
theorem dX0_may_89 : decode cX0_may 89 = .ok (.iconst 1, 1) := dk_4 (dk_at dksX0_may_3 20 rfl rfl)
theorem dX0_may_90 : decode cX0_may 90 = .ok (.if_icmp .ne 25, 3) := dk_160 0 25 (dk_at dksX0_may_3 21 rfl rfl)
theorem dX0_may_93 : decode cX0_may 93 = .ok (.aload_n 2, 1) := dk_44 (dk_at dksX0_may_4 0 rfl rfl)
theorem dX0_may_94 : decode cX0_may 94 = .ok (.invokevirtual 176, 3) := dk_182 0 176 (dk_at dksX0_may_4 1 rfl rfl)
theorem dX0_may_97 : decode cX0_may 97 = .ok (.aload_n 1, 1) := dk_43 (dk_at dksX0_may_4 4 rfl rfl)
theorem dX0_may_98 : decode cX0_may 98 = .ok (.getfield 179, 3) := dk_180 0 179 (dk_at dksX0_may_4 5 rfl rfl)
theorem dX0_may_101 : decode cX0_may 101 = .ok (.if_icmp .lt 18, 3) := dk_161 0 18 (dk_at dksX0_may_4 8 rfl rfl)
theorem dX0_may_104 : decode cX0_may 104 = .ok (.aload_n 2, 1) := dk_44 (dk_at dksX0_may_4 11 rfl rfl)
theorem dX0_may_105 : decode cX0_may 105 = .ok (.invokevirtual 182, 3) := dk_182 0 182 (dk_at dksX0_may_4 12 rfl rfl)
theorem dX0_may_108 : decode cX0_may 108 = .ok (.aload_n 1, 1) := dk_43 (dk_at dksX0_may_4 15 rfl rfl)
theorem dX0_may_109 : decode cX0_may 109 = .ok (.getfield 185, 3) := dk_180 0 185 (dk_at dksX0_may_4 16 rfl rfl)
theorem dX0_may_112 : decode cX0_may 112 = .ok (.if_icmp .gt 7, 3) := dk_163 0 7 (dk_at dksX0_may_4 19 rfl rfl)
theorem dX0_may_115 : decode cX0_may 115 = .ok (.iconst 1, 1) := dk_4 (dk_at dksX0_may_4 22 rfl rfl)
theorem dX0_may_116 : decode cX0_may 116 = .ok (.goto 4, 3) := dk_167 0 4 (dk_at dksX0_may_5 0 rfl rfl)
theorem dX0_may_119 : decode cX0_may 119 = .ok (.iconst 0, 1) := dk_3 (dk_at dksX0_may_5 3 rfl rfl)
theorem dX0_may_120 : decode cX0_may 120 = .ok (.ireturn, 1) := dk_172 (dk_at dksX0_may_5 4 rfl rfl)
abbrev cX0_priceOf : ByteArray := prog_1_method_18_code
def yX0_priceOf : MethodName := ⟨RX0, "priceOf", "(LMendReader$Way;LMendReader$Step;I)I"⟩
def dkwX0_priceOf_2 : List UInt8 := [160, 0, 7, 4, 167, 0, 4, 3, 172]
abbrev dktX0_priceOf_2 : List UInt8 := dkwX0_priceOf_2 ++ []
def dkwX0_priceOf_1 : List UInt8 := [153, 0, 11, 42, 180, 0, 163, 4, 163, 0, 10, 43, 182, 0, 188, 167, 0, 16, 42, 180, 0, 163, 5]
abbrev dktX0_priceOf_1 : List UInt8 := dkwX0_priceOf_1 ++ dktX0_priceOf_2
def dkwX0_priceOf_0 : List UInt8 := [43, 182, 0, 155, 4, 160, 0, 15, 43, 180, 0, 160, 28, 160, 0, 7, 4, 167, 0, 4, 3, 62, 29]
abbrev dktX0_priceOf_0 : List UInt8 := dkwX0_priceOf_0 ++ dktX0_priceOf_1
theorem dksX0_priceOf_0 : cX0_priceOf.data.toList.drop 0 = dktX0_priceOf_0 := by decide +kernel
theorem dksX0_priceOf_1 : cX0_priceOf.data.toList.drop 23 = dktX0_priceOf_1 := dk_seg dksX0_priceOf_0 23 rfl rfl
theorem dksX0_priceOf_2 : cX0_priceOf.data.toList.drop 46 = dktX0_priceOf_2 := dk_seg dksX0_priceOf_1 23 rfl rfl
theorem dX0_priceOf_0 : decode cX0_priceOf 0 = .ok (.aload_n 1, 1) := dk_43 (dk_at dksX0_priceOf_0 0 rfl rfl)
theorem dX0_priceOf_1 : decode cX0_priceOf 1 = .ok (.invokevirtual 155, 3) := dk_182 0 155 (dk_at dksX0_priceOf_0 1 rfl rfl)
theorem dX0_priceOf_4 : decode cX0_priceOf 4 = .ok (.iconst 1, 1) := dk_4 (dk_at dksX0_priceOf_0 4 rfl rfl)
theorem dX0_priceOf_5 : decode cX0_priceOf 5 = .ok (.if_icmp .ne 15, 3) := dk_160 0 15 (dk_at dksX0_priceOf_0 5 rfl rfl)
theorem dX0_priceOf_8 : decode cX0_priceOf 8 = .ok (.aload_n 1, 1) := dk_43 (dk_at dksX0_priceOf_0 8 rfl rfl)
theorem dX0_priceOf_9 : decode cX0_priceOf 9 = .ok (.getfield 160, 3) := dk_180 0 160 (dk_at dksX0_priceOf_0 9 rfl rfl)
theorem dX0_priceOf_12 : decode cX0_priceOf 12 = .ok (.iload_n 2, 1) := dk_28 (dk_at dksX0_priceOf_0 12 rfl rfl)
theorem dX0_priceOf_13 : decode cX0_priceOf 13 = .ok (.if_icmp .ne 7, 3) := dk_160 0 7 (dk_at dksX0_priceOf_0 13 rfl rfl)
theorem dX0_priceOf_16 : decode cX0_priceOf 16 = .ok (.iconst 1, 1) := dk_4 (dk_at dksX0_priceOf_0 16 rfl rfl)
theorem dX0_priceOf_17 : decode cX0_priceOf 17 = .ok (.goto 4, 3) := dk_167 0 4 (dk_at dksX0_priceOf_0 17 rfl rfl)
theorem dX0_priceOf_20 : decode cX0_priceOf 20 = .ok (.iconst 0, 1) := dk_3 (dk_at dksX0_priceOf_0 20 rfl rfl)
theorem dX0_priceOf_21 : decode cX0_priceOf 21 = .ok (.istore_n 3, 1) := dk_62 (dk_at dksX0_priceOf_0 21 rfl rfl)
theorem dX0_priceOf_22 : decode cX0_priceOf 22 = .ok (.iload_n 3, 1) := dk_29 (dk_at dksX0_priceOf_0 22 rfl rfl)
theorem dX0_priceOf_23 : decode cX0_priceOf 23 = .ok (.ifCond .eq 11, 3) := dk_153 0 11 (dk_at dksX0_priceOf_1 0 rfl rfl)
theorem dX0_priceOf_26 : decode cX0_priceOf 26 = .ok (.aload_n 0, 1) := dk_42 (dk_at dksX0_priceOf_1 3 rfl rfl)
theorem dX0_priceOf_27 : decode cX0_priceOf 27 = .ok (.getfield 163, 3) := dk_180 0 163 (dk_at dksX0_priceOf_1 4 rfl rfl)
theorem dX0_priceOf_30 : decode cX0_priceOf 30 = .ok (.iconst 1, 1) := dk_4 (dk_at dksX0_priceOf_1 7 rfl rfl)
theorem dX0_priceOf_31 : decode cX0_priceOf 31 = .ok (.if_icmp .gt 10, 3) := dk_163 0 10 (dk_at dksX0_priceOf_1 8 rfl rfl)
theorem dX0_priceOf_34 : decode cX0_priceOf 34 = .ok (.aload_n 1, 1) := dk_43 (dk_at dksX0_priceOf_1 11 rfl rfl)
theorem dX0_priceOf_35 : decode cX0_priceOf 35 = .ok (.invokevirtual 188, 3) := dk_182 0 188 (dk_at dksX0_priceOf_1 12 rfl rfl)
theorem dX0_priceOf_38 : decode cX0_priceOf 38 = .ok (.goto 16, 3) := dk_167 0 16 (dk_at dksX0_priceOf_1 15 rfl rfl)
theorem dX0_priceOf_41 : decode cX0_priceOf 41 = .ok (.aload_n 0, 1) := dk_42 (dk_at dksX0_priceOf_1 18 rfl rfl)
theorem dX0_priceOf_42 : decode cX0_priceOf 42 = .ok (.getfield 163, 3) := dk_180 0 163 (dk_at dksX0_priceOf_1 19 rfl rfl)
theorem dX0_priceOf_45 : decode cX0_priceOf 45 = .ok (.iconst 2, 1) := dk_5 (dk_at dksX0_priceOf_1 22 rfl rfl)
theorem dX0_priceOf_46 : decode cX0_priceOf 46 = .ok (.if_icmp .ne 7, 3) := dk_160 0 7 (dk_at dksX0_priceOf_2 0 rfl rfl)
theorem dX0_priceOf_49 : decode cX0_priceOf 49 = .ok (.iconst 1, 1) := dk_4 (dk_at dksX0_priceOf_2 3 rfl rfl)
theorem dX0_priceOf_50 : decode cX0_priceOf 50 = .ok (.goto 4, 3) := dk_167 0 4 (dk_at dksX0_priceOf_2 4 rfl rfl)
theorem dX0_priceOf_53 : decode cX0_priceOf 53 = .ok (.iconst 0, 1) := dk_3 (dk_at dksX0_priceOf_2 7 rfl rfl)
theorem dX0_priceOf_54 : decode cX0_priceOf 54 = .ok (.ireturn, 1) := dk_172 (dk_at dksX0_priceOf_2 8 rfl rfl)
abbrev cX0_slipRows : ByteArray := prog_1_method_35_code
def yX0_slipRows : MethodName := ⟨RX0, "slipRows", "(LMendReader$Chart;)LMendReader$Slips;"⟩
def dkwX0_slipRows_5 : List UInt8 := [25, 5, 43, 180, 1, 23, 184, 1, 26, 79, 132, 4, 1, 167, 255, 163, 132, 3, 1, 167, 255, 132, 44, 176]
abbrev dktX0_slipRows_5 : List UInt8 := dkwX0_slipRows_5 ++ []
def dkwX0_slipRows_4 : List UInt8 := [180, 0, 160, 167, 0, 29, 29, 5, 160, 0, 11, 25, 5, 182, 1, 19, 167, 0, 16, 43, 180, 1, 22]
abbrev dktX0_slipRows_4 : List UInt8 := dkwX0_slipRows_4 ++ dktX0_slipRows_5
def dkwX0_slipRows_3 : List UInt8 := [50, 21, 4, 29, 154, 0, 11, 25, 5, 182, 0, 155, 167, 0, 42, 29, 4, 160, 0, 11, 25, 5]
abbrev dktX0_slipRows_3 : List UInt8 := dkwX0_slipRows_3 ++ dktX0_slipRows_4
def dkwX0_slipRows_2 : List UInt8 := [162, 0, 85, 42, 180, 0, 63, 21, 4, 185, 0, 118, 2, 0, 192, 0, 156, 58, 5, 44, 180, 0, 249, 29]
abbrev dktX0_slipRows_2 : List UInt8 := dkwX0_slipRows_2 ++ dktX0_slipRows_3
def dkwX0_slipRows_1 : List UInt8 := [185, 0, 100, 1, 0, 188, 10, 83, 3, 54, 4, 21, 4, 42, 180, 0, 63, 185, 0, 100, 1, 0]
abbrev dktX0_slipRows_1 : List UInt8 := dkwX0_slipRows_1 ++ dktX0_slipRows_2
def dkwX0_slipRows_0 : List UInt8 := [187, 0, 66, 89, 183, 0, 68, 77, 3, 62, 29, 7, 162, 0, 125, 44, 180, 0, 249, 29, 42, 180, 0, 63]
abbrev dktX0_slipRows_0 : List UInt8 := dkwX0_slipRows_0 ++ dktX0_slipRows_1
theorem dksX0_slipRows_0 : cX0_slipRows.data.toList.drop 0 = dktX0_slipRows_0 := by decide +kernel
theorem dksX0_slipRows_1 : cX0_slipRows.data.toList.drop 24 = dktX0_slipRows_1 := dk_seg dksX0_slipRows_0 24 rfl rfl
theorem dksX0_slipRows_2 : cX0_slipRows.data.toList.drop 46 = dktX0_slipRows_2 := dk_seg dksX0_slipRows_1 22 rfl rfl
theorem dksX0_slipRows_3 : cX0_slipRows.data.toList.drop 70 = dktX0_slipRows_3 := dk_seg dksX0_slipRows_2 24 rfl rfl
theorem dksX0_slipRows_4 : cX0_slipRows.data.toList.drop 92 = dktX0_slipRows_4 := dk_seg dksX0_slipRows_3 22 rfl rfl
theorem dksX0_slipRows_5 : cX0_slipRows.data.toList.drop 115 = dktX0_slipRows_5 := dk_seg dksX0_slipRows_4 23 rfl rfl
theorem dX0_slipRows_0 : decode cX0_slipRows 0 = .ok (.new 66, 3) := dk_187 0 66 (dk_at dksX0_slipRows_0 0 rfl rfl)
theorem dX0_slipRows_3 : decode cX0_slipRows 3 = .ok (.dup, 1) := dk_89 (dk_at dksX0_slipRows_0 3 rfl rfl)
theorem dX0_slipRows_4 : decode cX0_slipRows 4 = .ok (.invokespecial 68, 3) := dk_183 0 68 (dk_at dksX0_slipRows_0 4 rfl rfl)
theorem dX0_slipRows_7 : decode cX0_slipRows 7 = .ok (.astore_n 2, 1) := dk_77 (dk_at dksX0_slipRows_0 7 rfl rfl)
theorem dX0_slipRows_8 : decode cX0_slipRows 8 = .ok (.iconst 0, 1) := dk_3 (dk_at dksX0_slipRows_0 8 rfl rfl)
theorem dX0_slipRows_9 : decode cX0_slipRows 9 = .ok (.istore_n 3, 1) := dk_62 (dk_at dksX0_slipRows_0 9 rfl rfl)
theorem dX0_slipRows_10 : decode cX0_slipRows 10 = .ok (.iload_n 3, 1) := dk_29 (dk_at dksX0_slipRows_0 10 rfl rfl)
theorem dX0_slipRows_11 : decode cX0_slipRows 11 = .ok (.iconst 4, 1) := dk_7 (dk_at dksX0_slipRows_0 11 rfl rfl)
theorem dX0_slipRows_12 : decode cX0_slipRows 12 = .ok (.if_icmp .ge 125, 3) := dk_162 0 125 (dk_at dksX0_slipRows_0 12 rfl rfl)
theorem dX0_slipRows_15 : decode cX0_slipRows 15 = .ok (.aload_n 2, 1) := dk_44 (dk_at dksX0_slipRows_0 15 rfl rfl)
theorem dX0_slipRows_16 : decode cX0_slipRows 16 = .ok (.getfield 249, 3) := dk_180 0 249 (dk_at dksX0_slipRows_0 16 rfl rfl)
theorem dX0_slipRows_19 : decode cX0_slipRows 19 = .ok (.iload_n 3, 1) := dk_29 (dk_at dksX0_slipRows_0 19 rfl rfl)
theorem dX0_slipRows_20 : decode cX0_slipRows 20 = .ok (.aload_n 0, 1) := dk_42 (dk_at dksX0_slipRows_0 20 rfl rfl)
theorem dX0_slipRows_21 : decode cX0_slipRows 21 = .ok (.getfield 63, 3) := dk_180 0 63 (dk_at dksX0_slipRows_0 21 rfl rfl)
theorem dX0_slipRows_24 : decode cX0_slipRows 24 = .ok (.invokeinterface 100 1, 5) := by decide +kernel
theorem dX0_slipRows_29 : decode cX0_slipRows 29 = .ok (.newarray .int, 2) := dk_188_10 (dk_at dksX0_slipRows_1 5 rfl rfl)
theorem dX0_slipRows_31 : decode cX0_slipRows 31 = .ok (.aastore, 1) := dk_83 (dk_at dksX0_slipRows_1 7 rfl rfl)
theorem dX0_slipRows_32 : decode cX0_slipRows 32 = .ok (.iconst 0, 1) := dk_3 (dk_at dksX0_slipRows_1 8 rfl rfl)
theorem dX0_slipRows_33 : decode cX0_slipRows 33 = .ok (.istore 4, 2) := dk_54 4 (dk_at dksX0_slipRows_1 9 rfl rfl)
theorem dX0_slipRows_35 : decode cX0_slipRows 35 = .ok (.iload 4, 2) := dk_21 4 (dk_at dksX0_slipRows_1 11 rfl rfl)
theorem dX0_slipRows_37 : decode cX0_slipRows 37 = .ok (.aload_n 0, 1) := dk_42 (dk_at dksX0_slipRows_1 13 rfl rfl)
theorem dX0_slipRows_38 : decode cX0_slipRows 38 = .ok (.getfield 63, 3) := dk_180 0 63 (dk_at dksX0_slipRows_1 14 rfl rfl)
theorem dX0_slipRows_41 : decode cX0_slipRows 41 = .ok (.invokeinterface 100 1, 5) := by decide +kernel
theorem dX0_slipRows_46 : decode cX0_slipRows 46 = .ok (.if_icmp .ge 85, 3) := dk_162 0 85 (dk_at dksX0_slipRows_2 0 rfl rfl)
theorem dX0_slipRows_49 : decode cX0_slipRows 49 = .ok (.aload_n 0, 1) := dk_42 (dk_at dksX0_slipRows_2 3 rfl rfl)
theorem dX0_slipRows_50 : decode cX0_slipRows 50 = .ok (.getfield 63, 3) := dk_180 0 63 (dk_at dksX0_slipRows_2 4 rfl rfl)
theorem dX0_slipRows_53 : decode cX0_slipRows 53 = .ok (.iload 4, 2) := dk_21 4 (dk_at dksX0_slipRows_2 7 rfl rfl)
theorem dX0_slipRows_55 : decode cX0_slipRows 55 = .ok (.invokeinterface 118 2, 5) := by decide +kernel
theorem dX0_slipRows_60 : decode cX0_slipRows 60 = .ok (.checkcast 156, 3) := dk_192 0 156 (dk_at dksX0_slipRows_2 14 rfl rfl)
theorem dX0_slipRows_63 : decode cX0_slipRows 63 = .ok (.astore 5, 2) := dk_58 5 (dk_at dksX0_slipRows_2 17 rfl rfl)
theorem dX0_slipRows_65 : decode cX0_slipRows 65 = .ok (.aload_n 2, 1) := dk_44 (dk_at dksX0_slipRows_2 19 rfl rfl)
theorem dX0_slipRows_66 : decode cX0_slipRows 66 = .ok (.getfield 249, 3) := dk_180 0 249 (dk_at dksX0_slipRows_2 20 rfl rfl)
theorem dX0_slipRows_69 : decode cX0_slipRows 69 = .ok (.iload_n 3, 1) := dk_29 (dk_at dksX0_slipRows_2 23 rfl rfl)
theorem dX0_slipRows_70 : decode cX0_slipRows 70 = .ok (.aaload, 1) := dk_50 (dk_at dksX0_slipRows_3 0 rfl rfl)
theorem dX0_slipRows_71 : decode cX0_slipRows 71 = .ok (.iload 4, 2) := dk_21 4 (dk_at dksX0_slipRows_3 1 rfl rfl)
theorem dX0_slipRows_73 : decode cX0_slipRows 73 = .ok (.iload_n 3, 1) := dk_29 (dk_at dksX0_slipRows_3 3 rfl rfl)
theorem dX0_slipRows_74 : decode cX0_slipRows 74 = .ok (.ifCond .ne 11, 3) := dk_154 0 11 (dk_at dksX0_slipRows_3 4 rfl rfl)
theorem dX0_slipRows_77 : decode cX0_slipRows 77 = .ok (.aload 5, 2) := dk_25 5 (dk_at dksX0_slipRows_3 7 rfl rfl)
theorem dX0_slipRows_79 : decode cX0_slipRows 79 = .ok (.invokevirtual 155, 3) := dk_182 0 155 (dk_at dksX0_slipRows_3 9 rfl rfl)
theorem dX0_slipRows_82 : decode cX0_slipRows 82 = .ok (.goto 42, 3) := dk_167 0 42 (dk_at dksX0_slipRows_3 12 rfl rfl)
theorem dX0_slipRows_85 : decode cX0_slipRows 85 = .ok (.iload_n 3, 1) := dk_29 (dk_at dksX0_slipRows_3 15 rfl rfl)
theorem dX0_slipRows_86 : decode cX0_slipRows 86 = .ok (.iconst 1, 1) := dk_4 (dk_at dksX0_slipRows_3 16 rfl rfl)
theorem dX0_slipRows_87 : decode cX0_slipRows 87 = .ok (.if_icmp .ne 11, 3) := dk_160 0 11 (dk_at dksX0_slipRows_3 17 rfl rfl)
theorem dX0_slipRows_90 : decode cX0_slipRows 90 = .ok (.aload 5, 2) := dk_25 5 (dk_at dksX0_slipRows_3 20 rfl rfl)
theorem dX0_slipRows_92 : decode cX0_slipRows 92 = .ok (.getfield 160, 3) := dk_180 0 160 (dk_at dksX0_slipRows_4 0 rfl rfl)
theorem dX0_slipRows_95 : decode cX0_slipRows 95 = .ok (.goto 29, 3) := dk_167 0 29 (dk_at dksX0_slipRows_4 3 rfl rfl)
theorem dX0_slipRows_98 : decode cX0_slipRows 98 = .ok (.iload_n 3, 1) := dk_29 (dk_at dksX0_slipRows_4 6 rfl rfl)
theorem dX0_slipRows_99 : decode cX0_slipRows 99 = .ok (.iconst 2, 1) := dk_5 (dk_at dksX0_slipRows_4 7 rfl rfl)
theorem dX0_slipRows_100 : decode cX0_slipRows 100 = .ok (.if_icmp .ne 11, 3) := dk_160 0 11 (dk_at dksX0_slipRows_4 8 rfl rfl)
theorem dX0_slipRows_103 : decode cX0_slipRows 103 = .ok (.aload 5, 2) := dk_25 5 (dk_at dksX0_slipRows_4 11 rfl rfl)
theorem dX0_slipRows_105 : decode cX0_slipRows 105 = .ok (.invokevirtual 275, 3) := dk_182 1 19 (dk_at dksX0_slipRows_4 13 rfl rfl)
theorem dX0_slipRows_108 : decode cX0_slipRows 108 = .ok (.goto 16, 3) := dk_167 0 16 (dk_at dksX0_slipRows_4 16 rfl rfl)
theorem dX0_slipRows_111 : decode cX0_slipRows 111 = .ok (.aload_n 1, 1) := dk_43 (dk_at dksX0_slipRows_4 19 rfl rfl)
theorem dX0_slipRows_112 : decode cX0_slipRows 112 = .ok (.getfield 278, 3) := dk_180 1 22 (dk_at dksX0_slipRows_4 20 rfl rfl)
theorem dX0_slipRows_115 : decode cX0_slipRows 115 = .ok (.aload 5, 2) := dk_25 5 (dk_at dksX0_slipRows_5 0 rfl rfl)
theorem dX0_slipRows_117 : decode cX0_slipRows 117 = .ok (.aload_n 1, 1) := dk_43 (dk_at dksX0_slipRows_5 2 rfl rfl)
theorem dX0_slipRows_118 : decode cX0_slipRows 118 = .ok (.getfield 279, 3) := dk_180 1 23 (dk_at dksX0_slipRows_5 3 rfl rfl)
theorem dX0_slipRows_121 : decode cX0_slipRows 121 = .ok (.invokestatic 282, 3) := dk_184 1 26 (dk_at dksX0_slipRows_5 6 rfl rfl)
theorem dX0_slipRows_124 : decode cX0_slipRows 124 = .ok (.iastore, 1) := dk_79 (dk_at dksX0_slipRows_5 9 rfl rfl)
theorem dX0_slipRows_125 : decode cX0_slipRows 125 = .ok (.iinc 4 1, 3) := dk_132 4 1 (dk_at dksX0_slipRows_5 10 rfl rfl)
theorem dX0_slipRows_128 : decode cX0_slipRows 128 = .ok (.goto (-93), 3) := dk_167 255 163 (dk_at dksX0_slipRows_5 13 rfl rfl)
theorem dX0_slipRows_131 : decode cX0_slipRows 131 = .ok (.iinc 3 1, 3) := dk_132 3 1 (dk_at dksX0_slipRows_5 16 rfl rfl)
theorem dX0_slipRows_134 : decode cX0_slipRows 134 = .ok (.goto (-124), 3) := dk_167 255 132 (dk_at dksX0_slipRows_5 19 rfl rfl)
theorem dX0_slipRows_137 : decode cX0_slipRows 137 = .ok (.aload_n 2, 1) := dk_44 (dk_at dksX0_slipRows_5 22 rfl rfl)
theorem dX0_slipRows_138 : decode cX0_slipRows 138 = .ok (.areturn, 1) := dk_176 (dk_at dksX0_slipRows_5 23 rfl rfl)
abbrev cX0_only : ByteArray := prog_1_method_22_code
def yX0_only : MethodName := ⟨RX0, "only", "(II)I"⟩
def dkwX0_only_1 : List UInt8 := [182, 0, 240, 167, 0, 4, 2, 172]
abbrev dktX0_only_1 : List UInt8 := dkwX0_only_1 ++ []
def dkwX0_only_0 : List UInt8 := [27, 133, 9, 28, 133, 184, 0, 85, 153, 0, 22, 28, 42, 180, 0, 38, 190, 163, 0, 13, 42, 4, 27, 28]
abbrev dktX0_only_0 : List UInt8 := dkwX0_only_0 ++ dktX0_only_1
theorem dksX0_only_0 : cX0_only.data.toList.drop 0 = dktX0_only_0 := by decide +kernel
theorem dksX0_only_1 : cX0_only.data.toList.drop 24 = dktX0_only_1 := dk_seg dksX0_only_0 24 rfl rfl
theorem dX0_only_0 : decode cX0_only 0 = .ok (.iload_n 1, 1) := dk_27 (dk_at dksX0_only_0 0 rfl rfl)
theorem dX0_only_1 : decode cX0_only 1 = .ok (.i2l, 1) := dk_133 (dk_at dksX0_only_0 1 rfl rfl)
theorem dX0_only_2 : decode cX0_only 2 = .ok (.lconst 0, 1) := dk_9 (dk_at dksX0_only_0 2 rfl rfl)
theorem dX0_only_3 : decode cX0_only 3 = .ok (.iload_n 2, 1) := dk_28 (dk_at dksX0_only_0 3 rfl rfl)
theorem dX0_only_4 : decode cX0_only 4 = .ok (.i2l, 1) := dk_133 (dk_at dksX0_only_0 4 rfl rfl)
theorem dX0_only_5 : decode cX0_only 5 = .ok (.invokestatic 85, 3) := dk_184 0 85 (dk_at dksX0_only_0 5 rfl rfl)
theorem dX0_only_8 : decode cX0_only 8 = .ok (.ifCond .eq 22, 3) := dk_153 0 22 (dk_at dksX0_only_0 8 rfl rfl)
theorem dX0_only_11 : decode cX0_only 11 = .ok (.iload_n 2, 1) := dk_28 (dk_at dksX0_only_0 11 rfl rfl)
theorem dX0_only_12 : decode cX0_only 12 = .ok (.aload_n 0, 1) := dk_42 (dk_at dksX0_only_0 12 rfl rfl)
theorem dX0_only_13 : decode cX0_only 13 = .ok (.getfield 38, 3) := dk_180 0 38 (dk_at dksX0_only_0 13 rfl rfl)
theorem dX0_only_16 : decode cX0_only 16 = .ok (.arraylength, 1) := dk_190 (dk_at dksX0_only_0 16 rfl rfl)
theorem dX0_only_17 : decode cX0_only 17 = .ok (.if_icmp .gt 13, 3) := dk_163 0 13 (dk_at dksX0_only_0 17 rfl rfl)
theorem dX0_only_20 : decode cX0_only 20 = .ok (.aload_n 0, 1) := dk_42 (dk_at dksX0_only_0 20 rfl rfl)
theorem dX0_only_21 : decode cX0_only 21 = .ok (.iconst 1, 1) := dk_4 (dk_at dksX0_only_0 21 rfl rfl)
theorem dX0_only_22 : decode cX0_only 22 = .ok (.iload_n 1, 1) := dk_27 (dk_at dksX0_only_0 22 rfl rfl)
theorem dX0_only_23 : decode cX0_only 23 = .ok (.iload_n 2, 1) := dk_28 (dk_at dksX0_only_0 23 rfl rfl)
theorem dX0_only_24 : decode cX0_only 24 = .ok (.invokevirtual 240, 3) := dk_182 0 240 (dk_at dksX0_only_1 0 rfl rfl)
theorem dX0_only_27 : decode cX0_only 27 = .ok (.goto 4, 3) := dk_167 0 4 (dk_at dksX0_only_1 3 rfl rfl)
theorem dX0_only_30 : decode cX0_only 30 = .ok (.iconst (-1), 1) := dk_2 (dk_at dksX0_only_1 6 rfl rfl)
theorem dX0_only_31 : decode cX0_only 31 = .ok (.ireturn, 1) := dk_172 (dk_at dksX0_only_1 7 rfl rfl)
abbrev cX0_complete : ByteArray := prog_1_method_23_code
def yX0_complete : MethodName := ⟨RX0, "complete", "()I"⟩
def dkwX0_complete_0 : List UInt8 := [42, 5, 3, 3, 182, 0, 240, 172]
abbrev dktX0_complete_0 : List UInt8 := dkwX0_complete_0 ++ []
theorem dksX0_complete_0 : cX0_complete.data.toList.drop 0 = dktX0_complete_0 := by decide +kernel
theorem dX0_complete_0 : decode cX0_complete 0 = .ok (.aload_n 0, 1) := dk_42 (dk_at dksX0_complete_0 0 rfl rfl)
theorem dX0_complete_1 : decode cX0_complete 1 = .ok (.iconst 2, 1) := dk_5 (dk_at dksX0_complete_0 1 rfl rfl)
theorem dX0_complete_2 : decode cX0_complete 2 = .ok (.iconst 0, 1) := dk_3 (dk_at dksX0_complete_0 2 rfl rfl)
theorem dX0_complete_3 : decode cX0_complete 3 = .ok (.iconst 0, 1) := dk_3 (dk_at dksX0_complete_0 3 rfl rfl)
theorem dX0_complete_4 : decode cX0_complete 4 = .ok (.invokevirtual 240, 3) := dk_182 0 240 (dk_at dksX0_complete_0 4 rfl rfl)
theorem dX0_complete_7 : decode cX0_complete 7 = .ok (.ireturn, 1) := dk_172 (dk_at dksX0_complete_0 7 rfl rfl)
abbrev cX0_begins : ByteArray := prog_1_method_24_code
def yX0_begins : MethodName := ⟨RX0, "begins", "()I"⟩
def dkwX0_begins_0 : List UInt8 := [42, 6, 3, 3, 182, 0, 240, 172]
abbrev dktX0_begins_0 : List UInt8 := dkwX0_begins_0 ++ []
theorem dksX0_begins_0 : cX0_begins.data.toList.drop 0 = dktX0_begins_0 := by decide +kernel
theorem dX0_begins_0 : decode cX0_begins 0 = .ok (.aload_n 0, 1) := dk_42 (dk_at dksX0_begins_0 0 rfl rfl)
theorem dX0_begins_1 : decode cX0_begins 1 = .ok (.iconst 3, 1) := dk_6 (dk_at dksX0_begins_0 1 rfl rfl)
theorem dX0_begins_2 : decode cX0_begins 2 = .ok (.iconst 0, 1) := dk_3 (dk_at dksX0_begins_0 2 rfl rfl)
theorem dX0_begins_3 : decode cX0_begins 3 = .ok (.iconst 0, 1) := dk_3 (dk_at dksX0_begins_0 3 rfl rfl)
theorem dX0_begins_4 : decode cX0_begins 4 = .ok (.invokevirtual 240, 3) := dk_182 0 240 (dk_at dksX0_begins_0 4 rfl rfl)
theorem dX0_begins_7 : decode cX0_begins 7 = .ok (.ireturn, 1) := dk_172 (dk_at dksX0_begins_0 7 rfl rfl)
abbrev cX0_wanted : ByteArray := prog_1_method_25_code
def yX0_wanted : MethodName := ⟨RX0, "wanted", "(I)I"⟩
def dkwX0_wanted_3 : List UInt8 := [4, 172]
abbrev dktX0_wanted_3 : List UInt8 := dkwX0_wanted_3 ++ []
def dkwX0_wanted_2 : List UInt8 := [183, 0, 190, 183, 0, 199, 77, 44, 182, 0, 202, 44, 182, 0, 211, 16, 252, 160, 0, 7, 3, 167, 0, 4]
abbrev dktX0_wanted_2 : List UInt8 := dkwX0_wanted_2 ++ dktX0_wanted_3
def dkwX0_wanted_1 : List UInt8 := [42, 42, 180, 0, 38, 42, 180, 0, 38, 190, 27, 184, 0, 145, 187, 0, 164, 89, 7, 3, 3, 1]
abbrev dktX0_wanted_1 : List UInt8 := dkwX0_wanted_1 ++ dktX0_wanted_2
def dkwX0_wanted_0 : List UInt8 := [42, 27, 182, 0, 115, 154, 0, 5, 2, 172, 42, 180, 0, 89, 154, 0, 6, 16, 253, 172, 187, 0, 197, 89]
abbrev dktX0_wanted_0 : List UInt8 := dkwX0_wanted_0 ++ dktX0_wanted_1
theorem dksX0_wanted_0 : cX0_wanted.data.toList.drop 0 = dktX0_wanted_0 := by decide +kernel
theorem dksX0_wanted_1 : cX0_wanted.data.toList.drop 24 = dktX0_wanted_1 := dk_seg dksX0_wanted_0 24 rfl rfl
theorem dksX0_wanted_2 : cX0_wanted.data.toList.drop 46 = dktX0_wanted_2 := dk_seg dksX0_wanted_1 22 rfl rfl
theorem dksX0_wanted_3 : cX0_wanted.data.toList.drop 70 = dktX0_wanted_3 := dk_seg dksX0_wanted_2 24 rfl rfl
theorem dX0_wanted_0 : decode cX0_wanted 0 = .ok (.aload_n 0, 1) := dk_42 (dk_at dksX0_wanted_0 0 rfl rfl)
theorem dX0_wanted_1 : decode cX0_wanted 1 = .ok (.iload_n 1, 1) := dk_27 (dk_at dksX0_wanted_0 1 rfl rfl)
theorem dX0_wanted_2 : decode cX0_wanted 2 = .ok (.invokevirtual 115, 3) := dk_182 0 115 (dk_at dksX0_wanted_0 2 rfl rfl)
theorem dX0_wanted_5 : decode cX0_wanted 5 = .ok (.ifCond .ne 5, 3) := dk_154 0 5 (dk_at dksX0_wanted_0 5 rfl rfl)
theorem dX0_wanted_8 : decode cX0_wanted 8 = .ok (.iconst (-1), 1) := dk_2 (dk_at dksX0_wanted_0 8 rfl rfl)
theorem dX0_wanted_9 : decode cX0_wanted 9 = .ok (.ireturn, 1) := dk_172 (dk_at dksX0_wanted_0 9 rfl rfl)
theorem dX0_wanted_10 : decode cX0_wanted 10 = .ok (.aload_n 0, 1) := dk_42 (dk_at dksX0_wanted_0 10 rfl rfl)
theorem dX0_wanted_11 : decode cX0_wanted 11 = .ok (.getfield 89, 3) := dk_180 0 89 (dk_at dksX0_wanted_0 11 rfl rfl)
theorem dX0_wanted_14 : decode cX0_wanted 14 = .ok (.ifCond .ne 6, 3) := dk_154 0 6 (dk_at dksX0_wanted_0 14 rfl rfl)
theorem dX0_wanted_17 : decode cX0_wanted 17 = .ok (.bipush (-3), 2) := dk_16 253 (dk_at dksX0_wanted_0 17 rfl rfl)
theorem dX0_wanted_19 : decode cX0_wanted 19 = .ok (.ireturn, 1) := dk_172 (dk_at dksX0_wanted_0 19 rfl rfl)
theorem dX0_wanted_20 : decode cX0_wanted 20 = .ok (.new 197, 3) := dk_187 0 197 (dk_at dksX0_wanted_0 20 rfl rfl)
theorem dX0_wanted_23 : decode cX0_wanted 23 = .ok (.dup, 1) := dk_89 (dk_at dksX0_wanted_0 23 rfl rfl)
theorem dX0_wanted_24 : decode cX0_wanted 24 = .ok (.aload_n 0, 1) := dk_42 (dk_at dksX0_wanted_1 0 rfl rfl)
theorem dX0_wanted_25 : decode cX0_wanted 25 = .ok (.aload_n 0, 1) := dk_42 (dk_at dksX0_wanted_1 1 rfl rfl)
theorem dX0_wanted_26 : decode cX0_wanted 26 = .ok (.getfield 38, 3) := dk_180 0 38 (dk_at dksX0_wanted_1 2 rfl rfl)
theorem dX0_wanted_29 : decode cX0_wanted 29 = .ok (.aload_n 0, 1) := dk_42 (dk_at dksX0_wanted_1 5 rfl rfl)
theorem dX0_wanted_30 : decode cX0_wanted 30 = .ok (.getfield 38, 3) := dk_180 0 38 (dk_at dksX0_wanted_1 6 rfl rfl)
theorem dX0_wanted_33 : decode cX0_wanted 33 = .ok (.arraylength, 1) := dk_190 (dk_at dksX0_wanted_1 9 rfl rfl)
theorem dX0_wanted_34 : decode cX0_wanted 34 = .ok (.iload_n 1, 1) := dk_27 (dk_at dksX0_wanted_1 10 rfl rfl)
theorem dX0_wanted_35 : decode cX0_wanted 35 = .ok (.invokestatic 145, 3) := dk_184 0 145 (dk_at dksX0_wanted_1 11 rfl rfl)
theorem dX0_wanted_38 : decode cX0_wanted 38 = .ok (.new 164, 3) := dk_187 0 164 (dk_at dksX0_wanted_1 14 rfl rfl)
theorem dX0_wanted_41 : decode cX0_wanted 41 = .ok (.dup, 1) := dk_89 (dk_at dksX0_wanted_1 17 rfl rfl)
theorem dX0_wanted_42 : decode cX0_wanted 42 = .ok (.iconst 4, 1) := dk_7 (dk_at dksX0_wanted_1 18 rfl rfl)
theorem dX0_wanted_43 : decode cX0_wanted 43 = .ok (.iconst 0, 1) := dk_3 (dk_at dksX0_wanted_1 19 rfl rfl)
theorem dX0_wanted_44 : decode cX0_wanted 44 = .ok (.iconst 0, 1) := dk_3 (dk_at dksX0_wanted_1 20 rfl rfl)
theorem dX0_wanted_45 : decode cX0_wanted 45 = .ok (.aconst_null, 1) := dk_1 (dk_at dksX0_wanted_1 21 rfl rfl)
theorem dX0_wanted_46 : decode cX0_wanted 46 = .ok (.invokespecial 190, 3) := dk_183 0 190 (dk_at dksX0_wanted_2 0 rfl rfl)
theorem dX0_wanted_49 : decode cX0_wanted 49 = .ok (.invokespecial 199, 3) := dk_183 0 199 (dk_at dksX0_wanted_2 3 rfl rfl)
theorem dX0_wanted_52 : decode cX0_wanted 52 = .ok (.astore_n 2, 1) := dk_77 (dk_at dksX0_wanted_2 6 rfl rfl)
theorem dX0_wanted_53 : decode cX0_wanted 53 = .ok (.aload_n 2, 1) := dk_44 (dk_at dksX0_wanted_2 7 rfl rfl)
theorem dX0_wanted_54 : decode cX0_wanted 54 = .ok (.invokevirtual 202, 3) := dk_182 0 202 (dk_at dksX0_wanted_2 8 rfl rfl)
theorem dX0_wanted_57 : decode cX0_wanted 57 = .ok (.aload_n 2, 1) := dk_44 (dk_at dksX0_wanted_2 11 rfl rfl)
theorem dX0_wanted_58 : decode cX0_wanted 58 = .ok (.invokevirtual 211, 3) := dk_182 0 211 (dk_at dksX0_wanted_2 12 rfl rfl)
theorem dX0_wanted_61 : decode cX0_wanted 61 = .ok (.bipush (-4), 2) := dk_16 252 (dk_at dksX0_wanted_2 15 rfl rfl)
theorem dX0_wanted_63 : decode cX0_wanted 63 = .ok (.if_icmp .ne 7, 3) := dk_160 0 7 (dk_at dksX0_wanted_2 17 rfl rfl)
theorem dX0_wanted_66 : decode cX0_wanted 66 = .ok (.iconst 0, 1) := dk_3 (dk_at dksX0_wanted_2 20 rfl rfl)
theorem dX0_wanted_67 : decode cX0_wanted 67 = .ok (.goto 4, 3) := dk_167 0 4 (dk_at dksX0_wanted_2 21 rfl rfl)
theorem dX0_wanted_70 : decode cX0_wanted 70 = .ok (.iconst 1, 1) := dk_4 (dk_at dksX0_wanted_3 0 rfl rfl)
theorem dX0_wanted_71 : decode cX0_wanted 71 = .ok (.ireturn, 1) := dk_172 (dk_at dksX0_wanted_3 1 rfl rfl)
abbrev cX0_stretch : ByteArray := prog_1_method_26_code
def yX0_stretch : MethodName := ⟨RX0, "stretch", "(III)I"⟩
def dkwX0_stretch_4 : List UInt8 := [155, 0, 8, 16, 252, 167, 0, 10, 22, 5, 20, 0, 219, 109, 136, 172]
abbrev dktX0_stretch_4 : List UInt8 := dkwX0_stretch_4 ++ []
def dkwX0_stretch_3 : List UInt8 := [180, 0, 216, 28, 46, 50, 25, 4, 180, 0, 216, 29, 46, 47, 55, 5, 22, 5, 20, 0, 244, 148]
abbrev dktX0_stretch_3 : List UInt8 := dkwX0_stretch_3 ++ dktX0_stretch_4
def dkwX0_stretch_2 : List UInt8 := [183, 0, 190, 183, 0, 199, 58, 4, 25, 4, 182, 0, 202, 25, 4, 180, 0, 214, 27, 50, 25, 4]
abbrev dktX0_stretch_2 : List UInt8 := dkwX0_stretch_2 ++ dktX0_stretch_3
def dkwX0_stretch_1 : List UInt8 := [190, 164, 0, 5, 2, 172, 187, 0, 197, 89, 42, 42, 180, 0, 38, 187, 0, 164, 89, 3, 3, 3, 1]
abbrev dktX0_stretch_1 : List UInt8 := dkwX0_stretch_1 ++ dktX0_stretch_2
def dkwX0_stretch_0 : List UInt8 := [42, 27, 182, 0, 96, 153, 0, 23, 28, 133, 9, 29, 133, 184, 0, 85, 153, 0, 12, 29, 42, 180, 0, 38]
abbrev dktX0_stretch_0 : List UInt8 := dkwX0_stretch_0 ++ dktX0_stretch_1
theorem dksX0_stretch_0 : cX0_stretch.data.toList.drop 0 = dktX0_stretch_0 := by decide +kernel
theorem dksX0_stretch_1 : cX0_stretch.data.toList.drop 24 = dktX0_stretch_1 := dk_seg dksX0_stretch_0 24 rfl rfl
theorem dksX0_stretch_2 : cX0_stretch.data.toList.drop 47 = dktX0_stretch_2 := dk_seg dksX0_stretch_1 23 rfl rfl
theorem dksX0_stretch_3 : cX0_stretch.data.toList.drop 69 = dktX0_stretch_3 := dk_seg dksX0_stretch_2 22 rfl rfl
theorem dksX0_stretch_4 : cX0_stretch.data.toList.drop 91 = dktX0_stretch_4 := dk_seg dksX0_stretch_3 22 rfl rfl
theorem dX0_stretch_0 : decode cX0_stretch 0 = .ok (.aload_n 0, 1) := dk_42 (dk_at dksX0_stretch_0 0 rfl rfl)
theorem dX0_stretch_1 : decode cX0_stretch 1 = .ok (.iload_n 1, 1) := dk_27 (dk_at dksX0_stretch_0 1 rfl rfl)
theorem dX0_stretch_2 : decode cX0_stretch 2 = .ok (.invokevirtual 96, 3) := dk_182 0 96 (dk_at dksX0_stretch_0 2 rfl rfl)
theorem dX0_stretch_5 : decode cX0_stretch 5 = .ok (.ifCond .eq 23, 3) := dk_153 0 23 (dk_at dksX0_stretch_0 5 rfl rfl)
theorem dX0_stretch_8 : decode cX0_stretch 8 = .ok (.iload_n 2, 1) := dk_28 (dk_at dksX0_stretch_0 8 rfl rfl)
theorem dX0_stretch_9 : decode cX0_stretch 9 = .ok (.i2l, 1) := dk_133 (dk_at dksX0_stretch_0 9 rfl rfl)
theorem dX0_stretch_10 : decode cX0_stretch 10 = .ok (.lconst 0, 1) := dk_9 (dk_at dksX0_stretch_0 10 rfl rfl)
theorem dX0_stretch_11 : decode cX0_stretch 11 = .ok (.iload_n 3, 1) := dk_29 (dk_at dksX0_stretch_0 11 rfl rfl)
theorem dX0_stretch_12 : decode cX0_stretch 12 = .ok (.i2l, 1) := dk_133 (dk_at dksX0_stretch_0 12 rfl rfl)
theorem dX0_stretch_13 : decode cX0_stretch 13 = .ok (.invokestatic 85, 3) := dk_184 0 85 (dk_at dksX0_stretch_0 13 rfl rfl)
theorem dX0_stretch_16 : decode cX0_stretch 16 = .ok (.ifCond .eq 12, 3) := dk_153 0 12 (dk_at dksX0_stretch_0 16 rfl rfl)
theorem dX0_stretch_19 : decode cX0_stretch 19 = .ok (.iload_n 3, 1) := dk_29 (dk_at dksX0_stretch_0 19 rfl rfl)
theorem dX0_stretch_20 : decode cX0_stretch 20 = .ok (.aload_n 0, 1) := dk_42 (dk_at dksX0_stretch_0 20 rfl rfl)
theorem dX0_stretch_21 : decode cX0_stretch 21 = .ok (.getfield 38, 3) := dk_180 0 38 (dk_at dksX0_stretch_0 21 rfl rfl)
theorem dX0_stretch_24 : decode cX0_stretch 24 = .ok (.arraylength, 1) := dk_190 (dk_at dksX0_stretch_1 0 rfl rfl)
theorem dX0_stretch_25 : decode cX0_stretch 25 = .ok (.if_icmp .le 5, 3) := dk_164 0 5 (dk_at dksX0_stretch_1 1 rfl rfl)
theorem dX0_stretch_28 : decode cX0_stretch 28 = .ok (.iconst (-1), 1) := dk_2 (dk_at dksX0_stretch_1 4 rfl rfl)
theorem dX0_stretch_29 : decode cX0_stretch 29 = .ok (.ireturn, 1) := dk_172 (dk_at dksX0_stretch_1 5 rfl rfl)
theorem dX0_stretch_30 : decode cX0_stretch 30 = .ok (.new 197, 3) := dk_187 0 197 (dk_at dksX0_stretch_1 6 rfl rfl)
theorem dX0_stretch_33 : decode cX0_stretch 33 = .ok (.dup, 1) := dk_89 (dk_at dksX0_stretch_1 9 rfl rfl)
theorem dX0_stretch_34 : decode cX0_stretch 34 = .ok (.aload_n 0, 1) := dk_42 (dk_at dksX0_stretch_1 10 rfl rfl)
theorem dX0_stretch_35 : decode cX0_stretch 35 = .ok (.aload_n 0, 1) := dk_42 (dk_at dksX0_stretch_1 11 rfl rfl)
theorem dX0_stretch_36 : decode cX0_stretch 36 = .ok (.getfield 38, 3) := dk_180 0 38 (dk_at dksX0_stretch_1 12 rfl rfl)
theorem dX0_stretch_39 : decode cX0_stretch 39 = .ok (.new 164, 3) := dk_187 0 164 (dk_at dksX0_stretch_1 15 rfl rfl)
theorem dX0_stretch_42 : decode cX0_stretch 42 = .ok (.dup, 1) := dk_89 (dk_at dksX0_stretch_1 18 rfl rfl)
theorem dX0_stretch_43 : decode cX0_stretch 43 = .ok (.iconst 0, 1) := dk_3 (dk_at dksX0_stretch_1 19 rfl rfl)
theorem dX0_stretch_44 : decode cX0_stretch 44 = .ok (.iconst 0, 1) := dk_3 (dk_at dksX0_stretch_1 20 rfl rfl)
theorem dX0_stretch_45 : decode cX0_stretch 45 = .ok (.iconst 0, 1) := dk_3 (dk_at dksX0_stretch_1 21 rfl rfl)
theorem dX0_stretch_46 : decode cX0_stretch 46 = .ok (.aconst_null, 1) := dk_1 (dk_at dksX0_stretch_1 22 rfl rfl)
theorem dX0_stretch_47 : decode cX0_stretch 47 = .ok (.invokespecial 190, 3) := dk_183 0 190 (dk_at dksX0_stretch_2 0 rfl rfl)
theorem dX0_stretch_50 : decode cX0_stretch 50 = .ok (.invokespecial 199, 3) := dk_183 0 199 (dk_at dksX0_stretch_2 3 rfl rfl)
theorem dX0_stretch_53 : decode cX0_stretch 53 = .ok (.astore 4, 2) := dk_58 4 (dk_at dksX0_stretch_2 6 rfl rfl)
theorem dX0_stretch_55 : decode cX0_stretch 55 = .ok (.aload 4, 2) := dk_25 4 (dk_at dksX0_stretch_2 8 rfl rfl)
theorem dX0_stretch_57 : decode cX0_stretch 57 = .ok (.invokevirtual 202, 3) := dk_182 0 202 (dk_at dksX0_stretch_2 10 rfl rfl)
theorem dX0_stretch_60 : decode cX0_stretch 60 = .ok (.aload 4, 2) := dk_25 4 (dk_at dksX0_stretch_2 13 rfl rfl)
theorem dX0_stretch_62 : decode cX0_stretch 62 = .ok (.getfield 214, 3) := dk_180 0 214 (dk_at dksX0_stretch_2 15 rfl rfl)
theorem dX0_stretch_65 : decode cX0_stretch 65 = .ok (.iload_n 1, 1) := dk_27 (dk_at dksX0_stretch_2 18 rfl rfl)
theorem dX0_stretch_66 : decode cX0_stretch 66 = .ok (.aaload, 1) := dk_50 (dk_at dksX0_stretch_2 19 rfl rfl)
theorem dX0_stretch_67 : decode cX0_stretch 67 = .ok (.aload 4, 2) := dk_25 4 (dk_at dksX0_stretch_2 20 rfl rfl)
theorem dX0_stretch_69 : decode cX0_stretch 69 = .ok (.getfield 216, 3) := dk_180 0 216 (dk_at dksX0_stretch_3 0 rfl rfl)
theorem dX0_stretch_72 : decode cX0_stretch 72 = .ok (.iload_n 2, 1) := dk_28 (dk_at dksX0_stretch_3 3 rfl rfl)
theorem dX0_stretch_73 : decode cX0_stretch 73 = .ok (.iaload, 1) := dk_46 (dk_at dksX0_stretch_3 4 rfl rfl)
theorem dX0_stretch_74 : decode cX0_stretch 74 = .ok (.aaload, 1) := dk_50 (dk_at dksX0_stretch_3 5 rfl rfl)
theorem dX0_stretch_75 : decode cX0_stretch 75 = .ok (.aload 4, 2) := dk_25 4 (dk_at dksX0_stretch_3 6 rfl rfl)
theorem dX0_stretch_77 : decode cX0_stretch 77 = .ok (.getfield 216, 3) := dk_180 0 216 (dk_at dksX0_stretch_3 8 rfl rfl)
theorem dX0_stretch_80 : decode cX0_stretch 80 = .ok (.iload_n 3, 1) := dk_29 (dk_at dksX0_stretch_3 11 rfl rfl)
theorem dX0_stretch_81 : decode cX0_stretch 81 = .ok (.iaload, 1) := dk_46 (dk_at dksX0_stretch_3 12 rfl rfl)
theorem dX0_stretch_82 : decode cX0_stretch 82 = .ok (.laload, 1) := dk_47 (dk_at dksX0_stretch_3 13 rfl rfl)
theorem dX0_stretch_83 : decode cX0_stretch 83 = .ok (.lstore 5, 2) := dk_55 5 (dk_at dksX0_stretch_3 14 rfl rfl)
theorem dX0_stretch_85 : decode cX0_stretch 85 = .ok (.lload 5, 2) := dk_22 5 (dk_at dksX0_stretch_3 16 rfl rfl)
theorem dX0_stretch_87 : decode cX0_stretch 87 = .ok (.ldc2_w 244, 3) := dk_20 0 244 (dk_at dksX0_stretch_3 18 rfl rfl)
theorem dX0_stretch_90 : decode cX0_stretch 90 = .ok (.lcmp, 1) := dk_148 (dk_at dksX0_stretch_3 21 rfl rfl)
theorem dX0_stretch_91 : decode cX0_stretch 91 = .ok (.ifCond .lt 8, 3) := dk_155 0 8 (dk_at dksX0_stretch_4 0 rfl rfl)
theorem dX0_stretch_94 : decode cX0_stretch 94 = .ok (.bipush (-4), 2) := dk_16 252 (dk_at dksX0_stretch_4 3 rfl rfl)
theorem dX0_stretch_96 : decode cX0_stretch 96 = .ok (.goto 10, 3) := dk_167 0 10 (dk_at dksX0_stretch_4 5 rfl rfl)
theorem dX0_stretch_99 : decode cX0_stretch 99 = .ok (.lload 5, 2) := dk_22 5 (dk_at dksX0_stretch_4 8 rfl rfl)
theorem dX0_stretch_101 : decode cX0_stretch 101 = .ok (.ldc2_w 219, 3) := dk_20 0 219 (dk_at dksX0_stretch_4 10 rfl rfl)
theorem dX0_stretch_104 : decode cX0_stretch 104 = .ok (.ldiv, 1) := dk_109 (dk_at dksX0_stretch_4 13 rfl rfl)
theorem dX0_stretch_105 : decode cX0_stretch 105 = .ok (.l2i, 1) := dk_136 (dk_at dksX0_stretch_4 14 rfl rfl)
theorem dX0_stretch_106 : decode cX0_stretch 106 = .ok (.ireturn, 1) := dk_172 (dk_at dksX0_stretch_4 15 rfl rfl)
abbrev cX0_told : ByteArray := prog_1_method_27_code
def yX0_told : MethodName := ⟨RX0, "told", "(I)I"⟩
def dkwX0_told_4 : List UInt8 := [2, 172]
abbrev dktX0_told_4 : List UInt8 := dkwX0_told_4 ++ []
def dkwX0_told_3 : List UInt8 := [180, 0, 246, 172, 42, 180, 0, 193, 199, 0, 8, 16, 252, 167, 0, 10, 42, 180, 0, 193, 180, 0, 163, 172]
abbrev dktX0_told_3 : List UInt8 := dkwX0_told_3 ++ dktX0_told_4
def dkwX0_told_2 : List UInt8 := [42, 180, 0, 53, 172, 42, 180, 0, 63, 185, 0, 100, 1, 0, 172, 42, 180, 0, 208, 172, 42, 180, 0, 59]
abbrev dktX0_told_2 : List UInt8 := dkwX0_told_2 ++ dktX0_told_3
def dkwX0_told_1 : List UInt8 := [170, 0, 0, 0, 0, 0, 83, 0, 0, 0, 0, 0, 0, 0, 4, 0, 0, 0, 35, 0, 0, 0, 40, 0, 0, 0, 50, 0, 0, 0, 55, 0, 0, 0, 63]
abbrev dktX0_told_1 : List UInt8 := dkwX0_told_1 ++ dktX0_told_2
def dkwX0_told_0 : List UInt8 := [27]
abbrev dktX0_told_0 : List UInt8 := dkwX0_told_0 ++ dktX0_told_1
theorem dksX0_told_0 : cX0_told.data.toList.drop 0 = dktX0_told_0 := by decide +kernel
theorem dksX0_told_1 : cX0_told.data.toList.drop 1 = dktX0_told_1 := dk_seg dksX0_told_0 1 rfl rfl
theorem dksX0_told_2 : cX0_told.data.toList.drop 36 = dktX0_told_2 := dk_seg dksX0_told_1 35 rfl rfl
theorem dksX0_told_3 : cX0_told.data.toList.drop 60 = dktX0_told_3 := dk_seg dksX0_told_2 24 rfl rfl
theorem dksX0_told_4 : cX0_told.data.toList.drop 84 = dktX0_told_4 := dk_seg dksX0_told_3 24 rfl rfl
theorem dX0_told_0 : decode cX0_told 0 = .ok (.iload_n 1, 1) := dk_27 (dk_at dksX0_told_0 0 rfl rfl)
theorem dX0_told_1 : decode cX0_told 1 = .ok (.tableswitch 83 0 4 #[35, 40, 50, 55, 63], 35) := by decide +kernel
theorem dX0_told_36 : decode cX0_told 36 = .ok (.aload_n 0, 1) := dk_42 (dk_at dksX0_told_2 0 rfl rfl)
theorem dX0_told_37 : decode cX0_told 37 = .ok (.getfield 53, 3) := dk_180 0 53 (dk_at dksX0_told_2 1 rfl rfl)
theorem dX0_told_40 : decode cX0_told 40 = .ok (.ireturn, 1) := dk_172 (dk_at dksX0_told_2 4 rfl rfl)
theorem dX0_told_41 : decode cX0_told 41 = .ok (.aload_n 0, 1) := dk_42 (dk_at dksX0_told_2 5 rfl rfl)
theorem dX0_told_42 : decode cX0_told 42 = .ok (.getfield 63, 3) := dk_180 0 63 (dk_at dksX0_told_2 6 rfl rfl)
theorem dX0_told_45 : decode cX0_told 45 = .ok (.invokeinterface 100 1, 5) := by decide +kernel
theorem dX0_told_50 : decode cX0_told 50 = .ok (.ireturn, 1) := dk_172 (dk_at dksX0_told_2 14 rfl rfl)
theorem dX0_told_51 : decode cX0_told 51 = .ok (.aload_n 0, 1) := dk_42 (dk_at dksX0_told_2 15 rfl rfl)
theorem dX0_told_52 : decode cX0_told 52 = .ok (.getfield 208, 3) := dk_180 0 208 (dk_at dksX0_told_2 16 rfl rfl)
theorem dX0_told_55 : decode cX0_told 55 = .ok (.ireturn, 1) := dk_172 (dk_at dksX0_told_2 19 rfl rfl)
theorem dX0_told_56 : decode cX0_told 56 = .ok (.aload_n 0, 1) := dk_42 (dk_at dksX0_told_2 20 rfl rfl)
theorem dX0_told_57 : decode cX0_told 57 = .ok (.getfield 59, 3) := dk_180 0 59 (dk_at dksX0_told_2 21 rfl rfl)
theorem dX0_told_60 : decode cX0_told 60 = .ok (.getfield 246, 3) := dk_180 0 246 (dk_at dksX0_told_3 0 rfl rfl)
theorem dX0_told_63 : decode cX0_told 63 = .ok (.ireturn, 1) := dk_172 (dk_at dksX0_told_3 3 rfl rfl)
theorem dX0_told_64 : decode cX0_told 64 = .ok (.aload_n 0, 1) := dk_42 (dk_at dksX0_told_3 4 rfl rfl)
theorem dX0_told_65 : decode cX0_told 65 = .ok (.getfield 193, 3) := dk_180 0 193 (dk_at dksX0_told_3 5 rfl rfl)
theorem dX0_told_68 : decode cX0_told 68 = .ok (.ifnonnull 8, 3) := dk_199 0 8 (dk_at dksX0_told_3 8 rfl rfl)
theorem dX0_told_71 : decode cX0_told 71 = .ok (.bipush (-4), 2) := dk_16 252 (dk_at dksX0_told_3 11 rfl rfl)
theorem dX0_told_73 : decode cX0_told 73 = .ok (.goto 10, 3) := dk_167 0 10 (dk_at dksX0_told_3 13 rfl rfl)
theorem dX0_told_76 : decode cX0_told 76 = .ok (.aload_n 0, 1) := dk_42 (dk_at dksX0_told_3 16 rfl rfl)
theorem dX0_told_77 : decode cX0_told 77 = .ok (.getfield 193, 3) := dk_180 0 193 (dk_at dksX0_told_3 17 rfl rfl)
theorem dX0_told_80 : decode cX0_told 80 = .ok (.getfield 163, 3) := dk_180 0 163 (dk_at dksX0_told_3 20 rfl rfl)
theorem dX0_told_83 : decode cX0_told 83 = .ok (.ireturn, 1) := dk_172 (dk_at dksX0_told_3 23 rfl rfl)
theorem dX0_told_84 : decode cX0_told 84 = .ok (.iconst (-1), 1) := dk_2 (dk_at dksX0_told_4 0 rfl rfl)
theorem dX0_told_85 : decode cX0_told 85 = .ok (.ireturn, 1) := dk_172 (dk_at dksX0_told_4 1 rfl rfl)
abbrev cX0_slip : ByteArray := prog_1_method_28_code
def yX0_slip : MethodName := ⟨RX0, "slip", "(II)I"⟩
def dkwX0_slip_1 : List UInt8 := [20, 0, 247, 184, 0, 85, 154, 0, 5, 2, 172, 42, 180, 0, 69, 180, 0, 249, 28, 50, 27, 46, 172]
abbrev dktX0_slip_1 : List UInt8 := dkwX0_slip_1 ++ []
def dkwX0_slip_0 : List UInt8 := [27, 133, 9, 42, 180, 0, 63, 185, 0, 100, 1, 0, 4, 100, 133, 184, 0, 85, 153, 0, 15, 28, 133, 9]
abbrev dktX0_slip_0 : List UInt8 := dkwX0_slip_0 ++ dktX0_slip_1
theorem dksX0_slip_0 : cX0_slip.data.toList.drop 0 = dktX0_slip_0 := by decide +kernel
theorem dksX0_slip_1 : cX0_slip.data.toList.drop 24 = dktX0_slip_1 := dk_seg dksX0_slip_0 24 rfl rfl
theorem dX0_slip_0 : decode cX0_slip 0 = .ok (.iload_n 1, 1) := dk_27 (dk_at dksX0_slip_0 0 rfl rfl)
theorem dX0_slip_1 : decode cX0_slip 1 = .ok (.i2l, 1) := dk_133 (dk_at dksX0_slip_0 1 rfl rfl)
theorem dX0_slip_2 : decode cX0_slip 2 = .ok (.lconst 0, 1) := dk_9 (dk_at dksX0_slip_0 2 rfl rfl)
theorem dX0_slip_3 : decode cX0_slip 3 = .ok (.aload_n 0, 1) := dk_42 (dk_at dksX0_slip_0 3 rfl rfl)
theorem dX0_slip_4 : decode cX0_slip 4 = .ok (.getfield 63, 3) := dk_180 0 63 (dk_at dksX0_slip_0 4 rfl rfl)
theorem dX0_slip_7 : decode cX0_slip 7 = .ok (.invokeinterface 100 1, 5) := by decide +kernel
theorem dX0_slip_12 : decode cX0_slip 12 = .ok (.iconst 1, 1) := dk_4 (dk_at dksX0_slip_0 12 rfl rfl)
theorem dX0_slip_13 : decode cX0_slip 13 = .ok (.isub, 1) := dk_100 (dk_at dksX0_slip_0 13 rfl rfl)
theorem dX0_slip_14 : decode cX0_slip 14 = .ok (.i2l, 1) := dk_133 (dk_at dksX0_slip_0 14 rfl rfl)
theorem dX0_slip_15 : decode cX0_slip 15 = .ok (.invokestatic 85, 3) := dk_184 0 85 (dk_at dksX0_slip_0 15 rfl rfl)
theorem dX0_slip_18 : decode cX0_slip 18 = .ok (.ifCond .eq 15, 3) := dk_153 0 15 (dk_at dksX0_slip_0 18 rfl rfl)
theorem dX0_slip_21 : decode cX0_slip 21 = .ok (.iload_n 2, 1) := dk_28 (dk_at dksX0_slip_0 21 rfl rfl)
theorem dX0_slip_22 : decode cX0_slip 22 = .ok (.i2l, 1) := dk_133 (dk_at dksX0_slip_0 22 rfl rfl)
theorem dX0_slip_23 : decode cX0_slip 23 = .ok (.lconst 0, 1) := dk_9 (dk_at dksX0_slip_0 23 rfl rfl)
theorem dX0_slip_24 : decode cX0_slip 24 = .ok (.ldc2_w 247, 3) := dk_20 0 247 (dk_at dksX0_slip_1 0 rfl rfl)
theorem dX0_slip_27 : decode cX0_slip 27 = .ok (.invokestatic 85, 3) := dk_184 0 85 (dk_at dksX0_slip_1 3 rfl rfl)
theorem dX0_slip_30 : decode cX0_slip 30 = .ok (.ifCond .ne 5, 3) := dk_154 0 5 (dk_at dksX0_slip_1 6 rfl rfl)
theorem dX0_slip_33 : decode cX0_slip 33 = .ok (.iconst (-1), 1) := dk_2 (dk_at dksX0_slip_1 9 rfl rfl)
theorem dX0_slip_34 : decode cX0_slip 34 = .ok (.ireturn, 1) := dk_172 (dk_at dksX0_slip_1 10 rfl rfl)
theorem dX0_slip_35 : decode cX0_slip 35 = .ok (.aload_n 0, 1) := dk_42 (dk_at dksX0_slip_1 11 rfl rfl)
theorem dX0_slip_36 : decode cX0_slip 36 = .ok (.getfield 69, 3) := dk_180 0 69 (dk_at dksX0_slip_1 12 rfl rfl)
theorem dX0_slip_39 : decode cX0_slip 39 = .ok (.getfield 249, 3) := dk_180 0 249 (dk_at dksX0_slip_1 15 rfl rfl)
theorem dX0_slip_42 : decode cX0_slip 42 = .ok (.iload_n 2, 1) := dk_28 (dk_at dksX0_slip_1 18 rfl rfl)
theorem dX0_slip_43 : decode cX0_slip 43 = .ok (.aaload, 1) := dk_50 (dk_at dksX0_slip_1 19 rfl rfl)
theorem dX0_slip_44 : decode cX0_slip 44 = .ok (.iload_n 1, 1) := dk_27 (dk_at dksX0_slip_1 20 rfl rfl)
theorem dX0_slip_45 : decode cX0_slip 45 = .ok (.iaload, 1) := dk_46 (dk_at dksX0_slip_1 21 rfl rfl)
theorem dX0_slip_46 : decode cX0_slip 46 = .ok (.ireturn, 1) := dk_172 (dk_at dksX0_slip_1 22 rfl rfl)
abbrev cX0_word : ByteArray := prog_1_method_29_code
def yX0_word : MethodName := ⟨RX0, "word", "(I)I"⟩
def dkwX0_word_1 : List UInt8 := [167, 0, 4, 2, 172]
abbrev dktX0_word_1 : List UInt8 := dkwX0_word_1 ++ []
def dkwX0_word_0 : List UInt8 := [27, 133, 9, 42, 180, 0, 208, 4, 100, 133, 184, 0, 85, 153, 0, 12, 42, 180, 0, 73, 27, 46]
abbrev dktX0_word_0 : List UInt8 := dkwX0_word_0 ++ dktX0_word_1
theorem dksX0_word_0 : cX0_word.data.toList.drop 0 = dktX0_word_0 := by decide +kernel
theorem dksX0_word_1 : cX0_word.data.toList.drop 22 = dktX0_word_1 := dk_seg dksX0_word_0 22 rfl rfl
theorem dX0_word_0 : decode cX0_word 0 = .ok (.iload_n 1, 1) := dk_27 (dk_at dksX0_word_0 0 rfl rfl)
theorem dX0_word_1 : decode cX0_word 1 = .ok (.i2l, 1) := dk_133 (dk_at dksX0_word_0 1 rfl rfl)
theorem dX0_word_2 : decode cX0_word 2 = .ok (.lconst 0, 1) := dk_9 (dk_at dksX0_word_0 2 rfl rfl)
theorem dX0_word_3 : decode cX0_word 3 = .ok (.aload_n 0, 1) := dk_42 (dk_at dksX0_word_0 3 rfl rfl)
theorem dX0_word_4 : decode cX0_word 4 = .ok (.getfield 208, 3) := dk_180 0 208 (dk_at dksX0_word_0 4 rfl rfl)
theorem dX0_word_7 : decode cX0_word 7 = .ok (.iconst 1, 1) := dk_4 (dk_at dksX0_word_0 7 rfl rfl)
theorem dX0_word_8 : decode cX0_word 8 = .ok (.isub, 1) := dk_100 (dk_at dksX0_word_0 8 rfl rfl)
theorem dX0_word_9 : decode cX0_word 9 = .ok (.i2l, 1) := dk_133 (dk_at dksX0_word_0 9 rfl rfl)
theorem dX0_word_10 : decode cX0_word 10 = .ok (.invokestatic 85, 3) := dk_184 0 85 (dk_at dksX0_word_0 10 rfl rfl)
theorem dX0_word_13 : decode cX0_word 13 = .ok (.ifCond .eq 12, 3) := dk_153 0 12 (dk_at dksX0_word_0 13 rfl rfl)
theorem dX0_word_16 : decode cX0_word 16 = .ok (.aload_n 0, 1) := dk_42 (dk_at dksX0_word_0 16 rfl rfl)
theorem dX0_word_17 : decode cX0_word 17 = .ok (.getfield 73, 3) := dk_180 0 73 (dk_at dksX0_word_0 17 rfl rfl)
theorem dX0_word_20 : decode cX0_word 20 = .ok (.iload_n 1, 1) := dk_27 (dk_at dksX0_word_0 20 rfl rfl)
theorem dX0_word_21 : decode cX0_word 21 = .ok (.iaload, 1) := dk_46 (dk_at dksX0_word_0 21 rfl rfl)
theorem dX0_word_22 : decode cX0_word 22 = .ok (.goto 4, 3) := dk_167 0 4 (dk_at dksX0_word_1 0 rfl rfl)
theorem dX0_word_25 : decode cX0_word 25 = .ok (.iconst (-1), 1) := dk_2 (dk_at dksX0_word_1 3 rfl rfl)
theorem dX0_word_26 : decode cX0_word 26 = .ok (.ireturn, 1) := dk_172 (dk_at dksX0_word_1 4 rfl rfl)
abbrev cX0_node : ByteArray := prog_1_method_30_code
def yX0_node : MethodName := ⟨RX0, "node", "(II)I"⟩
def dkwX0_node_2 : List UInt8 := [172]
abbrev dktX0_node_2 : List UInt8 := dkwX0_node_2 ++ []
def dkwX0_node_1 : List UInt8 := [20, 0, 133, 184, 0, 85, 153, 0, 17, 42, 180, 0, 59, 180, 0, 252, 28, 50, 27, 46, 167, 0, 4, 2]
abbrev dktX0_node_1 : List UInt8 := dkwX0_node_1 ++ dktX0_node_2
def dkwX0_node_0 : List UInt8 := [27, 133, 9, 42, 180, 0, 59, 180, 0, 246, 4, 100, 133, 184, 0, 85, 153, 0, 29, 28, 133, 9]
abbrev dktX0_node_0 : List UInt8 := dkwX0_node_0 ++ dktX0_node_1
theorem dksX0_node_0 : cX0_node.data.toList.drop 0 = dktX0_node_0 := by decide +kernel
theorem dksX0_node_1 : cX0_node.data.toList.drop 22 = dktX0_node_1 := dk_seg dksX0_node_0 22 rfl rfl
theorem dksX0_node_2 : cX0_node.data.toList.drop 46 = dktX0_node_2 := dk_seg dksX0_node_1 24 rfl rfl
theorem dX0_node_0 : decode cX0_node 0 = .ok (.iload_n 1, 1) := dk_27 (dk_at dksX0_node_0 0 rfl rfl)
theorem dX0_node_1 : decode cX0_node 1 = .ok (.i2l, 1) := dk_133 (dk_at dksX0_node_0 1 rfl rfl)
theorem dX0_node_2 : decode cX0_node 2 = .ok (.lconst 0, 1) := dk_9 (dk_at dksX0_node_0 2 rfl rfl)
theorem dX0_node_3 : decode cX0_node 3 = .ok (.aload_n 0, 1) := dk_42 (dk_at dksX0_node_0 3 rfl rfl)
theorem dX0_node_4 : decode cX0_node 4 = .ok (.getfield 59, 3) := dk_180 0 59 (dk_at dksX0_node_0 4 rfl rfl)
theorem dX0_node_7 : decode cX0_node 7 = .ok (.getfield 246, 3) := dk_180 0 246 (dk_at dksX0_node_0 7 rfl rfl)
theorem dX0_node_10 : decode cX0_node 10 = .ok (.iconst 1, 1) := dk_4 (dk_at dksX0_node_0 10 rfl rfl)
theorem dX0_node_11 : decode cX0_node 11 = .ok (.isub, 1) := dk_100 (dk_at dksX0_node_0 11 rfl rfl)
theorem dX0_node_12 : decode cX0_node 12 = .ok (.i2l, 1) := dk_133 (dk_at dksX0_node_0 12 rfl rfl)
theorem dX0_node_13 : decode cX0_node 13 = .ok (.invokestatic 85, 3) := dk_184 0 85 (dk_at dksX0_node_0 13 rfl rfl)
theorem dX0_node_16 : decode cX0_node 16 = .ok (.ifCond .eq 29, 3) := dk_153 0 29 (dk_at dksX0_node_0 16 rfl rfl)
theorem dX0_node_19 : decode cX0_node 19 = .ok (.iload_n 2, 1) := dk_28 (dk_at dksX0_node_0 19 rfl rfl)
theorem dX0_node_20 : decode cX0_node 20 = .ok (.i2l, 1) := dk_133 (dk_at dksX0_node_0 20 rfl rfl)
theorem dX0_node_21 : decode cX0_node 21 = .ok (.lconst 0, 1) := dk_9 (dk_at dksX0_node_0 21 rfl rfl)
theorem dX0_node_22 : decode cX0_node 22 = .ok (.ldc2_w 133, 3) := dk_20 0 133 (dk_at dksX0_node_1 0 rfl rfl)
theorem dX0_node_25 : decode cX0_node 25 = .ok (.invokestatic 85, 3) := dk_184 0 85 (dk_at dksX0_node_1 3 rfl rfl)
theorem dX0_node_28 : decode cX0_node 28 = .ok (.ifCond .eq 17, 3) := dk_153 0 17 (dk_at dksX0_node_1 6 rfl rfl)
theorem dX0_node_31 : decode cX0_node 31 = .ok (.aload_n 0, 1) := dk_42 (dk_at dksX0_node_1 9 rfl rfl)
theorem dX0_node_32 : decode cX0_node 32 = .ok (.getfield 59, 3) := dk_180 0 59 (dk_at dksX0_node_1 10 rfl rfl)
theorem dX0_node_35 : decode cX0_node 35 = .ok (.getfield 252, 3) := dk_180 0 252 (dk_at dksX0_node_1 13 rfl rfl)
theorem dX0_node_38 : decode cX0_node 38 = .ok (.iload_n 2, 1) := dk_28 (dk_at dksX0_node_1 16 rfl rfl)
theorem dX0_node_39 : decode cX0_node 39 = .ok (.aaload, 1) := dk_50 (dk_at dksX0_node_1 17 rfl rfl)
theorem dX0_node_40 : decode cX0_node 40 = .ok (.iload_n 1, 1) := dk_27 (dk_at dksX0_node_1 18 rfl rfl)
theorem dX0_node_41 : decode cX0_node 41 = .ok (.iaload, 1) := dk_46 (dk_at dksX0_node_1 19 rfl rfl)
theorem dX0_node_42 : decode cX0_node 42 = .ok (.goto 4, 3) := dk_167 0 4 (dk_at dksX0_node_1 20 rfl rfl)
theorem dX0_node_45 : decode cX0_node 45 = .ok (.iconst (-1), 1) := dk_2 (dk_at dksX0_node_1 23 rfl rfl)
theorem dX0_node_46 : decode cX0_node 46 = .ok (.ireturn, 1) := dk_172 (dk_at dksX0_node_2 0 rfl rfl)
abbrev cX0_sure : ByteArray := prog_1_method_31_code
def yX0_sure : MethodName := ⟨RX0, "sure", "(I)I"⟩
def dkwX0_sure_7 : List UInt8 := [148, 158, 0, 7, 4, 167, 0, 4, 3, 172]
abbrev dktX0_sure_7 : List UInt8 := dkwX0_sure_7 ++ []
def dkwX0_sure_6 : List UInt8 := [22, 4, 20, 0, 219, 109, 44, 180, 0, 221, 29, 50, 42, 180, 0, 38, 190, 47, 97, 42, 180, 0, 53, 133]
abbrev dktX0_sure_6 : List UInt8 := dkwX0_sure_6 ++ dktX0_sure_7
def dkwX0_sure_5 : List UInt8 := [180, 0, 214, 42, 180, 0, 130, 50, 44, 180, 0, 216, 3, 46, 50, 44, 180, 0, 216, 29, 46, 47, 55, 4]
abbrev dktX0_sure_5 : List UInt8 := dkwX0_sure_5 ++ dktX0_sure_6
def dkwX0_sure_4 : List UInt8 := [183, 0, 199, 77, 44, 182, 0, 202, 44, 182, 0, 211, 62, 29, 16, 252, 160, 0, 5, 4, 172, 44]
abbrev dktX0_sure_4 : List UInt8 := dkwX0_sure_4 ++ dktX0_sure_5
def dkwX0_sure_3 : List UInt8 := [180, 0, 193, 180, 0, 185, 42, 180, 0, 63, 27, 185, 0, 118, 2, 0, 192, 0, 156, 183, 0, 190]
abbrev dktX0_sure_3 : List UInt8 := dkwX0_sure_3 ++ dktX0_sure_4
def dkwX0_sure_2 : List UInt8 := [42, 42, 180, 0, 38, 187, 0, 164, 89, 42, 180, 0, 193, 180, 0, 163, 42, 180, 0, 193, 180, 0, 179, 42]
abbrev dktX0_sure_2 : List UInt8 := dkwX0_sure_2 ++ dktX0_sure_3
def dkwX0_sure_1 : List UInt8 := [180, 0, 92, 154, 0, 14, 42, 180, 0, 193, 180, 0, 163, 4, 164, 0, 6, 16, 253, 172, 187, 0, 197, 89]
abbrev dktX0_sure_1 : List UInt8 := dkwX0_sure_1 ++ dktX0_sure_2
def dkwX0_sure_0 : List UInt8 := [27, 133, 9, 42, 180, 0, 63, 185, 0, 100, 1, 0, 4, 100, 133, 184, 0, 85, 154, 0, 5, 2, 172, 42]
abbrev dktX0_sure_0 : List UInt8 := dkwX0_sure_0 ++ dktX0_sure_1
theorem dksX0_sure_0 : cX0_sure.data.toList.drop 0 = dktX0_sure_0 := by decide +kernel
theorem dksX0_sure_1 : cX0_sure.data.toList.drop 24 = dktX0_sure_1 := dk_seg dksX0_sure_0 24 rfl rfl
theorem dksX0_sure_2 : cX0_sure.data.toList.drop 48 = dktX0_sure_2 := dk_seg dksX0_sure_1 24 rfl rfl
theorem dksX0_sure_3 : cX0_sure.data.toList.drop 72 = dktX0_sure_3 := dk_seg dksX0_sure_2 24 rfl rfl
theorem dksX0_sure_4 : cX0_sure.data.toList.drop 94 = dktX0_sure_4 := dk_seg dksX0_sure_3 22 rfl rfl
theorem dksX0_sure_5 : cX0_sure.data.toList.drop 116 = dktX0_sure_5 := dk_seg dksX0_sure_4 22 rfl rfl
theorem dksX0_sure_6 : cX0_sure.data.toList.drop 140 = dktX0_sure_6 := dk_seg dksX0_sure_5 24 rfl rfl
theorem dksX0_sure_7 : cX0_sure.data.toList.drop 164 = dktX0_sure_7 := dk_seg dksX0_sure_6 24 rfl rfl
theorem dX0_sure_0 : decode cX0_sure 0 = .ok (.iload_n 1, 1) := dk_27 (dk_at dksX0_sure_0 0 rfl rfl)
theorem dX0_sure_1 : decode cX0_sure 1 = .ok (.i2l, 1) := dk_133 (dk_at dksX0_sure_0 1 rfl rfl)
theorem dX0_sure_2 : decode cX0_sure 2 = .ok (.lconst 0, 1) := dk_9 (dk_at dksX0_sure_0 2 rfl rfl)
theorem dX0_sure_3 : decode cX0_sure 3 = .ok (.aload_n 0, 1) := dk_42 (dk_at dksX0_sure_0 3 rfl rfl)
theorem dX0_sure_4 : decode cX0_sure 4 = .ok (.getfield 63, 3) := dk_180 0 63 (dk_at dksX0_sure_0 4 rfl rfl)
theorem dX0_sure_7 : decode cX0_sure 7 = .ok (.invokeinterface 100 1, 5) := by decide +kernel
theorem dX0_sure_12 : decode cX0_sure 12 = .ok (.iconst 1, 1) := dk_4 (dk_at dksX0_sure_0 12 rfl rfl)
theorem dX0_sure_13 : decode cX0_sure 13 = .ok (.isub, 1) := dk_100 (dk_at dksX0_sure_0 13 rfl rfl)
theorem dX0_sure_14 : decode cX0_sure 14 = .ok (.i2l, 1) := dk_133 (dk_at dksX0_sure_0 14 rfl rfl)
theorem dX0_sure_15 : decode cX0_sure 15 = .ok (.invokestatic 85, 3) := dk_184 0 85 (dk_at dksX0_sure_0 15 rfl rfl)
theorem dX0_sure_18 : decode cX0_sure 18 = .ok (.ifCond .ne 5, 3) := dk_154 0 5 (dk_at dksX0_sure_0 18 rfl rfl)
theorem dX0_sure_21 : decode cX0_sure 21 = .ok (.iconst (-1), 1) := dk_2 (dk_at dksX0_sure_0 21 rfl rfl)
theorem dX0_sure_22 : decode cX0_sure 22 = .ok (.ireturn, 1) := dk_172 (dk_at dksX0_sure_0 22 rfl rfl)
theorem dX0_sure_23 : decode cX0_sure 23 = .ok (.aload_n 0, 1) := dk_42 (dk_at dksX0_sure_0 23 rfl rfl)
theorem dX0_sure_24 : decode cX0_sure 24 = .ok (.getfield 92, 3) := dk_180 0 92 (dk_at dksX0_sure_1 0 rfl rfl)
theorem dX0_sure_27 : decode cX0_sure 27 = .ok (.ifCond .ne 14, 3) := dk_154 0 14 (dk_at dksX0_sure_1 3 rfl rfl)
theorem dX0_sure_30 : decode cX0_sure 30 = .ok (.aload_n 0, 1) := dk_42 (dk_at dksX0_sure_1 6 rfl rfl)
theorem dX0_sure_31 : decode cX0_sure 31 = .ok (.getfield 193, 3) := dk_180 0 193 (dk_at dksX0_sure_1 7 rfl rfl)
theorem dX0_sure_34 : decode cX0_sure 34 = .ok (.getfield 163, 3) := dk_180 0 163 (dk_at dksX0_sure_1 10 rfl rfl)
theorem dX0_sure_37 : decode cX0_sure 37 = .ok (.iconst 1, 1) := dk_4 (dk_at dksX0_sure_1 13 rfl rfl)
theorem dX0_sure_38 : decode cX0_sure 38 = .ok (.if_icmp .le 6, 3) := dk_164 0 6 (dk_at dksX0_sure_1 14 rfl rfl)
theorem dX0_sure_41 : decode cX0_sure 41 = .ok (.bipush (-3), 2) := dk_16 253 (dk_at dksX0_sure_1 17 rfl rfl)
theorem dX0_sure_43 : decode cX0_sure 43 = .ok (.ireturn, 1) := dk_172 (dk_at dksX0_sure_1 19 rfl rfl)
theorem dX0_sure_44 : decode cX0_sure 44 = .ok (.new 197, 3) := dk_187 0 197 (dk_at dksX0_sure_1 20 rfl rfl)
theorem dX0_sure_47 : decode cX0_sure 47 = .ok (.dup, 1) := dk_89 (dk_at dksX0_sure_1 23 rfl rfl)
theorem dX0_sure_48 : decode cX0_sure 48 = .ok (.aload_n 0, 1) := dk_42 (dk_at dksX0_sure_2 0 rfl rfl)
theorem dX0_sure_49 : decode cX0_sure 49 = .ok (.aload_n 0, 1) := dk_42 (dk_at dksX0_sure_2 1 rfl rfl)
theorem dX0_sure_50 : decode cX0_sure 50 = .ok (.getfield 38, 3) := dk_180 0 38 (dk_at dksX0_sure_2 2 rfl rfl)
theorem dX0_sure_53 : decode cX0_sure 53 = .ok (.new 164, 3) := dk_187 0 164 (dk_at dksX0_sure_2 5 rfl rfl)
theorem dX0_sure_56 : decode cX0_sure 56 = .ok (.dup, 1) := dk_89 (dk_at dksX0_sure_2 8 rfl rfl)
theorem dX0_sure_57 : decode cX0_sure 57 = .ok (.aload_n 0, 1) := dk_42 (dk_at dksX0_sure_2 9 rfl rfl)
theorem dX0_sure_58 : decode cX0_sure 58 = .ok (.getfield 193, 3) := dk_180 0 193 (dk_at dksX0_sure_2 10 rfl rfl)
theorem dX0_sure_61 : decode cX0_sure 61 = .ok (.getfield 163, 3) := dk_180 0 163 (dk_at dksX0_sure_2 13 rfl rfl)
theorem dX0_sure_64 : decode cX0_sure 64 = .ok (.aload_n 0, 1) := dk_42 (dk_at dksX0_sure_2 16 rfl rfl)
theorem dX0_sure_65 : decode cX0_sure 65 = .ok (.getfield 193, 3) := dk_180 0 193 (dk_at dksX0_sure_2 17 rfl rfl)
theorem dX0_sure_68 : decode cX0_sure 68 = .ok (.getfield 179, 3) := dk_180 0 179 (dk_at dksX0_sure_2 20 rfl rfl)
theorem dX0_sure_71 : decode cX0_sure 71 = .ok (.aload_n 0, 1) := dk_42 (dk_at dksX0_sure_2 23 rfl rfl)
theorem dX0_sure_72 : decode cX0_sure 72 = .ok (.getfield 193, 3) := dk_180 0 193 (dk_at dksX0_sure_3 0 rfl rfl)
theorem dX0_sure_75 : decode cX0_sure 75 = .ok (.getfield 185, 3) := dk_180 0 185 (dk_at dksX0_sure_3 3 rfl rfl)
theorem dX0_sure_78 : decode cX0_sure 78 = .ok (.aload_n 0, 1) := dk_42 (dk_at dksX0_sure_3 6 rfl rfl)
theorem dX0_sure_79 : decode cX0_sure 79 = .ok (.getfield 63, 3) := dk_180 0 63 (dk_at dksX0_sure_3 7 rfl rfl)
theorem dX0_sure_82 : decode cX0_sure 82 = .ok (.iload_n 1, 1) := dk_27 (dk_at dksX0_sure_3 10 rfl rfl)
theorem dX0_sure_83 : decode cX0_sure 83 = .ok (.invokeinterface 118 2, 5) := by decide +kernel
theorem dX0_sure_88 : decode cX0_sure 88 = .ok (.checkcast 156, 3) := dk_192 0 156 (dk_at dksX0_sure_3 16 rfl rfl)
theorem dX0_sure_91 : decode cX0_sure 91 = .ok (.invokespecial 190, 3) := dk_183 0 190 (dk_at dksX0_sure_3 19 rfl rfl)
theorem dX0_sure_94 : decode cX0_sure 94 = .ok (.invokespecial 199, 3) := dk_183 0 199 (dk_at dksX0_sure_4 0 rfl rfl)
theorem dX0_sure_97 : decode cX0_sure 97 = .ok (.astore_n 2, 1) := dk_77 (dk_at dksX0_sure_4 3 rfl rfl)
theorem dX0_sure_98 : decode cX0_sure 98 = .ok (.aload_n 2, 1) := dk_44 (dk_at dksX0_sure_4 4 rfl rfl)
theorem dX0_sure_99 : decode cX0_sure 99 = .ok (.invokevirtual 202, 3) := dk_182 0 202 (dk_at dksX0_sure_4 5 rfl rfl)
theorem dX0_sure_102 : decode cX0_sure 102 = .ok (.aload_n 2, 1) := dk_44 (dk_at dksX0_sure_4 8 rfl rfl)
theorem dX0_sure_103 : decode cX0_sure 103 = .ok (.invokevirtual 211, 3) := dk_182 0 211 (dk_at dksX0_sure_4 9 rfl rfl)
theorem dX0_sure_106 : decode cX0_sure 106 = .ok (.istore_n 3, 1) := dk_62 (dk_at dksX0_sure_4 12 rfl rfl)
theorem dX0_sure_107 : decode cX0_sure 107 = .ok (.iload_n 3, 1) := dk_29 (dk_at dksX0_sure_4 13 rfl rfl)
theorem dX0_sure_108 : decode cX0_sure 108 = .ok (.bipush (-4), 2) := dk_16 252 (dk_at dksX0_sure_4 14 rfl rfl)
theorem dX0_sure_110 : decode cX0_sure 110 = .ok (.if_icmp .ne 5, 3) := dk_160 0 5 (dk_at dksX0_sure_4 16 rfl rfl)
theorem dX0_sure_113 : decode cX0_sure 113 = .ok (.iconst 1, 1) := dk_4 (dk_at dksX0_sure_4 19 rfl rfl)
theorem dX0_sure_114 : decode cX0_sure 114 = .ok (.ireturn, 1) := dk_172 (dk_at dksX0_sure_4 20 rfl rfl)
theorem dX0_sure_115 : decode cX0_sure 115 = .ok (.aload_n 2, 1) := dk_44 (dk_at dksX0_sure_4 21 rfl rfl)
theorem dX0_sure_116 : decode cX0_sure 116 = .ok (.getfield 214, 3) := dk_180 0 214 (dk_at dksX0_sure_5 0 rfl rfl)
theorem dX0_sure_119 : decode cX0_sure 119 = .ok (.aload_n 0, 1) := dk_42 (dk_at dksX0_sure_5 3 rfl rfl)
theorem dX0_sure_120 : decode cX0_sure 120 = .ok (.getfield 130, 3) := dk_180 0 130 (dk_at dksX0_sure_5 4 rfl rfl)
theorem dX0_sure_123 : decode cX0_sure 123 = .ok (.aaload, 1) := dk_50 (dk_at dksX0_sure_5 7 rfl rfl)
theorem dX0_sure_124 : decode cX0_sure 124 = .ok (.aload_n 2, 1) := dk_44 (dk_at dksX0_sure_5 8 rfl rfl)
theorem dX0_sure_125 : decode cX0_sure 125 = .ok (.getfield 216, 3) := dk_180 0 216 (dk_at dksX0_sure_5 9 rfl rfl)
theorem dX0_sure_128 : decode cX0_sure 128 = .ok (.iconst 0, 1) := dk_3 (dk_at dksX0_sure_5 12 rfl rfl)
theorem dX0_sure_129 : decode cX0_sure 129 = .ok (.iaload, 1) := dk_46 (dk_at dksX0_sure_5 13 rfl rfl)
theorem dX0_sure_130 : decode cX0_sure 130 = .ok (.aaload, 1) := dk_50 (dk_at dksX0_sure_5 14 rfl rfl)
theorem dX0_sure_131 : decode cX0_sure 131 = .ok (.aload_n 2, 1) := dk_44 (dk_at dksX0_sure_5 15 rfl rfl)
theorem dX0_sure_132 : decode cX0_sure 132 = .ok (.getfield 216, 3) := dk_180 0 216 (dk_at dksX0_sure_5 16 rfl rfl)
theorem dX0_sure_135 : decode cX0_sure 135 = .ok (.iload_n 3, 1) := dk_29 (dk_at dksX0_sure_5 19 rfl rfl)
theorem dX0_sure_136 : decode cX0_sure 136 = .ok (.iaload, 1) := dk_46 (dk_at dksX0_sure_5 20 rfl rfl)
theorem dX0_sure_137 : decode cX0_sure 137 = .ok (.laload, 1) := dk_47 (dk_at dksX0_sure_5 21 rfl rfl)
theorem dX0_sure_138 : decode cX0_sure 138 = .ok (.lstore 4, 2) := dk_55 4 (dk_at dksX0_sure_5 22 rfl rfl)
theorem dX0_sure_140 : decode cX0_sure 140 = .ok (.lload 4, 2) := dk_22 4 (dk_at dksX0_sure_6 0 rfl rfl)
theorem dX0_sure_142 : decode cX0_sure 142 = .ok (.ldc2_w 219, 3) := dk_20 0 219 (dk_at dksX0_sure_6 2 rfl rfl)
theorem dX0_sure_145 : decode cX0_sure 145 = .ok (.ldiv, 1) := dk_109 (dk_at dksX0_sure_6 5 rfl rfl)
theorem dX0_sure_146 : decode cX0_sure 146 = .ok (.aload_n 2, 1) := dk_44 (dk_at dksX0_sure_6 6 rfl rfl)
theorem dX0_sure_147 : decode cX0_sure 147 = .ok (.getfield 221, 3) := dk_180 0 221 (dk_at dksX0_sure_6 7 rfl rfl)
theorem dX0_sure_150 : decode cX0_sure 150 = .ok (.iload_n 3, 1) := dk_29 (dk_at dksX0_sure_6 10 rfl rfl)
theorem dX0_sure_151 : decode cX0_sure 151 = .ok (.aaload, 1) := dk_50 (dk_at dksX0_sure_6 11 rfl rfl)
theorem dX0_sure_152 : decode cX0_sure 152 = .ok (.aload_n 0, 1) := dk_42 (dk_at dksX0_sure_6 12 rfl rfl)
theorem dX0_sure_153 : decode cX0_sure 153 = .ok (.getfield 38, 3) := dk_180 0 38 (dk_at dksX0_sure_6 13 rfl rfl)
theorem dX0_sure_156 : decode cX0_sure 156 = .ok (.arraylength, 1) := dk_190 (dk_at dksX0_sure_6 16 rfl rfl)
theorem dX0_sure_157 : decode cX0_sure 157 = .ok (.laload, 1) := dk_47 (dk_at dksX0_sure_6 17 rfl rfl)
theorem dX0_sure_158 : decode cX0_sure 158 = .ok (.ladd, 1) := dk_97 (dk_at dksX0_sure_6 18 rfl rfl)
theorem dX0_sure_159 : decode cX0_sure 159 = .ok (.aload_n 0, 1) := dk_42 (dk_at dksX0_sure_6 19 rfl rfl)
theorem dX0_sure_160 : decode cX0_sure 160 = .ok (.getfield 53, 3) := dk_180 0 53 (dk_at dksX0_sure_6 20 rfl rfl)
theorem dX0_sure_163 : decode cX0_sure 163 = .ok (.i2l, 1) := dk_133 (dk_at dksX0_sure_6 23 rfl rfl)
theorem dX0_sure_164 : decode cX0_sure 164 = .ok (.lcmp, 1) := dk_148 (dk_at dksX0_sure_7 0 rfl rfl)
theorem dX0_sure_165 : decode cX0_sure 165 = .ok (.ifCond .le 7, 3) := dk_158 0 7 (dk_at dksX0_sure_7 1 rfl rfl)
theorem dX0_sure_168 : decode cX0_sure 168 = .ok (.iconst 1, 1) := dk_4 (dk_at dksX0_sure_7 4 rfl rfl)
theorem dX0_sure_169 : decode cX0_sure 169 = .ok (.goto 4, 3) := dk_167 0 4 (dk_at dksX0_sure_7 5 rfl rfl)
theorem dX0_sure_172 : decode cX0_sure 172 = .ok (.iconst 0, 1) := dk_3 (dk_at dksX0_sure_7 8 rfl rfl)
theorem dX0_sure_173 : decode cX0_sure 173 = .ok (.ireturn, 1) := dk_172 (dk_at dksX0_sure_7 9 rfl rfl)
abbrev cX0_shelve : ByteArray := prog_1_method_34_code
def yX0_shelve : MethodName := ⟨RX0, "shelve", "(II)I"⟩
def dkwX0_shelve_4 : List UInt8 := [160, 0, 10, 42, 180, 0, 69, 167, 0, 7, 42, 180, 0, 38, 181, 1, 15, 4, 172]
abbrev dktX0_shelve_4 : List UInt8 := dkwX0_shelve_4 ++ []
def dkwX0_shelve_3 : List UInt8 := [184, 1, 7, 167, 0, 34, 28, 5, 160, 0, 13, 42, 180, 0, 59, 182, 1, 11, 167, 0, 19, 28, 6]
abbrev dktX0_shelve_3 : List UInt8 := dkwX0_shelve_3 ++ dktX0_shelve_4
def dkwX0_shelve_2 : List UInt8 := [182, 1, 3, 28, 154, 0, 7, 1, 167, 0, 53, 28, 4, 160, 0, 17, 42, 180, 0, 73, 42, 180, 0, 208]
abbrev dktX0_shelve_2 : List UInt8 := dkwX0_shelve_2 ++ dktX0_shelve_3
def dkwX0_shelve_1 : List UInt8 := [10, 20, 0, 247, 184, 0, 85, 153, 0, 15, 42, 180, 0, 53, 16, 252, 160, 0, 6, 16, 253, 172, 42, 27]
abbrev dktX0_shelve_1 : List UInt8 := dkwX0_shelve_1 ++ dktX0_shelve_2
def dkwX0_shelve_0 : List UInt8 := [42, 27, 182, 1, 0, 153, 0, 15, 28, 133, 9, 20, 0, 133, 184, 0, 85, 154, 0, 5, 2, 172, 28, 133]
abbrev dktX0_shelve_0 : List UInt8 := dkwX0_shelve_0 ++ dktX0_shelve_1
theorem dksX0_shelve_0 : cX0_shelve.data.toList.drop 0 = dktX0_shelve_0 := by decide +kernel
theorem dksX0_shelve_1 : cX0_shelve.data.toList.drop 24 = dktX0_shelve_1 := dk_seg dksX0_shelve_0 24 rfl rfl
theorem dksX0_shelve_2 : cX0_shelve.data.toList.drop 48 = dktX0_shelve_2 := dk_seg dksX0_shelve_1 24 rfl rfl
theorem dksX0_shelve_3 : cX0_shelve.data.toList.drop 72 = dktX0_shelve_3 := dk_seg dksX0_shelve_2 24 rfl rfl
theorem dksX0_shelve_4 : cX0_shelve.data.toList.drop 95 = dktX0_shelve_4 := dk_seg dksX0_shelve_3 23 rfl rfl
theorem dX0_shelve_0 : decode cX0_shelve 0 = .ok (.aload_n 0, 1) := dk_42 (dk_at dksX0_shelve_0 0 rfl rfl)
theorem dX0_shelve_1 : decode cX0_shelve 1 = .ok (.iload_n 1, 1) := dk_27 (dk_at dksX0_shelve_0 1 rfl rfl)
theorem dX0_shelve_2 : decode cX0_shelve 2 = .ok (.invokevirtual 256, 3) := dk_182 1 0 (dk_at dksX0_shelve_0 2 rfl rfl)
theorem dX0_shelve_5 : decode cX0_shelve 5 = .ok (.ifCond .eq 15, 3) := dk_153 0 15 (dk_at dksX0_shelve_0 5 rfl rfl)
theorem dX0_shelve_8 : decode cX0_shelve 8 = .ok (.iload_n 2, 1) := dk_28 (dk_at dksX0_shelve_0 8 rfl rfl)
theorem dX0_shelve_9 : decode cX0_shelve 9 = .ok (.i2l, 1) := dk_133 (dk_at dksX0_shelve_0 9 rfl rfl)
theorem dX0_shelve_10 : decode cX0_shelve 10 = .ok (.lconst 0, 1) := dk_9 (dk_at dksX0_shelve_0 10 rfl rfl)
theorem dX0_shelve_11 : decode cX0_shelve 11 = .ok (.ldc2_w 133, 3) := dk_20 0 133 (dk_at dksX0_shelve_0 11 rfl rfl)
theorem dX0_shelve_14 : decode cX0_shelve 14 = .ok (.invokestatic 85, 3) := dk_184 0 85 (dk_at dksX0_shelve_0 14 rfl rfl)
theorem dX0_shelve_17 : decode cX0_shelve 17 = .ok (.ifCond .ne 5, 3) := dk_154 0 5 (dk_at dksX0_shelve_0 17 rfl rfl)
theorem dX0_shelve_20 : decode cX0_shelve 20 = .ok (.iconst (-1), 1) := dk_2 (dk_at dksX0_shelve_0 20 rfl rfl)
theorem dX0_shelve_21 : decode cX0_shelve 21 = .ok (.ireturn, 1) := dk_172 (dk_at dksX0_shelve_0 21 rfl rfl)
theorem dX0_shelve_22 : decode cX0_shelve 22 = .ok (.iload_n 2, 1) := dk_28 (dk_at dksX0_shelve_0 22 rfl rfl)
theorem dX0_shelve_23 : decode cX0_shelve 23 = .ok (.i2l, 1) := dk_133 (dk_at dksX0_shelve_0 23 rfl rfl)
theorem dX0_shelve_24 : decode cX0_shelve 24 = .ok (.lconst 1, 1) := dk_10 (dk_at dksX0_shelve_1 0 rfl rfl)
theorem dX0_shelve_25 : decode cX0_shelve 25 = .ok (.ldc2_w 247, 3) := dk_20 0 247 (dk_at dksX0_shelve_1 1 rfl rfl)
theorem dX0_shelve_28 : decode cX0_shelve 28 = .ok (.invokestatic 85, 3) := dk_184 0 85 (dk_at dksX0_shelve_1 4 rfl rfl)
theorem dX0_shelve_31 : decode cX0_shelve 31 = .ok (.ifCond .eq 15, 3) := dk_153 0 15 (dk_at dksX0_shelve_1 7 rfl rfl)
theorem dX0_shelve_34 : decode cX0_shelve 34 = .ok (.aload_n 0, 1) := dk_42 (dk_at dksX0_shelve_1 10 rfl rfl)
theorem dX0_shelve_35 : decode cX0_shelve 35 = .ok (.getfield 53, 3) := dk_180 0 53 (dk_at dksX0_shelve_1 11 rfl rfl)
theorem dX0_shelve_38 : decode cX0_shelve 38 = .ok (.bipush (-4), 2) := dk_16 252 (dk_at dksX0_shelve_1 14 rfl rfl)
theorem dX0_shelve_40 : decode cX0_shelve 40 = .ok (.if_icmp .ne 6, 3) := dk_160 0 6 (dk_at dksX0_shelve_1 16 rfl rfl)
theorem dX0_shelve_43 : decode cX0_shelve 43 = .ok (.bipush (-3), 2) := dk_16 253 (dk_at dksX0_shelve_1 19 rfl rfl)
theorem dX0_shelve_45 : decode cX0_shelve 45 = .ok (.ireturn, 1) := dk_172 (dk_at dksX0_shelve_1 21 rfl rfl)
theorem dX0_shelve_46 : decode cX0_shelve 46 = .ok (.aload_n 0, 1) := dk_42 (dk_at dksX0_shelve_1 22 rfl rfl)
theorem dX0_shelve_47 : decode cX0_shelve 47 = .ok (.iload_n 1, 1) := dk_27 (dk_at dksX0_shelve_1 23 rfl rfl)
theorem dX0_shelve_48 : decode cX0_shelve 48 = .ok (.invokevirtual 259, 3) := dk_182 1 3 (dk_at dksX0_shelve_2 0 rfl rfl)
theorem dX0_shelve_51 : decode cX0_shelve 51 = .ok (.iload_n 2, 1) := dk_28 (dk_at dksX0_shelve_2 3 rfl rfl)
theorem dX0_shelve_52 : decode cX0_shelve 52 = .ok (.ifCond .ne 7, 3) := dk_154 0 7 (dk_at dksX0_shelve_2 4 rfl rfl)
theorem dX0_shelve_55 : decode cX0_shelve 55 = .ok (.aconst_null, 1) := dk_1 (dk_at dksX0_shelve_2 7 rfl rfl)
theorem dX0_shelve_56 : decode cX0_shelve 56 = .ok (.goto 53, 3) := dk_167 0 53 (dk_at dksX0_shelve_2 8 rfl rfl)
theorem dX0_shelve_59 : decode cX0_shelve 59 = .ok (.iload_n 2, 1) := dk_28 (dk_at dksX0_shelve_2 11 rfl rfl)
theorem dX0_shelve_60 : decode cX0_shelve 60 = .ok (.iconst 1, 1) := dk_4 (dk_at dksX0_shelve_2 12 rfl rfl)
theorem dX0_shelve_61 : decode cX0_shelve 61 = .ok (.if_icmp .ne 17, 3) := dk_160 0 17 (dk_at dksX0_shelve_2 13 rfl rfl)
theorem dX0_shelve_64 : decode cX0_shelve 64 = .ok (.aload_n 0, 1) := dk_42 (dk_at dksX0_shelve_2 16 rfl rfl)
theorem dX0_shelve_65 : decode cX0_shelve 65 = .ok (.getfield 73, 3) := dk_180 0 73 (dk_at dksX0_shelve_2 17 rfl rfl)
theorem dX0_shelve_68 : decode cX0_shelve 68 = .ok (.aload_n 0, 1) := dk_42 (dk_at dksX0_shelve_2 20 rfl rfl)
theorem dX0_shelve_69 : decode cX0_shelve 69 = .ok (.getfield 208, 3) := dk_180 0 208 (dk_at dksX0_shelve_2 21 rfl rfl)
theorem dX0_shelve_72 : decode cX0_shelve 72 = .ok (.invokestatic 263, 3) := dk_184 1 7 (dk_at dksX0_shelve_3 0 rfl rfl)
theorem dX0_shelve_75 : decode cX0_shelve 75 = .ok (.goto 34, 3) := dk_167 0 34 (dk_at dksX0_shelve_3 3 rfl rfl)
theorem dX0_shelve_78 : decode cX0_shelve 78 = .ok (.iload_n 2, 1) := dk_28 (dk_at dksX0_shelve_3 6 rfl rfl)
theorem dX0_shelve_79 : decode cX0_shelve 79 = .ok (.iconst 2, 1) := dk_5 (dk_at dksX0_shelve_3 7 rfl rfl)
theorem dX0_shelve_80 : decode cX0_shelve 80 = .ok (.if_icmp .ne 13, 3) := dk_160 0 13 (dk_at dksX0_shelve_3 8 rfl rfl)
theorem dX0_shelve_83 : decode cX0_shelve 83 = .ok (.aload_n 0, 1) := dk_42 (dk_at dksX0_shelve_3 11 rfl rfl)
theorem dX0_shelve_84 : decode cX0_shelve 84 = .ok (.getfield 59, 3) := dk_180 0 59 (dk_at dksX0_shelve_3 12 rfl rfl)
theorem dX0_shelve_87 : decode cX0_shelve 87 = .ok (.invokevirtual 267, 3) := dk_182 1 11 (dk_at dksX0_shelve_3 15 rfl rfl)
theorem dX0_shelve_90 : decode cX0_shelve 90 = .ok (.goto 19, 3) := dk_167 0 19 (dk_at dksX0_shelve_3 18 rfl rfl)
theorem dX0_shelve_93 : decode cX0_shelve 93 = .ok (.iload_n 2, 1) := dk_28 (dk_at dksX0_shelve_3 21 rfl rfl)
theorem dX0_shelve_94 : decode cX0_shelve 94 = .ok (.iconst 3, 1) := dk_6 (dk_at dksX0_shelve_3 22 rfl rfl)
theorem dX0_shelve_95 : decode cX0_shelve 95 = .ok (.if_icmp .ne 10, 3) := dk_160 0 10 (dk_at dksX0_shelve_4 0 rfl rfl)
theorem dX0_shelve_98 : decode cX0_shelve 98 = .ok (.aload_n 0, 1) := dk_42 (dk_at dksX0_shelve_4 3 rfl rfl)
theorem dX0_shelve_99 : decode cX0_shelve 99 = .ok (.getfield 69, 3) := dk_180 0 69 (dk_at dksX0_shelve_4 4 rfl rfl)
theorem dX0_shelve_102 : decode cX0_shelve 102 = .ok (.goto 7, 3) := dk_167 0 7 (dk_at dksX0_shelve_4 7 rfl rfl)
theorem dX0_shelve_105 : decode cX0_shelve 105 = .ok (.aload_n 0, 1) := dk_42 (dk_at dksX0_shelve_4 10 rfl rfl)
theorem dX0_shelve_106 : decode cX0_shelve 106 = .ok (.getfield 38, 3) := dk_180 0 38 (dk_at dksX0_shelve_4 11 rfl rfl)
theorem dX0_shelve_109 : decode cX0_shelve 109 = .ok (.putfield 271, 3) := dk_181 1 15 (dk_at dksX0_shelve_4 14 rfl rfl)
theorem dX0_shelve_112 : decode cX0_shelve 112 = .ok (.iconst 1, 1) := dk_4 (dk_at dksX0_shelve_4 17 rfl rfl)
theorem dX0_shelve_113 : decode cX0_shelve 113 = .ok (.ireturn, 1) := dk_172 (dk_at dksX0_shelve_4 18 rfl rfl)
abbrev cX0_isShelf : ByteArray := prog_1_method_32_code
def yX0_isShelf : MethodName := ⟨RX0, "isShelf", "(I)Z"⟩
def dkwX0_isShelf_0 : List UInt8 := [27, 133, 9, 20, 0, 253, 184, 0, 85, 172]
abbrev dktX0_isShelf_0 : List UInt8 := dkwX0_isShelf_0 ++ []
theorem dksX0_isShelf_0 : cX0_isShelf.data.toList.drop 0 = dktX0_isShelf_0 := by decide +kernel
theorem dX0_isShelf_0 : decode cX0_isShelf 0 = .ok (.iload_n 1, 1) := dk_27 (dk_at dksX0_isShelf_0 0 rfl rfl)
theorem dX0_isShelf_1 : decode cX0_isShelf 1 = .ok (.i2l, 1) := dk_133 (dk_at dksX0_isShelf_0 1 rfl rfl)
theorem dX0_isShelf_2 : decode cX0_isShelf 2 = .ok (.lconst 0, 1) := dk_9 (dk_at dksX0_isShelf_0 2 rfl rfl)
theorem dX0_isShelf_3 : decode cX0_isShelf 3 = .ok (.ldc2_w 253, 3) := dk_20 0 253 (dk_at dksX0_isShelf_0 3 rfl rfl)
theorem dX0_isShelf_6 : decode cX0_isShelf 6 = .ok (.invokestatic 85, 3) := dk_184 0 85 (dk_at dksX0_isShelf_0 6 rfl rfl)
theorem dX0_isShelf_9 : decode cX0_isShelf 9 = .ok (.ireturn, 1) := dk_172 (dk_at dksX0_isShelf_0 9 rfl rfl)
abbrev cX0_shelf : ByteArray := prog_1_method_33_code
def yX0_shelf : MethodName := ⟨RX0, "shelf", "(I)LMendReader$Shelf;"⟩
def dkwX0_shelf_1 : List UInt8 := [180, 0, 78, 27, 50, 176]
abbrev dktX0_shelf_1 : List UInt8 := dkwX0_shelf_1 ++ []
def dkwX0_shelf_0 : List UInt8 := [42, 180, 0, 78, 27, 50, 199, 0, 16, 42, 180, 0, 78, 27, 187, 0, 76, 89, 183, 0, 255, 83, 42]
abbrev dktX0_shelf_0 : List UInt8 := dkwX0_shelf_0 ++ dktX0_shelf_1
theorem dksX0_shelf_0 : cX0_shelf.data.toList.drop 0 = dktX0_shelf_0 := by decide +kernel
theorem dksX0_shelf_1 : cX0_shelf.data.toList.drop 23 = dktX0_shelf_1 := dk_seg dksX0_shelf_0 23 rfl rfl
theorem dX0_shelf_0 : decode cX0_shelf 0 = .ok (.aload_n 0, 1) := dk_42 (dk_at dksX0_shelf_0 0 rfl rfl)
theorem dX0_shelf_1 : decode cX0_shelf 1 = .ok (.getfield 78, 3) := dk_180 0 78 (dk_at dksX0_shelf_0 1 rfl rfl)
theorem dX0_shelf_4 : decode cX0_shelf 4 = .ok (.iload_n 1, 1) := dk_27 (dk_at dksX0_shelf_0 4 rfl rfl)
theorem dX0_shelf_5 : decode cX0_shelf 5 = .ok (.aaload, 1) := dk_50 (dk_at dksX0_shelf_0 5 rfl rfl)
theorem dX0_shelf_6 : decode cX0_shelf 6 = .ok (.ifnonnull 16, 3) := dk_199 0 16 (dk_at dksX0_shelf_0 6 rfl rfl)
theorem dX0_shelf_9 : decode cX0_shelf 9 = .ok (.aload_n 0, 1) := dk_42 (dk_at dksX0_shelf_0 9 rfl rfl)
theorem dX0_shelf_10 : decode cX0_shelf 10 = .ok (.getfield 78, 3) := dk_180 0 78 (dk_at dksX0_shelf_0 10 rfl rfl)
theorem dX0_shelf_13 : decode cX0_shelf 13 = .ok (.iload_n 1, 1) := dk_27 (dk_at dksX0_shelf_0 13 rfl rfl)
theorem dX0_shelf_14 : decode cX0_shelf 14 = .ok (.new 76, 3) := dk_187 0 76 (dk_at dksX0_shelf_0 14 rfl rfl)
theorem dX0_shelf_17 : decode cX0_shelf 17 = .ok (.dup, 1) := dk_89 (dk_at dksX0_shelf_0 17 rfl rfl)
theorem dX0_shelf_18 : decode cX0_shelf 18 = .ok (.invokespecial 255, 3) := dk_183 0 255 (dk_at dksX0_shelf_0 18 rfl rfl)
theorem dX0_shelf_21 : decode cX0_shelf 21 = .ok (.aastore, 1) := dk_83 (dk_at dksX0_shelf_0 21 rfl rfl)
theorem dX0_shelf_22 : decode cX0_shelf 22 = .ok (.aload_n 0, 1) := dk_42 (dk_at dksX0_shelf_0 22 rfl rfl)
theorem dX0_shelf_23 : decode cX0_shelf 23 = .ok (.getfield 78, 3) := dk_180 0 78 (dk_at dksX0_shelf_1 0 rfl rfl)
theorem dX0_shelf_26 : decode cX0_shelf 26 = .ok (.iload_n 1, 1) := dk_27 (dk_at dksX0_shelf_1 3 rfl rfl)
theorem dX0_shelf_27 : decode cX0_shelf 27 = .ok (.aaload, 1) := dk_50 (dk_at dksX0_shelf_1 4 rfl rfl)
theorem dX0_shelf_28 : decode cX0_shelf 28 = .ok (.areturn, 1) := dk_176 (dk_at dksX0_shelf_1 5 rfl rfl)
abbrev cX0_cut : ByteArray := prog_1_method_19_code
def yX0_cut : MethodName := ⟨RX0, "cut", "([II)[I"⟩
def dkwX0_cut_0 : List UInt8 := [27, 188, 10, 77, 42, 3, 44, 3, 27, 184, 0, 149, 44, 176]
abbrev dktX0_cut_0 : List UInt8 := dkwX0_cut_0 ++ []
theorem dksX0_cut_0 : cX0_cut.data.toList.drop 0 = dktX0_cut_0 := by decide +kernel
theorem dX0_cut_0 : decode cX0_cut 0 = .ok (.iload_n 1, 1) := dk_27 (dk_at dksX0_cut_0 0 rfl rfl)
theorem dX0_cut_1 : decode cX0_cut 1 = .ok (.newarray .int, 2) := dk_188_10 (dk_at dksX0_cut_0 1 rfl rfl)
theorem dX0_cut_3 : decode cX0_cut 3 = .ok (.astore_n 2, 1) := dk_77 (dk_at dksX0_cut_0 3 rfl rfl)
theorem dX0_cut_4 : decode cX0_cut 4 = .ok (.aload_n 0, 1) := dk_42 (dk_at dksX0_cut_0 4 rfl rfl)
theorem dX0_cut_5 : decode cX0_cut 5 = .ok (.iconst 0, 1) := dk_3 (dk_at dksX0_cut_0 5 rfl rfl)
theorem dX0_cut_6 : decode cX0_cut 6 = .ok (.aload_n 2, 1) := dk_44 (dk_at dksX0_cut_0 6 rfl rfl)
theorem dX0_cut_7 : decode cX0_cut 7 = .ok (.iconst 0, 1) := dk_3 (dk_at dksX0_cut_0 7 rfl rfl)
theorem dX0_cut_8 : decode cX0_cut 8 = .ok (.iload_n 1, 1) := dk_27 (dk_at dksX0_cut_0 8 rfl rfl)
theorem dX0_cut_9 : decode cX0_cut 9 = .ok (.invokestatic 149, 3) := dk_184 0 149 (dk_at dksX0_cut_0 9 rfl rfl)
theorem dX0_cut_12 : decode cX0_cut 12 = .ok (.aload_n 2, 1) := dk_44 (dk_at dksX0_cut_0 12 rfl rfl)
theorem dX0_cut_13 : decode cX0_cut 13 = .ok (.areturn, 1) := dk_176 (dk_at dksX0_cut_0 13 rfl rfl)
abbrev cX0_rowAt : ByteArray := prog_1_method_38_code
def yX0_rowAt : MethodName := ⟨RX0, "rowAt", "(II)I"⟩
def dkwX0_rowAt_0 : List UInt8 := [42, 27, 182, 1, 0, 153, 0, 14, 42, 27, 3, 28, 3, 182, 1, 43, 167, 0, 4, 2, 172]
abbrev dktX0_rowAt_0 : List UInt8 := dkwX0_rowAt_0 ++ []
theorem dksX0_rowAt_0 : cX0_rowAt.data.toList.drop 0 = dktX0_rowAt_0 := by decide +kernel
theorem dX0_rowAt_0 : decode cX0_rowAt 0 = .ok (.aload_n 0, 1) := dk_42 (dk_at dksX0_rowAt_0 0 rfl rfl)
theorem dX0_rowAt_1 : decode cX0_rowAt 1 = .ok (.iload_n 1, 1) := dk_27 (dk_at dksX0_rowAt_0 1 rfl rfl)
theorem dX0_rowAt_2 : decode cX0_rowAt 2 = .ok (.invokevirtual 256, 3) := dk_182 1 0 (dk_at dksX0_rowAt_0 2 rfl rfl)
theorem dX0_rowAt_5 : decode cX0_rowAt 5 = .ok (.ifCond .eq 14, 3) := dk_153 0 14 (dk_at dksX0_rowAt_0 5 rfl rfl)
theorem dX0_rowAt_8 : decode cX0_rowAt 8 = .ok (.aload_n 0, 1) := dk_42 (dk_at dksX0_rowAt_0 8 rfl rfl)
theorem dX0_rowAt_9 : decode cX0_rowAt 9 = .ok (.iload_n 1, 1) := dk_27 (dk_at dksX0_rowAt_0 9 rfl rfl)
theorem dX0_rowAt_10 : decode cX0_rowAt 10 = .ok (.iconst 0, 1) := dk_3 (dk_at dksX0_rowAt_0 10 rfl rfl)
theorem dX0_rowAt_11 : decode cX0_rowAt 11 = .ok (.iload_n 2, 1) := dk_28 (dk_at dksX0_rowAt_0 11 rfl rfl)
theorem dX0_rowAt_12 : decode cX0_rowAt 12 = .ok (.iconst 0, 1) := dk_3 (dk_at dksX0_rowAt_0 12 rfl rfl)
theorem dX0_rowAt_13 : decode cX0_rowAt 13 = .ok (.invokevirtual 299, 3) := dk_182 1 43 (dk_at dksX0_rowAt_0 13 rfl rfl)
theorem dX0_rowAt_16 : decode cX0_rowAt 16 = .ok (.goto 4, 3) := dk_167 0 4 (dk_at dksX0_rowAt_0 16 rfl rfl)
theorem dX0_rowAt_19 : decode cX0_rowAt 19 = .ok (.iconst (-1), 1) := dk_2 (dk_at dksX0_rowAt_0 19 rfl rfl)
theorem dX0_rowAt_20 : decode cX0_rowAt 20 = .ok (.ireturn, 1) := dk_172 (dk_at dksX0_rowAt_0 20 rfl rfl)
abbrev cX0_act : ByteArray := prog_1_method_36_code
def yX0_act : MethodName := ⟨RX0, "act", "(IIII)I"⟩
def dkwX0_act_4 : List UInt8 := [172, 58, 6, 16, 242, 172]
abbrev dktX0_act_4 : List UInt8 := dkwX0_act_4 ++ []
def dkwX0_act_3 : List UInt8 := [192, 1, 30, 29, 21, 4, 182, 1, 31, 172, 58, 6, 16, 245, 172, 58, 6, 16, 244, 172, 58, 6, 16, 243]
abbrev dktX0_act_3 : List UInt8 := dkwX0_act_3 ++ dktX0_act_4
def dkwX0_act_2 : List UInt8 := [160, 0, 19, 25, 5, 192, 0, 66, 180, 0, 249, 21, 4, 50, 29, 46, 167, 0, 15, 42, 25, 5]
abbrev dktX0_act_2 : List UInt8 := dkwX0_act_2 ++ dktX0_act_3
def dkwX0_act_1 : List UInt8 := [28, 4, 160, 0, 19, 25, 5, 192, 0, 56, 180, 0, 252, 21, 4, 50, 29, 46, 167, 0, 36, 28, 5]
abbrev dktX0_act_1 : List UInt8 := dkwX0_act_1 ++ dktX0_act_2
def dkwX0_act_0 : List UInt8 := [42, 27, 182, 1, 3, 180, 1, 15, 58, 5, 28, 154, 0, 13, 25, 5, 192, 1, 30, 29, 46, 167, 0, 57]
abbrev dktX0_act_0 : List UInt8 := dkwX0_act_0 ++ dktX0_act_1
theorem dksX0_act_0 : cX0_act.data.toList.drop 0 = dktX0_act_0 := by decide +kernel
theorem dksX0_act_1 : cX0_act.data.toList.drop 24 = dktX0_act_1 := dk_seg dksX0_act_0 24 rfl rfl
theorem dksX0_act_2 : cX0_act.data.toList.drop 47 = dktX0_act_2 := dk_seg dksX0_act_1 23 rfl rfl
theorem dksX0_act_3 : cX0_act.data.toList.drop 69 = dktX0_act_3 := dk_seg dksX0_act_2 22 rfl rfl
theorem dksX0_act_4 : cX0_act.data.toList.drop 93 = dktX0_act_4 := dk_seg dksX0_act_3 24 rfl rfl
theorem dX0_act_0 : decode cX0_act 0 = .ok (.aload_n 0, 1) := dk_42 (dk_at dksX0_act_0 0 rfl rfl)
theorem dX0_act_1 : decode cX0_act 1 = .ok (.iload_n 1, 1) := dk_27 (dk_at dksX0_act_0 1 rfl rfl)
theorem dX0_act_2 : decode cX0_act 2 = .ok (.invokevirtual 259, 3) := dk_182 1 3 (dk_at dksX0_act_0 2 rfl rfl)
theorem dX0_act_5 : decode cX0_act 5 = .ok (.getfield 271, 3) := dk_180 1 15 (dk_at dksX0_act_0 5 rfl rfl)
theorem dX0_act_8 : decode cX0_act 8 = .ok (.astore 5, 2) := dk_58 5 (dk_at dksX0_act_0 8 rfl rfl)
theorem dX0_act_10 : decode cX0_act 10 = .ok (.iload_n 2, 1) := dk_28 (dk_at dksX0_act_0 10 rfl rfl)
theorem dX0_act_11 : decode cX0_act 11 = .ok (.ifCond .ne 13, 3) := dk_154 0 13 (dk_at dksX0_act_0 11 rfl rfl)
theorem dX0_act_14 : decode cX0_act 14 = .ok (.aload 5, 2) := dk_25 5 (dk_at dksX0_act_0 14 rfl rfl)
theorem dX0_act_16 : decode cX0_act 16 = .ok (.checkcast 286, 3) := dk_192 1 30 (dk_at dksX0_act_0 16 rfl rfl)
theorem dX0_act_19 : decode cX0_act 19 = .ok (.iload_n 3, 1) := dk_29 (dk_at dksX0_act_0 19 rfl rfl)
theorem dX0_act_20 : decode cX0_act 20 = .ok (.iaload, 1) := dk_46 (dk_at dksX0_act_0 20 rfl rfl)
theorem dX0_act_21 : decode cX0_act 21 = .ok (.goto 57, 3) := dk_167 0 57 (dk_at dksX0_act_0 21 rfl rfl)
theorem dX0_act_24 : decode cX0_act 24 = .ok (.iload_n 2, 1) := dk_28 (dk_at dksX0_act_1 0 rfl rfl)
theorem dX0_act_25 : decode cX0_act 25 = .ok (.iconst 1, 1) := dk_4 (dk_at dksX0_act_1 1 rfl rfl)
theorem dX0_act_26 : decode cX0_act 26 = .ok (.if_icmp .ne 19, 3) := dk_160 0 19 (dk_at dksX0_act_1 2 rfl rfl)
theorem dX0_act_29 : decode cX0_act 29 = .ok (.aload 5, 2) := dk_25 5 (dk_at dksX0_act_1 5 rfl rfl)
theorem dX0_act_31 : decode cX0_act 31 = .ok (.checkcast 56, 3) := dk_192 0 56 (dk_at dksX0_act_1 7 rfl rfl)
theorem dX0_act_34 : decode cX0_act 34 = .ok (.getfield 252, 3) := dk_180 0 252 (dk_at dksX0_act_1 10 rfl rfl)
theorem dX0_act_37 : decode cX0_act 37 = .ok (.iload 4, 2) := dk_21 4 (dk_at dksX0_act_1 13 rfl rfl)
theorem dX0_act_39 : decode cX0_act 39 = .ok (.aaload, 1) := dk_50 (dk_at dksX0_act_1 15 rfl rfl)
theorem dX0_act_40 : decode cX0_act 40 = .ok (.iload_n 3, 1) := dk_29 (dk_at dksX0_act_1 16 rfl rfl)
theorem dX0_act_41 : decode cX0_act 41 = .ok (.iaload, 1) := dk_46 (dk_at dksX0_act_1 17 rfl rfl)
theorem dX0_act_42 : decode cX0_act 42 = .ok (.goto 36, 3) := dk_167 0 36 (dk_at dksX0_act_1 18 rfl rfl)
theorem dX0_act_45 : decode cX0_act 45 = .ok (.iload_n 2, 1) := dk_28 (dk_at dksX0_act_1 21 rfl rfl)
theorem dX0_act_46 : decode cX0_act 46 = .ok (.iconst 2, 1) := dk_5 (dk_at dksX0_act_1 22 rfl rfl)
theorem dX0_act_47 : decode cX0_act 47 = .ok (.if_icmp .ne 19, 3) := dk_160 0 19 (dk_at dksX0_act_2 0 rfl rfl)
theorem dX0_act_50 : decode cX0_act 50 = .ok (.aload 5, 2) := dk_25 5 (dk_at dksX0_act_2 3 rfl rfl)
theorem dX0_act_52 : decode cX0_act 52 = .ok (.checkcast 66, 3) := dk_192 0 66 (dk_at dksX0_act_2 5 rfl rfl)
theorem dX0_act_55 : decode cX0_act 55 = .ok (.getfield 249, 3) := dk_180 0 249 (dk_at dksX0_act_2 8 rfl rfl)
theorem dX0_act_58 : decode cX0_act 58 = .ok (.iload 4, 2) := dk_21 4 (dk_at dksX0_act_2 11 rfl rfl)
theorem dX0_act_60 : decode cX0_act 60 = .ok (.aaload, 1) := dk_50 (dk_at dksX0_act_2 13 rfl rfl)
theorem dX0_act_61 : decode cX0_act 61 = .ok (.iload_n 3, 1) := dk_29 (dk_at dksX0_act_2 14 rfl rfl)
theorem dX0_act_62 : decode cX0_act 62 = .ok (.iaload, 1) := dk_46 (dk_at dksX0_act_2 15 rfl rfl)
theorem dX0_act_63 : decode cX0_act 63 = .ok (.goto 15, 3) := dk_167 0 15 (dk_at dksX0_act_2 16 rfl rfl)
theorem dX0_act_66 : decode cX0_act 66 = .ok (.aload_n 0, 1) := dk_42 (dk_at dksX0_act_2 19 rfl rfl)
theorem dX0_act_67 : decode cX0_act 67 = .ok (.aload 5, 2) := dk_25 5 (dk_at dksX0_act_2 20 rfl rfl)
theorem dX0_act_69 : decode cX0_act 69 = .ok (.checkcast 286, 3) := dk_192 1 30 (dk_at dksX0_act_3 0 rfl rfl)
theorem dX0_act_72 : decode cX0_act 72 = .ok (.iload_n 3, 1) := dk_29 (dk_at dksX0_act_3 3 rfl rfl)
theorem dX0_act_73 : decode cX0_act 73 = .ok (.iload 4, 2) := dk_21 4 (dk_at dksX0_act_3 4 rfl rfl)
theorem dX0_act_75 : decode cX0_act 75 = .ok (.invokevirtual 287, 3) := dk_182 1 31 (dk_at dksX0_act_3 6 rfl rfl)
theorem dX0_act_78 : decode cX0_act 78 = .ok (.ireturn, 1) := dk_172 (dk_at dksX0_act_3 9 rfl rfl)
theorem dX0_act_79 : decode cX0_act 79 = .ok (.astore 6, 2) := dk_58 6 (dk_at dksX0_act_3 10 rfl rfl)
theorem dX0_act_81 : decode cX0_act 81 = .ok (.bipush (-11), 2) := dk_16 245 (dk_at dksX0_act_3 12 rfl rfl)
theorem dX0_act_83 : decode cX0_act 83 = .ok (.ireturn, 1) := dk_172 (dk_at dksX0_act_3 14 rfl rfl)
theorem dX0_act_84 : decode cX0_act 84 = .ok (.astore 6, 2) := dk_58 6 (dk_at dksX0_act_3 15 rfl rfl)
theorem dX0_act_86 : decode cX0_act 86 = .ok (.bipush (-12), 2) := dk_16 244 (dk_at dksX0_act_3 17 rfl rfl)
theorem dX0_act_88 : decode cX0_act 88 = .ok (.ireturn, 1) := dk_172 (dk_at dksX0_act_3 19 rfl rfl)
theorem dX0_act_89 : decode cX0_act 89 = .ok (.astore 6, 2) := dk_58 6 (dk_at dksX0_act_3 20 rfl rfl)
theorem dX0_act_91 : decode cX0_act 91 = .ok (.bipush (-13), 2) := dk_16 243 (dk_at dksX0_act_3 22 rfl rfl)
theorem dX0_act_93 : decode cX0_act 93 = .ok (.ireturn, 1) := dk_172 (dk_at dksX0_act_4 0 rfl rfl)
theorem dX0_act_94 : decode cX0_act 94 = .ok (.astore 6, 2) := dk_58 6 (dk_at dksX0_act_4 1 rfl rfl)
theorem dX0_act_96 : decode cX0_act 96 = .ok (.bipush (-14), 2) := dk_16 242 (dk_at dksX0_act_4 3 rfl rfl)
theorem dX0_act_98 : decode cX0_act 98 = .ok (.ireturn, 1) := dk_172 (dk_at dksX0_act_4 5 rfl rfl)
abbrev cX0_pasted : ByteArray := prog_1_method_37_code
def yX0_pasted : MethodName := ⟨RX0, "pasted", "([III)I"⟩
def dkwX0_pasted_1 : List UInt8 := [25, 4, 181, 0, 38, 42, 4, 181, 0, 92, 29, 172]
abbrev dktX0_pasted_1 : List UInt8 := dkwX0_pasted_1 ++ []
def dkwX0_pasted_0 : List UInt8 := [43, 190, 156, 0, 7, 3, 167, 0, 4, 29, 188, 10, 58, 4, 43, 28, 25, 4, 3, 29, 184, 0, 149, 42]
abbrev dktX0_pasted_0 : List UInt8 := dkwX0_pasted_0 ++ dktX0_pasted_1
theorem dksX0_pasted_0 : cX0_pasted.data.toList.drop 0 = dktX0_pasted_0 := by decide +kernel
theorem dksX0_pasted_1 : cX0_pasted.data.toList.drop 24 = dktX0_pasted_1 := dk_seg dksX0_pasted_0 24 rfl rfl
theorem dX0_pasted_0 : decode cX0_pasted 0 = .ok (.aload_n 1, 1) := dk_43 (dk_at dksX0_pasted_0 0 rfl rfl)
theorem dX0_pasted_1 : decode cX0_pasted 1 = .ok (.arraylength, 1) := dk_190 (dk_at dksX0_pasted_0 1 rfl rfl)
theorem dX0_pasted_2 : decode cX0_pasted 2 = .ok (.ifCond .ge 7, 3) := dk_156 0 7 (dk_at dksX0_pasted_0 2 rfl rfl)
theorem dX0_pasted_5 : decode cX0_pasted 5 = .ok (.iconst 0, 1) := dk_3 (dk_at dksX0_pasted_0 5 rfl rfl)
theorem dX0_pasted_6 : decode cX0_pasted 6 = .ok (.goto 4, 3) := dk_167 0 4 (dk_at dksX0_pasted_0 6 rfl rfl)
theorem dX0_pasted_9 : decode cX0_pasted 9 = .ok (.iload_n 3, 1) := dk_29 (dk_at dksX0_pasted_0 9 rfl rfl)
theorem dX0_pasted_10 : decode cX0_pasted 10 = .ok (.newarray .int, 2) := dk_188_10 (dk_at dksX0_pasted_0 10 rfl rfl)
theorem dX0_pasted_12 : decode cX0_pasted 12 = .ok (.astore 4, 2) := dk_58 4 (dk_at dksX0_pasted_0 12 rfl rfl)
theorem dX0_pasted_14 : decode cX0_pasted 14 = .ok (.aload_n 1, 1) := dk_43 (dk_at dksX0_pasted_0 14 rfl rfl)
theorem dX0_pasted_15 : decode cX0_pasted 15 = .ok (.iload_n 2, 1) := dk_28 (dk_at dksX0_pasted_0 15 rfl rfl)
theorem dX0_pasted_16 : decode cX0_pasted 16 = .ok (.aload 4, 2) := dk_25 4 (dk_at dksX0_pasted_0 16 rfl rfl)
theorem dX0_pasted_18 : decode cX0_pasted 18 = .ok (.iconst 0, 1) := dk_3 (dk_at dksX0_pasted_0 18 rfl rfl)
theorem dX0_pasted_19 : decode cX0_pasted 19 = .ok (.iload_n 3, 1) := dk_29 (dk_at dksX0_pasted_0 19 rfl rfl)
theorem dX0_pasted_20 : decode cX0_pasted 20 = .ok (.invokestatic 149, 3) := dk_184 0 149 (dk_at dksX0_pasted_0 20 rfl rfl)
theorem dX0_pasted_23 : decode cX0_pasted 23 = .ok (.aload_n 0, 1) := dk_42 (dk_at dksX0_pasted_0 23 rfl rfl)
theorem dX0_pasted_24 : decode cX0_pasted 24 = .ok (.aload 4, 2) := dk_25 4 (dk_at dksX0_pasted_1 0 rfl rfl)
theorem dX0_pasted_26 : decode cX0_pasted 26 = .ok (.putfield 38, 3) := dk_181 0 38 (dk_at dksX0_pasted_1 2 rfl rfl)
theorem dX0_pasted_29 : decode cX0_pasted 29 = .ok (.aload_n 0, 1) := dk_42 (dk_at dksX0_pasted_1 5 rfl rfl)
theorem dX0_pasted_30 : decode cX0_pasted 30 = .ok (.iconst 1, 1) := dk_4 (dk_at dksX0_pasted_1 6 rfl rfl)
theorem dX0_pasted_31 : decode cX0_pasted 31 = .ok (.putfield 92, 3) := dk_181 0 92 (dk_at dksX0_pasted_1 7 rfl rfl)
theorem dX0_pasted_34 : decode cX0_pasted 34 = .ok (.iload_n 3, 1) := dk_29 (dk_at dksX0_pasted_1 10 rfl rfl)
theorem dX0_pasted_35 : decode cX0_pasted 35 = .ok (.ireturn, 1) := dk_172 (dk_at dksX0_pasted_1 11 rfl rfl)
abbrev cX0_treeAt : ByteArray := prog_1_method_39_code
def yX0_treeAt : MethodName := ⟨RX0, "treeAt", "(III)I"⟩
def dkwX0_treeAt_1 : List UInt8 := [29, 182, 1, 43, 167, 0, 4, 2, 172]
abbrev dktX0_treeAt_1 : List UInt8 := dkwX0_treeAt_1 ++ []
def dkwX0_treeAt_0 : List UInt8 := [42, 27, 182, 1, 0, 153, 0, 26, 29, 133, 9, 20, 0, 133, 184, 0, 85, 153, 0, 14, 42, 27, 4, 28]
abbrev dktX0_treeAt_0 : List UInt8 := dkwX0_treeAt_0 ++ dktX0_treeAt_1
theorem dksX0_treeAt_0 : cX0_treeAt.data.toList.drop 0 = dktX0_treeAt_0 := by decide +kernel
theorem dksX0_treeAt_1 : cX0_treeAt.data.toList.drop 24 = dktX0_treeAt_1 := dk_seg dksX0_treeAt_0 24 rfl rfl
theorem dX0_treeAt_0 : decode cX0_treeAt 0 = .ok (.aload_n 0, 1) := dk_42 (dk_at dksX0_treeAt_0 0 rfl rfl)
theorem dX0_treeAt_1 : decode cX0_treeAt 1 = .ok (.iload_n 1, 1) := dk_27 (dk_at dksX0_treeAt_0 1 rfl rfl)
theorem dX0_treeAt_2 : decode cX0_treeAt 2 = .ok (.invokevirtual 256, 3) := dk_182 1 0 (dk_at dksX0_treeAt_0 2 rfl rfl)
theorem dX0_treeAt_5 : decode cX0_treeAt 5 = .ok (.ifCond .eq 26, 3) := dk_153 0 26 (dk_at dksX0_treeAt_0 5 rfl rfl)
theorem dX0_treeAt_8 : decode cX0_treeAt 8 = .ok (.iload_n 3, 1) := dk_29 (dk_at dksX0_treeAt_0 8 rfl rfl)
theorem dX0_treeAt_9 : decode cX0_treeAt 9 = .ok (.i2l, 1) := dk_133 (dk_at dksX0_treeAt_0 9 rfl rfl)
theorem dX0_treeAt_10 : decode cX0_treeAt 10 = .ok (.lconst 0, 1) := dk_9 (dk_at dksX0_treeAt_0 10 rfl rfl)
theorem dX0_treeAt_11 : decode cX0_treeAt 11 = .ok (.ldc2_w 133, 3) := dk_20 0 133 (dk_at dksX0_treeAt_0 11 rfl rfl)
theorem dX0_treeAt_14 : decode cX0_treeAt 14 = .ok (.invokestatic 85, 3) := dk_184 0 85 (dk_at dksX0_treeAt_0 14 rfl rfl)
theorem dX0_treeAt_17 : decode cX0_treeAt 17 = .ok (.ifCond .eq 14, 3) := dk_153 0 14 (dk_at dksX0_treeAt_0 17 rfl rfl)
theorem dX0_treeAt_20 : decode cX0_treeAt 20 = .ok (.aload_n 0, 1) := dk_42 (dk_at dksX0_treeAt_0 20 rfl rfl)
theorem dX0_treeAt_21 : decode cX0_treeAt 21 = .ok (.iload_n 1, 1) := dk_27 (dk_at dksX0_treeAt_0 21 rfl rfl)
theorem dX0_treeAt_22 : decode cX0_treeAt 22 = .ok (.iconst 1, 1) := dk_4 (dk_at dksX0_treeAt_0 22 rfl rfl)
theorem dX0_treeAt_23 : decode cX0_treeAt 23 = .ok (.iload_n 2, 1) := dk_28 (dk_at dksX0_treeAt_0 23 rfl rfl)
theorem dX0_treeAt_24 : decode cX0_treeAt 24 = .ok (.iload_n 3, 1) := dk_29 (dk_at dksX0_treeAt_1 0 rfl rfl)
theorem dX0_treeAt_25 : decode cX0_treeAt 25 = .ok (.invokevirtual 299, 3) := dk_182 1 43 (dk_at dksX0_treeAt_1 1 rfl rfl)
theorem dX0_treeAt_28 : decode cX0_treeAt 28 = .ok (.goto 4, 3) := dk_167 0 4 (dk_at dksX0_treeAt_1 4 rfl rfl)
theorem dX0_treeAt_31 : decode cX0_treeAt 31 = .ok (.iconst (-1), 1) := dk_2 (dk_at dksX0_treeAt_1 7 rfl rfl)
theorem dX0_treeAt_32 : decode cX0_treeAt 32 = .ok (.ireturn, 1) := dk_172 (dk_at dksX0_treeAt_1 8 rfl rfl)
abbrev cX0_slipAt : ByteArray := prog_1_method_40_code
def yX0_slipAt : MethodName := ⟨RX0, "slipAt", "(III)I"⟩
def dkwX0_slipAt_1 : List UInt8 := [29, 182, 1, 43, 167, 0, 4, 2, 172]
abbrev dktX0_slipAt_1 : List UInt8 := dkwX0_slipAt_1 ++ []
def dkwX0_slipAt_0 : List UInt8 := [42, 27, 182, 1, 0, 153, 0, 26, 29, 133, 9, 20, 0, 247, 184, 0, 85, 153, 0, 14, 42, 27, 5, 28]
abbrev dktX0_slipAt_0 : List UInt8 := dkwX0_slipAt_0 ++ dktX0_slipAt_1
theorem dksX0_slipAt_0 : cX0_slipAt.data.toList.drop 0 = dktX0_slipAt_0 := by decide +kernel
theorem dksX0_slipAt_1 : cX0_slipAt.data.toList.drop 24 = dktX0_slipAt_1 := dk_seg dksX0_slipAt_0 24 rfl rfl
theorem dX0_slipAt_0 : decode cX0_slipAt 0 = .ok (.aload_n 0, 1) := dk_42 (dk_at dksX0_slipAt_0 0 rfl rfl)
theorem dX0_slipAt_1 : decode cX0_slipAt 1 = .ok (.iload_n 1, 1) := dk_27 (dk_at dksX0_slipAt_0 1 rfl rfl)
theorem dX0_slipAt_2 : decode cX0_slipAt 2 = .ok (.invokevirtual 256, 3) := dk_182 1 0 (dk_at dksX0_slipAt_0 2 rfl rfl)
theorem dX0_slipAt_5 : decode cX0_slipAt 5 = .ok (.ifCond .eq 26, 3) := dk_153 0 26 (dk_at dksX0_slipAt_0 5 rfl rfl)
theorem dX0_slipAt_8 : decode cX0_slipAt 8 = .ok (.iload_n 3, 1) := dk_29 (dk_at dksX0_slipAt_0 8 rfl rfl)
theorem dX0_slipAt_9 : decode cX0_slipAt 9 = .ok (.i2l, 1) := dk_133 (dk_at dksX0_slipAt_0 9 rfl rfl)
theorem dX0_slipAt_10 : decode cX0_slipAt 10 = .ok (.lconst 0, 1) := dk_9 (dk_at dksX0_slipAt_0 10 rfl rfl)
theorem dX0_slipAt_11 : decode cX0_slipAt 11 = .ok (.ldc2_w 247, 3) := dk_20 0 247 (dk_at dksX0_slipAt_0 11 rfl rfl)
theorem dX0_slipAt_14 : decode cX0_slipAt 14 = .ok (.invokestatic 85, 3) := dk_184 0 85 (dk_at dksX0_slipAt_0 14 rfl rfl)
theorem dX0_slipAt_17 : decode cX0_slipAt 17 = .ok (.ifCond .eq 14, 3) := dk_153 0 14 (dk_at dksX0_slipAt_0 17 rfl rfl)
theorem dX0_slipAt_20 : decode cX0_slipAt 20 = .ok (.aload_n 0, 1) := dk_42 (dk_at dksX0_slipAt_0 20 rfl rfl)
theorem dX0_slipAt_21 : decode cX0_slipAt 21 = .ok (.iload_n 1, 1) := dk_27 (dk_at dksX0_slipAt_0 21 rfl rfl)
theorem dX0_slipAt_22 : decode cX0_slipAt 22 = .ok (.iconst 2, 1) := dk_5 (dk_at dksX0_slipAt_0 22 rfl rfl)
theorem dX0_slipAt_23 : decode cX0_slipAt 23 = .ok (.iload_n 2, 1) := dk_28 (dk_at dksX0_slipAt_0 23 rfl rfl)
theorem dX0_slipAt_24 : decode cX0_slipAt 24 = .ok (.iload_n 3, 1) := dk_29 (dk_at dksX0_slipAt_1 0 rfl rfl)
theorem dX0_slipAt_25 : decode cX0_slipAt 25 = .ok (.invokevirtual 299, 3) := dk_182 1 43 (dk_at dksX0_slipAt_1 1 rfl rfl)
theorem dX0_slipAt_28 : decode cX0_slipAt 28 = .ok (.goto 4, 3) := dk_167 0 4 (dk_at dksX0_slipAt_1 4 rfl rfl)
theorem dX0_slipAt_31 : decode cX0_slipAt 31 = .ok (.iconst (-1), 1) := dk_2 (dk_at dksX0_slipAt_1 7 rfl rfl)
theorem dX0_slipAt_32 : decode cX0_slipAt 32 = .ok (.ireturn, 1) := dk_172 (dk_at dksX0_slipAt_1 8 rfl rfl)
abbrev cX0_paste : ByteArray := prog_1_method_41_code
def yX0_paste : MethodName := ⟨RX0, "paste", "(III)I"⟩
def dkwX0_paste_1 : List UInt8 := [28, 29, 182, 1, 43, 172]
abbrev dktX0_paste_1 : List UInt8 := dkwX0_paste_1 ++ []
def dkwX0_paste_0 : List UInt8 := [42, 27, 182, 1, 0, 154, 0, 5, 2, 172, 29, 16, 10, 164, 0, 8, 16, 254, 167, 0, 11, 42, 27, 6]
abbrev dktX0_paste_0 : List UInt8 := dkwX0_paste_0 ++ dktX0_paste_1
theorem dksX0_paste_0 : cX0_paste.data.toList.drop 0 = dktX0_paste_0 := by decide +kernel
theorem dksX0_paste_1 : cX0_paste.data.toList.drop 24 = dktX0_paste_1 := dk_seg dksX0_paste_0 24 rfl rfl
theorem dX0_paste_0 : decode cX0_paste 0 = .ok (.aload_n 0, 1) := dk_42 (dk_at dksX0_paste_0 0 rfl rfl)
theorem dX0_paste_1 : decode cX0_paste 1 = .ok (.iload_n 1, 1) := dk_27 (dk_at dksX0_paste_0 1 rfl rfl)
theorem dX0_paste_2 : decode cX0_paste 2 = .ok (.invokevirtual 256, 3) := dk_182 1 0 (dk_at dksX0_paste_0 2 rfl rfl)
theorem dX0_paste_5 : decode cX0_paste 5 = .ok (.ifCond .ne 5, 3) := dk_154 0 5 (dk_at dksX0_paste_0 5 rfl rfl)
theorem dX0_paste_8 : decode cX0_paste 8 = .ok (.iconst (-1), 1) := dk_2 (dk_at dksX0_paste_0 8 rfl rfl)
theorem dX0_paste_9 : decode cX0_paste 9 = .ok (.ireturn, 1) := dk_172 (dk_at dksX0_paste_0 9 rfl rfl)
theorem dX0_paste_10 : decode cX0_paste 10 = .ok (.iload_n 3, 1) := dk_29 (dk_at dksX0_paste_0 10 rfl rfl)
theorem dX0_paste_11 : decode cX0_paste 11 = .ok (.bipush 10, 2) := dk_16 10 (dk_at dksX0_paste_0 11 rfl rfl)
theorem dX0_paste_13 : decode cX0_paste 13 = .ok (.if_icmp .le 8, 3) := dk_164 0 8 (dk_at dksX0_paste_0 13 rfl rfl)
theorem dX0_paste_16 : decode cX0_paste 16 = .ok (.bipush (-2), 2) := dk_16 254 (dk_at dksX0_paste_0 16 rfl rfl)
theorem dX0_paste_18 : decode cX0_paste 18 = .ok (.goto 11, 3) := dk_167 0 11 (dk_at dksX0_paste_0 18 rfl rfl)
theorem dX0_paste_21 : decode cX0_paste 21 = .ok (.aload_n 0, 1) := dk_42 (dk_at dksX0_paste_0 21 rfl rfl)
theorem dX0_paste_22 : decode cX0_paste 22 = .ok (.iload_n 1, 1) := dk_27 (dk_at dksX0_paste_0 22 rfl rfl)
theorem dX0_paste_23 : decode cX0_paste 23 = .ok (.iconst 3, 1) := dk_6 (dk_at dksX0_paste_0 23 rfl rfl)
theorem dX0_paste_24 : decode cX0_paste 24 = .ok (.iload_n 2, 1) := dk_28 (dk_at dksX0_paste_1 0 rfl rfl)
theorem dX0_paste_25 : decode cX0_paste 25 = .ok (.iload_n 3, 1) := dk_29 (dk_at dksX0_paste_1 1 rfl rfl)
theorem dX0_paste_26 : decode cX0_paste 26 = .ok (.invokevirtual 299, 3) := dk_182 1 43 (dk_at dksX0_paste_1 2 rfl rfl)
theorem dX0_paste_29 : decode cX0_paste 29 = .ok (.ireturn, 1) := dk_172 (dk_at dksX0_paste_1 5 rfl rfl)
abbrev cX0_distance : ByteArray := prog_1_method_42_code
def yX0_distance : MethodName := ⟨RX0, "distance", "(I)I"⟩
def dkwX0_distance_3 : List UInt8 := [22, 4, 136, 172, 77, 16, 245, 172, 77, 16, 243, 172]
abbrev dktX0_distance_3 : List UInt8 := dkwX0_distance_3 ++ []
def dkwX0_distance_2 : List UInt8 := [44, 29, 184, 1, 7, 182, 1, 47, 55, 4, 22, 4, 20, 0, 244, 148, 155, 0, 8, 16, 252, 167, 0, 6]
abbrev dktX0_distance_2 : List UInt8 := dkwX0_distance_2 ++ dktX0_distance_3
def dkwX0_distance_1 : List UInt8 := [62, 187, 0, 197, 89, 42, 42, 180, 0, 38, 187, 0, 164, 89, 3, 3, 3, 1, 183, 0, 190, 183, 0, 199]
abbrev dktX0_distance_1 : List UInt8 := dkwX0_distance_1 ++ dktX0_distance_2
def dkwX0_distance_0 : List UInt8 := [42, 27, 182, 1, 0, 154, 0, 5, 2, 172, 42, 27, 182, 1, 3, 180, 1, 15, 192, 1, 30, 77, 44, 190]
abbrev dktX0_distance_0 : List UInt8 := dkwX0_distance_0 ++ dktX0_distance_1
theorem dksX0_distance_0 : cX0_distance.data.toList.drop 0 = dktX0_distance_0 := by decide +kernel
theorem dksX0_distance_1 : cX0_distance.data.toList.drop 24 = dktX0_distance_1 := dk_seg dksX0_distance_0 24 rfl rfl
theorem dksX0_distance_2 : cX0_distance.data.toList.drop 48 = dktX0_distance_2 := dk_seg dksX0_distance_1 24 rfl rfl
theorem dksX0_distance_3 : cX0_distance.data.toList.drop 72 = dktX0_distance_3 := dk_seg dksX0_distance_2 24 rfl rfl
theorem dX0_distance_0 : decode cX0_distance 0 = .ok (.aload_n 0, 1) := dk_42 (dk_at dksX0_distance_0 0 rfl rfl)
theorem dX0_distance_1 : decode cX0_distance 1 = .ok (.iload_n 1, 1) := dk_27 (dk_at dksX0_distance_0 1 rfl rfl)
theorem dX0_distance_2 : decode cX0_distance 2 = .ok (.invokevirtual 256, 3) := dk_182 1 0 (dk_at dksX0_distance_0 2 rfl rfl)
theorem dX0_distance_5 : decode cX0_distance 5 = .ok (.ifCond .ne 5, 3) := dk_154 0 5 (dk_at dksX0_distance_0 5 rfl rfl)
theorem dX0_distance_8 : decode cX0_distance 8 = .ok (.iconst (-1), 1) := dk_2 (dk_at dksX0_distance_0 8 rfl rfl)
theorem dX0_distance_9 : decode cX0_distance 9 = .ok (.ireturn, 1) := dk_172 (dk_at dksX0_distance_0 9 rfl rfl)
theorem dX0_distance_10 : decode cX0_distance 10 = .ok (.aload_n 0, 1) := dk_42 (dk_at dksX0_distance_0 10 rfl rfl)
theorem dX0_distance_11 : decode cX0_distance 11 = .ok (.iload_n 1, 1) := dk_27 (dk_at dksX0_distance_0 11 rfl rfl)
theorem dX0_distance_12 : decode cX0_distance 12 = .ok (.invokevirtual 259, 3) := dk_182 1 3 (dk_at dksX0_distance_0 12 rfl rfl)
theorem dX0_distance_15 : decode cX0_distance 15 = .ok (.getfield 271, 3) := dk_180 1 15 (dk_at dksX0_distance_0 15 rfl rfl)
theorem dX0_distance_18 : decode cX0_distance 18 = .ok (.checkcast 286, 3) := dk_192 1 30 (dk_at dksX0_distance_0 18 rfl rfl)
theorem dX0_distance_21 : decode cX0_distance 21 = .ok (.astore_n 2, 1) := dk_77 (dk_at dksX0_distance_0 21 rfl rfl)
theorem dX0_distance_22 : decode cX0_distance 22 = .ok (.aload_n 2, 1) := dk_44 (dk_at dksX0_distance_0 22 rfl rfl)
theorem dX0_distance_23 : decode cX0_distance 23 = .ok (.arraylength, 1) := dk_190 (dk_at dksX0_distance_0 23 rfl rfl)
theorem dX0_distance_24 : decode cX0_distance 24 = .ok (.istore_n 3, 1) := dk_62 (dk_at dksX0_distance_1 0 rfl rfl)
theorem dX0_distance_25 : decode cX0_distance 25 = .ok (.new 197, 3) := dk_187 0 197 (dk_at dksX0_distance_1 1 rfl rfl)
theorem dX0_distance_28 : decode cX0_distance 28 = .ok (.dup, 1) := dk_89 (dk_at dksX0_distance_1 4 rfl rfl)
theorem dX0_distance_29 : decode cX0_distance 29 = .ok (.aload_n 0, 1) := dk_42 (dk_at dksX0_distance_1 5 rfl rfl)
theorem dX0_distance_30 : decode cX0_distance 30 = .ok (.aload_n 0, 1) := dk_42 (dk_at dksX0_distance_1 6 rfl rfl)
theorem dX0_distance_31 : decode cX0_distance 31 = .ok (.getfield 38, 3) := dk_180 0 38 (dk_at dksX0_distance_1 7 rfl rfl)
theorem dX0_distance_34 : decode cX0_distance 34 = .ok (.new 164, 3) := dk_187 0 164 (dk_at dksX0_distance_1 10 rfl rfl)
theorem dX0_distance_37 : decode cX0_distance 37 = .ok (.dup, 1) := dk_89 (dk_at dksX0_distance_1 13 rfl rfl)
theorem dX0_distance_38 : decode cX0_distance 38 = .ok (.iconst 0, 1) := dk_3 (dk_at dksX0_distance_1 14 rfl rfl)
theorem dX0_distance_39 : decode cX0_distance 39 = .ok (.iconst 0, 1) := dk_3 (dk_at dksX0_distance_1 15 rfl rfl)
theorem dX0_distance_40 : decode cX0_distance 40 = .ok (.iconst 0, 1) := dk_3 (dk_at dksX0_distance_1 16 rfl rfl)
theorem dX0_distance_41 : decode cX0_distance 41 = .ok (.aconst_null, 1) := dk_1 (dk_at dksX0_distance_1 17 rfl rfl)
theorem dX0_distance_42 : decode cX0_distance 42 = .ok (.invokespecial 190, 3) := dk_183 0 190 (dk_at dksX0_distance_1 18 rfl rfl)
theorem dX0_distance_45 : decode cX0_distance 45 = .ok (.invokespecial 199, 3) := dk_183 0 199 (dk_at dksX0_distance_1 21 rfl rfl)
theorem dX0_distance_48 : decode cX0_distance 48 = .ok (.aload_n 2, 1) := dk_44 (dk_at dksX0_distance_2 0 rfl rfl)
theorem dX0_distance_49 : decode cX0_distance 49 = .ok (.iload_n 3, 1) := dk_29 (dk_at dksX0_distance_2 1 rfl rfl)
theorem dX0_distance_50 : decode cX0_distance 50 = .ok (.invokestatic 263, 3) := dk_184 1 7 (dk_at dksX0_distance_2 2 rfl rfl)
theorem dX0_distance_53 : decode cX0_distance 53 = .ok (.invokevirtual 303, 3) := dk_182 1 47 (dk_at dksX0_distance_2 5 rfl rfl)
theorem dX0_distance_56 : decode cX0_distance 56 = .ok (.lstore 4, 2) := dk_55 4 (dk_at dksX0_distance_2 8 rfl rfl)
theorem dX0_distance_58 : decode cX0_distance 58 = .ok (.lload 4, 2) := dk_22 4 (dk_at dksX0_distance_2 10 rfl rfl)
theorem dX0_distance_60 : decode cX0_distance 60 = .ok (.ldc2_w 244, 3) := dk_20 0 244 (dk_at dksX0_distance_2 12 rfl rfl)
theorem dX0_distance_63 : decode cX0_distance 63 = .ok (.lcmp, 1) := dk_148 (dk_at dksX0_distance_2 15 rfl rfl)
theorem dX0_distance_64 : decode cX0_distance 64 = .ok (.ifCond .lt 8, 3) := dk_155 0 8 (dk_at dksX0_distance_2 16 rfl rfl)
theorem dX0_distance_67 : decode cX0_distance 67 = .ok (.bipush (-4), 2) := dk_16 252 (dk_at dksX0_distance_2 19 rfl rfl)
theorem dX0_distance_69 : decode cX0_distance 69 = .ok (.goto 6, 3) := dk_167 0 6 (dk_at dksX0_distance_2 21 rfl rfl)
theorem dX0_distance_72 : decode cX0_distance 72 = .ok (.lload 4, 2) := dk_22 4 (dk_at dksX0_distance_3 0 rfl rfl)
theorem dX0_distance_74 : decode cX0_distance 74 = .ok (.l2i, 1) := dk_136 (dk_at dksX0_distance_3 2 rfl rfl)
theorem dX0_distance_75 : decode cX0_distance 75 = .ok (.ireturn, 1) := dk_172 (dk_at dksX0_distance_3 3 rfl rfl)
theorem dX0_distance_76 : decode cX0_distance 76 = .ok (.astore_n 2, 1) := dk_77 (dk_at dksX0_distance_3 4 rfl rfl)
theorem dX0_distance_77 : decode cX0_distance 77 = .ok (.bipush (-11), 2) := dk_16 245 (dk_at dksX0_distance_3 5 rfl rfl)
theorem dX0_distance_79 : decode cX0_distance 79 = .ok (.ireturn, 1) := dk_172 (dk_at dksX0_distance_3 7 rfl rfl)
theorem dX0_distance_80 : decode cX0_distance 80 = .ok (.astore_n 2, 1) := dk_77 (dk_at dksX0_distance_3 8 rfl rfl)
theorem dX0_distance_81 : decode cX0_distance 81 = .ok (.bipush (-13), 2) := dk_16 243 (dk_at dksX0_distance_3 9 rfl rfl)
theorem dX0_distance_83 : decode cX0_distance 83 = .ok (.ireturn, 1) := dk_172 (dk_at dksX0_distance_3 11 rfl rfl)
abbrev cX0_count : ByteArray := prog_1_method_43_code
def yX0_count : MethodName := ⟨RX0, "count", "(I)I"⟩
def dkwX0_count_5 : List UInt8 := [180, 1, 51, 172, 2, 172]
abbrev dktX0_count_5 : List UInt8 := dkwX0_count_5 ++ []
def dkwX0_count_4 : List UInt8 := [187, 0, 197, 89, 42, 42, 180, 0, 38, 187, 0, 164, 89, 3, 3, 3, 1, 183, 0, 190, 183, 0, 199]
abbrev dktX0_count_4 : List UInt8 := dkwX0_count_4 ++ dktX0_count_5
def dkwX0_count_3 : List UInt8 := [185, 0, 100, 1, 0, 172, 42, 180, 0, 35, 185, 0, 100, 1, 0, 172, 42, 180, 0, 38, 190, 172]
abbrev dktX0_count_3 : List UInt8 := dkwX0_count_3 ++ dktX0_count_4
def dkwX0_count_2 : List UInt8 := [42, 180, 0, 82, 172, 42, 180, 0, 89, 172, 42, 180, 0, 28, 185, 0, 100, 1, 0, 172, 42, 180, 0, 32]
abbrev dktX0_count_2 : List UInt8 := dkwX0_count_2 ++ dktX0_count_3
def dkwX0_count_1 : List UInt8 := [170, 0, 0, 0, 0, 0, 116, 0, 0, 0, 0, 0, 0, 0, 6, 0, 0, 0, 43, 0, 0, 0, 48, 0, 0, 0, 53, 0, 0, 0, 63, 0, 0, 0, 73, 0, 0, 0, 83, 0, 0, 0, 89]
abbrev dktX0_count_1 : List UInt8 := dkwX0_count_1 ++ dktX0_count_2
def dkwX0_count_0 : List UInt8 := [27]
abbrev dktX0_count_0 : List UInt8 := dkwX0_count_0 ++ dktX0_count_1
theorem dksX0_count_0 : cX0_count.data.toList.drop 0 = dktX0_count_0 := by decide +kernel
theorem dksX0_count_1 : cX0_count.data.toList.drop 1 = dktX0_count_1 := dk_seg dksX0_count_0 1 rfl rfl
theorem dksX0_count_2 : cX0_count.data.toList.drop 44 = dktX0_count_2 := dk_seg dksX0_count_1 43 rfl rfl
theorem dksX0_count_3 : cX0_count.data.toList.drop 68 = dktX0_count_3 := dk_seg dksX0_count_2 24 rfl rfl
theorem dksX0_count_4 : cX0_count.data.toList.drop 90 = dktX0_count_4 := dk_seg dksX0_count_3 22 rfl rfl
theorem dksX0_count_5 : cX0_count.data.toList.drop 113 = dktX0_count_5 := dk_seg dksX0_count_4 23 rfl rfl
theorem dX0_count_0 : decode cX0_count 0 = .ok (.iload_n 1, 1) := dk_27 (dk_at dksX0_count_0 0 rfl rfl)
theorem dX0_count_1 : decode cX0_count 1 = .ok (.tableswitch 116 0 6 #[43, 48, 53, 63, 73, 83, 89], 43) := by decide +kernel
theorem dX0_count_44 : decode cX0_count 44 = .ok (.aload_n 0, 1) := dk_42 (dk_at dksX0_count_2 0 rfl rfl)
theorem dX0_count_45 : decode cX0_count 45 = .ok (.getfield 82, 3) := dk_180 0 82 (dk_at dksX0_count_2 1 rfl rfl)
theorem dX0_count_48 : decode cX0_count 48 = .ok (.ireturn, 1) := dk_172 (dk_at dksX0_count_2 4 rfl rfl)
theorem dX0_count_49 : decode cX0_count 49 = .ok (.aload_n 0, 1) := dk_42 (dk_at dksX0_count_2 5 rfl rfl)
theorem dX0_count_50 : decode cX0_count 50 = .ok (.getfield 89, 3) := dk_180 0 89 (dk_at dksX0_count_2 6 rfl rfl)
theorem dX0_count_53 : decode cX0_count 53 = .ok (.ireturn, 1) := dk_172 (dk_at dksX0_count_2 9 rfl rfl)
theorem dX0_count_54 : decode cX0_count 54 = .ok (.aload_n 0, 1) := dk_42 (dk_at dksX0_count_2 10 rfl rfl)
theorem dX0_count_55 : decode cX0_count 55 = .ok (.getfield 28, 3) := dk_180 0 28 (dk_at dksX0_count_2 11 rfl rfl)
theorem dX0_count_58 : decode cX0_count 58 = .ok (.invokeinterface 100 1, 5) := by decide +kernel
theorem dX0_count_63 : decode cX0_count 63 = .ok (.ireturn, 1) := dk_172 (dk_at dksX0_count_2 19 rfl rfl)
theorem dX0_count_64 : decode cX0_count 64 = .ok (.aload_n 0, 1) := dk_42 (dk_at dksX0_count_2 20 rfl rfl)
theorem dX0_count_65 : decode cX0_count 65 = .ok (.getfield 32, 3) := dk_180 0 32 (dk_at dksX0_count_2 21 rfl rfl)
theorem dX0_count_68 : decode cX0_count 68 = .ok (.invokeinterface 100 1, 5) := by decide +kernel
theorem dX0_count_73 : decode cX0_count 73 = .ok (.ireturn, 1) := dk_172 (dk_at dksX0_count_3 5 rfl rfl)
theorem dX0_count_74 : decode cX0_count 74 = .ok (.aload_n 0, 1) := dk_42 (dk_at dksX0_count_3 6 rfl rfl)
theorem dX0_count_75 : decode cX0_count 75 = .ok (.getfield 35, 3) := dk_180 0 35 (dk_at dksX0_count_3 7 rfl rfl)
theorem dX0_count_78 : decode cX0_count 78 = .ok (.invokeinterface 100 1, 5) := by decide +kernel
theorem dX0_count_83 : decode cX0_count 83 = .ok (.ireturn, 1) := dk_172 (dk_at dksX0_count_3 15 rfl rfl)
theorem dX0_count_84 : decode cX0_count 84 = .ok (.aload_n 0, 1) := dk_42 (dk_at dksX0_count_3 16 rfl rfl)
theorem dX0_count_85 : decode cX0_count 85 = .ok (.getfield 38, 3) := dk_180 0 38 (dk_at dksX0_count_3 17 rfl rfl)
theorem dX0_count_88 : decode cX0_count 88 = .ok (.arraylength, 1) := dk_190 (dk_at dksX0_count_3 20 rfl rfl)
theorem dX0_count_89 : decode cX0_count 89 = .ok (.ireturn, 1) := dk_172 (dk_at dksX0_count_3 21 rfl rfl)
theorem dX0_count_90 : decode cX0_count 90 = .ok (.new 197, 3) := dk_187 0 197 (dk_at dksX0_count_4 0 rfl rfl)
theorem dX0_count_93 : decode cX0_count 93 = .ok (.dup, 1) := dk_89 (dk_at dksX0_count_4 3 rfl rfl)
theorem dX0_count_94 : decode cX0_count 94 = .ok (.aload_n 0, 1) := dk_42 (dk_at dksX0_count_4 4 rfl rfl)
theorem dX0_count_95 : decode cX0_count 95 = .ok (.aload_n 0, 1) := dk_42 (dk_at dksX0_count_4 5 rfl rfl)
theorem dX0_count_96 : decode cX0_count 96 = .ok (.getfield 38, 3) := dk_180 0 38 (dk_at dksX0_count_4 6 rfl rfl)
theorem dX0_count_99 : decode cX0_count 99 = .ok (.new 164, 3) := dk_187 0 164 (dk_at dksX0_count_4 9 rfl rfl)
theorem dX0_count_102 : decode cX0_count 102 = .ok (.dup, 1) := dk_89 (dk_at dksX0_count_4 12 rfl rfl)
theorem dX0_count_103 : decode cX0_count 103 = .ok (.iconst 0, 1) := dk_3 (dk_at dksX0_count_4 13 rfl rfl)
theorem dX0_count_104 : decode cX0_count 104 = .ok (.iconst 0, 1) := dk_3 (dk_at dksX0_count_4 14 rfl rfl)
theorem dX0_count_105 : decode cX0_count 105 = .ok (.iconst 0, 1) := dk_3 (dk_at dksX0_count_4 15 rfl rfl)
theorem dX0_count_106 : decode cX0_count 106 = .ok (.aconst_null, 1) := dk_1 (dk_at dksX0_count_4 16 rfl rfl)
theorem dX0_count_107 : decode cX0_count 107 = .ok (.invokespecial 190, 3) := dk_183 0 190 (dk_at dksX0_count_4 17 rfl rfl)
theorem dX0_count_110 : decode cX0_count 110 = .ok (.invokespecial 199, 3) := dk_183 0 199 (dk_at dksX0_count_4 20 rfl rfl)
theorem dX0_count_113 : decode cX0_count 113 = .ok (.getfield 307, 3) := dk_180 1 51 (dk_at dksX0_count_5 0 rfl rfl)
theorem dX0_count_116 : decode cX0_count 116 = .ok (.ireturn, 1) := dk_172 (dk_at dksX0_count_5 3 rfl rfl)
theorem dX0_count_117 : decode cX0_count 117 = .ok (.iconst (-1), 1) := dk_2 (dk_at dksX0_count_5 4 rfl rfl)
theorem dX0_count_118 : decode cX0_count 118 = .ok (.ireturn, 1) := dk_172 (dk_at dksX0_count_5 5 rfl rfl)
theorem q57 : (Jvm.Cond.initialized "MendReader") ∈ lw_all := lw_g (lw_at lw_m1 1 rfl) rfl
theorem q94 : (Jvm.Cond.instantiable "MendReader" (24 : Nat)) ∈ lw_all := lw_g (lw_at lw_m1 38 rfl) rfl
theorem q96 : (Jvm.Cond.instanceMethod ({ cls := "MendReader", name := "<init>", desc := "()V" } : Jvm.MethodName)) ∈ lw_all := lw_g (lw_at lw_m1 40 rfl) rfl
theorem q97 : (Jvm.Cond.code ({ cls := "MendReader", name := "<init>", desc := "()V" } : Jvm.MethodName) prog_1_method_2_code (1 : Nat) (Option.none : Option Jvm.ClassFile.FieldType)) ∈ lw_all := lw_g (lw_at lw_m1 41 rfl) rfl
theorem q98 : (Jvm.Cond.methodLink "MendReader" (3 : Nat) ({ cls := "java/lang/Object", name := "<init>", desc := "()V" } : Jvm.MethodName)) ∈ lw_all := lw_g (lw_at lw_m1 42 rfl) rfl
theorem q101 : (Jvm.Cond.classLink "MendReader" (13 : Nat) "[[I") ∈ lw_all := lw_g (lw_at lw_m1 45 rfl) rfl
theorem q103 : (Jvm.Cond.classLink "MendReader" (25 : Nat) "java/util/ArrayList") ∈ lw_all := lw_g (lw_at lw_m1 47 rfl) rfl
theorem q105 : (Jvm.Cond.methodLink "MendReader" (27 : Nat) ({ cls := "java/util/ArrayList", name := "<init>", desc := "()V" } : Jvm.MethodName)) ∈ lw_all := lw_g (lw_at lw_m1 49 rfl) rfl
theorem q131 : (Jvm.Cond.classLink "MendReader" (42 : Nat) "[[[J") ∈ lw_all := lw_g (lw_at lw_m1 75 rfl) rfl
theorem q134 : (Jvm.Cond.classLink "MendReader" (56 : Nat) "MendReader$Tree") ∈ lw_all := lw_g (lw_at lw_m1 78 rfl) rfl
theorem q136 : (Jvm.Cond.methodLinkNest "MendReader" (58 : Nat) ({ cls := "MendReader$Tree", name := "<init>", desc := "()V" } : Jvm.MethodName) "MendReader") ∈ lw_tbl := lw_at lw_m1 80 rfl
theorem q143 : (Jvm.Cond.fieldLinkNest "MendReader" (252 : Nat) "MendReader$Tree" "cells" "[[I" "MendReader") ∈ lw_tbl := lw_at lw_m1 87 rfl
theorem q146 : (Jvm.Cond.fieldLinkNest "MendReader" (246 : Nat) "MendReader$Tree" "size" "I" "MendReader") ∈ lw_tbl := lw_at lw_m1 90 rfl
theorem q153 : (Jvm.Cond.classLink "MendReader" (66 : Nat) "MendReader$Slips") ∈ lw_all := lw_g (lw_at lw_m1 97 rfl) rfl
theorem q155 : (Jvm.Cond.methodLinkNest "MendReader" (68 : Nat) ({ cls := "MendReader$Slips", name := "<init>", desc := "()V" } : Jvm.MethodName) "MendReader") ∈ lw_tbl := lw_at lw_m1 99 rfl
theorem q161 : (Jvm.Cond.fieldLinkNest "MendReader" (249 : Nat) "MendReader$Slips" "cells" "[[I" "MendReader") ∈ lw_tbl := lw_at lw_m1 105 rfl
theorem q165 : (Jvm.Cond.classLink "MendReader" (76 : Nat) "MendReader$Shelf") ∈ lw_all := lw_g (lw_at lw_m1 109 rfl) rfl
theorem q167 : (Jvm.Cond.fieldLink "MendReader" (82 : Nat) "MendReader" "tokens" "I") ∈ lw_all := lw_g (lw_at lw_m1 111 rfl) rfl
theorem q169 : (Jvm.Cond.fieldLink "MendReader" (9 : Nat) "MendReader" "isFence" "[Z") ∈ lw_all := lw_g (lw_at lw_m1 113 rfl) rfl
theorem q174 : (Jvm.Cond.fieldLink "MendReader" (15 : Nat) "MendReader" "prices" "[[I") ∈ lw_all := lw_g (lw_at lw_m1 118 rfl) rfl
theorem q178 : (Jvm.Cond.fieldLink "MendReader" (18 : Nat) "MendReader" "turnedPrice" "I") ∈ lw_all := lw_g (lw_at lw_m1 122 rfl) rfl
theorem q180 : (Jvm.Cond.fieldLink "MendReader" (22 : Nat) "MendReader" "runPrice" "I") ∈ lw_all := lw_g (lw_at lw_m1 124 rfl) rfl
theorem q182 : (Jvm.Cond.fieldLink "MendReader" (89 : Nat) "MendReader" "names" "I") ∈ lw_all := lw_g (lw_at lw_m1 126 rfl) rfl
theorem q184 : (Jvm.Cond.fieldLink "MendReader" (130 : Nat) "MendReader" "start" "I") ∈ lw_all := lw_g (lw_at lw_m1 128 rfl) rfl
theorem q186 : (Jvm.Cond.fieldLink "MendReader" (28 : Nat) "MendReader" "rules" "Ljava/util/List;") ∈ lw_all := lw_g (lw_at lw_m1 130 rfl) rfl
theorem q189 : (Jvm.Cond.fieldLink "MendReader" (32 : Nat) "MendReader" "stuck" "Ljava/util/List;") ∈ lw_all := lw_g (lw_at lw_m1 133 rfl) rfl
theorem q191 : (Jvm.Cond.fieldLink "MendReader" (35 : Nat) "MendReader" "parted" "Ljava/util/List;") ∈ lw_all := lw_g (lw_at lw_m1 135 rfl) rfl
theorem q193 : (Jvm.Cond.fieldLink "MendReader" (142 : Nat) "MendReader" "fences" "Z") ∈ lw_all := lw_g (lw_at lw_m1 137 rfl) rfl
theorem q194 : (Jvm.Cond.fieldLink "MendReader" (38 : Nat) "MendReader" "text" "[I") ∈ lw_all := lw_g (lw_at lw_m1 138 rfl) rfl
theorem q195 : (Jvm.Cond.fieldLink "MendReader" (92 : Nat) "MendReader" "changed" "Z") ∈ lw_all := lw_g (lw_at lw_m1 139 rfl) rfl
theorem q197 : (Jvm.Cond.fieldLink "MendReader" (44 : Nat) "MendReader" "readCells" "[[[J") ∈ lw_all := lw_g (lw_at lw_m1 141 rfl) rfl
theorem q199 : (Jvm.Cond.fieldLink "MendReader" (47 : Nat) "MendReader" "treeCells" "[[[J") ∈ lw_all := lw_g (lw_at lw_m1 143 rfl) rfl
theorem q201 : (Jvm.Cond.fieldLink "MendReader" (50 : Nat) "MendReader" "restCells" "[[[J") ∈ lw_all := lw_g (lw_at lw_m1 145 rfl) rfl
theorem q202 : (Jvm.Cond.fieldLink "MendReader" (53 : Nat) "MendReader" "price" "I") ∈ lw_all := lw_g (lw_at lw_m1 146 rfl) rfl
theorem q203 : (Jvm.Cond.fieldLink "MendReader" (193 : Nat) "MendReader" "way" "LMendReader$Way;") ∈ lw_all := lw_g (lw_at lw_m1 147 rfl) rfl
theorem q204 : (Jvm.Cond.fieldLink "MendReader" (59 : Nat) "MendReader" "tree" "LMendReader$Tree;") ∈ lw_all := lw_g (lw_at lw_m1 148 rfl) rfl
theorem q207 : (Jvm.Cond.fieldLink "MendReader" (63 : Nat) "MendReader" "slips" "Ljava/util/List;") ∈ lw_all := lw_g (lw_at lw_m1 151 rfl) rfl
theorem q208 : (Jvm.Cond.fieldLink "MendReader" (69 : Nat) "MendReader" "latest" "LMendReader$Slips;") ∈ lw_all := lw_g (lw_at lw_m1 152 rfl) rfl
theorem q209 : (Jvm.Cond.fieldLink "MendReader" (73 : Nat) "MendReader" "words" "[I") ∈ lw_all := lw_g (lw_at lw_m1 153 rfl) rfl
theorem q212 : (Jvm.Cond.fieldLink "MendReader" (208 : Nat) "MendReader" "wordMany" "I") ∈ lw_all := lw_g (lw_at lw_m1 156 rfl) rfl
theorem q213 : (Jvm.Cond.fieldLink "MendReader" (78 : Nat) "MendReader" "shelves" "[LMendReader$Shelf;") ∈ lw_all := lw_g (lw_at lw_m1 157 rfl) rfl
theorem q214 : (Jvm.Cond.lays "MendReader" "MendReader" "tokens" "I") ∈ lw_all := lw_g (lw_at lw_m1 158 rfl) rfl
theorem q215 : (Jvm.Cond.soleField "MendReader" "tokens") ∈ lw_all := lw_g (lw_at lw_m1 159 rfl) rfl
theorem q216 : (Jvm.Cond.laysFinal "MendReader" "MendReader" "isFence" "[Z") ∈ lw_all := lw_g (lw_at lw_m1 160 rfl) rfl
theorem q217 : (Jvm.Cond.soleField "MendReader" "isFence") ∈ lw_all := lw_g (lw_at lw_m1 161 rfl) rfl
theorem q218 : (Jvm.Cond.laysFinal "MendReader" "MendReader" "prices" "[[I") ∈ lw_all := lw_g (lw_at lw_m1 162 rfl) rfl
theorem q219 : (Jvm.Cond.soleField "MendReader" "prices") ∈ lw_all := lw_g (lw_at lw_m1 163 rfl) rfl
theorem q220 : (Jvm.Cond.lays "MendReader" "MendReader" "turnedPrice" "I") ∈ lw_all := lw_g (lw_at lw_m1 164 rfl) rfl
theorem q221 : (Jvm.Cond.soleField "MendReader" "turnedPrice") ∈ lw_all := lw_g (lw_at lw_m1 165 rfl) rfl
theorem q222 : (Jvm.Cond.lays "MendReader" "MendReader" "runPrice" "I") ∈ lw_all := lw_g (lw_at lw_m1 166 rfl) rfl
theorem q223 : (Jvm.Cond.soleField "MendReader" "runPrice") ∈ lw_all := lw_g (lw_at lw_m1 167 rfl) rfl
theorem q224 : (Jvm.Cond.lays "MendReader" "MendReader" "names" "I") ∈ lw_all := lw_g (lw_at lw_m1 168 rfl) rfl
theorem q225 : (Jvm.Cond.soleField "MendReader" "names") ∈ lw_all := lw_g (lw_at lw_m1 169 rfl) rfl
theorem q226 : (Jvm.Cond.lays "MendReader" "MendReader" "start" "I") ∈ lw_all := lw_g (lw_at lw_m1 170 rfl) rfl
theorem q227 : (Jvm.Cond.soleField "MendReader" "start") ∈ lw_all := lw_g (lw_at lw_m1 171 rfl) rfl
theorem q228 : (Jvm.Cond.laysFinal "MendReader" "MendReader" "rules" "Ljava/util/List;") ∈ lw_all := lw_g (lw_at lw_m1 172 rfl) rfl
theorem q229 : (Jvm.Cond.soleField "MendReader" "rules") ∈ lw_all := lw_g (lw_at lw_m1 173 rfl) rfl
theorem q230 : (Jvm.Cond.laysFinal "MendReader" "MendReader" "stuck" "Ljava/util/List;") ∈ lw_all := lw_g (lw_at lw_m1 174 rfl) rfl
theorem q231 : (Jvm.Cond.soleField "MendReader" "stuck") ∈ lw_all := lw_g (lw_at lw_m1 175 rfl) rfl
theorem q232 : (Jvm.Cond.laysFinal "MendReader" "MendReader" "parted" "Ljava/util/List;") ∈ lw_all := lw_g (lw_at lw_m1 176 rfl) rfl
theorem q233 : (Jvm.Cond.soleField "MendReader" "parted") ∈ lw_all := lw_g (lw_at lw_m1 177 rfl) rfl
theorem q234 : (Jvm.Cond.lays "MendReader" "MendReader" "fences" "Z") ∈ lw_all := lw_g (lw_at lw_m1 178 rfl) rfl
theorem q235 : (Jvm.Cond.soleField "MendReader" "fences") ∈ lw_all := lw_g (lw_at lw_m1 179 rfl) rfl
theorem q236 : (Jvm.Cond.lays "MendReader" "MendReader" "text" "[I") ∈ lw_all := lw_g (lw_at lw_m1 180 rfl) rfl
theorem q237 : (Jvm.Cond.soleField "MendReader" "text") ∈ lw_all := lw_g (lw_at lw_m1 181 rfl) rfl
theorem q238 : (Jvm.Cond.lays "MendReader" "MendReader" "changed" "Z") ∈ lw_all := lw_g (lw_at lw_m1 182 rfl) rfl
theorem q239 : (Jvm.Cond.soleField "MendReader" "changed") ∈ lw_all := lw_g (lw_at lw_m1 183 rfl) rfl
theorem q240 : (Jvm.Cond.laysFinal "MendReader" "MendReader" "readCells" "[[[J") ∈ lw_all := lw_g (lw_at lw_m1 184 rfl) rfl
theorem q241 : (Jvm.Cond.soleField "MendReader" "readCells") ∈ lw_all := lw_g (lw_at lw_m1 185 rfl) rfl
theorem q242 : (Jvm.Cond.laysFinal "MendReader" "MendReader" "treeCells" "[[[J") ∈ lw_all := lw_g (lw_at lw_m1 186 rfl) rfl
theorem q243 : (Jvm.Cond.soleField "MendReader" "treeCells") ∈ lw_all := lw_g (lw_at lw_m1 187 rfl) rfl
theorem q244 : (Jvm.Cond.laysFinal "MendReader" "MendReader" "restCells" "[[[J") ∈ lw_all := lw_g (lw_at lw_m1 188 rfl) rfl
theorem q245 : (Jvm.Cond.soleField "MendReader" "restCells") ∈ lw_all := lw_g (lw_at lw_m1 189 rfl) rfl
theorem q246 : (Jvm.Cond.lays "MendReader" "MendReader" "price" "I") ∈ lw_all := lw_g (lw_at lw_m1 190 rfl) rfl
theorem q247 : (Jvm.Cond.soleField "MendReader" "price") ∈ lw_all := lw_g (lw_at lw_m1 191 rfl) rfl
theorem q248 : (Jvm.Cond.lays "MendReader" "MendReader" "way" "LMendReader$Way;") ∈ lw_all := lw_g (lw_at lw_m1 192 rfl) rfl
theorem q249 : (Jvm.Cond.soleField "MendReader" "way") ∈ lw_all := lw_g (lw_at lw_m1 193 rfl) rfl
theorem q250 : (Jvm.Cond.lays "MendReader" "MendReader" "tree" "LMendReader$Tree;") ∈ lw_all := lw_g (lw_at lw_m1 194 rfl) rfl
theorem q251 : (Jvm.Cond.soleField "MendReader" "tree") ∈ lw_all := lw_g (lw_at lw_m1 195 rfl) rfl
theorem q252 : (Jvm.Cond.laysFinal "MendReader" "MendReader" "slips" "Ljava/util/List;") ∈ lw_all := lw_g (lw_at lw_m1 196 rfl) rfl
theorem q253 : (Jvm.Cond.soleField "MendReader" "slips") ∈ lw_all := lw_g (lw_at lw_m1 197 rfl) rfl
theorem q254 : (Jvm.Cond.lays "MendReader" "MendReader" "latest" "LMendReader$Slips;") ∈ lw_all := lw_g (lw_at lw_m1 198 rfl) rfl
theorem q255 : (Jvm.Cond.soleField "MendReader" "latest") ∈ lw_all := lw_g (lw_at lw_m1 199 rfl) rfl
theorem q256 : (Jvm.Cond.laysFinal "MendReader" "MendReader" "words" "[I") ∈ lw_all := lw_g (lw_at lw_m1 200 rfl) rfl
theorem q257 : (Jvm.Cond.soleField "MendReader" "words") ∈ lw_all := lw_g (lw_at lw_m1 201 rfl) rfl
theorem q258 : (Jvm.Cond.lays "MendReader" "MendReader" "wordMany" "I") ∈ lw_all := lw_g (lw_at lw_m1 202 rfl) rfl
theorem q259 : (Jvm.Cond.soleField "MendReader" "wordMany") ∈ lw_all := lw_g (lw_at lw_m1 203 rfl) rfl
theorem q260 : (Jvm.Cond.laysFinal "MendReader" "MendReader" "shelves" "[LMendReader$Shelf;") ∈ lw_all := lw_g (lw_at lw_m1 204 rfl) rfl
theorem q261 : (Jvm.Cond.soleField "MendReader" "shelves") ∈ lw_all := lw_g (lw_at lw_m1 205 rfl) rfl
theorem q262 : (Jvm.Cond.superclass "MendReader" "java/lang/Object") ∈ lw_all := lw_g (lw_at lw_m1 206 rfl) rfl
theorem q264 : (Jvm.Cond.instanceMethod ({ cls := "MendReader", name := "token", desc := "(Z)I" } : Jvm.MethodName)) ∈ lw_all := lw_g (lw_at lw_m1 208 rfl) rfl
theorem q265 : (Jvm.Cond.selects "MendReader" ({ cls := "MendReader", name := "token", desc := "(Z)I" } : Jvm.MethodName) ({ cls := "MendReader", name := "token", desc := "(Z)I" } : Jvm.MethodName)) ∈ lw_all := lw_g (lw_at lw_m1 209 rfl) rfl
theorem q266 : (Jvm.Cond.code ({ cls := "MendReader", name := "token", desc := "(Z)I" } : Jvm.MethodName) prog_1_method_5_code (2 : Nat) (Option.some Jvm.ClassFile.FieldType.int)) ∈ lw_all := lw_g (lw_at lw_m1 210 rfl) rfl
theorem q268 : (Jvm.Cond.instanceMethod ({ cls := "MendReader", name := "name", desc := "()I" } : Jvm.MethodName)) ∈ lw_all := lw_g (lw_at lw_m1 212 rfl) rfl
theorem q269 : (Jvm.Cond.selects "MendReader" ({ cls := "MendReader", name := "name", desc := "()I" } : Jvm.MethodName) ({ cls := "MendReader", name := "name", desc := "()I" } : Jvm.MethodName)) ∈ lw_all := lw_g (lw_at lw_m1 213 rfl) rfl
theorem q270 : (Jvm.Cond.code ({ cls := "MendReader", name := "name", desc := "()I" } : Jvm.MethodName) prog_1_method_6_code (1 : Nat) (Option.some Jvm.ClassFile.FieldType.int)) ∈ lw_all := lw_g (lw_at lw_m1 214 rfl) rfl
theorem q272 : (Jvm.Cond.instanceMethod ({ cls := "MendReader", name := "rule", desc := "(I)I" } : Jvm.MethodName)) ∈ lw_all := lw_g (lw_at lw_m1 216 rfl) rfl
theorem q273 : (Jvm.Cond.selects "MendReader" ({ cls := "MendReader", name := "rule", desc := "(I)I" } : Jvm.MethodName) ({ cls := "MendReader", name := "rule", desc := "(I)I" } : Jvm.MethodName)) ∈ lw_all := lw_g (lw_at lw_m1 217 rfl) rfl
theorem q274 : (Jvm.Cond.code ({ cls := "MendReader", name := "rule", desc := "(I)I" } : Jvm.MethodName) prog_1_method_7_code (2 : Nat) (Option.some Jvm.ClassFile.FieldType.int)) ∈ lw_all := lw_g (lw_at lw_m1 218 rfl) rfl
theorem q275 : (Jvm.Cond.methodLink "MendReader" (96 : Nat) ({ cls := "MendReader", name := "isName", desc := "(I)Z" } : Jvm.MethodName)) ∈ lw_all := lw_g (lw_at lw_m1 219 rfl) rfl
theorem q276 : (Jvm.Cond.privateMethod ({ cls := "MendReader", name := "isName", desc := "(I)Z" } : Jvm.MethodName)) ∈ lw_tbl := lw_at lw_m1 220 rfl
theorem q277 : (Jvm.Cond.instanceMethod ({ cls := "MendReader", name := "isName", desc := "(I)Z" } : Jvm.MethodName)) ∈ lw_all := lw_g (lw_at lw_m1 221 rfl) rfl
theorem q278 : (Jvm.Cond.code ({ cls := "MendReader", name := "isName", desc := "(I)Z" } : Jvm.MethodName) prog_1_method_4_code (2 : Nat) (Option.some Jvm.ClassFile.FieldType.boolean)) ∈ lw_all := lw_g (lw_at lw_m1 222 rfl) rfl
theorem q279 : (Jvm.Cond.methodLink "MendReader" (85 : Nat) ({ cls := "MendReader", name := "in", desc := "(JJJ)Z" } : Jvm.MethodName)) ∈ lw_all := lw_g (lw_at lw_m1 223 rfl) rfl
theorem q280 : (Jvm.Cond.static ({ cls := "MendReader", name := "in", desc := "(JJJ)Z" } : Jvm.MethodName)) ∈ lw_all := lw_g (lw_at lw_m1 224 rfl) rfl
theorem q281 : (Jvm.Cond.code ({ cls := "MendReader", name := "in", desc := "(JJJ)Z" } : Jvm.MethodName) prog_1_method_1_code (6 : Nat) (Option.some Jvm.ClassFile.FieldType.boolean)) ∈ lw_all := lw_g (lw_at lw_m1 225 rfl) rfl
theorem q282 : (Jvm.Cond.interfaceEntry "MendReader" (100 : Nat)) ∈ lw_tbl := lw_at lw_m1 226 rfl
theorem q283 : (Jvm.Cond.methodLink "MendReader" (100 : Nat) ({ cls := "java/util/List", name := "size", desc := "()I" } : Jvm.MethodName)) ∈ lw_all := lw_g (lw_at lw_m1 227 rfl) rfl
theorem q292 : (Jvm.Cond.classLink "MendReader" (106 : Nat) "MendReader$Rule") ∈ lw_all := lw_g (lw_at lw_m1 236 rfl) rfl
theorem q294 : (Jvm.Cond.methodLink "MendReader" (108 : Nat) ({ cls := "MendReader$Rule", name := "<init>", desc := "(II)V" } : Jvm.MethodName)) ∈ lw_all := lw_g (lw_at lw_m1 238 rfl) rfl
theorem q305 : (Jvm.Cond.fieldLinkNest "MendReader" (124 : Nat) "MendReader$Rule" "sorts" "[I" "MendReader") ∈ lw_tbl := lw_at lw_m2 9 rfl
theorem q309 : (Jvm.Cond.fieldLinkNest "MendReader" (127 : Nat) "MendReader$Rule" "which" "[I" "MendReader") ∈ lw_tbl := lw_at lw_m2 13 rfl
theorem q312 : (Jvm.Cond.fieldLinkNest "MendReader" (122 : Nat) "MendReader$Rule" "size" "I" "MendReader") ∈ lw_tbl := lw_at lw_m2 16 rfl
theorem q325 : (Jvm.Cond.interfaceEntry "MendReader" (111 : Nat)) ∈ lw_tbl := lw_at lw_m2 29 rfl
theorem q326 : (Jvm.Cond.methodLink "MendReader" (111 : Nat) ({ cls := "java/util/List", name := "add", desc := "(Ljava/lang/Object;)Z" } : Jvm.MethodName)) ∈ lw_all := lw_g (lw_at lw_m2 30 rfl) rfl
theorem q362 : (Jvm.Cond.selects "MendReader" ({ cls := "java/lang/Object", name := "getClass", desc := "()Ljava/lang/Class;" } : Jvm.MethodName) ({ cls := "java/lang/Object", name := "getClass", desc := "()Ljava/lang/Class;" } : Jvm.MethodName)) ∈ lw_all := lw_g (lw_at lw_m2 66 rfl) rfl
theorem q401 : (Jvm.Cond.instanceMethod ({ cls := "MendReader", name := "symbol", desc := "(III)I" } : Jvm.MethodName)) ∈ lw_all := lw_g (lw_at lw_m2 105 rfl) rfl
theorem q402 : (Jvm.Cond.selects "MendReader" ({ cls := "MendReader", name := "symbol", desc := "(III)I" } : Jvm.MethodName) ({ cls := "MendReader", name := "symbol", desc := "(III)I" } : Jvm.MethodName)) ∈ lw_all := lw_g (lw_at lw_m2 106 rfl) rfl
theorem q403 : (Jvm.Cond.code ({ cls := "MendReader", name := "symbol", desc := "(III)I" } : Jvm.MethodName) prog_1_method_8_code (5 : Nat) (Option.some Jvm.ClassFile.FieldType.int)) ∈ lw_all := lw_g (lw_at lw_m2 107 rfl) rfl
theorem q404 : (Jvm.Cond.methodLink "MendReader" (115 : Nat) ({ cls := "MendReader", name := "isToken", desc := "(I)Z" } : Jvm.MethodName)) ∈ lw_all := lw_g (lw_at lw_m2 108 rfl) rfl
theorem q405 : (Jvm.Cond.privateMethod ({ cls := "MendReader", name := "isToken", desc := "(I)Z" } : Jvm.MethodName)) ∈ lw_tbl := lw_at lw_m2 109 rfl
theorem q406 : (Jvm.Cond.instanceMethod ({ cls := "MendReader", name := "isToken", desc := "(I)Z" } : Jvm.MethodName)) ∈ lw_all := lw_g (lw_at lw_m2 110 rfl) rfl
theorem q407 : (Jvm.Cond.code ({ cls := "MendReader", name := "isToken", desc := "(I)Z" } : Jvm.MethodName) prog_1_method_3_code (2 : Nat) (Option.some Jvm.ClassFile.FieldType.boolean)) ∈ lw_all := lw_g (lw_at lw_m2 111 rfl) rfl
theorem q408 : (Jvm.Cond.interfaceEntry "MendReader" (118 : Nat)) ∈ lw_tbl := lw_at lw_m2 112 rfl
theorem q409 : (Jvm.Cond.methodLink "MendReader" (118 : Nat) ({ cls := "java/util/List", name := "get", desc := "(I)Ljava/lang/Object;" } : Jvm.MethodName)) ∈ lw_all := lw_g (lw_at lw_m2 113 rfl) rfl
theorem q428 : (Jvm.Cond.instanceMethod ({ cls := "MendReader", name := "start", desc := "(I)I" } : Jvm.MethodName)) ∈ lw_all := lw_g (lw_at lw_m2 132 rfl) rfl
theorem q429 : (Jvm.Cond.selects "MendReader" ({ cls := "MendReader", name := "start", desc := "(I)I" } : Jvm.MethodName) ({ cls := "MendReader", name := "start", desc := "(I)I" } : Jvm.MethodName)) ∈ lw_all := lw_g (lw_at lw_m2 133 rfl) rfl
theorem q430 : (Jvm.Cond.code ({ cls := "MendReader", name := "start", desc := "(I)I" } : Jvm.MethodName) prog_1_method_9_code (3 : Nat) (Option.some Jvm.ClassFile.FieldType.int)) ∈ lw_all := lw_g (lw_at lw_m2 134 rfl) rfl
theorem q432 : (Jvm.Cond.instanceMethod ({ cls := "MendReader", name := "price", desc := "(III)I" } : Jvm.MethodName)) ∈ lw_all := lw_g (lw_at lw_m2 136 rfl) rfl
theorem q433 : (Jvm.Cond.selects "MendReader" ({ cls := "MendReader", name := "price", desc := "(III)I" } : Jvm.MethodName) ({ cls := "MendReader", name := "price", desc := "(III)I" } : Jvm.MethodName)) ∈ lw_all := lw_g (lw_at lw_m2 137 rfl) rfl
theorem q434 : (Jvm.Cond.code ({ cls := "MendReader", name := "price", desc := "(III)I" } : Jvm.MethodName) prog_1_method_10_code (5 : Nat) (Option.some Jvm.ClassFile.FieldType.int)) ∈ lw_all := lw_g (lw_at lw_m2 138 rfl) rfl
theorem q435 : (Jvm.Cond.constantLong "MendReader" (133 : Nat) (4 : Int64)) ∈ lw_all := lw_g (lw_at lw_m2 139 rfl) rfl
theorem q436 : (Jvm.Cond.constantLong "MendReader" (135 : Nat) (100 : Int64)) ∈ lw_all := lw_g (lw_at lw_m2 140 rfl) rfl
theorem q438 : (Jvm.Cond.instanceMethod ({ cls := "MendReader", name := "form", desc := "(IIIII)I" } : Jvm.MethodName)) ∈ lw_all := lw_g (lw_at lw_m2 142 rfl) rfl
theorem q439 : (Jvm.Cond.selects "MendReader" ({ cls := "MendReader", name := "form", desc := "(IIIII)I" } : Jvm.MethodName) ({ cls := "MendReader", name := "form", desc := "(IIIII)I" } : Jvm.MethodName)) ∈ lw_all := lw_g (lw_at lw_m2 143 rfl) rfl
theorem q440 : (Jvm.Cond.code ({ cls := "MendReader", name := "form", desc := "(IIIII)I" } : Jvm.MethodName) prog_1_method_11_code (7 : Nat) (Option.some Jvm.ClassFile.FieldType.int)) ∈ lw_all := lw_g (lw_at lw_m2 144 rfl) rfl
theorem q441 : (Jvm.Cond.classLink "MendReader" (137 : Nat) "MendReader$Form") ∈ lw_all := lw_g (lw_at lw_m2 145 rfl) rfl
theorem q443 : (Jvm.Cond.methodLink "MendReader" (139 : Nat) ({ cls := "MendReader$Form", name := "<init>", desc := "(IIII)V" } : Jvm.MethodName)) ∈ lw_all := lw_g (lw_at lw_m2 147 rfl) rfl
theorem q467 : (Jvm.Cond.instanceMethod ({ cls := "MendReader", name := "fences", desc := "(Z)I" } : Jvm.MethodName)) ∈ lw_all := lw_g (lw_at lw_m2 171 rfl) rfl
theorem q468 : (Jvm.Cond.selects "MendReader" ({ cls := "MendReader", name := "fences", desc := "(Z)I" } : Jvm.MethodName) ({ cls := "MendReader", name := "fences", desc := "(Z)I" } : Jvm.MethodName)) ∈ lw_all := lw_g (lw_at lw_m2 172 rfl) rfl
theorem q469 : (Jvm.Cond.code ({ cls := "MendReader", name := "fences", desc := "(Z)I" } : Jvm.MethodName) prog_1_method_12_code (3 : Nat) (Option.some Jvm.ClassFile.FieldType.int)) ∈ lw_all := lw_g (lw_at lw_m2 173 rfl) rfl
theorem q471 : (Jvm.Cond.instanceMethod ({ cls := "MendReader", name := "put", desc := "(II)I" } : Jvm.MethodName)) ∈ lw_all := lw_g (lw_at lw_m2 175 rfl) rfl
theorem q472 : (Jvm.Cond.selects "MendReader" ({ cls := "MendReader", name := "put", desc := "(II)I" } : Jvm.MethodName) ({ cls := "MendReader", name := "put", desc := "(II)I" } : Jvm.MethodName)) ∈ lw_all := lw_g (lw_at lw_m2 176 rfl) rfl
theorem q473 : (Jvm.Cond.code ({ cls := "MendReader", name := "put", desc := "(II)I" } : Jvm.MethodName) prog_1_method_13_code (3 : Nat) (Option.some Jvm.ClassFile.FieldType.int)) ∈ lw_all := lw_g (lw_at lw_m2 177 rfl) rfl
theorem q474 : (Jvm.Cond.methodLink "MendReader" (145 : Nat) ({ cls := "MendReader", name := "with", desc := "([III)[I" } : Jvm.MethodName)) ∈ lw_all := lw_g (lw_at lw_m2 178 rfl) rfl
theorem q475 : (Jvm.Cond.static ({ cls := "MendReader", name := "with", desc := "([III)[I" } : Jvm.MethodName)) ∈ lw_all := lw_g (lw_at lw_m2 179 rfl) rfl
theorem q476 : (Jvm.Cond.code ({ cls := "MendReader", name := "with", desc := "([III)[I" } : Jvm.MethodName) prog_1_method_14_code (4 : Nat) (Option.some (Jvm.ClassFile.FieldType.array Jvm.ClassFile.FieldType.int))) ∈ lw_all := lw_g (lw_at lw_m2 180 rfl) rfl
theorem q477 : (Jvm.Cond.methodLink "MendReader" (149 : Nat) ({ cls := "java/lang/System", name := "arraycopy", desc := "(Ljava/lang/Object;ILjava/lang/Object;II)V" } : Jvm.MethodName)) ∈ lw_all := lw_g (lw_at lw_m2 181 rfl) rfl
theorem q479 : (Jvm.Cond.instanceMethod ({ cls := "MendReader", name := "take", desc := "(I)I" } : Jvm.MethodName)) ∈ lw_all := lw_g (lw_at lw_m2 183 rfl) rfl
theorem q480 : (Jvm.Cond.selects "MendReader" ({ cls := "MendReader", name := "take", desc := "(I)I" } : Jvm.MethodName) ({ cls := "MendReader", name := "take", desc := "(I)I" } : Jvm.MethodName)) ∈ lw_all := lw_g (lw_at lw_m2 184 rfl) rfl
theorem q481 : (Jvm.Cond.code ({ cls := "MendReader", name := "take", desc := "(I)I" } : Jvm.MethodName) prog_1_method_15_code (3 : Nat) (Option.some Jvm.ClassFile.FieldType.int)) ∈ lw_all := lw_g (lw_at lw_m2 185 rfl) rfl
theorem q483 : (Jvm.Cond.instanceMethod ({ cls := "MendReader", name := "at", desc := "(I)I" } : Jvm.MethodName)) ∈ lw_all := lw_g (lw_at lw_m2 187 rfl) rfl
theorem q484 : (Jvm.Cond.selects "MendReader" ({ cls := "MendReader", name := "at", desc := "(I)I" } : Jvm.MethodName) ({ cls := "MendReader", name := "at", desc := "(I)I" } : Jvm.MethodName)) ∈ lw_all := lw_g (lw_at lw_m2 188 rfl) rfl
theorem q485 : (Jvm.Cond.code ({ cls := "MendReader", name := "at", desc := "(I)I" } : Jvm.MethodName) prog_1_method_16_code (2 : Nat) (Option.some Jvm.ClassFile.FieldType.int)) ∈ lw_all := lw_g (lw_at lw_m2 189 rfl) rfl
theorem q487 : (Jvm.Cond.instanceMethod ({ cls := "MendReader", name := "read", desc := "()I" } : Jvm.MethodName)) ∈ lw_all := lw_g (lw_at lw_m2 191 rfl) rfl
theorem q488 : (Jvm.Cond.selects "MendReader" ({ cls := "MendReader", name := "read", desc := "()I" } : Jvm.MethodName) ({ cls := "MendReader", name := "read", desc := "()I" } : Jvm.MethodName)) ∈ lw_all := lw_g (lw_at lw_m2 192 rfl) rfl
theorem q489 : (Jvm.Cond.code ({ cls := "MendReader", name := "read", desc := "()I" } : Jvm.MethodName) prog_1_method_21_code (1 : Nat) (Option.some Jvm.ClassFile.FieldType.int)) ∈ lw_all := lw_g (lw_at lw_m2 193 rfl) rfl
theorem q490 : (Jvm.Cond.methodLink "MendReader" (240 : Nat) ({ cls := "MendReader", name := "reads", desc := "(III)I" } : Jvm.MethodName)) ∈ lw_all := lw_g (lw_at lw_m2 194 rfl) rfl
theorem q491 : (Jvm.Cond.privateMethod ({ cls := "MendReader", name := "reads", desc := "(III)I" } : Jvm.MethodName)) ∈ lw_tbl := lw_at lw_m2 195 rfl
theorem q492 : (Jvm.Cond.instanceMethod ({ cls := "MendReader", name := "reads", desc := "(III)I" } : Jvm.MethodName)) ∈ lw_all := lw_g (lw_at lw_m2 196 rfl) rfl
theorem q493 : (Jvm.Cond.code ({ cls := "MendReader", name := "reads", desc := "(III)I" } : Jvm.MethodName) prog_1_method_20_code (9 : Nat) (Option.some Jvm.ClassFile.FieldType.int)) ∈ lw_all := lw_g (lw_at lw_m2 197 rfl) rfl
theorem q494 : (Jvm.Cond.classLink "MendReader" (164 : Nat) "MendReader$Way") ∈ lw_all := lw_g (lw_at lw_m2 198 rfl) rfl
theorem q496 : (Jvm.Cond.methodLink "MendReader" (190 : Nat) ({ cls := "MendReader$Way", name := "<init>", desc := "(IIILMendReader$Step;)V" } : Jvm.MethodName)) ∈ lw_all := lw_g (lw_at lw_m2 200 rfl) rfl
theorem q501 : (Jvm.Cond.fieldLinkNest "MendReader" (163 : Nat) "MendReader$Way" "sort" "I" "MendReader") ∈ lw_tbl := lw_at lw_m2 205 rfl
theorem q503 : (Jvm.Cond.fieldLinkNest "MendReader" (179 : Nat) "MendReader$Way" "from" "I" "MendReader") ∈ lw_tbl := lw_at lw_m2 207 rfl
theorem q505 : (Jvm.Cond.fieldLinkNest "MendReader" (185 : Nat) "MendReader$Way" "to" "I" "MendReader") ∈ lw_tbl := lw_at lw_m2 209 rfl
theorem q516 : (Jvm.Cond.classLink "MendReader" (197 : Nat) "MendReader$Chart") ∈ lw_all := lw_g (lw_at lw_m2 220 rfl) rfl
theorem q518 : (Jvm.Cond.methodLink "MendReader" (199 : Nat) ({ cls := "MendReader$Chart", name := "<init>", desc := "(LMendReader;[ILMendReader$Way;)V" } : Jvm.MethodName)) ∈ lw_all := lw_g (lw_at lw_m2 222 rfl) rfl
theorem q565 : (Jvm.Cond.fieldLink "MendReader" (160 : Nat) "MendReader$Step" "place" "I") ∈ lw_all := lw_g (lw_at lw_m3 29 rfl) rfl
theorem q600 : (Jvm.Cond.privateMethod ({ cls := "MendReader", name := "may", desc := "(LMendReader$Way;LMendReader$Step;I)Z" } : Jvm.MethodName)) ∈ lw_tbl := lw_at lw_m3 64 rfl
theorem q601 : (Jvm.Cond.instanceMethod ({ cls := "MendReader", name := "may", desc := "(LMendReader$Way;LMendReader$Step;I)Z" } : Jvm.MethodName)) ∈ lw_all := lw_g (lw_at lw_m3 65 rfl) rfl
theorem q602 : (Jvm.Cond.code ({ cls := "MendReader", name := "may", desc := "(LMendReader$Way;LMendReader$Step;I)Z" } : Jvm.MethodName) prog_1_method_17_code (5 : Nat) (Option.some Jvm.ClassFile.FieldType.boolean)) ∈ lw_all := lw_g (lw_at lw_m3 66 rfl) rfl
theorem q603 : (Jvm.Cond.methodLink "MendReader" (155 : Nat) ({ cls := "MendReader$Step", name := "kind", desc := "()I" } : Jvm.MethodName)) ∈ lw_all := lw_g (lw_at lw_m3 67 rfl) rfl
theorem q642 : (Jvm.Cond.methodLink "MendReader" (168 : Nat) ({ cls := "MendReader$Step", name := "touchesFence", desc := "()Z" } : Jvm.MethodName)) ∈ lw_all := lw_g (lw_at lw_m3 106 rfl) rfl
theorem q675 : (Jvm.Cond.methodLinkNest "MendReader" (172 : Nat) ({ cls := "MendReader$Way", name := "isWithout", desc := "(LMendReader$Step;)Z" } : Jvm.MethodName) "MendReader") ∈ lw_tbl := lw_at lw_m3 139 rfl
theorem q702 : (Jvm.Cond.methodLink "MendReader" (176 : Nat) ({ cls := "MendReader$Step", name := "first", desc := "()I" } : Jvm.MethodName)) ∈ lw_all := lw_g (lw_at lw_m3 166 rfl) rfl
theorem q714 : (Jvm.Cond.methodLink "MendReader" (182 : Nat) ({ cls := "MendReader$Step", name := "behind", desc := "()I" } : Jvm.MethodName)) ∈ lw_all := lw_g (lw_at lw_m3 178 rfl) rfl
theorem q913 : (Jvm.Cond.static ({ cls := "MendReader", name := "priceOf", desc := "(LMendReader$Way;LMendReader$Step;I)I" } : Jvm.MethodName)) ∈ lw_all := lw_g (lw_at lw_m4 137 rfl) rfl
theorem q914 : (Jvm.Cond.code ({ cls := "MendReader", name := "priceOf", desc := "(LMendReader$Way;LMendReader$Step;I)I" } : Jvm.MethodName) prog_1_method_18_code (4 : Nat) (Option.some Jvm.ClassFile.FieldType.int)) ∈ lw_all := lw_g (lw_at lw_m4 138 rfl) rfl
theorem q915 : (Jvm.Cond.methodLink "MendReader" (188 : Nat) ({ cls := "MendReader$Step", name := "price", desc := "()I" } : Jvm.MethodName)) ∈ lw_all := lw_g (lw_at lw_m4 139 rfl) rfl
theorem q924 : (Jvm.Cond.fieldLinkNest "MendReader" (279 : Nat) "MendReader$Chart" "n" "I" "MendReader") ∈ lw_tbl := lw_at lw_m4 148 rfl
theorem q927 : (Jvm.Cond.fieldLinkNest "MendReader" (278 : Nat) "MendReader$Chart" "way" "LMendReader$Way;" "MendReader") ∈ lw_tbl := lw_at lw_m4 151 rfl
theorem q929 : (Jvm.Cond.fieldLinkNest "MendReader" (216 : Nat) "MendReader$Chart" "knot" "[I" "MendReader") ∈ lw_tbl := lw_at lw_m4 153 rfl
theorem q933 : (Jvm.Cond.fieldLinkNest "MendReader" (307 : Nat) "MendReader$Chart" "knots" "I" "MendReader") ∈ lw_tbl := lw_at lw_m4 157 rfl
theorem q940 : (Jvm.Cond.fieldLinkNest "MendReader" (221 : Nat) "MendReader$Chart" "skipping" "[[J" "MendReader") ∈ lw_tbl := lw_at lw_m4 164 rfl
theorem q945 : (Jvm.Cond.fieldLinkNest "MendReader" (214 : Nat) "MendReader$Chart" "tree" "[[[J" "MendReader") ∈ lw_tbl := lw_at lw_m4 169 rfl
theorem q975 : (Jvm.Cond.methodLink "MendReader" (202 : Nat) ({ cls := "MendReader$Chart", name := "fill", desc := "()V" } : Jvm.MethodName)) ∈ lw_all := lw_g (lw_at lw_m4 199 rfl) rfl
theorem q993 : (Jvm.Cond.interfaceEntry "MendReader" (205 : Nat)) ∈ lw_tbl := lw_at lw_m4 217 rfl
theorem q994 : (Jvm.Cond.methodLink "MendReader" (205 : Nat) ({ cls := "java/util/List", name := "clear", desc := "()V" } : Jvm.MethodName)) ∈ lw_all := lw_g (lw_at lw_m4 218 rfl) rfl
theorem q1002 : (Jvm.Cond.methodLink "MendReader" (211 : Nat) ({ cls := "MendReader$Chart", name := "best", desc := "()I" } : Jvm.MethodName)) ∈ lw_all := lw_g (lw_at lw_m4 226 rfl) rfl
theorem q1006 : (Jvm.Cond.constantLong "MendReader" (219 : Nat) (16777216 : Int64)) ∈ lw_all := lw_g (lw_at lw_m4 230 rfl) rfl
theorem q1007 : (Jvm.Cond.classLink "MendReader" (225 : Nat) "MendReader$Walker") ∈ lw_all := lw_g (lw_at lw_m4 231 rfl) rfl
theorem q1009 : (Jvm.Cond.methodLink "MendReader" (227 : Nat) ({ cls := "MendReader$Walker", name := "<init>", desc := "(LMendReader;LMendReader$Chart;)V" } : Jvm.MethodName)) ∈ lw_all := lw_g (lw_at lw_m4 233 rfl) rfl
theorem q1020 : (Jvm.Cond.methodLink "MendReader" (230 : Nat) ({ cls := "MendReader$Walker", name := "grow", desc := "(IIII)V" } : Jvm.MethodName)) ∈ lw_all := lw_g (lw_at lw_m5 4 rfl) rfl
theorem q1065 : (Jvm.Cond.methodLink "MendReader" (233 : Nat) ({ cls := "MendReader$Walker", name := "skip", desc := "(II)V" } : Jvm.MethodName)) ∈ lw_all := lw_g (lw_at lw_m5 49 rfl) rfl
theorem q1066 : (Jvm.Cond.methodLink "MendReader" (236 : Nat) ({ cls := "MendReader", name := "slipRows", desc := "(LMendReader$Chart;)LMendReader$Slips;" } : Jvm.MethodName)) ∈ lw_all := lw_g (lw_at lw_m5 50 rfl) rfl
theorem q1067 : (Jvm.Cond.privateMethod ({ cls := "MendReader", name := "slipRows", desc := "(LMendReader$Chart;)LMendReader$Slips;" } : Jvm.MethodName)) ∈ lw_tbl := lw_at lw_m5 51 rfl
theorem q1068 : (Jvm.Cond.instanceMethod ({ cls := "MendReader", name := "slipRows", desc := "(LMendReader$Chart;)LMendReader$Slips;" } : Jvm.MethodName)) ∈ lw_all := lw_g (lw_at lw_m5 52 rfl) rfl
theorem q1069 : (Jvm.Cond.code ({ cls := "MendReader", name := "slipRows", desc := "(LMendReader$Chart;)LMendReader$Slips;" } : Jvm.MethodName) prog_1_method_35_code (6 : Nat) (Option.some (Jvm.ClassFile.FieldType.object "MendReader$Slips"))) ∈ lw_all := lw_g (lw_at lw_m5 53 rfl) rfl
theorem q1070 : (Jvm.Cond.classLink "MendReader" (156 : Nat) "MendReader$Step") ∈ lw_all := lw_g (lw_at lw_m5 54 rfl) rfl
theorem q1071 : (Jvm.Cond.methodLink "MendReader" (275 : Nat) ({ cls := "MendReader$Step", name := "told", desc := "()I" } : Jvm.MethodName)) ∈ lw_all := lw_g (lw_at lw_m5 55 rfl) rfl
theorem q1072 : (Jvm.Cond.methodLink "MendReader" (282 : Nat) ({ cls := "MendReader", name := "priceOf", desc := "(LMendReader$Way;LMendReader$Step;I)I" } : Jvm.MethodName)) ∈ lw_all := lw_g (lw_at lw_m5 56 rfl) rfl
theorem q1074 : (Jvm.Cond.instanceMethod ({ cls := "MendReader", name := "only", desc := "(II)I" } : Jvm.MethodName)) ∈ lw_all := lw_g (lw_at lw_m5 58 rfl) rfl
theorem q1075 : (Jvm.Cond.selects "MendReader" ({ cls := "MendReader", name := "only", desc := "(II)I" } : Jvm.MethodName) ({ cls := "MendReader", name := "only", desc := "(II)I" } : Jvm.MethodName)) ∈ lw_all := lw_g (lw_at lw_m5 59 rfl) rfl
theorem q1076 : (Jvm.Cond.code ({ cls := "MendReader", name := "only", desc := "(II)I" } : Jvm.MethodName) prog_1_method_22_code (3 : Nat) (Option.some Jvm.ClassFile.FieldType.int)) ∈ lw_all := lw_g (lw_at lw_m5 60 rfl) rfl
theorem q1078 : (Jvm.Cond.instanceMethod ({ cls := "MendReader", name := "complete", desc := "()I" } : Jvm.MethodName)) ∈ lw_all := lw_g (lw_at lw_m5 62 rfl) rfl
theorem q1079 : (Jvm.Cond.selects "MendReader" ({ cls := "MendReader", name := "complete", desc := "()I" } : Jvm.MethodName) ({ cls := "MendReader", name := "complete", desc := "()I" } : Jvm.MethodName)) ∈ lw_all := lw_g (lw_at lw_m5 63 rfl) rfl
theorem q1080 : (Jvm.Cond.code ({ cls := "MendReader", name := "complete", desc := "()I" } : Jvm.MethodName) prog_1_method_23_code (1 : Nat) (Option.some Jvm.ClassFile.FieldType.int)) ∈ lw_all := lw_g (lw_at lw_m5 64 rfl) rfl
theorem q1082 : (Jvm.Cond.instanceMethod ({ cls := "MendReader", name := "begins", desc := "()I" } : Jvm.MethodName)) ∈ lw_all := lw_g (lw_at lw_m5 66 rfl) rfl
theorem q1083 : (Jvm.Cond.selects "MendReader" ({ cls := "MendReader", name := "begins", desc := "()I" } : Jvm.MethodName) ({ cls := "MendReader", name := "begins", desc := "()I" } : Jvm.MethodName)) ∈ lw_all := lw_g (lw_at lw_m5 67 rfl) rfl
theorem q1084 : (Jvm.Cond.code ({ cls := "MendReader", name := "begins", desc := "()I" } : Jvm.MethodName) prog_1_method_24_code (1 : Nat) (Option.some Jvm.ClassFile.FieldType.int)) ∈ lw_all := lw_g (lw_at lw_m5 68 rfl) rfl
theorem q1086 : (Jvm.Cond.instanceMethod ({ cls := "MendReader", name := "wanted", desc := "(I)I" } : Jvm.MethodName)) ∈ lw_all := lw_g (lw_at lw_m5 70 rfl) rfl
theorem q1087 : (Jvm.Cond.selects "MendReader" ({ cls := "MendReader", name := "wanted", desc := "(I)I" } : Jvm.MethodName) ({ cls := "MendReader", name := "wanted", desc := "(I)I" } : Jvm.MethodName)) ∈ lw_all := lw_g (lw_at lw_m5 71 rfl) rfl
theorem q1088 : (Jvm.Cond.code ({ cls := "MendReader", name := "wanted", desc := "(I)I" } : Jvm.MethodName) prog_1_method_25_code (3 : Nat) (Option.some Jvm.ClassFile.FieldType.int)) ∈ lw_all := lw_g (lw_at lw_m5 72 rfl) rfl
theorem q1090 : (Jvm.Cond.instanceMethod ({ cls := "MendReader", name := "stretch", desc := "(III)I" } : Jvm.MethodName)) ∈ lw_all := lw_g (lw_at lw_m5 74 rfl) rfl
theorem q1091 : (Jvm.Cond.selects "MendReader" ({ cls := "MendReader", name := "stretch", desc := "(III)I" } : Jvm.MethodName) ({ cls := "MendReader", name := "stretch", desc := "(III)I" } : Jvm.MethodName)) ∈ lw_all := lw_g (lw_at lw_m5 75 rfl) rfl
theorem q1092 : (Jvm.Cond.code ({ cls := "MendReader", name := "stretch", desc := "(III)I" } : Jvm.MethodName) prog_1_method_26_code (7 : Nat) (Option.some Jvm.ClassFile.FieldType.int)) ∈ lw_all := lw_g (lw_at lw_m5 76 rfl) rfl
theorem q1093 : (Jvm.Cond.constantLong "MendReader" (244 : Nat) (1152921504606846976 : Int64)) ∈ lw_all := lw_g (lw_at lw_m5 77 rfl) rfl
theorem q1095 : (Jvm.Cond.instanceMethod ({ cls := "MendReader", name := "told", desc := "(I)I" } : Jvm.MethodName)) ∈ lw_all := lw_g (lw_at lw_m5 79 rfl) rfl
theorem q1096 : (Jvm.Cond.selects "MendReader" ({ cls := "MendReader", name := "told", desc := "(I)I" } : Jvm.MethodName) ({ cls := "MendReader", name := "told", desc := "(I)I" } : Jvm.MethodName)) ∈ lw_all := lw_g (lw_at lw_m5 80 rfl) rfl
theorem q1097 : (Jvm.Cond.code ({ cls := "MendReader", name := "told", desc := "(I)I" } : Jvm.MethodName) prog_1_method_27_code (2 : Nat) (Option.some Jvm.ClassFile.FieldType.int)) ∈ lw_all := lw_g (lw_at lw_m5 81 rfl) rfl
theorem q1099 : (Jvm.Cond.instanceMethod ({ cls := "MendReader", name := "slip", desc := "(II)I" } : Jvm.MethodName)) ∈ lw_all := lw_g (lw_at lw_m5 83 rfl) rfl
theorem q1100 : (Jvm.Cond.selects "MendReader" ({ cls := "MendReader", name := "slip", desc := "(II)I" } : Jvm.MethodName) ({ cls := "MendReader", name := "slip", desc := "(II)I" } : Jvm.MethodName)) ∈ lw_all := lw_g (lw_at lw_m5 84 rfl) rfl
theorem q1101 : (Jvm.Cond.code ({ cls := "MendReader", name := "slip", desc := "(II)I" } : Jvm.MethodName) prog_1_method_28_code (3 : Nat) (Option.some Jvm.ClassFile.FieldType.int)) ∈ lw_all := lw_g (lw_at lw_m5 85 rfl) rfl
theorem q1102 : (Jvm.Cond.constantLong "MendReader" (247 : Nat) (3 : Int64)) ∈ lw_all := lw_g (lw_at lw_m5 86 rfl) rfl
theorem q1104 : (Jvm.Cond.instanceMethod ({ cls := "MendReader", name := "word", desc := "(I)I" } : Jvm.MethodName)) ∈ lw_all := lw_g (lw_at lw_m5 88 rfl) rfl
theorem q1105 : (Jvm.Cond.selects "MendReader" ({ cls := "MendReader", name := "word", desc := "(I)I" } : Jvm.MethodName) ({ cls := "MendReader", name := "word", desc := "(I)I" } : Jvm.MethodName)) ∈ lw_all := lw_g (lw_at lw_m5 89 rfl) rfl
theorem q1106 : (Jvm.Cond.code ({ cls := "MendReader", name := "word", desc := "(I)I" } : Jvm.MethodName) prog_1_method_29_code (2 : Nat) (Option.some Jvm.ClassFile.FieldType.int)) ∈ lw_all := lw_g (lw_at lw_m5 90 rfl) rfl
theorem q1108 : (Jvm.Cond.instanceMethod ({ cls := "MendReader", name := "node", desc := "(II)I" } : Jvm.MethodName)) ∈ lw_all := lw_g (lw_at lw_m5 92 rfl) rfl
theorem q1109 : (Jvm.Cond.selects "MendReader" ({ cls := "MendReader", name := "node", desc := "(II)I" } : Jvm.MethodName) ({ cls := "MendReader", name := "node", desc := "(II)I" } : Jvm.MethodName)) ∈ lw_all := lw_g (lw_at lw_m5 93 rfl) rfl
theorem q1110 : (Jvm.Cond.code ({ cls := "MendReader", name := "node", desc := "(II)I" } : Jvm.MethodName) prog_1_method_30_code (3 : Nat) (Option.some Jvm.ClassFile.FieldType.int)) ∈ lw_all := lw_g (lw_at lw_m5 94 rfl) rfl
theorem q1112 : (Jvm.Cond.instanceMethod ({ cls := "MendReader", name := "sure", desc := "(I)I" } : Jvm.MethodName)) ∈ lw_all := lw_g (lw_at lw_m5 96 rfl) rfl
theorem q1113 : (Jvm.Cond.selects "MendReader" ({ cls := "MendReader", name := "sure", desc := "(I)I" } : Jvm.MethodName) ({ cls := "MendReader", name := "sure", desc := "(I)I" } : Jvm.MethodName)) ∈ lw_all := lw_g (lw_at lw_m5 97 rfl) rfl
theorem q1114 : (Jvm.Cond.code ({ cls := "MendReader", name := "sure", desc := "(I)I" } : Jvm.MethodName) prog_1_method_31_code (6 : Nat) (Option.some Jvm.ClassFile.FieldType.int)) ∈ lw_all := lw_g (lw_at lw_m5 98 rfl) rfl
theorem q1116 : (Jvm.Cond.instanceMethod ({ cls := "MendReader", name := "shelve", desc := "(II)I" } : Jvm.MethodName)) ∈ lw_all := lw_g (lw_at lw_m5 100 rfl) rfl
theorem q1117 : (Jvm.Cond.selects "MendReader" ({ cls := "MendReader", name := "shelve", desc := "(II)I" } : Jvm.MethodName) ({ cls := "MendReader", name := "shelve", desc := "(II)I" } : Jvm.MethodName)) ∈ lw_all := lw_g (lw_at lw_m5 101 rfl) rfl
theorem q1118 : (Jvm.Cond.code ({ cls := "MendReader", name := "shelve", desc := "(II)I" } : Jvm.MethodName) prog_1_method_34_code (3 : Nat) (Option.some Jvm.ClassFile.FieldType.int)) ∈ lw_all := lw_g (lw_at lw_m5 102 rfl) rfl
theorem q1119 : (Jvm.Cond.methodLink "MendReader" (256 : Nat) ({ cls := "MendReader", name := "isShelf", desc := "(I)Z" } : Jvm.MethodName)) ∈ lw_all := lw_g (lw_at lw_m5 103 rfl) rfl
theorem q1120 : (Jvm.Cond.privateMethod ({ cls := "MendReader", name := "isShelf", desc := "(I)Z" } : Jvm.MethodName)) ∈ lw_tbl := lw_at lw_m5 104 rfl
theorem q1121 : (Jvm.Cond.instanceMethod ({ cls := "MendReader", name := "isShelf", desc := "(I)Z" } : Jvm.MethodName)) ∈ lw_all := lw_g (lw_at lw_m5 105 rfl) rfl
theorem q1122 : (Jvm.Cond.code ({ cls := "MendReader", name := "isShelf", desc := "(I)Z" } : Jvm.MethodName) prog_1_method_32_code (2 : Nat) (Option.some Jvm.ClassFile.FieldType.boolean)) ∈ lw_all := lw_g (lw_at lw_m5 106 rfl) rfl
theorem q1123 : (Jvm.Cond.constantLong "MendReader" (253 : Nat) (5 : Int64)) ∈ lw_all := lw_g (lw_at lw_m5 107 rfl) rfl
theorem q1124 : (Jvm.Cond.methodLink "MendReader" (259 : Nat) ({ cls := "MendReader", name := "shelf", desc := "(I)LMendReader$Shelf;" } : Jvm.MethodName)) ∈ lw_all := lw_g (lw_at lw_m5 108 rfl) rfl
theorem q1125 : (Jvm.Cond.privateMethod ({ cls := "MendReader", name := "shelf", desc := "(I)LMendReader$Shelf;" } : Jvm.MethodName)) ∈ lw_tbl := lw_at lw_m5 109 rfl
theorem q1126 : (Jvm.Cond.instanceMethod ({ cls := "MendReader", name := "shelf", desc := "(I)LMendReader$Shelf;" } : Jvm.MethodName)) ∈ lw_all := lw_g (lw_at lw_m5 110 rfl) rfl
theorem q1127 : (Jvm.Cond.code ({ cls := "MendReader", name := "shelf", desc := "(I)LMendReader$Shelf;" } : Jvm.MethodName) prog_1_method_33_code (2 : Nat) (Option.some (Jvm.ClassFile.FieldType.object "MendReader$Shelf"))) ∈ lw_all := lw_g (lw_at lw_m5 111 rfl) rfl
theorem q1129 : (Jvm.Cond.methodLinkNest "MendReader" (255 : Nat) ({ cls := "MendReader$Shelf", name := "<init>", desc := "()V" } : Jvm.MethodName) "MendReader") ∈ lw_tbl := lw_at lw_m5 113 rfl
theorem q1133 : (Jvm.Cond.fieldLinkNest "MendReader" (271 : Nat) "MendReader$Shelf" "thing" "Ljava/lang/Object;" "MendReader") ∈ lw_tbl := lw_at lw_m5 117 rfl
theorem q1137 : (Jvm.Cond.methodLink "MendReader" (263 : Nat) ({ cls := "MendReader", name := "cut", desc := "([II)[I" } : Jvm.MethodName)) ∈ lw_all := lw_g (lw_at lw_m5 121 rfl) rfl
theorem q1138 : (Jvm.Cond.static ({ cls := "MendReader", name := "cut", desc := "([II)[I" } : Jvm.MethodName)) ∈ lw_all := lw_g (lw_at lw_m5 122 rfl) rfl
theorem q1139 : (Jvm.Cond.code ({ cls := "MendReader", name := "cut", desc := "([II)[I" } : Jvm.MethodName) prog_1_method_19_code (3 : Nat) (Option.some (Jvm.ClassFile.FieldType.array Jvm.ClassFile.FieldType.int))) ∈ lw_all := lw_g (lw_at lw_m5 123 rfl) rfl
theorem q1140 : (Jvm.Cond.methodLink "MendReader" (267 : Nat) ({ cls := "MendReader$Tree", name := "twin", desc := "()LMendReader$Tree;" } : Jvm.MethodName)) ∈ lw_all := lw_g (lw_at lw_m5 124 rfl) rfl
theorem q1148 : (Jvm.Cond.instanceMethod ({ cls := "MendReader", name := "rowAt", desc := "(II)I" } : Jvm.MethodName)) ∈ lw_all := lw_g (lw_at lw_m5 132 rfl) rfl
theorem q1149 : (Jvm.Cond.selects "MendReader" ({ cls := "MendReader", name := "rowAt", desc := "(II)I" } : Jvm.MethodName) ({ cls := "MendReader", name := "rowAt", desc := "(II)I" } : Jvm.MethodName)) ∈ lw_all := lw_g (lw_at lw_m5 133 rfl) rfl
theorem q1150 : (Jvm.Cond.code ({ cls := "MendReader", name := "rowAt", desc := "(II)I" } : Jvm.MethodName) prog_1_method_38_code (3 : Nat) (Option.some Jvm.ClassFile.FieldType.int)) ∈ lw_all := lw_g (lw_at lw_m5 134 rfl) rfl
theorem q1151 : (Jvm.Cond.methodLink "MendReader" (299 : Nat) ({ cls := "MendReader", name := "act", desc := "(IIII)I" } : Jvm.MethodName)) ∈ lw_all := lw_g (lw_at lw_m5 135 rfl) rfl
theorem q1152 : (Jvm.Cond.privateMethod ({ cls := "MendReader", name := "act", desc := "(IIII)I" } : Jvm.MethodName)) ∈ lw_tbl := lw_at lw_m5 136 rfl
theorem q1153 : (Jvm.Cond.instanceMethod ({ cls := "MendReader", name := "act", desc := "(IIII)I" } : Jvm.MethodName)) ∈ lw_all := lw_g (lw_at lw_m5 137 rfl) rfl
theorem q1154 : (Jvm.Cond.codeWith ({ cls := "MendReader", name := "act", desc := "(IIII)I" } : Jvm.MethodName) prog_1_method_36_code (7 : Nat) (Option.some Jvm.ClassFile.FieldType.int) [((10 : Nat), (78 : Nat), (79 : Nat), (291 : Nat)), ((10 : Nat), (78 : Nat), (84 : Nat), (293 : Nat)), ((10 : Nat), (78 : Nat), (89 : Nat), (295 : Nat)), ((10 : Nat), (78 : Nat), (94 : Nat), (297 : Nat))]) ∈ lw_all := lw_g (lw_at lw_m5 138 rfl) rfl
theorem q1155 : (Jvm.Cond.classLink "MendReader" (291 : Nat) "java/lang/NullPointerException") ∈ lw_all := lw_g (lw_at lw_m5 139 rfl) rfl
theorem q1237 : (Jvm.Cond.classLink "MendReader" (293 : Nat) "java/lang/IndexOutOfBoundsException") ∈ lw_all := lw_g (lw_at lw_m5 221 rfl) rfl
theorem q1270 : (Jvm.Cond.classLink "MendReader" (295 : Nat) "java/lang/ClassCastException") ∈ lw_all := lw_g (lw_at lw_m6 14 rfl) rfl
theorem q1284 : (Jvm.Cond.classLink "MendReader" (297 : Nat) "java/lang/NegativeArraySizeException") ∈ lw_all := lw_g (lw_at lw_m6 28 rfl) rfl
theorem q1298 : (Jvm.Cond.classLink "MendReader" (286 : Nat) "[I") ∈ lw_all := lw_g (lw_at lw_m6 42 rfl) rfl
theorem q1299 : (Jvm.Cond.methodLink "MendReader" (287 : Nat) ({ cls := "MendReader", name := "pasted", desc := "([III)I" } : Jvm.MethodName)) ∈ lw_all := lw_g (lw_at lw_m6 43 rfl) rfl
theorem q1300 : (Jvm.Cond.privateMethod ({ cls := "MendReader", name := "pasted", desc := "([III)I" } : Jvm.MethodName)) ∈ lw_tbl := lw_at lw_m6 44 rfl
theorem q1301 : (Jvm.Cond.instanceMethod ({ cls := "MendReader", name := "pasted", desc := "([III)I" } : Jvm.MethodName)) ∈ lw_all := lw_g (lw_at lw_m6 45 rfl) rfl
theorem q1302 : (Jvm.Cond.code ({ cls := "MendReader", name := "pasted", desc := "([III)I" } : Jvm.MethodName) prog_1_method_37_code (5 : Nat) (Option.some Jvm.ClassFile.FieldType.int)) ∈ lw_all := lw_g (lw_at lw_m6 46 rfl) rfl
theorem q1304 : (Jvm.Cond.instanceMethod ({ cls := "MendReader", name := "treeAt", desc := "(III)I" } : Jvm.MethodName)) ∈ lw_all := lw_g (lw_at lw_m6 48 rfl) rfl
theorem q1305 : (Jvm.Cond.selects "MendReader" ({ cls := "MendReader", name := "treeAt", desc := "(III)I" } : Jvm.MethodName) ({ cls := "MendReader", name := "treeAt", desc := "(III)I" } : Jvm.MethodName)) ∈ lw_all := lw_g (lw_at lw_m6 49 rfl) rfl
theorem q1306 : (Jvm.Cond.code ({ cls := "MendReader", name := "treeAt", desc := "(III)I" } : Jvm.MethodName) prog_1_method_39_code (4 : Nat) (Option.some Jvm.ClassFile.FieldType.int)) ∈ lw_all := lw_g (lw_at lw_m6 50 rfl) rfl
theorem q1308 : (Jvm.Cond.instanceMethod ({ cls := "MendReader", name := "slipAt", desc := "(III)I" } : Jvm.MethodName)) ∈ lw_all := lw_g (lw_at lw_m6 52 rfl) rfl
theorem q1309 : (Jvm.Cond.selects "MendReader" ({ cls := "MendReader", name := "slipAt", desc := "(III)I" } : Jvm.MethodName) ({ cls := "MendReader", name := "slipAt", desc := "(III)I" } : Jvm.MethodName)) ∈ lw_all := lw_g (lw_at lw_m6 53 rfl) rfl
theorem q1310 : (Jvm.Cond.code ({ cls := "MendReader", name := "slipAt", desc := "(III)I" } : Jvm.MethodName) prog_1_method_40_code (4 : Nat) (Option.some Jvm.ClassFile.FieldType.int)) ∈ lw_all := lw_g (lw_at lw_m6 54 rfl) rfl
theorem q1312 : (Jvm.Cond.instanceMethod ({ cls := "MendReader", name := "paste", desc := "(III)I" } : Jvm.MethodName)) ∈ lw_all := lw_g (lw_at lw_m6 56 rfl) rfl
theorem q1313 : (Jvm.Cond.selects "MendReader" ({ cls := "MendReader", name := "paste", desc := "(III)I" } : Jvm.MethodName) ({ cls := "MendReader", name := "paste", desc := "(III)I" } : Jvm.MethodName)) ∈ lw_all := lw_g (lw_at lw_m6 57 rfl) rfl
theorem q1314 : (Jvm.Cond.code ({ cls := "MendReader", name := "paste", desc := "(III)I" } : Jvm.MethodName) prog_1_method_41_code (4 : Nat) (Option.some Jvm.ClassFile.FieldType.int)) ∈ lw_all := lw_g (lw_at lw_m6 58 rfl) rfl
theorem q1316 : (Jvm.Cond.instanceMethod ({ cls := "MendReader", name := "distance", desc := "(I)I" } : Jvm.MethodName)) ∈ lw_all := lw_g (lw_at lw_m6 60 rfl) rfl
theorem q1317 : (Jvm.Cond.selects "MendReader" ({ cls := "MendReader", name := "distance", desc := "(I)I" } : Jvm.MethodName) ({ cls := "MendReader", name := "distance", desc := "(I)I" } : Jvm.MethodName)) ∈ lw_all := lw_g (lw_at lw_m6 61 rfl) rfl
theorem q1318 : (Jvm.Cond.codeWith ({ cls := "MendReader", name := "distance", desc := "(I)I" } : Jvm.MethodName) prog_1_method_42_code (6 : Nat) (Option.some Jvm.ClassFile.FieldType.int) [((10 : Nat), (75 : Nat), (76 : Nat), (291 : Nat)), ((10 : Nat), (75 : Nat), (80 : Nat), (295 : Nat))]) ∈ lw_all := lw_g (lw_at lw_m6 62 rfl) rfl
theorem q1319 : (Jvm.Cond.methodLink "MendReader" (303 : Nat) ({ cls := "MendReader$Chart", name := "along", desc := "([I)J" } : Jvm.MethodName)) ∈ lw_all := lw_g (lw_at lw_m6 63 rfl) rfl
theorem q1324 : (Jvm.Cond.instanceMethod ({ cls := "MendReader", name := "count", desc := "(I)I" } : Jvm.MethodName)) ∈ lw_all := lw_g (lw_at lw_m6 68 rfl) rfl
theorem q1325 : (Jvm.Cond.selects "MendReader" ({ cls := "MendReader", name := "count", desc := "(I)I" } : Jvm.MethodName) ({ cls := "MendReader", name := "count", desc := "(I)I" } : Jvm.MethodName)) ∈ lw_all := lw_g (lw_at lw_m6 69 rfl) rfl
theorem q1326 : (Jvm.Cond.code ({ cls := "MendReader", name := "count", desc := "(I)I" } : Jvm.MethodName) prog_1_method_43_code (2 : Nat) (Option.some Jvm.ClassFile.FieldType.int)) ∈ lw_all := lw_g (lw_at lw_m6 70 rfl) rfl
theorem q1773 : (Jvm.Cond.castable "MendReader" "java/lang/Object") ∈ lw_tbl := lw_at lw_m8 37 rfl
theorem in_X0 : ∀ w ∈ wsX00, w ∈ lw_all := lw_in wsX00 [214, 216, 218, 220, 222, 224, 226, 228, 230, 232, 234, 236, 238, 240, 242, 244, 246, 248, 250, 252, 254, 256, 258, 260] (by decide +kernel) (by decide +kernel)
