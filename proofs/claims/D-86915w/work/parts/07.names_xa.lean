/-! MendReader$Tree -/
set_option maxRecDepth 100000
def RX1 : String := "MendReader$Tree"
def TX1 : u_T := fun k => match k with
  | 0 => ("MendReader$Tree", "cells", "[[I", true)
  | _ => ("MendReader$Tree", "size", "I", false)
def tyX1 : Nat → FieldType := fun k => match k with
  | 0 => .array (.array .int)
  | _ => .int
abbrev wsX10 : List Cond := u_ws RX1 TX1 2
theorem nmX1 : ∀ a, a < 2 → ∀ b, b < 2 → a ≠ b → (TX1 a).2.1 ≠ (TX1 b).2.1 := by decide +kernel
theorem tyX1_ok : ∀ k, k < 2 → parseFieldDescriptor (TX1 k).2.2.1 = some (tyX1 k) := by decide +kernel
abbrev cX1_init : ByteArray := prog_14_method_1_code
def yX1_init : MethodName := ⟨RX1, "<init>", "()V"⟩
def dkwX1_init_0 : List UInt8 := [42, 183, 0, 3, 42, 8, 16, 100, 197, 0, 9, 2, 181, 0, 11, 177]
abbrev dktX1_init_0 : List UInt8 := dkwX1_init_0 ++ []
theorem dksX1_init_0 : cX1_init.data.toList.drop 0 = dktX1_init_0 := by decide +kernel
theorem dX1_init_0 : decode cX1_init 0 = .ok (.aload_n 0, 1) := dk_42 (dk_at dksX1_init_0 0 rfl rfl)
theorem dX1_init_1 : decode cX1_init 1 = .ok (.invokespecial 3, 3) := dk_183 0 3 (dk_at dksX1_init_0 1 rfl rfl)
theorem dX1_init_4 : decode cX1_init 4 = .ok (.aload_n 0, 1) := dk_42 (dk_at dksX1_init_0 4 rfl rfl)
theorem dX1_init_5 : decode cX1_init 5 = .ok (.iconst 5, 1) := dk_8 (dk_at dksX1_init_0 5 rfl rfl)
theorem dX1_init_6 : decode cX1_init 6 = .ok (.bipush 100, 2) := dk_16 100 (dk_at dksX1_init_0 6 rfl rfl)
theorem dX1_init_8 : decode cX1_init 8 = .ok (.multianewarray 9 2, 4) := by decide +kernel
theorem dX1_init_12 : decode cX1_init 12 = .ok (.putfield 11, 3) := dk_181 0 11 (dk_at dksX1_init_0 12 rfl rfl)
theorem dX1_init_15 : decode cX1_init 15 = .ok (.return_, 1) := dk_177 (dk_at dksX1_init_0 15 rfl rfl)
abbrev cX1_twin : ByteArray := prog_14_method_2_code
def yX1_twin : MethodName := ⟨RX1, "twin", "()LMendReader$Tree;"⟩
def dkwX1_twin_2 : List UInt8 := [43, 176]
abbrev dktX1_twin_2 : List UInt8 := dkwX1_twin_2 ++ []
def dkwX1_twin_1 : List UInt8 := [180, 0, 11, 28, 42, 180, 0, 11, 28, 50, 42, 180, 0, 17, 184, 0, 21, 83, 132, 2, 1, 167, 255, 229]
abbrev dktX1_twin_1 : List UInt8 := dkwX1_twin_1 ++ dktX1_twin_2
def dkwX1_twin_0 : List UInt8 := [187, 0, 12, 89, 183, 0, 16, 76, 43, 42, 180, 0, 17, 181, 0, 17, 3, 61, 28, 8, 162, 0, 28, 43]
abbrev dktX1_twin_0 : List UInt8 := dkwX1_twin_0 ++ dktX1_twin_1
theorem dksX1_twin_0 : cX1_twin.data.toList.drop 0 = dktX1_twin_0 := by decide +kernel
theorem dksX1_twin_1 : cX1_twin.data.toList.drop 24 = dktX1_twin_1 := dk_seg dksX1_twin_0 24 rfl rfl
theorem dksX1_twin_2 : cX1_twin.data.toList.drop 48 = dktX1_twin_2 := dk_seg dksX1_twin_1 24 rfl rfl
theorem dX1_twin_0 : decode cX1_twin 0 = .ok (.new 12, 3) := dk_187 0 12 (dk_at dksX1_twin_0 0 rfl rfl)
theorem dX1_twin_3 : decode cX1_twin 3 = .ok (.dup, 1) := dk_89 (dk_at dksX1_twin_0 3 rfl rfl)
theorem dX1_twin_4 : decode cX1_twin 4 = .ok (.invokespecial 16, 3) := dk_183 0 16 (dk_at dksX1_twin_0 4 rfl rfl)
theorem dX1_twin_7 : decode cX1_twin 7 = .ok (.astore_n 1, 1) := dk_76 (dk_at dksX1_twin_0 7 rfl rfl)
theorem dX1_twin_8 : decode cX1_twin 8 = .ok (.aload_n 1, 1) := dk_43 (dk_at dksX1_twin_0 8 rfl rfl)
theorem dX1_twin_9 : decode cX1_twin 9 = .ok (.aload_n 0, 1) := dk_42 (dk_at dksX1_twin_0 9 rfl rfl)
theorem dX1_twin_10 : decode cX1_twin 10 = .ok (.getfield 17, 3) := dk_180 0 17 (dk_at dksX1_twin_0 10 rfl rfl)
theorem dX1_twin_13 : decode cX1_twin 13 = .ok (.putfield 17, 3) := dk_181 0 17 (dk_at dksX1_twin_0 13 rfl rfl)
theorem dX1_twin_16 : decode cX1_twin 16 = .ok (.iconst 0, 1) := dk_3 (dk_at dksX1_twin_0 16 rfl rfl)
theorem dX1_twin_17 : decode cX1_twin 17 = .ok (.istore_n 2, 1) := dk_61 (dk_at dksX1_twin_0 17 rfl rfl)
theorem dX1_twin_18 : decode cX1_twin 18 = .ok (.iload_n 2, 1) := dk_28 (dk_at dksX1_twin_0 18 rfl rfl)
theorem dX1_twin_19 : decode cX1_twin 19 = .ok (.iconst 5, 1) := dk_8 (dk_at dksX1_twin_0 19 rfl rfl)
theorem dX1_twin_20 : decode cX1_twin 20 = .ok (.if_icmp .ge 28, 3) := dk_162 0 28 (dk_at dksX1_twin_0 20 rfl rfl)
theorem dX1_twin_23 : decode cX1_twin 23 = .ok (.aload_n 1, 1) := dk_43 (dk_at dksX1_twin_0 23 rfl rfl)
theorem dX1_twin_24 : decode cX1_twin 24 = .ok (.getfield 11, 3) := dk_180 0 11 (dk_at dksX1_twin_1 0 rfl rfl)
theorem dX1_twin_27 : decode cX1_twin 27 = .ok (.iload_n 2, 1) := dk_28 (dk_at dksX1_twin_1 3 rfl rfl)
theorem dX1_twin_28 : decode cX1_twin 28 = .ok (.aload_n 0, 1) := dk_42 (dk_at dksX1_twin_1 4 rfl rfl)
theorem dX1_twin_29 : decode cX1_twin 29 = .ok (.getfield 11, 3) := dk_180 0 11 (dk_at dksX1_twin_1 5 rfl rfl)
theorem dX1_twin_32 : decode cX1_twin 32 = .ok (.iload_n 2, 1) := dk_28 (dk_at dksX1_twin_1 8 rfl rfl)
theorem dX1_twin_33 : decode cX1_twin 33 = .ok (.aaload, 1) := dk_50 (dk_at dksX1_twin_1 9 rfl rfl)
theorem dX1_twin_34 : decode cX1_twin 34 = .ok (.aload_n 0, 1) := dk_42 (dk_at dksX1_twin_1 10 rfl rfl)
theorem dX1_twin_35 : decode cX1_twin 35 = .ok (.getfield 17, 3) := dk_180 0 17 (dk_at dksX1_twin_1 11 rfl rfl)
theorem dX1_twin_38 : decode cX1_twin 38 = .ok (.invokestatic 21, 3) := dk_184 0 21 (dk_at dksX1_twin_1 14 rfl rfl)
theorem dX1_twin_41 : decode cX1_twin 41 = .ok (.aastore, 1) := dk_83 (dk_at dksX1_twin_1 17 rfl rfl)
theorem dX1_twin_42 : decode cX1_twin 42 = .ok (.iinc 2 1, 3) := dk_132 2 1 (dk_at dksX1_twin_1 18 rfl rfl)
theorem dX1_twin_45 : decode cX1_twin 45 = .ok (.goto (-27), 3) := dk_167 255 229 (dk_at dksX1_twin_1 21 rfl rfl)
theorem dX1_twin_48 : decode cX1_twin 48 = .ok (.aload_n 1, 1) := dk_43 (dk_at dksX1_twin_2 0 rfl rfl)
theorem dX1_twin_49 : decode cX1_twin 49 = .ok (.areturn, 1) := dk_176 (dk_at dksX1_twin_2 1 rfl rfl)
theorem q61 : (Jvm.Cond.initialized "MendReader$Tree") ∈ lw_all := lw_g (lw_at lw_m1 5 rfl) rfl
theorem q135 : (Jvm.Cond.instantiable "MendReader$Tree" (2 : Nat)) ∈ lw_all := lw_g (lw_at lw_m1 79 rfl) rfl
theorem q137 : (Jvm.Cond.instanceMethod ({ cls := "MendReader$Tree", name := "<init>", desc := "()V" } : Jvm.MethodName)) ∈ lw_all := lw_g (lw_at lw_m1 81 rfl) rfl
theorem q138 : (Jvm.Cond.code ({ cls := "MendReader$Tree", name := "<init>", desc := "()V" } : Jvm.MethodName) prog_14_method_1_code (1 : Nat) (Option.none : Option Jvm.ClassFile.FieldType)) ∈ lw_all := lw_g (lw_at lw_m1 82 rfl) rfl
theorem q139 : (Jvm.Cond.methodLink "MendReader$Tree" (3 : Nat) ({ cls := "java/lang/Object", name := "<init>", desc := "()V" } : Jvm.MethodName)) ∈ lw_all := lw_g (lw_at lw_m1 83 rfl) rfl
theorem q140 : (Jvm.Cond.classLink "MendReader$Tree" (9 : Nat) "[[I") ∈ lw_all := lw_g (lw_at lw_m1 84 rfl) rfl
theorem q141 : (Jvm.Cond.fieldLink "MendReader$Tree" (11 : Nat) "MendReader$Tree" "cells" "[[I") ∈ lw_all := lw_g (lw_at lw_m1 85 rfl) rfl
theorem q144 : (Jvm.Cond.fieldLink "MendReader$Tree" (17 : Nat) "MendReader$Tree" "size" "I") ∈ lw_all := lw_g (lw_at lw_m1 88 rfl) rfl
theorem q147 : (Jvm.Cond.laysFinal "MendReader$Tree" "MendReader$Tree" "cells" "[[I") ∈ lw_all := lw_g (lw_at lw_m1 91 rfl) rfl
theorem q148 : (Jvm.Cond.soleField "MendReader$Tree" "cells") ∈ lw_all := lw_g (lw_at lw_m1 92 rfl) rfl
theorem q149 : (Jvm.Cond.lays "MendReader$Tree" "MendReader$Tree" "size" "I") ∈ lw_all := lw_g (lw_at lw_m1 93 rfl) rfl
theorem q150 : (Jvm.Cond.soleField "MendReader$Tree" "size") ∈ lw_all := lw_g (lw_at lw_m1 94 rfl) rfl
theorem q151 : (Jvm.Cond.superclass "MendReader$Tree" "java/lang/Object") ∈ lw_all := lw_g (lw_at lw_m1 95 rfl) rfl
theorem q375 : (Jvm.Cond.selects "MendReader$Tree" ({ cls := "java/lang/Object", name := "getClass", desc := "()Ljava/lang/Class;" } : Jvm.MethodName) ({ cls := "java/lang/Object", name := "getClass", desc := "()Ljava/lang/Class;" } : Jvm.MethodName)) ∈ lw_all := lw_g (lw_at lw_m2 79 rfl) rfl
theorem q1141 : (Jvm.Cond.instanceMethod ({ cls := "MendReader$Tree", name := "twin", desc := "()LMendReader$Tree;" } : Jvm.MethodName)) ∈ lw_all := lw_g (lw_at lw_m5 125 rfl) rfl
theorem q1142 : (Jvm.Cond.selects "MendReader$Tree" ({ cls := "MendReader$Tree", name := "twin", desc := "()LMendReader$Tree;" } : Jvm.MethodName) ({ cls := "MendReader$Tree", name := "twin", desc := "()LMendReader$Tree;" } : Jvm.MethodName)) ∈ lw_all := lw_g (lw_at lw_m5 126 rfl) rfl
theorem q1143 : (Jvm.Cond.code ({ cls := "MendReader$Tree", name := "twin", desc := "()LMendReader$Tree;" } : Jvm.MethodName) prog_14_method_2_code (3 : Nat) (Option.some (Jvm.ClassFile.FieldType.object "MendReader$Tree"))) ∈ lw_all := lw_g (lw_at lw_m5 127 rfl) rfl
theorem q1144 : (Jvm.Cond.classLink "MendReader$Tree" (12 : Nat) "MendReader$Tree") ∈ lw_all := lw_g (lw_at lw_m5 128 rfl) rfl
theorem q1145 : (Jvm.Cond.methodLink "MendReader$Tree" (16 : Nat) ({ cls := "MendReader$Tree", name := "<init>", desc := "()V" } : Jvm.MethodName)) ∈ lw_all := lw_g (lw_at lw_m5 129 rfl) rfl
theorem q1146 : (Jvm.Cond.methodLinkNest "MendReader$Tree" (21 : Nat) ({ cls := "MendReader", name := "cut", desc := "([II)[I" } : Jvm.MethodName) "MendReader") ∈ lw_tbl := lw_at lw_m5 130 rfl
theorem q1775 : (Jvm.Cond.castable "MendReader$Tree" "java/lang/Object") ∈ lw_tbl := lw_at lw_m8 39 rfl
theorem in_X1 : ∀ w ∈ wsX10, w ∈ lw_all := lw_in wsX10 [147, 149] (by decide +kernel) (by decide +kernel)
/-! MendReader$Slips -/
set_option maxRecDepth 100000
def RX2 : String := "MendReader$Slips"
def TX2 : u_T := fun k => match k with
  | _ => ("MendReader$Slips", "cells", "[[I", true)
def tyX2 : Nat → FieldType := fun k => match k with
  | _ => .array (.array .int)
abbrev wsX20 : List Cond := u_ws RX2 TX2 1
theorem nmX2 : ∀ a, a < 1 → ∀ b, b < 1 → a ≠ b → (TX2 a).2.1 ≠ (TX2 b).2.1 := by decide +kernel
theorem tyX2_ok : ∀ k, k < 1 → parseFieldDescriptor (TX2 k).2.2.1 = some (tyX2 k) := by decide +kernel
abbrev cX2_init : ByteArray := prog_11_method_1_code
def yX2_init : MethodName := ⟨RX2, "<init>", "()V"⟩
def dkwX2_init_0 : List UInt8 := [42, 183, 0, 1, 42, 7, 3, 197, 0, 7, 2, 181, 0, 9, 177]
abbrev dktX2_init_0 : List UInt8 := dkwX2_init_0 ++ []
theorem dksX2_init_0 : cX2_init.data.toList.drop 0 = dktX2_init_0 := by decide +kernel
theorem dX2_init_0 : decode cX2_init 0 = .ok (.aload_n 0, 1) := dk_42 (dk_at dksX2_init_0 0 rfl rfl)
theorem dX2_init_1 : decode cX2_init 1 = .ok (.invokespecial 1, 3) := dk_183 0 1 (dk_at dksX2_init_0 1 rfl rfl)
theorem dX2_init_4 : decode cX2_init 4 = .ok (.aload_n 0, 1) := dk_42 (dk_at dksX2_init_0 4 rfl rfl)
theorem dX2_init_5 : decode cX2_init 5 = .ok (.iconst 4, 1) := dk_7 (dk_at dksX2_init_0 5 rfl rfl)
theorem dX2_init_6 : decode cX2_init 6 = .ok (.iconst 0, 1) := dk_3 (dk_at dksX2_init_0 6 rfl rfl)
theorem dX2_init_7 : decode cX2_init 7 = .ok (.multianewarray 7 2, 4) := by decide +kernel
theorem dX2_init_11 : decode cX2_init 11 = .ok (.putfield 9, 3) := dk_181 0 9 (dk_at dksX2_init_0 11 rfl rfl)
theorem dX2_init_14 : decode cX2_init 14 = .ok (.return_, 1) := dk_177 (dk_at dksX2_init_0 14 rfl rfl)
theorem q62 : (Jvm.Cond.initialized "MendReader$Slips") ∈ lw_all := lw_g (lw_at lw_m1 6 rfl) rfl
theorem q154 : (Jvm.Cond.instantiable "MendReader$Slips" (1 : Nat)) ∈ lw_all := lw_g (lw_at lw_m1 98 rfl) rfl
theorem q156 : (Jvm.Cond.instanceMethod ({ cls := "MendReader$Slips", name := "<init>", desc := "()V" } : Jvm.MethodName)) ∈ lw_all := lw_g (lw_at lw_m1 100 rfl) rfl
theorem q157 : (Jvm.Cond.code ({ cls := "MendReader$Slips", name := "<init>", desc := "()V" } : Jvm.MethodName) prog_11_method_1_code (1 : Nat) (Option.none : Option Jvm.ClassFile.FieldType)) ∈ lw_all := lw_g (lw_at lw_m1 101 rfl) rfl
theorem q158 : (Jvm.Cond.methodLink "MendReader$Slips" (1 : Nat) ({ cls := "java/lang/Object", name := "<init>", desc := "()V" } : Jvm.MethodName)) ∈ lw_all := lw_g (lw_at lw_m1 102 rfl) rfl
theorem q159 : (Jvm.Cond.classLink "MendReader$Slips" (7 : Nat) "[[I") ∈ lw_all := lw_g (lw_at lw_m1 103 rfl) rfl
theorem q160 : (Jvm.Cond.fieldLink "MendReader$Slips" (9 : Nat) "MendReader$Slips" "cells" "[[I") ∈ lw_all := lw_g (lw_at lw_m1 104 rfl) rfl
theorem q162 : (Jvm.Cond.laysFinal "MendReader$Slips" "MendReader$Slips" "cells" "[[I") ∈ lw_all := lw_g (lw_at lw_m1 106 rfl) rfl
theorem q163 : (Jvm.Cond.soleField "MendReader$Slips" "cells") ∈ lw_all := lw_g (lw_at lw_m1 107 rfl) rfl
theorem q164 : (Jvm.Cond.superclass "MendReader$Slips" "java/lang/Object") ∈ lw_all := lw_g (lw_at lw_m1 108 rfl) rfl
theorem q372 : (Jvm.Cond.selects "MendReader$Slips" ({ cls := "java/lang/Object", name := "getClass", desc := "()Ljava/lang/Class;" } : Jvm.MethodName) ({ cls := "java/lang/Object", name := "getClass", desc := "()Ljava/lang/Class;" } : Jvm.MethodName)) ∈ lw_all := lw_g (lw_at lw_m2 76 rfl) rfl
theorem q1776 : (Jvm.Cond.castable "MendReader$Slips" "java/lang/Object") ∈ lw_tbl := lw_at lw_m8 40 rfl
theorem in_X2 : ∀ w ∈ wsX20, w ∈ lw_all := lw_in wsX20 [162] (by decide +kernel) (by decide +kernel)
/-! MendReader$Rule -/
set_option maxRecDepth 100000
def RX4 : String := "MendReader$Rule"
def TX4 : u_T := fun k => match k with
  | 0 => ("MendReader$Rule", "number", "I", true)
  | 1 => ("MendReader$Rule", "name", "I", true)
  | 2 => ("MendReader$Rule", "sorts", "[I", true)
  | 3 => ("MendReader$Rule", "which", "[I", true)
  | _ => ("MendReader$Rule", "size", "I", false)
def tyX4 : Nat → FieldType := fun k => match k with
  | 0 => .int
  | 1 => .int
  | 2 => .array .int
  | 3 => .array .int
  | _ => .int
abbrev wsX40 : List Cond := u_ws RX4 TX4 5
theorem nmX4 : ∀ a, a < 5 → ∀ b, b < 5 → a ≠ b → (TX4 a).2.1 ≠ (TX4 b).2.1 := by decide +kernel
theorem tyX4_ok : ∀ k, k < 5 → parseFieldDescriptor (TX4 k).2.2.1 = some (tyX4 k) := by decide +kernel
abbrev cX4_init : ByteArray := prog_8_method_1_code
def yX4_init : MethodName := ⟨RX4, "<init>", "(II)V"⟩
def dkwX4_init_1 : List UInt8 := [28, 181, 0, 22, 177]
abbrev dktX4_init_1 : List UInt8 := dkwX4_init_1 ++ []
def dkwX4_init_0 : List UInt8 := [42, 183, 0, 3, 42, 6, 188, 10, 181, 0, 9, 42, 6, 188, 10, 181, 0, 15, 42, 27, 181, 0, 18, 42]
abbrev dktX4_init_0 : List UInt8 := dkwX4_init_0 ++ dktX4_init_1
theorem dksX4_init_0 : cX4_init.data.toList.drop 0 = dktX4_init_0 := by decide +kernel
theorem dksX4_init_1 : cX4_init.data.toList.drop 24 = dktX4_init_1 := dk_seg dksX4_init_0 24 rfl rfl
theorem dX4_init_0 : decode cX4_init 0 = .ok (.aload_n 0, 1) := dk_42 (dk_at dksX4_init_0 0 rfl rfl)
theorem dX4_init_1 : decode cX4_init 1 = .ok (.invokespecial 3, 3) := dk_183 0 3 (dk_at dksX4_init_0 1 rfl rfl)
theorem dX4_init_4 : decode cX4_init 4 = .ok (.aload_n 0, 1) := dk_42 (dk_at dksX4_init_0 4 rfl rfl)
theorem dX4_init_5 : decode cX4_init 5 = .ok (.iconst 3, 1) := dk_6 (dk_at dksX4_init_0 5 rfl rfl)
theorem dX4_init_6 : decode cX4_init 6 = .ok (.newarray .int, 2) := dk_188_10 (dk_at dksX4_init_0 6 rfl rfl)
theorem dX4_init_8 : decode cX4_init 8 = .ok (.putfield 9, 3) := dk_181 0 9 (dk_at dksX4_init_0 8 rfl rfl)
theorem dX4_init_11 : decode cX4_init 11 = .ok (.aload_n 0, 1) := dk_42 (dk_at dksX4_init_0 11 rfl rfl)
theorem dX4_init_12 : decode cX4_init 12 = .ok (.iconst 3, 1) := dk_6 (dk_at dksX4_init_0 12 rfl rfl)
theorem dX4_init_13 : decode cX4_init 13 = .ok (.newarray .int, 2) := dk_188_10 (dk_at dksX4_init_0 13 rfl rfl)
theorem dX4_init_15 : decode cX4_init 15 = .ok (.putfield 15, 3) := dk_181 0 15 (dk_at dksX4_init_0 15 rfl rfl)
theorem dX4_init_18 : decode cX4_init 18 = .ok (.aload_n 0, 1) := dk_42 (dk_at dksX4_init_0 18 rfl rfl)
theorem dX4_init_19 : decode cX4_init 19 = .ok (.iload_n 1, 1) := dk_27 (dk_at dksX4_init_0 19 rfl rfl)
theorem dX4_init_20 : decode cX4_init 20 = .ok (.putfield 18, 3) := dk_181 0 18 (dk_at dksX4_init_0 20 rfl rfl)
theorem dX4_init_23 : decode cX4_init 23 = .ok (.aload_n 0, 1) := dk_42 (dk_at dksX4_init_0 23 rfl rfl)
theorem dX4_init_24 : decode cX4_init 24 = .ok (.iload_n 2, 1) := dk_28 (dk_at dksX4_init_1 0 rfl rfl)
theorem dX4_init_25 : decode cX4_init 25 = .ok (.putfield 22, 3) := dk_181 0 22 (dk_at dksX4_init_1 1 rfl rfl)
theorem dX4_init_28 : decode cX4_init 28 = .ok (.return_, 1) := dk_177 (dk_at dksX4_init_1 4 rfl rfl)
theorem q64 : (Jvm.Cond.initialized "MendReader$Rule") ∈ lw_all := lw_g (lw_at lw_m1 8 rfl) rfl
theorem q293 : (Jvm.Cond.instantiable "MendReader$Rule" (5 : Nat)) ∈ lw_all := lw_g (lw_at lw_m1 237 rfl) rfl
theorem q295 : (Jvm.Cond.instanceMethod ({ cls := "MendReader$Rule", name := "<init>", desc := "(II)V" } : Jvm.MethodName)) ∈ lw_all := lw_g (lw_at lw_m1 239 rfl) rfl
theorem q296 : (Jvm.Cond.code ({ cls := "MendReader$Rule", name := "<init>", desc := "(II)V" } : Jvm.MethodName) prog_8_method_1_code (3 : Nat) (Option.none : Option Jvm.ClassFile.FieldType)) ∈ lw_all := lw_g (lw_at lw_m2 0 rfl) rfl
theorem q297 : (Jvm.Cond.methodLink "MendReader$Rule" (3 : Nat) ({ cls := "java/lang/Object", name := "<init>", desc := "()V" } : Jvm.MethodName)) ∈ lw_all := lw_g (lw_at lw_m2 1 rfl) rfl
theorem q298 : (Jvm.Cond.fieldLink "MendReader$Rule" (18 : Nat) "MendReader$Rule" "number" "I") ∈ lw_all := lw_g (lw_at lw_m2 2 rfl) rfl
theorem q300 : (Jvm.Cond.fieldLink "MendReader$Rule" (22 : Nat) "MendReader$Rule" "name" "I") ∈ lw_all := lw_g (lw_at lw_m2 4 rfl) rfl
theorem q303 : (Jvm.Cond.fieldLink "MendReader$Rule" (9 : Nat) "MendReader$Rule" "sorts" "[I") ∈ lw_all := lw_g (lw_at lw_m2 7 rfl) rfl
theorem q307 : (Jvm.Cond.fieldLink "MendReader$Rule" (15 : Nat) "MendReader$Rule" "which" "[I") ∈ lw_all := lw_g (lw_at lw_m2 11 rfl) rfl
theorem q314 : (Jvm.Cond.laysFinal "MendReader$Rule" "MendReader$Rule" "number" "I") ∈ lw_all := lw_g (lw_at lw_m2 18 rfl) rfl
theorem q315 : (Jvm.Cond.soleField "MendReader$Rule" "number") ∈ lw_all := lw_g (lw_at lw_m2 19 rfl) rfl
theorem q316 : (Jvm.Cond.laysFinal "MendReader$Rule" "MendReader$Rule" "name" "I") ∈ lw_all := lw_g (lw_at lw_m2 20 rfl) rfl
theorem q317 : (Jvm.Cond.soleField "MendReader$Rule" "name") ∈ lw_all := lw_g (lw_at lw_m2 21 rfl) rfl
theorem q318 : (Jvm.Cond.laysFinal "MendReader$Rule" "MendReader$Rule" "sorts" "[I") ∈ lw_all := lw_g (lw_at lw_m2 22 rfl) rfl
theorem q319 : (Jvm.Cond.soleField "MendReader$Rule" "sorts") ∈ lw_all := lw_g (lw_at lw_m2 23 rfl) rfl
theorem q320 : (Jvm.Cond.laysFinal "MendReader$Rule" "MendReader$Rule" "which" "[I") ∈ lw_all := lw_g (lw_at lw_m2 24 rfl) rfl
theorem q321 : (Jvm.Cond.soleField "MendReader$Rule" "which") ∈ lw_all := lw_g (lw_at lw_m2 25 rfl) rfl
theorem q322 : (Jvm.Cond.lays "MendReader$Rule" "MendReader$Rule" "size" "I") ∈ lw_all := lw_g (lw_at lw_m2 26 rfl) rfl
theorem q323 : (Jvm.Cond.soleField "MendReader$Rule" "size") ∈ lw_all := lw_g (lw_at lw_m2 27 rfl) rfl
theorem q324 : (Jvm.Cond.superclass "MendReader$Rule" "java/lang/Object") ∈ lw_all := lw_g (lw_at lw_m2 28 rfl) rfl
theorem q369 : (Jvm.Cond.selects "MendReader$Rule" ({ cls := "java/lang/Object", name := "getClass", desc := "()Ljava/lang/Class;" } : Jvm.MethodName) ({ cls := "java/lang/Object", name := "getClass", desc := "()Ljava/lang/Class;" } : Jvm.MethodName)) ∈ lw_all := lw_g (lw_at lw_m2 73 rfl) rfl
theorem q1778 : (Jvm.Cond.castable "MendReader$Rule" "java/lang/Object") ∈ lw_tbl := lw_at lw_m8 42 rfl
theorem in_X4 : ∀ w ∈ wsX40, w ∈ lw_all := lw_in wsX40 [314, 316, 318, 320, 322] (by decide +kernel) (by decide +kernel)
/-! MendReader$Form -/
set_option maxRecDepth 100000
def RX5 : String := "MendReader$Form"
def TX5 : u_T := fun k => match k with
  | 0 => ("MendReader$Form", "a", "I", true)
  | 1 => ("MendReader$Form", "b", "I", true)
  | 2 => ("MendReader$Form", "c", "I", true)
  | _ => ("MendReader$Form", "price", "I", true)
def tyX5 : Nat → FieldType := fun k => match k with
  | 0 => .int
  | 1 => .int
  | 2 => .int
  | _ => .int
abbrev wsX50 : List Cond := u_ws RX5 TX5 4
theorem nmX5 : ∀ a, a < 4 → ∀ b, b < 4 → a ≠ b → (TX5 a).2.1 ≠ (TX5 b).2.1 := by decide +kernel
theorem tyX5_ok : ∀ k, k < 4 → parseFieldDescriptor (TX5 k).2.2.1 = some (tyX5 k) := by decide +kernel
abbrev cX5_init : ByteArray := prog_4_method_1_code
def yX5_init : MethodName := ⟨RX5, "<init>", "(IIII)V"⟩
def dkwX5_init_1 : List UInt8 := [181, 0, 19, 177]
abbrev dktX5_init_1 : List UInt8 := dkwX5_init_1 ++ []
def dkwX5_init_0 : List UInt8 := [42, 183, 0, 1, 42, 27, 181, 0, 7, 42, 28, 181, 0, 13, 42, 29, 181, 0, 16, 42, 21, 4]
abbrev dktX5_init_0 : List UInt8 := dkwX5_init_0 ++ dktX5_init_1
theorem dksX5_init_0 : cX5_init.data.toList.drop 0 = dktX5_init_0 := by decide +kernel
theorem dksX5_init_1 : cX5_init.data.toList.drop 22 = dktX5_init_1 := dk_seg dksX5_init_0 22 rfl rfl
theorem dX5_init_0 : decode cX5_init 0 = .ok (.aload_n 0, 1) := dk_42 (dk_at dksX5_init_0 0 rfl rfl)
theorem dX5_init_1 : decode cX5_init 1 = .ok (.invokespecial 1, 3) := dk_183 0 1 (dk_at dksX5_init_0 1 rfl rfl)
theorem dX5_init_4 : decode cX5_init 4 = .ok (.aload_n 0, 1) := dk_42 (dk_at dksX5_init_0 4 rfl rfl)
theorem dX5_init_5 : decode cX5_init 5 = .ok (.iload_n 1, 1) := dk_27 (dk_at dksX5_init_0 5 rfl rfl)
theorem dX5_init_6 : decode cX5_init 6 = .ok (.putfield 7, 3) := dk_181 0 7 (dk_at dksX5_init_0 6 rfl rfl)
theorem dX5_init_9 : decode cX5_init 9 = .ok (.aload_n 0, 1) := dk_42 (dk_at dksX5_init_0 9 rfl rfl)
theorem dX5_init_10 : decode cX5_init 10 = .ok (.iload_n 2, 1) := dk_28 (dk_at dksX5_init_0 10 rfl rfl)
theorem dX5_init_11 : decode cX5_init 11 = .ok (.putfield 13, 3) := dk_181 0 13 (dk_at dksX5_init_0 11 rfl rfl)
theorem dX5_init_14 : decode cX5_init 14 = .ok (.aload_n 0, 1) := dk_42 (dk_at dksX5_init_0 14 rfl rfl)
theorem dX5_init_15 : decode cX5_init 15 = .ok (.iload_n 3, 1) := dk_29 (dk_at dksX5_init_0 15 rfl rfl)
theorem dX5_init_16 : decode cX5_init 16 = .ok (.putfield 16, 3) := dk_181 0 16 (dk_at dksX5_init_0 16 rfl rfl)
theorem dX5_init_19 : decode cX5_init 19 = .ok (.aload_n 0, 1) := dk_42 (dk_at dksX5_init_0 19 rfl rfl)
theorem dX5_init_20 : decode cX5_init 20 = .ok (.iload 4, 2) := dk_21 4 (dk_at dksX5_init_0 20 rfl rfl)
theorem dX5_init_22 : decode cX5_init 22 = .ok (.putfield 19, 3) := dk_181 0 19 (dk_at dksX5_init_1 0 rfl rfl)
theorem dX5_init_25 : decode cX5_init 25 = .ok (.return_, 1) := dk_177 (dk_at dksX5_init_1 3 rfl rfl)
theorem q71 : (Jvm.Cond.initialized "MendReader$Form") ∈ lw_all := lw_g (lw_at lw_m1 15 rfl) rfl
theorem q365 : (Jvm.Cond.selects "MendReader$Form" ({ cls := "java/lang/Object", name := "getClass", desc := "()Ljava/lang/Class;" } : Jvm.MethodName) ({ cls := "java/lang/Object", name := "getClass", desc := "()Ljava/lang/Class;" } : Jvm.MethodName)) ∈ lw_all := lw_g (lw_at lw_m2 69 rfl) rfl
theorem q442 : (Jvm.Cond.instantiable "MendReader$Form" (4 : Nat)) ∈ lw_all := lw_g (lw_at lw_m2 146 rfl) rfl
theorem q444 : (Jvm.Cond.instanceMethod ({ cls := "MendReader$Form", name := "<init>", desc := "(IIII)V" } : Jvm.MethodName)) ∈ lw_all := lw_g (lw_at lw_m2 148 rfl) rfl
theorem q445 : (Jvm.Cond.code ({ cls := "MendReader$Form", name := "<init>", desc := "(IIII)V" } : Jvm.MethodName) prog_4_method_1_code (5 : Nat) (Option.none : Option Jvm.ClassFile.FieldType)) ∈ lw_all := lw_g (lw_at lw_m2 149 rfl) rfl
theorem q446 : (Jvm.Cond.methodLink "MendReader$Form" (1 : Nat) ({ cls := "java/lang/Object", name := "<init>", desc := "()V" } : Jvm.MethodName)) ∈ lw_all := lw_g (lw_at lw_m2 150 rfl) rfl
theorem q447 : (Jvm.Cond.fieldLink "MendReader$Form" (7 : Nat) "MendReader$Form" "a" "I") ∈ lw_all := lw_g (lw_at lw_m2 151 rfl) rfl
theorem q449 : (Jvm.Cond.fieldLink "MendReader$Form" (13 : Nat) "MendReader$Form" "b" "I") ∈ lw_all := lw_g (lw_at lw_m2 153 rfl) rfl
theorem q453 : (Jvm.Cond.fieldLink "MendReader$Form" (16 : Nat) "MendReader$Form" "c" "I") ∈ lw_all := lw_g (lw_at lw_m2 157 rfl) rfl
theorem q455 : (Jvm.Cond.fieldLink "MendReader$Form" (19 : Nat) "MendReader$Form" "price" "I") ∈ lw_all := lw_g (lw_at lw_m2 159 rfl) rfl
theorem q457 : (Jvm.Cond.laysFinal "MendReader$Form" "MendReader$Form" "a" "I") ∈ lw_all := lw_g (lw_at lw_m2 161 rfl) rfl
theorem q458 : (Jvm.Cond.soleField "MendReader$Form" "a") ∈ lw_all := lw_g (lw_at lw_m2 162 rfl) rfl
theorem q459 : (Jvm.Cond.laysFinal "MendReader$Form" "MendReader$Form" "b" "I") ∈ lw_all := lw_g (lw_at lw_m2 163 rfl) rfl
theorem q460 : (Jvm.Cond.soleField "MendReader$Form" "b") ∈ lw_all := lw_g (lw_at lw_m2 164 rfl) rfl
theorem q461 : (Jvm.Cond.laysFinal "MendReader$Form" "MendReader$Form" "c" "I") ∈ lw_all := lw_g (lw_at lw_m2 165 rfl) rfl
theorem q462 : (Jvm.Cond.soleField "MendReader$Form" "c") ∈ lw_all := lw_g (lw_at lw_m2 166 rfl) rfl
theorem q463 : (Jvm.Cond.laysFinal "MendReader$Form" "MendReader$Form" "price" "I") ∈ lw_all := lw_g (lw_at lw_m2 167 rfl) rfl
theorem q464 : (Jvm.Cond.soleField "MendReader$Form" "price") ∈ lw_all := lw_g (lw_at lw_m2 168 rfl) rfl
theorem q465 : (Jvm.Cond.superclass "MendReader$Form" "java/lang/Object") ∈ lw_all := lw_g (lw_at lw_m2 169 rfl) rfl
theorem q1779 : (Jvm.Cond.castable "MendReader$Form" "java/lang/Object") ∈ lw_tbl := lw_at lw_m8 43 rfl
theorem in_X5 : ∀ w ∈ wsX50, w ∈ lw_all := lw_in wsX50 [457, 459, 461, 463] (by decide +kernel) (by decide +kernel)
/-! MendReader$Way -/
set_option maxRecDepth 100000
def RX6 : String := "MendReader$Way"
def TX6 : u_T := fun k => match k with
  | 0 => ("MendReader$Way", "sort", "I", true)
  | 1 => ("MendReader$Way", "from", "I", true)
  | 2 => ("MendReader$Way", "to", "I", true)
  | _ => ("MendReader$Way", "without", "LMendReader$Step;", true)
def tyX6 : Nat → FieldType := fun k => match k with
  | 0 => .int
  | 1 => .int
  | 2 => .int
  | _ => .object "MendReader$Step"
abbrev wsX60 : List Cond := u_ws RX6 TX6 4
theorem nmX6 : ∀ a, a < 4 → ∀ b, b < 4 → a ≠ b → (TX6 a).2.1 ≠ (TX6 b).2.1 := by decide +kernel
theorem tyX6_ok : ∀ k, k < 4 → parseFieldDescriptor (TX6 k).2.2.1 = some (tyX6 k) := by decide +kernel
abbrev cX6_init : ByteArray := prog_17_method_1_code
def yX6_init : MethodName := ⟨RX6, "<init>", "(IIILMendReader$Step;)V"⟩
def dkwX6_init_1 : List UInt8 := [181, 0, 19, 177]
abbrev dktX6_init_1 : List UInt8 := dkwX6_init_1 ++ []
def dkwX6_init_0 : List UInt8 := [42, 183, 0, 1, 42, 27, 181, 0, 7, 42, 28, 181, 0, 13, 42, 29, 181, 0, 16, 42, 25, 4]
abbrev dktX6_init_0 : List UInt8 := dkwX6_init_0 ++ dktX6_init_1
theorem dksX6_init_0 : cX6_init.data.toList.drop 0 = dktX6_init_0 := by decide +kernel
theorem dksX6_init_1 : cX6_init.data.toList.drop 22 = dktX6_init_1 := dk_seg dksX6_init_0 22 rfl rfl
theorem dX6_init_0 : decode cX6_init 0 = .ok (.aload_n 0, 1) := dk_42 (dk_at dksX6_init_0 0 rfl rfl)
theorem dX6_init_1 : decode cX6_init 1 = .ok (.invokespecial 1, 3) := dk_183 0 1 (dk_at dksX6_init_0 1 rfl rfl)
theorem dX6_init_4 : decode cX6_init 4 = .ok (.aload_n 0, 1) := dk_42 (dk_at dksX6_init_0 4 rfl rfl)
theorem dX6_init_5 : decode cX6_init 5 = .ok (.iload_n 1, 1) := dk_27 (dk_at dksX6_init_0 5 rfl rfl)
theorem dX6_init_6 : decode cX6_init 6 = .ok (.putfield 7, 3) := dk_181 0 7 (dk_at dksX6_init_0 6 rfl rfl)
theorem dX6_init_9 : decode cX6_init 9 = .ok (.aload_n 0, 1) := dk_42 (dk_at dksX6_init_0 9 rfl rfl)
theorem dX6_init_10 : decode cX6_init 10 = .ok (.iload_n 2, 1) := dk_28 (dk_at dksX6_init_0 10 rfl rfl)
theorem dX6_init_11 : decode cX6_init 11 = .ok (.putfield 13, 3) := dk_181 0 13 (dk_at dksX6_init_0 11 rfl rfl)
theorem dX6_init_14 : decode cX6_init 14 = .ok (.aload_n 0, 1) := dk_42 (dk_at dksX6_init_0 14 rfl rfl)
theorem dX6_init_15 : decode cX6_init 15 = .ok (.iload_n 3, 1) := dk_29 (dk_at dksX6_init_0 15 rfl rfl)
theorem dX6_init_16 : decode cX6_init 16 = .ok (.putfield 16, 3) := dk_181 0 16 (dk_at dksX6_init_0 16 rfl rfl)
theorem dX6_init_19 : decode cX6_init 19 = .ok (.aload_n 0, 1) := dk_42 (dk_at dksX6_init_0 19 rfl rfl)
theorem dX6_init_20 : decode cX6_init 20 = .ok (.aload 4, 2) := dk_25 4 (dk_at dksX6_init_0 20 rfl rfl)
theorem dX6_init_22 : decode cX6_init 22 = .ok (.putfield 19, 3) := dk_181 0 19 (dk_at dksX6_init_1 0 rfl rfl)
theorem dX6_init_25 : decode cX6_init 25 = .ok (.return_, 1) := dk_177 (dk_at dksX6_init_1 3 rfl rfl)
abbrev cX6_isWithout : ByteArray := prog_17_method_2_code
def yX6_isWithout : MethodName := ⟨RX6, "isWithout", "(LMendReader$Step;)Z"⟩
def dkwX6_isWithout_2 : List UInt8 := [160, 0, 7, 4, 167, 0, 4, 3, 172]
abbrev dktX6_isWithout_2 : List UInt8 := dkwX6_isWithout_2 ++ []
def dkwX6_isWithout_1 : List UInt8 := [180, 0, 29, 42, 180, 0, 19, 180, 0, 29, 160, 0, 21, 43, 182, 0, 32, 42, 180, 0, 19, 182, 0, 32]
abbrev dktX6_isWithout_1 : List UInt8 := dkwX6_isWithout_1 ++ dktX6_isWithout_2
def dkwX6_isWithout_0 : List UInt8 := [42, 180, 0, 19, 198, 0, 49, 43, 182, 0, 23, 42, 180, 0, 19, 182, 0, 23, 160, 0, 35, 43]
abbrev dktX6_isWithout_0 : List UInt8 := dkwX6_isWithout_0 ++ dktX6_isWithout_1
theorem dksX6_isWithout_0 : cX6_isWithout.data.toList.drop 0 = dktX6_isWithout_0 := by decide +kernel
theorem dksX6_isWithout_1 : cX6_isWithout.data.toList.drop 22 = dktX6_isWithout_1 := dk_seg dksX6_isWithout_0 22 rfl rfl
theorem dksX6_isWithout_2 : cX6_isWithout.data.toList.drop 46 = dktX6_isWithout_2 := dk_seg dksX6_isWithout_1 24 rfl rfl
theorem dX6_isWithout_0 : decode cX6_isWithout 0 = .ok (.aload_n 0, 1) := dk_42 (dk_at dksX6_isWithout_0 0 rfl rfl)
theorem dX6_isWithout_1 : decode cX6_isWithout 1 = .ok (.getfield 19, 3) := dk_180 0 19 (dk_at dksX6_isWithout_0 1 rfl rfl)
theorem dX6_isWithout_4 : decode cX6_isWithout 4 = .ok (.ifnull 49, 3) := dk_198 0 49 (dk_at dksX6_isWithout_0 4 rfl rfl)
theorem dX6_isWithout_7 : decode cX6_isWithout 7 = .ok (.aload_n 1, 1) := dk_43 (dk_at dksX6_isWithout_0 7 rfl rfl)
theorem dX6_isWithout_8 : decode cX6_isWithout 8 = .ok (.invokevirtual 23, 3) := dk_182 0 23 (dk_at dksX6_isWithout_0 8 rfl rfl)
theorem dX6_isWithout_11 : decode cX6_isWithout 11 = .ok (.aload_n 0, 1) := dk_42 (dk_at dksX6_isWithout_0 11 rfl rfl)
theorem dX6_isWithout_12 : decode cX6_isWithout 12 = .ok (.getfield 19, 3) := dk_180 0 19 (dk_at dksX6_isWithout_0 12 rfl rfl)
theorem dX6_isWithout_15 : decode cX6_isWithout 15 = .ok (.invokevirtual 23, 3) := dk_182 0 23 (dk_at dksX6_isWithout_0 15 rfl rfl)
theorem dX6_isWithout_18 : decode cX6_isWithout 18 = .ok (.if_icmp .ne 35, 3) := dk_160 0 35 (dk_at dksX6_isWithout_0 18 rfl rfl)
theorem dX6_isWithout_21 : decode cX6_isWithout 21 = .ok (.aload_n 1, 1) := dk_43 (dk_at dksX6_isWithout_0 21 rfl rfl)
theorem dX6_isWithout_22 : decode cX6_isWithout 22 = .ok (.getfield 29, 3) := dk_180 0 29 (dk_at dksX6_isWithout_1 0 rfl rfl)
theorem dX6_isWithout_25 : decode cX6_isWithout 25 = .ok (.aload_n 0, 1) := dk_42 (dk_at dksX6_isWithout_1 3 rfl rfl)
theorem dX6_isWithout_26 : decode cX6_isWithout 26 = .ok (.getfield 19, 3) := dk_180 0 19 (dk_at dksX6_isWithout_1 4 rfl rfl)
theorem dX6_isWithout_29 : decode cX6_isWithout 29 = .ok (.getfield 29, 3) := dk_180 0 29 (dk_at dksX6_isWithout_1 7 rfl rfl)
theorem dX6_isWithout_32 : decode cX6_isWithout 32 = .ok (.if_icmp .ne 21, 3) := dk_160 0 21 (dk_at dksX6_isWithout_1 10 rfl rfl)
theorem dX6_isWithout_35 : decode cX6_isWithout 35 = .ok (.aload_n 1, 1) := dk_43 (dk_at dksX6_isWithout_1 13 rfl rfl)
theorem dX6_isWithout_36 : decode cX6_isWithout 36 = .ok (.invokevirtual 32, 3) := dk_182 0 32 (dk_at dksX6_isWithout_1 14 rfl rfl)
theorem dX6_isWithout_39 : decode cX6_isWithout 39 = .ok (.aload_n 0, 1) := dk_42 (dk_at dksX6_isWithout_1 17 rfl rfl)
theorem dX6_isWithout_40 : decode cX6_isWithout 40 = .ok (.getfield 19, 3) := dk_180 0 19 (dk_at dksX6_isWithout_1 18 rfl rfl)
theorem dX6_isWithout_43 : decode cX6_isWithout 43 = .ok (.invokevirtual 32, 3) := dk_182 0 32 (dk_at dksX6_isWithout_1 21 rfl rfl)
theorem dX6_isWithout_46 : decode cX6_isWithout 46 = .ok (.if_icmp .ne 7, 3) := dk_160 0 7 (dk_at dksX6_isWithout_2 0 rfl rfl)
theorem dX6_isWithout_49 : decode cX6_isWithout 49 = .ok (.iconst 1, 1) := dk_4 (dk_at dksX6_isWithout_2 3 rfl rfl)
theorem dX6_isWithout_50 : decode cX6_isWithout 50 = .ok (.goto 4, 3) := dk_167 0 4 (dk_at dksX6_isWithout_2 4 rfl rfl)
theorem dX6_isWithout_53 : decode cX6_isWithout 53 = .ok (.iconst 0, 1) := dk_3 (dk_at dksX6_isWithout_2 7 rfl rfl)
theorem dX6_isWithout_54 : decode cX6_isWithout 54 = .ok (.ireturn, 1) := dk_172 (dk_at dksX6_isWithout_2 8 rfl rfl)
theorem q72 : (Jvm.Cond.initialized "MendReader$Way") ∈ lw_all := lw_g (lw_at lw_m1 16 rfl) rfl
theorem q378 : (Jvm.Cond.selects "MendReader$Way" ({ cls := "java/lang/Object", name := "getClass", desc := "()Ljava/lang/Class;" } : Jvm.MethodName) ({ cls := "java/lang/Object", name := "getClass", desc := "()Ljava/lang/Class;" } : Jvm.MethodName)) ∈ lw_all := lw_g (lw_at lw_m2 82 rfl) rfl
theorem q495 : (Jvm.Cond.instantiable "MendReader$Way" (4 : Nat)) ∈ lw_all := lw_g (lw_at lw_m2 199 rfl) rfl
theorem q497 : (Jvm.Cond.instanceMethod ({ cls := "MendReader$Way", name := "<init>", desc := "(IIILMendReader$Step;)V" } : Jvm.MethodName)) ∈ lw_all := lw_g (lw_at lw_m2 201 rfl) rfl
theorem q498 : (Jvm.Cond.code ({ cls := "MendReader$Way", name := "<init>", desc := "(IIILMendReader$Step;)V" } : Jvm.MethodName) prog_17_method_1_code (5 : Nat) (Option.none : Option Jvm.ClassFile.FieldType)) ∈ lw_all := lw_g (lw_at lw_m2 202 rfl) rfl
theorem q499 : (Jvm.Cond.methodLink "MendReader$Way" (1 : Nat) ({ cls := "java/lang/Object", name := "<init>", desc := "()V" } : Jvm.MethodName)) ∈ lw_all := lw_g (lw_at lw_m2 203 rfl) rfl
theorem q500 : (Jvm.Cond.fieldLink "MendReader$Way" (7 : Nat) "MendReader$Way" "sort" "I") ∈ lw_all := lw_g (lw_at lw_m2 204 rfl) rfl
theorem q502 : (Jvm.Cond.fieldLink "MendReader$Way" (13 : Nat) "MendReader$Way" "from" "I") ∈ lw_all := lw_g (lw_at lw_m2 206 rfl) rfl
theorem q504 : (Jvm.Cond.fieldLink "MendReader$Way" (16 : Nat) "MendReader$Way" "to" "I") ∈ lw_all := lw_g (lw_at lw_m2 208 rfl) rfl
theorem q506 : (Jvm.Cond.fieldLink "MendReader$Way" (19 : Nat) "MendReader$Way" "without" "LMendReader$Step;") ∈ lw_all := lw_g (lw_at lw_m2 210 rfl) rfl
theorem q507 : (Jvm.Cond.laysFinal "MendReader$Way" "MendReader$Way" "sort" "I") ∈ lw_all := lw_g (lw_at lw_m2 211 rfl) rfl
theorem q508 : (Jvm.Cond.soleField "MendReader$Way" "sort") ∈ lw_all := lw_g (lw_at lw_m2 212 rfl) rfl
theorem q509 : (Jvm.Cond.laysFinal "MendReader$Way" "MendReader$Way" "from" "I") ∈ lw_all := lw_g (lw_at lw_m2 213 rfl) rfl
theorem q510 : (Jvm.Cond.soleField "MendReader$Way" "from") ∈ lw_all := lw_g (lw_at lw_m2 214 rfl) rfl
theorem q511 : (Jvm.Cond.laysFinal "MendReader$Way" "MendReader$Way" "to" "I") ∈ lw_all := lw_g (lw_at lw_m2 215 rfl) rfl
theorem q512 : (Jvm.Cond.soleField "MendReader$Way" "to") ∈ lw_all := lw_g (lw_at lw_m2 216 rfl) rfl
theorem q513 : (Jvm.Cond.laysFinal "MendReader$Way" "MendReader$Way" "without" "LMendReader$Step;") ∈ lw_all := lw_g (lw_at lw_m2 217 rfl) rfl
theorem q514 : (Jvm.Cond.soleField "MendReader$Way" "without") ∈ lw_all := lw_g (lw_at lw_m2 218 rfl) rfl
theorem q515 : (Jvm.Cond.superclass "MendReader$Way" "java/lang/Object") ∈ lw_all := lw_g (lw_at lw_m2 219 rfl) rfl
theorem q558 : (Jvm.Cond.fieldLink "MendReader$Way" (29 : Nat) "MendReader$Step" "place" "I") ∈ lw_all := lw_g (lw_at lw_m3 22 rfl) rfl
theorem q676 : (Jvm.Cond.privateMethod ({ cls := "MendReader$Way", name := "isWithout", desc := "(LMendReader$Step;)Z" } : Jvm.MethodName)) ∈ lw_tbl := lw_at lw_m3 140 rfl
theorem q677 : (Jvm.Cond.instanceMethod ({ cls := "MendReader$Way", name := "isWithout", desc := "(LMendReader$Step;)Z" } : Jvm.MethodName)) ∈ lw_all := lw_g (lw_at lw_m3 141 rfl) rfl
theorem q678 : (Jvm.Cond.code ({ cls := "MendReader$Way", name := "isWithout", desc := "(LMendReader$Step;)Z" } : Jvm.MethodName) prog_17_method_2_code (2 : Nat) (Option.some Jvm.ClassFile.FieldType.boolean)) ∈ lw_all := lw_g (lw_at lw_m3 142 rfl) rfl
theorem q679 : (Jvm.Cond.methodLink "MendReader$Way" (23 : Nat) ({ cls := "MendReader$Step", name := "kind", desc := "()I" } : Jvm.MethodName)) ∈ lw_all := lw_g (lw_at lw_m3 143 rfl) rfl
theorem q680 : (Jvm.Cond.methodLink "MendReader$Way" (32 : Nat) ({ cls := "MendReader$Step", name := "told", desc := "()I" } : Jvm.MethodName)) ∈ lw_all := lw_g (lw_at lw_m3 144 rfl) rfl
theorem q1780 : (Jvm.Cond.castable "MendReader$Way" "java/lang/Object") ∈ lw_tbl := lw_at lw_m8 44 rfl
theorem in_X6 : ∀ w ∈ wsX60, w ∈ lw_all := lw_in wsX60 [507, 509, 511, 513] (by decide +kernel) (by decide +kernel)
/-! MendReader$Chart -/
set_option maxRecDepth 100000
def RX7 : String := "MendReader$Chart"
def TX7 : u_T := fun k => match k with
  | 0 => ("MendReader$Chart", "text", "[I", true)
  | 1 => ("MendReader$Chart", "n", "I", true)
  | 2 => ("MendReader$Chart", "way", "LMendReader$Way;", true)
  | 3 => ("MendReader$Chart", "knot", "[I", true)
  | 4 => ("MendReader$Chart", "mainOf", "[I", true)
  | 5 => ("MendReader$Chart", "knots", "I", false)
  | 6 => ("MendReader$Chart", "steps", "Ljava/util/List;", true)
  | 7 => ("MendReader$Chart", "skips", "[[LMendReader$Step;", true)
  | 8 => ("MendReader$Chart", "skipping", "[[J", true)
  | 9 => ("MendReader$Chart", "read", "[[[J", true)
  | 10 => ("MendReader$Chart", "tree", "[[[J", true)
  | 11 => ("MendReader$Chart", "rest", "[[[J", true)
  | _ => ("MendReader$Chart", "this$0", "LMendReader;", true)
def tyX7 : Nat → FieldType := fun k => match k with
  | 0 => .array .int
  | 1 => .int
  | 2 => .object "MendReader$Way"
  | 3 => .array .int
  | 4 => .array .int
  | 5 => .int
  | 6 => .object "java/util/List"
  | 7 => .array (.array (.object "MendReader$Step"))
  | 8 => .array (.array .long)
  | 9 => .array (.array (.array .long))
  | 10 => .array (.array (.array .long))
  | 11 => .array (.array (.array .long))
  | _ => .object "MendReader"
abbrev wsX70 : List Cond := u_ws RX7 TX7 13
set_option maxRecDepth 100000 in
theorem nmX7 : ∀ a, a < 13 → ∀ b, b < 13 → a ≠ b → (TX7 a).2.1 ≠ (TX7 b).2.1 := by decide +kernel
set_option maxRecDepth 100000 in
theorem tyX7_ok : ∀ k, k < 13 → parseFieldDescriptor (TX7 k).2.2.1 = some (tyX7 k) := by decide +kernel
abbrev cX7_init : ByteArray := prog_2_method_1_code
def yX7_init : MethodName := ⟨RX7, "<init>", "(LMendReader;[ILMendReader$Way;)V"⟩
def dkwX7_init_5 : List UInt8 := [182, 0, 72, 42, 182, 0, 74, 177]
abbrev dktX7_init_5 : List UInt8 := dkwX7_init_5 ++ []
def dkwX7_init_4 : List UInt8 := [181, 0, 55, 42, 44, 181, 0, 58, 42, 45, 181, 0, 61, 42, 44, 190, 181, 0, 65, 42, 182, 0, 69, 42]
abbrev dktX7_init_4 : List UInt8 := dkwX7_init_4 ++ dktX7_init_5
def dkwX7_init_3 : List UInt8 := [181, 0, 43, 42, 42, 180, 0, 3, 180, 0, 46, 181, 0, 49, 42, 42, 180, 0, 3, 180, 0, 52]
abbrev dktX7_init_3 : List UInt8 := dkwX7_init_3 ++ dktX7_init_4
def dkwX7_init_2 : List UInt8 := [181, 0, 31, 42, 16, 12, 16, 12, 197, 0, 34, 2, 181, 0, 36, 42, 42, 180, 0, 3, 180, 0, 39]
abbrev dktX7_init_2 : List UInt8 := dkwX7_init_2 ++ dktX7_init_3
def dkwX7_init_1 : List UInt8 := [181, 0, 19, 42, 187, 0, 22, 89, 183, 0, 24, 181, 0, 25, 42, 16, 12, 16, 12, 197, 0, 29, 2]
abbrev dktX7_init_1 : List UInt8 := dkwX7_init_1 ++ dktX7_init_2
def dkwX7_init_0 : List UInt8 := [42, 43, 181, 0, 3, 42, 183, 0, 9, 42, 16, 12, 188, 10, 181, 0, 15, 42, 16, 55, 188, 10]
abbrev dktX7_init_0 : List UInt8 := dkwX7_init_0 ++ dktX7_init_1
theorem dksX7_init_0 : cX7_init.data.toList.drop 0 = dktX7_init_0 := by decide +kernel
theorem dksX7_init_1 : cX7_init.data.toList.drop 22 = dktX7_init_1 := dk_seg dksX7_init_0 22 rfl rfl
theorem dksX7_init_2 : cX7_init.data.toList.drop 45 = dktX7_init_2 := dk_seg dksX7_init_1 23 rfl rfl
theorem dksX7_init_3 : cX7_init.data.toList.drop 68 = dktX7_init_3 := dk_seg dksX7_init_2 23 rfl rfl
theorem dksX7_init_4 : cX7_init.data.toList.drop 90 = dktX7_init_4 := dk_seg dksX7_init_3 22 rfl rfl
theorem dksX7_init_5 : cX7_init.data.toList.drop 114 = dktX7_init_5 := dk_seg dksX7_init_4 24 rfl rfl
theorem dX7_init_0 : decode cX7_init 0 = .ok (.aload_n 0, 1) := dk_42 (dk_at dksX7_init_0 0 rfl rfl)
theorem dX7_init_1 : decode cX7_init 1 = .ok (.aload_n 1, 1) := dk_43 (dk_at dksX7_init_0 1 rfl rfl)
theorem dX7_init_2 : decode cX7_init 2 = .ok (.putfield 3, 3) := dk_181 0 3 (dk_at dksX7_init_0 2 rfl rfl)
theorem dX7_init_5 : decode cX7_init 5 = .ok (.aload_n 0, 1) := dk_42 (dk_at dksX7_init_0 5 rfl rfl)
theorem dX7_init_6 : decode cX7_init 6 = .ok (.invokespecial 9, 3) := dk_183 0 9 (dk_at dksX7_init_0 6 rfl rfl)
theorem dX7_init_9 : decode cX7_init 9 = .ok (.aload_n 0, 1) := dk_42 (dk_at dksX7_init_0 9 rfl rfl)
theorem dX7_init_10 : decode cX7_init 10 = .ok (.bipush 12, 2) := dk_16 12 (dk_at dksX7_init_0 10 rfl rfl)
theorem dX7_init_12 : decode cX7_init 12 = .ok (.newarray .int, 2) := dk_188_10 (dk_at dksX7_init_0 12 rfl rfl)
theorem dX7_init_14 : decode cX7_init 14 = .ok (.putfield 15, 3) := dk_181 0 15 (dk_at dksX7_init_0 14 rfl rfl)
theorem dX7_init_17 : decode cX7_init 17 = .ok (.aload_n 0, 1) := dk_42 (dk_at dksX7_init_0 17 rfl rfl)
theorem dX7_init_18 : decode cX7_init 18 = .ok (.bipush 55, 2) := dk_16 55 (dk_at dksX7_init_0 18 rfl rfl)
theorem dX7_init_20 : decode cX7_init 20 = .ok (.newarray .int, 2) := dk_188_10 (dk_at dksX7_init_0 20 rfl rfl)
theorem dX7_init_22 : decode cX7_init 22 = .ok (.putfield 19, 3) := dk_181 0 19 (dk_at dksX7_init_1 0 rfl rfl)
theorem dX7_init_25 : decode cX7_init 25 = .ok (.aload_n 0, 1) := dk_42 (dk_at dksX7_init_1 3 rfl rfl)
theorem dX7_init_26 : decode cX7_init 26 = .ok (.new 22, 3) := dk_187 0 22 (dk_at dksX7_init_1 4 rfl rfl)
theorem dX7_init_29 : decode cX7_init 29 = .ok (.dup, 1) := dk_89 (dk_at dksX7_init_1 7 rfl rfl)
theorem dX7_init_30 : decode cX7_init 30 = .ok (.invokespecial 24, 3) := dk_183 0 24 (dk_at dksX7_init_1 8 rfl rfl)
theorem dX7_init_33 : decode cX7_init 33 = .ok (.putfield 25, 3) := dk_181 0 25 (dk_at dksX7_init_1 11 rfl rfl)
theorem dX7_init_36 : decode cX7_init 36 = .ok (.aload_n 0, 1) := dk_42 (dk_at dksX7_init_1 14 rfl rfl)
theorem dX7_init_37 : decode cX7_init 37 = .ok (.bipush 12, 2) := dk_16 12 (dk_at dksX7_init_1 15 rfl rfl)
theorem dX7_init_39 : decode cX7_init 39 = .ok (.bipush 12, 2) := dk_16 12 (dk_at dksX7_init_1 17 rfl rfl)
theorem dX7_init_41 : decode cX7_init 41 = .ok (.multianewarray 29 2, 4) := by decide +kernel
theorem dX7_init_45 : decode cX7_init 45 = .ok (.putfield 31, 3) := dk_181 0 31 (dk_at dksX7_init_2 0 rfl rfl)
theorem dX7_init_48 : decode cX7_init 48 = .ok (.aload_n 0, 1) := dk_42 (dk_at dksX7_init_2 3 rfl rfl)
theorem dX7_init_49 : decode cX7_init 49 = .ok (.bipush 12, 2) := dk_16 12 (dk_at dksX7_init_2 4 rfl rfl)
theorem dX7_init_51 : decode cX7_init 51 = .ok (.bipush 12, 2) := dk_16 12 (dk_at dksX7_init_2 6 rfl rfl)
theorem dX7_init_53 : decode cX7_init 53 = .ok (.multianewarray 34 2, 4) := by decide +kernel
theorem dX7_init_57 : decode cX7_init 57 = .ok (.putfield 36, 3) := dk_181 0 36 (dk_at dksX7_init_2 12 rfl rfl)
theorem dX7_init_60 : decode cX7_init 60 = .ok (.aload_n 0, 1) := dk_42 (dk_at dksX7_init_2 15 rfl rfl)
theorem dX7_init_61 : decode cX7_init 61 = .ok (.aload_n 0, 1) := dk_42 (dk_at dksX7_init_2 16 rfl rfl)
theorem dX7_init_62 : decode cX7_init 62 = .ok (.getfield 3, 3) := dk_180 0 3 (dk_at dksX7_init_2 17 rfl rfl)
theorem dX7_init_65 : decode cX7_init 65 = .ok (.getfield 39, 3) := dk_180 0 39 (dk_at dksX7_init_2 20 rfl rfl)
theorem dX7_init_68 : decode cX7_init 68 = .ok (.putfield 43, 3) := dk_181 0 43 (dk_at dksX7_init_3 0 rfl rfl)
theorem dX7_init_71 : decode cX7_init 71 = .ok (.aload_n 0, 1) := dk_42 (dk_at dksX7_init_3 3 rfl rfl)
theorem dX7_init_72 : decode cX7_init 72 = .ok (.aload_n 0, 1) := dk_42 (dk_at dksX7_init_3 4 rfl rfl)
theorem dX7_init_73 : decode cX7_init 73 = .ok (.getfield 3, 3) := dk_180 0 3 (dk_at dksX7_init_3 5 rfl rfl)
theorem dX7_init_76 : decode cX7_init 76 = .ok (.getfield 46, 3) := dk_180 0 46 (dk_at dksX7_init_3 8 rfl rfl)
theorem dX7_init_79 : decode cX7_init 79 = .ok (.putfield 49, 3) := dk_181 0 49 (dk_at dksX7_init_3 11 rfl rfl)
theorem dX7_init_82 : decode cX7_init 82 = .ok (.aload_n 0, 1) := dk_42 (dk_at dksX7_init_3 14 rfl rfl)
theorem dX7_init_83 : decode cX7_init 83 = .ok (.aload_n 0, 1) := dk_42 (dk_at dksX7_init_3 15 rfl rfl)
theorem dX7_init_84 : decode cX7_init 84 = .ok (.getfield 3, 3) := dk_180 0 3 (dk_at dksX7_init_3 16 rfl rfl)
theorem dX7_init_87 : decode cX7_init 87 = .ok (.getfield 52, 3) := dk_180 0 52 (dk_at dksX7_init_3 19 rfl rfl)
theorem dX7_init_90 : decode cX7_init 90 = .ok (.putfield 55, 3) := dk_181 0 55 (dk_at dksX7_init_4 0 rfl rfl)
theorem dX7_init_93 : decode cX7_init 93 = .ok (.aload_n 0, 1) := dk_42 (dk_at dksX7_init_4 3 rfl rfl)
theorem dX7_init_94 : decode cX7_init 94 = .ok (.aload_n 2, 1) := dk_44 (dk_at dksX7_init_4 4 rfl rfl)
theorem dX7_init_95 : decode cX7_init 95 = .ok (.putfield 58, 3) := dk_181 0 58 (dk_at dksX7_init_4 5 rfl rfl)
theorem dX7_init_98 : decode cX7_init 98 = .ok (.aload_n 0, 1) := dk_42 (dk_at dksX7_init_4 8 rfl rfl)
theorem dX7_init_99 : decode cX7_init 99 = .ok (.aload_n 3, 1) := dk_45 (dk_at dksX7_init_4 9 rfl rfl)
theorem dX7_init_100 : decode cX7_init 100 = .ok (.putfield 61, 3) := dk_181 0 61 (dk_at dksX7_init_4 10 rfl rfl)
theorem dX7_init_103 : decode cX7_init 103 = .ok (.aload_n 0, 1) := dk_42 (dk_at dksX7_init_4 13 rfl rfl)
theorem dX7_init_104 : decode cX7_init 104 = .ok (.aload_n 2, 1) := dk_44 (dk_at dksX7_init_4 14 rfl rfl)
theorem dX7_init_105 : decode cX7_init 105 = .ok (.arraylength, 1) := dk_190 (dk_at dksX7_init_4 15 rfl rfl)
theorem dX7_init_106 : decode cX7_init 106 = .ok (.putfield 65, 3) := dk_181 0 65 (dk_at dksX7_init_4 16 rfl rfl)
theorem dX7_init_109 : decode cX7_init 109 = .ok (.aload_n 0, 1) := dk_42 (dk_at dksX7_init_4 19 rfl rfl)
theorem dX7_init_110 : decode cX7_init 110 = .ok (.invokevirtual 69, 3) := dk_182 0 69 (dk_at dksX7_init_4 20 rfl rfl)
theorem dX7_init_113 : decode cX7_init 113 = .ok (.aload_n 0, 1) := dk_42 (dk_at dksX7_init_4 23 rfl rfl)
theorem dX7_init_114 : decode cX7_init 114 = .ok (.invokevirtual 72, 3) := dk_182 0 72 (dk_at dksX7_init_5 0 rfl rfl)
theorem dX7_init_117 : decode cX7_init 117 = .ok (.aload_n 0, 1) := dk_42 (dk_at dksX7_init_5 3 rfl rfl)
theorem dX7_init_118 : decode cX7_init 118 = .ok (.invokevirtual 74, 3) := dk_182 0 74 (dk_at dksX7_init_5 4 rfl rfl)
theorem dX7_init_121 : decode cX7_init 121 = .ok (.return_, 1) := dk_177 (dk_at dksX7_init_5 7 rfl rfl)
abbrev cX7_knots : ByteArray := prog_2_method_3_code
def yX7_knots : MethodName := ⟨RX7, "knots", "()V"⟩
def dkwX7_knots_12 : List UInt8 := [42, 29, 43, 29, 46, 182, 0, 122, 132, 3, 1, 167, 255, 159, 177]
abbrev dktX7_knots_12 : List UInt8 := dkwX7_knots_12 ++ []
def dkwX7_knots_11 : List UInt8 := [180, 0, 65, 162, 0, 11, 42, 29, 44, 29, 50, 182, 0, 118, 29, 4, 96, 42, 180, 0, 65, 162, 0, 11]
abbrev dktX7_knots_11 : List UInt8 := dkwX7_knots_11 ++ dktX7_knots_12
def dkwX7_knots_10 : List UInt8 := [29, 46, 42, 180, 0, 15, 29, 46, 21, 4, 183, 0, 112, 182, 0, 115, 132, 4, 1, 167, 255, 210, 29, 42]
abbrev dktX7_knots_10 : List UInt8 := dkwX7_knots_10 ++ dktX7_knots_11
def dkwX7_knots_9 : List UInt8 := [180, 0, 3, 180, 0, 107, 162, 0, 40, 42, 187, 0, 110, 89, 42, 180, 0, 3, 42, 29, 42, 180, 0, 15]
abbrev dktX7_knots_9 : List UInt8 := dkwX7_knots_9 ++ dktX7_knots_10
def dkwX7_knots_8 : List UInt8 := [132, 3, 1, 167, 255, 83, 3, 62, 29, 42, 180, 0, 65, 163, 0, 95, 3, 54, 4, 21, 4, 42]
abbrev dktX7_knots_8 : List UInt8 := dkwX7_knots_8 ++ dktX7_knots_9
def dkwX7_knots_7 : List UInt8 := [180, 0, 89, 16, 252, 79, 42, 89, 180, 0, 89, 4, 96, 181, 0, 89, 132, 4, 1, 167, 255, 168]
abbrev dktX7_knots_7 : List UInt8 := dkwX7_knots_7 ++ dktX7_knots_8
def dkwX7_knots_6 : List UInt8 := [180, 0, 58, 29, 46, 160, 0, 34, 44, 29, 50, 21, 4, 42, 180, 0, 89, 79, 42, 180, 0, 19, 42]
abbrev dktX7_knots_6 : List UInt8 := dkwX7_knots_6 ++ dktX7_knots_7
def dkwX7_knots_5 : List UInt8 := [162, 0, 69, 42, 180, 0, 3, 180, 0, 91, 21, 4, 185, 0, 98, 2, 0, 192, 0, 102, 180, 0, 104, 42]
abbrev dktX7_knots_5 : List UInt8 := dkwX7_knots_5 ++ dktX7_knots_6
def dkwX7_knots_4 : List UInt8 := [21, 4, 42, 180, 0, 3, 180, 0, 91, 185, 0, 94, 1, 0, 162, 0, 77, 29, 42, 180, 0, 65]
abbrev dktX7_knots_4 : List UInt8 := dkwX7_knots_4 ++ dktX7_knots_5
def dkwX7_knots_3 : List UInt8 := [180, 0, 19, 42, 180, 0, 89, 16, 252, 79, 42, 89, 180, 0, 89, 4, 96, 181, 0, 89, 3, 54, 4]
abbrev dktX7_knots_3 : List UInt8 := dkwX7_knots_3 ++ dktX7_knots_4
def dkwX7_knots_2 : List UInt8 := [4, 96, 181, 0, 89, 29, 4, 96, 42, 180, 0, 65, 162, 0, 31, 43, 29, 42, 180, 0, 89, 79, 42]
abbrev dktX7_knots_2 : List UInt8 := dkwX7_knots_2 ++ dktX7_knots_3
def dkwX7_knots_1 : List UInt8 := [180, 0, 15, 29, 42, 180, 0, 89, 79, 42, 180, 0, 19, 42, 180, 0, 89, 29, 79, 42, 89, 180, 0, 89]
abbrev dktX7_knots_1 : List UInt8 := dkwX7_knots_1 ++ dktX7_knots_2
def dkwX7_knots_0 : List UInt8 := [16, 12, 188, 10, 76, 16, 12, 6, 197, 0, 87, 2, 77, 3, 62, 29, 42, 180, 0, 65, 163, 0, 171, 42]
abbrev dktX7_knots_0 : List UInt8 := dkwX7_knots_0 ++ dktX7_knots_1
theorem dksX7_knots_0 : cX7_knots.data.toList.drop 0 = dktX7_knots_0 := by decide +kernel
theorem dksX7_knots_1 : cX7_knots.data.toList.drop 24 = dktX7_knots_1 := dk_seg dksX7_knots_0 24 rfl rfl
theorem dksX7_knots_2 : cX7_knots.data.toList.drop 48 = dktX7_knots_2 := dk_seg dksX7_knots_1 24 rfl rfl
theorem dksX7_knots_3 : cX7_knots.data.toList.drop 71 = dktX7_knots_3 := dk_seg dksX7_knots_2 23 rfl rfl
theorem dksX7_knots_4 : cX7_knots.data.toList.drop 94 = dktX7_knots_4 := dk_seg dksX7_knots_3 23 rfl rfl
theorem dksX7_knots_5 : cX7_knots.data.toList.drop 116 = dktX7_knots_5 := dk_seg dksX7_knots_4 22 rfl rfl
theorem dksX7_knots_6 : cX7_knots.data.toList.drop 140 = dktX7_knots_6 := dk_seg dksX7_knots_5 24 rfl rfl
theorem dksX7_knots_7 : cX7_knots.data.toList.drop 163 = dktX7_knots_7 := dk_seg dksX7_knots_6 23 rfl rfl
theorem dksX7_knots_8 : cX7_knots.data.toList.drop 185 = dktX7_knots_8 := dk_seg dksX7_knots_7 22 rfl rfl
theorem dksX7_knots_9 : cX7_knots.data.toList.drop 207 = dktX7_knots_9 := dk_seg dksX7_knots_8 22 rfl rfl
theorem dksX7_knots_10 : cX7_knots.data.toList.drop 231 = dktX7_knots_10 := dk_seg dksX7_knots_9 24 rfl rfl
theorem dksX7_knots_11 : cX7_knots.data.toList.drop 255 = dktX7_knots_11 := dk_seg dksX7_knots_10 24 rfl rfl
theorem dksX7_knots_12 : cX7_knots.data.toList.drop 279 = dktX7_knots_12 := dk_seg dksX7_knots_11 24 rfl rfl
theorem dX7_knots_0 : decode cX7_knots 0 = .ok (.bipush 12, 2) := dk_16 12 (dk_at dksX7_knots_0 0 rfl rfl)
theorem dX7_knots_2 : decode cX7_knots 2 = .ok (.newarray .int, 2) := dk_188_10 (dk_at dksX7_knots_0 2 rfl rfl)
theorem dX7_knots_4 : decode cX7_knots 4 = .ok (.astore_n 1, 1) := dk_76 (dk_at dksX7_knots_0 4 rfl rfl)
theorem dX7_knots_5 : decode cX7_knots 5 = .ok (.bipush 12, 2) := dk_16 12 (dk_at dksX7_knots_0 5 rfl rfl)
theorem dX7_knots_7 : decode cX7_knots 7 = .ok (.iconst 3, 1) := dk_6 (dk_at dksX7_knots_0 7 rfl rfl)
theorem dX7_knots_8 : decode cX7_knots 8 = .ok (.multianewarray 87 2, 4) := by decide +kernel
theorem dX7_knots_12 : decode cX7_knots 12 = .ok (.astore_n 2, 1) := dk_77 (dk_at dksX7_knots_0 12 rfl rfl)
theorem dX7_knots_13 : decode cX7_knots 13 = .ok (.iconst 0, 1) := dk_3 (dk_at dksX7_knots_0 13 rfl rfl)
theorem dX7_knots_14 : decode cX7_knots 14 = .ok (.istore_n 3, 1) := dk_62 (dk_at dksX7_knots_0 14 rfl rfl)
theorem dX7_knots_15 : decode cX7_knots 15 = .ok (.iload_n 3, 1) := dk_29 (dk_at dksX7_knots_0 15 rfl rfl)
theorem dX7_knots_16 : decode cX7_knots 16 = .ok (.aload_n 0, 1) := dk_42 (dk_at dksX7_knots_0 16 rfl rfl)
theorem dX7_knots_17 : decode cX7_knots 17 = .ok (.getfield 65, 3) := dk_180 0 65 (dk_at dksX7_knots_0 17 rfl rfl)
theorem dX7_knots_20 : decode cX7_knots 20 = .ok (.if_icmp .gt 171, 3) := dk_163 0 171 (dk_at dksX7_knots_0 20 rfl rfl)
theorem dX7_knots_23 : decode cX7_knots 23 = .ok (.aload_n 0, 1) := dk_42 (dk_at dksX7_knots_0 23 rfl rfl)
theorem dX7_knots_24 : decode cX7_knots 24 = .ok (.getfield 15, 3) := dk_180 0 15 (dk_at dksX7_knots_1 0 rfl rfl)
theorem dX7_knots_27 : decode cX7_knots 27 = .ok (.iload_n 3, 1) := dk_29 (dk_at dksX7_knots_1 3 rfl rfl)
theorem dX7_knots_28 : decode cX7_knots 28 = .ok (.aload_n 0, 1) := dk_42 (dk_at dksX7_knots_1 4 rfl rfl)
theorem dX7_knots_29 : decode cX7_knots 29 = .ok (.getfield 89, 3) := dk_180 0 89 (dk_at dksX7_knots_1 5 rfl rfl)
theorem dX7_knots_32 : decode cX7_knots 32 = .ok (.iastore, 1) := dk_79 (dk_at dksX7_knots_1 8 rfl rfl)
theorem dX7_knots_33 : decode cX7_knots 33 = .ok (.aload_n 0, 1) := dk_42 (dk_at dksX7_knots_1 9 rfl rfl)
theorem dX7_knots_34 : decode cX7_knots 34 = .ok (.getfield 19, 3) := dk_180 0 19 (dk_at dksX7_knots_1 10 rfl rfl)
theorem dX7_knots_37 : decode cX7_knots 37 = .ok (.aload_n 0, 1) := dk_42 (dk_at dksX7_knots_1 13 rfl rfl)
theorem dX7_knots_38 : decode cX7_knots 38 = .ok (.getfield 89, 3) := dk_180 0 89 (dk_at dksX7_knots_1 14 rfl rfl)
theorem dX7_knots_41 : decode cX7_knots 41 = .ok (.iload_n 3, 1) := dk_29 (dk_at dksX7_knots_1 17 rfl rfl)
theorem dX7_knots_42 : decode cX7_knots 42 = .ok (.iastore, 1) := dk_79 (dk_at dksX7_knots_1 18 rfl rfl)
theorem dX7_knots_43 : decode cX7_knots 43 = .ok (.aload_n 0, 1) := dk_42 (dk_at dksX7_knots_1 19 rfl rfl)
theorem dX7_knots_44 : decode cX7_knots 44 = .ok (.dup, 1) := dk_89 (dk_at dksX7_knots_1 20 rfl rfl)
theorem dX7_knots_45 : decode cX7_knots 45 = .ok (.getfield 89, 3) := dk_180 0 89 (dk_at dksX7_knots_1 21 rfl rfl)
theorem dX7_knots_48 : decode cX7_knots 48 = .ok (.iconst 1, 1) := dk_4 (dk_at dksX7_knots_2 0 rfl rfl)
theorem dX7_knots_49 : decode cX7_knots 49 = .ok (.iadd, 1) := dk_96 (dk_at dksX7_knots_2 1 rfl rfl)
theorem dX7_knots_50 : decode cX7_knots 50 = .ok (.putfield 89, 3) := dk_181 0 89 (dk_at dksX7_knots_2 2 rfl rfl)
theorem dX7_knots_53 : decode cX7_knots 53 = .ok (.iload_n 3, 1) := dk_29 (dk_at dksX7_knots_2 5 rfl rfl)
theorem dX7_knots_54 : decode cX7_knots 54 = .ok (.iconst 1, 1) := dk_4 (dk_at dksX7_knots_2 6 rfl rfl)
theorem dX7_knots_55 : decode cX7_knots 55 = .ok (.iadd, 1) := dk_96 (dk_at dksX7_knots_2 7 rfl rfl)
theorem dX7_knots_56 : decode cX7_knots 56 = .ok (.aload_n 0, 1) := dk_42 (dk_at dksX7_knots_2 8 rfl rfl)
theorem dX7_knots_57 : decode cX7_knots 57 = .ok (.getfield 65, 3) := dk_180 0 65 (dk_at dksX7_knots_2 9 rfl rfl)
theorem dX7_knots_60 : decode cX7_knots 60 = .ok (.if_icmp .ge 31, 3) := dk_162 0 31 (dk_at dksX7_knots_2 12 rfl rfl)
theorem dX7_knots_63 : decode cX7_knots 63 = .ok (.aload_n 1, 1) := dk_43 (dk_at dksX7_knots_2 15 rfl rfl)
theorem dX7_knots_64 : decode cX7_knots 64 = .ok (.iload_n 3, 1) := dk_29 (dk_at dksX7_knots_2 16 rfl rfl)
theorem dX7_knots_65 : decode cX7_knots 65 = .ok (.aload_n 0, 1) := dk_42 (dk_at dksX7_knots_2 17 rfl rfl)
theorem dX7_knots_66 : decode cX7_knots 66 = .ok (.getfield 89, 3) := dk_180 0 89 (dk_at dksX7_knots_2 18 rfl rfl)
theorem dX7_knots_69 : decode cX7_knots 69 = .ok (.iastore, 1) := dk_79 (dk_at dksX7_knots_2 21 rfl rfl)
theorem dX7_knots_70 : decode cX7_knots 70 = .ok (.aload_n 0, 1) := dk_42 (dk_at dksX7_knots_2 22 rfl rfl)
theorem dX7_knots_71 : decode cX7_knots 71 = .ok (.getfield 19, 3) := dk_180 0 19 (dk_at dksX7_knots_3 0 rfl rfl)
theorem dX7_knots_74 : decode cX7_knots 74 = .ok (.aload_n 0, 1) := dk_42 (dk_at dksX7_knots_3 3 rfl rfl)
theorem dX7_knots_75 : decode cX7_knots 75 = .ok (.getfield 89, 3) := dk_180 0 89 (dk_at dksX7_knots_3 4 rfl rfl)
theorem dX7_knots_78 : decode cX7_knots 78 = .ok (.bipush (-4), 2) := dk_16 252 (dk_at dksX7_knots_3 7 rfl rfl)
theorem dX7_knots_80 : decode cX7_knots 80 = .ok (.iastore, 1) := dk_79 (dk_at dksX7_knots_3 9 rfl rfl)
theorem dX7_knots_81 : decode cX7_knots 81 = .ok (.aload_n 0, 1) := dk_42 (dk_at dksX7_knots_3 10 rfl rfl)
theorem dX7_knots_82 : decode cX7_knots 82 = .ok (.dup, 1) := dk_89 (dk_at dksX7_knots_3 11 rfl rfl)
theorem dX7_knots_83 : decode cX7_knots 83 = .ok (.getfield 89, 3) := dk_180 0 89 (dk_at dksX7_knots_3 12 rfl rfl)
theorem dX7_knots_86 : decode cX7_knots 86 = .ok (.iconst 1, 1) := dk_4 (dk_at dksX7_knots_3 15 rfl rfl)
theorem dX7_knots_87 : decode cX7_knots 87 = .ok (.iadd, 1) := dk_96 (dk_at dksX7_knots_3 16 rfl rfl)
theorem dX7_knots_88 : decode cX7_knots 88 = .ok (.putfield 89, 3) := dk_181 0 89 (dk_at dksX7_knots_3 17 rfl rfl)
theorem dX7_knots_91 : decode cX7_knots 91 = .ok (.iconst 0, 1) := dk_3 (dk_at dksX7_knots_3 20 rfl rfl)
theorem dX7_knots_92 : decode cX7_knots 92 = .ok (.istore 4, 2) := dk_54 4 (dk_at dksX7_knots_3 21 rfl rfl)
theorem dX7_knots_94 : decode cX7_knots 94 = .ok (.iload 4, 2) := dk_21 4 (dk_at dksX7_knots_4 0 rfl rfl)
theorem dX7_knots_96 : decode cX7_knots 96 = .ok (.aload_n 0, 1) := dk_42 (dk_at dksX7_knots_4 2 rfl rfl)
theorem dX7_knots_97 : decode cX7_knots 97 = .ok (.getfield 3, 3) := dk_180 0 3 (dk_at dksX7_knots_4 3 rfl rfl)
theorem dX7_knots_100 : decode cX7_knots 100 = .ok (.getfield 91, 3) := dk_180 0 91 (dk_at dksX7_knots_4 6 rfl rfl)
theorem dX7_knots_103 : decode cX7_knots 103 = .ok (.invokeinterface 94 1, 5) := by decide +kernel
theorem dX7_knots_108 : decode cX7_knots 108 = .ok (.if_icmp .ge 77, 3) := dk_162 0 77 (dk_at dksX7_knots_4 14 rfl rfl)
theorem dX7_knots_111 : decode cX7_knots 111 = .ok (.iload_n 3, 1) := dk_29 (dk_at dksX7_knots_4 17 rfl rfl)
theorem dX7_knots_112 : decode cX7_knots 112 = .ok (.aload_n 0, 1) := dk_42 (dk_at dksX7_knots_4 18 rfl rfl)
theorem dX7_knots_113 : decode cX7_knots 113 = .ok (.getfield 65, 3) := dk_180 0 65 (dk_at dksX7_knots_4 19 rfl rfl)
theorem dX7_knots_116 : decode cX7_knots 116 = .ok (.if_icmp .ge 69, 3) := dk_162 0 69 (dk_at dksX7_knots_5 0 rfl rfl)
theorem dX7_knots_119 : decode cX7_knots 119 = .ok (.aload_n 0, 1) := dk_42 (dk_at dksX7_knots_5 3 rfl rfl)
theorem dX7_knots_120 : decode cX7_knots 120 = .ok (.getfield 3, 3) := dk_180 0 3 (dk_at dksX7_knots_5 4 rfl rfl)
theorem dX7_knots_123 : decode cX7_knots 123 = .ok (.getfield 91, 3) := dk_180 0 91 (dk_at dksX7_knots_5 7 rfl rfl)
theorem dX7_knots_126 : decode cX7_knots 126 = .ok (.iload 4, 2) := dk_21 4 (dk_at dksX7_knots_5 10 rfl rfl)
theorem dX7_knots_128 : decode cX7_knots 128 = .ok (.invokeinterface 98 2, 5) := by decide +kernel
theorem dX7_knots_133 : decode cX7_knots 133 = .ok (.checkcast 102, 3) := dk_192 0 102 (dk_at dksX7_knots_5 17 rfl rfl)
theorem dX7_knots_136 : decode cX7_knots 136 = .ok (.getfield 104, 3) := dk_180 0 104 (dk_at dksX7_knots_5 20 rfl rfl)
theorem dX7_knots_139 : decode cX7_knots 139 = .ok (.aload_n 0, 1) := dk_42 (dk_at dksX7_knots_5 23 rfl rfl)
theorem dX7_knots_140 : decode cX7_knots 140 = .ok (.getfield 58, 3) := dk_180 0 58 (dk_at dksX7_knots_6 0 rfl rfl)
theorem dX7_knots_143 : decode cX7_knots 143 = .ok (.iload_n 3, 1) := dk_29 (dk_at dksX7_knots_6 3 rfl rfl)
theorem dX7_knots_144 : decode cX7_knots 144 = .ok (.iaload, 1) := dk_46 (dk_at dksX7_knots_6 4 rfl rfl)
theorem dX7_knots_145 : decode cX7_knots 145 = .ok (.if_icmp .ne 34, 3) := dk_160 0 34 (dk_at dksX7_knots_6 5 rfl rfl)
theorem dX7_knots_148 : decode cX7_knots 148 = .ok (.aload_n 2, 1) := dk_44 (dk_at dksX7_knots_6 8 rfl rfl)
theorem dX7_knots_149 : decode cX7_knots 149 = .ok (.iload_n 3, 1) := dk_29 (dk_at dksX7_knots_6 9 rfl rfl)
theorem dX7_knots_150 : decode cX7_knots 150 = .ok (.aaload, 1) := dk_50 (dk_at dksX7_knots_6 10 rfl rfl)
theorem dX7_knots_151 : decode cX7_knots 151 = .ok (.iload 4, 2) := dk_21 4 (dk_at dksX7_knots_6 11 rfl rfl)
theorem dX7_knots_153 : decode cX7_knots 153 = .ok (.aload_n 0, 1) := dk_42 (dk_at dksX7_knots_6 13 rfl rfl)
theorem dX7_knots_154 : decode cX7_knots 154 = .ok (.getfield 89, 3) := dk_180 0 89 (dk_at dksX7_knots_6 14 rfl rfl)
theorem dX7_knots_157 : decode cX7_knots 157 = .ok (.iastore, 1) := dk_79 (dk_at dksX7_knots_6 17 rfl rfl)
theorem dX7_knots_158 : decode cX7_knots 158 = .ok (.aload_n 0, 1) := dk_42 (dk_at dksX7_knots_6 18 rfl rfl)
theorem dX7_knots_159 : decode cX7_knots 159 = .ok (.getfield 19, 3) := dk_180 0 19 (dk_at dksX7_knots_6 19 rfl rfl)
theorem dX7_knots_162 : decode cX7_knots 162 = .ok (.aload_n 0, 1) := dk_42 (dk_at dksX7_knots_6 22 rfl rfl)
theorem dX7_knots_163 : decode cX7_knots 163 = .ok (.getfield 89, 3) := dk_180 0 89 (dk_at dksX7_knots_7 0 rfl rfl)
theorem dX7_knots_166 : decode cX7_knots 166 = .ok (.bipush (-4), 2) := dk_16 252 (dk_at dksX7_knots_7 3 rfl rfl)
theorem dX7_knots_168 : decode cX7_knots 168 = .ok (.iastore, 1) := dk_79 (dk_at dksX7_knots_7 5 rfl rfl)
theorem dX7_knots_169 : decode cX7_knots 169 = .ok (.aload_n 0, 1) := dk_42 (dk_at dksX7_knots_7 6 rfl rfl)
theorem dX7_knots_170 : decode cX7_knots 170 = .ok (.dup, 1) := dk_89 (dk_at dksX7_knots_7 7 rfl rfl)
theorem dX7_knots_171 : decode cX7_knots 171 = .ok (.getfield 89, 3) := dk_180 0 89 (dk_at dksX7_knots_7 8 rfl rfl)
theorem dX7_knots_174 : decode cX7_knots 174 = .ok (.iconst 1, 1) := dk_4 (dk_at dksX7_knots_7 11 rfl rfl)
theorem dX7_knots_175 : decode cX7_knots 175 = .ok (.iadd, 1) := dk_96 (dk_at dksX7_knots_7 12 rfl rfl)
theorem dX7_knots_176 : decode cX7_knots 176 = .ok (.putfield 89, 3) := dk_181 0 89 (dk_at dksX7_knots_7 13 rfl rfl)
theorem dX7_knots_179 : decode cX7_knots 179 = .ok (.iinc 4 1, 3) := dk_132 4 1 (dk_at dksX7_knots_7 16 rfl rfl)
theorem dX7_knots_182 : decode cX7_knots 182 = .ok (.goto (-88), 3) := dk_167 255 168 (dk_at dksX7_knots_7 19 rfl rfl)
theorem dX7_knots_185 : decode cX7_knots 185 = .ok (.iinc 3 1, 3) := dk_132 3 1 (dk_at dksX7_knots_8 0 rfl rfl)
theorem dX7_knots_188 : decode cX7_knots 188 = .ok (.goto (-173), 3) := dk_167 255 83 (dk_at dksX7_knots_8 3 rfl rfl)
theorem dX7_knots_191 : decode cX7_knots 191 = .ok (.iconst 0, 1) := dk_3 (dk_at dksX7_knots_8 6 rfl rfl)
theorem dX7_knots_192 : decode cX7_knots 192 = .ok (.istore_n 3, 1) := dk_62 (dk_at dksX7_knots_8 7 rfl rfl)
theorem dX7_knots_193 : decode cX7_knots 193 = .ok (.iload_n 3, 1) := dk_29 (dk_at dksX7_knots_8 8 rfl rfl)
theorem dX7_knots_194 : decode cX7_knots 194 = .ok (.aload_n 0, 1) := dk_42 (dk_at dksX7_knots_8 9 rfl rfl)
theorem dX7_knots_195 : decode cX7_knots 195 = .ok (.getfield 65, 3) := dk_180 0 65 (dk_at dksX7_knots_8 10 rfl rfl)
theorem dX7_knots_198 : decode cX7_knots 198 = .ok (.if_icmp .gt 95, 3) := dk_163 0 95 (dk_at dksX7_knots_8 13 rfl rfl)
theorem dX7_knots_201 : decode cX7_knots 201 = .ok (.iconst 0, 1) := dk_3 (dk_at dksX7_knots_8 16 rfl rfl)
theorem dX7_knots_202 : decode cX7_knots 202 = .ok (.istore 4, 2) := dk_54 4 (dk_at dksX7_knots_8 17 rfl rfl)
theorem dX7_knots_204 : decode cX7_knots 204 = .ok (.iload 4, 2) := dk_21 4 (dk_at dksX7_knots_8 19 rfl rfl)
theorem dX7_knots_206 : decode cX7_knots 206 = .ok (.aload_n 0, 1) := dk_42 (dk_at dksX7_knots_8 21 rfl rfl)
theorem dX7_knots_207 : decode cX7_knots 207 = .ok (.getfield 3, 3) := dk_180 0 3 (dk_at dksX7_knots_9 0 rfl rfl)
theorem dX7_knots_210 : decode cX7_knots 210 = .ok (.getfield 107, 3) := dk_180 0 107 (dk_at dksX7_knots_9 3 rfl rfl)
theorem dX7_knots_213 : decode cX7_knots 213 = .ok (.if_icmp .ge 40, 3) := dk_162 0 40 (dk_at dksX7_knots_9 6 rfl rfl)
theorem dX7_knots_216 : decode cX7_knots 216 = .ok (.aload_n 0, 1) := dk_42 (dk_at dksX7_knots_9 9 rfl rfl)
theorem dX7_knots_217 : decode cX7_knots 217 = .ok (.new 110, 3) := dk_187 0 110 (dk_at dksX7_knots_9 10 rfl rfl)
theorem dX7_knots_220 : decode cX7_knots 220 = .ok (.dup, 1) := dk_89 (dk_at dksX7_knots_9 13 rfl rfl)
theorem dX7_knots_221 : decode cX7_knots 221 = .ok (.aload_n 0, 1) := dk_42 (dk_at dksX7_knots_9 14 rfl rfl)
theorem dX7_knots_222 : decode cX7_knots 222 = .ok (.getfield 3, 3) := dk_180 0 3 (dk_at dksX7_knots_9 15 rfl rfl)
theorem dX7_knots_225 : decode cX7_knots 225 = .ok (.aload_n 0, 1) := dk_42 (dk_at dksX7_knots_9 18 rfl rfl)
theorem dX7_knots_226 : decode cX7_knots 226 = .ok (.iload_n 3, 1) := dk_29 (dk_at dksX7_knots_9 19 rfl rfl)
theorem dX7_knots_227 : decode cX7_knots 227 = .ok (.aload_n 0, 1) := dk_42 (dk_at dksX7_knots_9 20 rfl rfl)
theorem dX7_knots_228 : decode cX7_knots 228 = .ok (.getfield 15, 3) := dk_180 0 15 (dk_at dksX7_knots_9 21 rfl rfl)
theorem dX7_knots_231 : decode cX7_knots 231 = .ok (.iload_n 3, 1) := dk_29 (dk_at dksX7_knots_10 0 rfl rfl)
theorem dX7_knots_232 : decode cX7_knots 232 = .ok (.iaload, 1) := dk_46 (dk_at dksX7_knots_10 1 rfl rfl)
theorem dX7_knots_233 : decode cX7_knots 233 = .ok (.aload_n 0, 1) := dk_42 (dk_at dksX7_knots_10 2 rfl rfl)
theorem dX7_knots_234 : decode cX7_knots 234 = .ok (.getfield 15, 3) := dk_180 0 15 (dk_at dksX7_knots_10 3 rfl rfl)
theorem dX7_knots_237 : decode cX7_knots 237 = .ok (.iload_n 3, 1) := dk_29 (dk_at dksX7_knots_10 6 rfl rfl)
theorem dX7_knots_238 : decode cX7_knots 238 = .ok (.iaload, 1) := dk_46 (dk_at dksX7_knots_10 7 rfl rfl)
theorem dX7_knots_239 : decode cX7_knots 239 = .ok (.iload 4, 2) := dk_21 4 (dk_at dksX7_knots_10 8 rfl rfl)
theorem dX7_knots_241 : decode cX7_knots 241 = .ok (.invokespecial 112, 3) := dk_183 0 112 (dk_at dksX7_knots_10 10 rfl rfl)
theorem dX7_knots_244 : decode cX7_knots 244 = .ok (.invokevirtual 115, 3) := dk_182 0 115 (dk_at dksX7_knots_10 13 rfl rfl)
theorem dX7_knots_247 : decode cX7_knots 247 = .ok (.iinc 4 1, 3) := dk_132 4 1 (dk_at dksX7_knots_10 16 rfl rfl)
theorem dX7_knots_250 : decode cX7_knots 250 = .ok (.goto (-46), 3) := dk_167 255 210 (dk_at dksX7_knots_10 19 rfl rfl)
theorem dX7_knots_253 : decode cX7_knots 253 = .ok (.iload_n 3, 1) := dk_29 (dk_at dksX7_knots_10 22 rfl rfl)
theorem dX7_knots_254 : decode cX7_knots 254 = .ok (.aload_n 0, 1) := dk_42 (dk_at dksX7_knots_10 23 rfl rfl)
theorem dX7_knots_255 : decode cX7_knots 255 = .ok (.getfield 65, 3) := dk_180 0 65 (dk_at dksX7_knots_11 0 rfl rfl)
theorem dX7_knots_258 : decode cX7_knots 258 = .ok (.if_icmp .ge 11, 3) := dk_162 0 11 (dk_at dksX7_knots_11 3 rfl rfl)
theorem dX7_knots_261 : decode cX7_knots 261 = .ok (.aload_n 0, 1) := dk_42 (dk_at dksX7_knots_11 6 rfl rfl)
theorem dX7_knots_262 : decode cX7_knots 262 = .ok (.iload_n 3, 1) := dk_29 (dk_at dksX7_knots_11 7 rfl rfl)
theorem dX7_knots_263 : decode cX7_knots 263 = .ok (.aload_n 2, 1) := dk_44 (dk_at dksX7_knots_11 8 rfl rfl)
theorem dX7_knots_264 : decode cX7_knots 264 = .ok (.iload_n 3, 1) := dk_29 (dk_at dksX7_knots_11 9 rfl rfl)
theorem dX7_knots_265 : decode cX7_knots 265 = .ok (.aaload, 1) := dk_50 (dk_at dksX7_knots_11 10 rfl rfl)
theorem dX7_knots_266 : decode cX7_knots 266 = .ok (.invokevirtual 118, 3) := dk_182 0 118 (dk_at dksX7_knots_11 11 rfl rfl)
theorem dX7_knots_269 : decode cX7_knots 269 = .ok (.iload_n 3, 1) := dk_29 (dk_at dksX7_knots_11 14 rfl rfl)
theorem dX7_knots_270 : decode cX7_knots 270 = .ok (.iconst 1, 1) := dk_4 (dk_at dksX7_knots_11 15 rfl rfl)
theorem dX7_knots_271 : decode cX7_knots 271 = .ok (.iadd, 1) := dk_96 (dk_at dksX7_knots_11 16 rfl rfl)
theorem dX7_knots_272 : decode cX7_knots 272 = .ok (.aload_n 0, 1) := dk_42 (dk_at dksX7_knots_11 17 rfl rfl)
theorem dX7_knots_273 : decode cX7_knots 273 = .ok (.getfield 65, 3) := dk_180 0 65 (dk_at dksX7_knots_11 18 rfl rfl)
theorem dX7_knots_276 : decode cX7_knots 276 = .ok (.if_icmp .ge 11, 3) := dk_162 0 11 (dk_at dksX7_knots_11 21 rfl rfl)
theorem dX7_knots_279 : decode cX7_knots 279 = .ok (.aload_n 0, 1) := dk_42 (dk_at dksX7_knots_12 0 rfl rfl)
theorem dX7_knots_280 : decode cX7_knots 280 = .ok (.iload_n 3, 1) := dk_29 (dk_at dksX7_knots_12 1 rfl rfl)
theorem dX7_knots_281 : decode cX7_knots 281 = .ok (.aload_n 1, 1) := dk_43 (dk_at dksX7_knots_12 2 rfl rfl)
theorem dX7_knots_282 : decode cX7_knots 282 = .ok (.iload_n 3, 1) := dk_29 (dk_at dksX7_knots_12 3 rfl rfl)
theorem dX7_knots_283 : decode cX7_knots 283 = .ok (.iaload, 1) := dk_46 (dk_at dksX7_knots_12 4 rfl rfl)
theorem dX7_knots_284 : decode cX7_knots 284 = .ok (.invokevirtual 122, 3) := dk_182 0 122 (dk_at dksX7_knots_12 5 rfl rfl)
theorem dX7_knots_287 : decode cX7_knots 287 = .ok (.iinc 3 1, 3) := dk_132 3 1 (dk_at dksX7_knots_12 8 rfl rfl)
theorem dX7_knots_290 : decode cX7_knots 290 = .ok (.goto (-97), 3) := dk_167 255 159 (dk_at dksX7_knots_12 11 rfl rfl)
theorem dX7_knots_293 : decode cX7_knots 293 = .ok (.return_, 1) := dk_177 (dk_at dksX7_knots_12 14 rfl rfl)
abbrev cX7_add : ByteArray := prog_2_method_2_code
def yX7_add : MethodName := ⟨RX7, "add", "(LMendReader$Step;)V"⟩
def dkwX7_add_1 : List UInt8 := [185, 0, 81, 2, 0, 87, 177]
abbrev dktX7_add_1 : List UInt8 := dkwX7_add_1 ++ []
def dkwX7_add_0 : List UInt8 := [42, 180, 0, 3, 42, 180, 0, 61, 43, 42, 180, 0, 65, 182, 0, 77, 153, 0, 14, 42, 180, 0, 25, 43]
abbrev dktX7_add_0 : List UInt8 := dkwX7_add_0 ++ dktX7_add_1
theorem dksX7_add_0 : cX7_add.data.toList.drop 0 = dktX7_add_0 := by decide +kernel
theorem dksX7_add_1 : cX7_add.data.toList.drop 24 = dktX7_add_1 := dk_seg dksX7_add_0 24 rfl rfl
theorem dX7_add_0 : decode cX7_add 0 = .ok (.aload_n 0, 1) := dk_42 (dk_at dksX7_add_0 0 rfl rfl)
theorem dX7_add_1 : decode cX7_add 1 = .ok (.getfield 3, 3) := dk_180 0 3 (dk_at dksX7_add_0 1 rfl rfl)
theorem dX7_add_4 : decode cX7_add 4 = .ok (.aload_n 0, 1) := dk_42 (dk_at dksX7_add_0 4 rfl rfl)
theorem dX7_add_5 : decode cX7_add 5 = .ok (.getfield 61, 3) := dk_180 0 61 (dk_at dksX7_add_0 5 rfl rfl)
theorem dX7_add_8 : decode cX7_add 8 = .ok (.aload_n 1, 1) := dk_43 (dk_at dksX7_add_0 8 rfl rfl)
theorem dX7_add_9 : decode cX7_add 9 = .ok (.aload_n 0, 1) := dk_42 (dk_at dksX7_add_0 9 rfl rfl)
theorem dX7_add_10 : decode cX7_add 10 = .ok (.getfield 65, 3) := dk_180 0 65 (dk_at dksX7_add_0 10 rfl rfl)
theorem dX7_add_13 : decode cX7_add 13 = .ok (.invokevirtual 77, 3) := dk_182 0 77 (dk_at dksX7_add_0 13 rfl rfl)
theorem dX7_add_16 : decode cX7_add 16 = .ok (.ifCond .eq 14, 3) := dk_153 0 14 (dk_at dksX7_add_0 16 rfl rfl)
theorem dX7_add_19 : decode cX7_add 19 = .ok (.aload_n 0, 1) := dk_42 (dk_at dksX7_add_0 19 rfl rfl)
theorem dX7_add_20 : decode cX7_add 20 = .ok (.getfield 25, 3) := dk_180 0 25 (dk_at dksX7_add_0 20 rfl rfl)
theorem dX7_add_23 : decode cX7_add 23 = .ok (.aload_n 1, 1) := dk_43 (dk_at dksX7_add_0 23 rfl rfl)
theorem dX7_add_24 : decode cX7_add 24 = .ok (.invokeinterface 81 2, 5) := by decide +kernel
theorem dX7_add_29 : decode cX7_add 29 = .ok (.pop, 1) := dk_87 (dk_at dksX7_add_1 5 rfl rfl)
theorem dX7_add_30 : decode cX7_add 30 = .ok (.return_, 1) := dk_177 (dk_at dksX7_add_1 6 rfl rfl)
abbrev cX7_single : ByteArray := prog_2_method_4_code
def yX7_single : MethodName := ⟨RX7, "single", "(I[I)V"⟩
def dkwX7_single_15 : List UInt8 := [1, 83, 132, 4, 1, 167, 255, 175, 177]
abbrev dktX7_single_15 : List UInt8 := dkwX7_single_15 ++ []
def dkwX7_single_14 : List UInt8 := [180, 0, 3, 42, 180, 0, 61, 25, 5, 42, 180, 0, 65, 182, 0, 77, 153, 0, 8, 25, 5, 167, 0, 4]
abbrev dktX7_single_14 : List UInt8 := dkwX7_single_14 ++ dktX7_single_15
def dkwX7_single_13 : List UInt8 := [180, 0, 15, 27, 21, 4, 96, 46, 21, 4, 183, 0, 150, 58, 5, 42, 180, 0, 31, 27, 50, 21, 4, 42]
abbrev dktX7_single_13 : List UInt8 := dkwX7_single_13 ++ dktX7_single_14
def dkwX7_single_12 : List UInt8 := [180, 0, 65, 163, 0, 76, 187, 0, 148, 89, 42, 180, 0, 3, 42, 27, 42, 180, 0, 15, 27, 46, 42]
abbrev dktX7_single_12 : List UInt8 := dkwX7_single_12 ++ dktX7_single_13
def dkwX7_single_11 : List UInt8 := [180, 0, 65, 182, 0, 77, 153, 0, 7, 45, 167, 0, 4, 1, 83, 5, 54, 4, 27, 21, 4, 96, 42]
abbrev dktX7_single_11 : List UInt8 := dkwX7_single_11 ++ dktX7_single_12
def dkwX7_single_10 : List UInt8 := [4, 96, 46, 183, 0, 145, 78, 42, 180, 0, 31, 27, 50, 4, 42, 180, 0, 3, 42, 180, 0, 61, 45, 42]
abbrev dktX7_single_10 : List UInt8 := dkwX7_single_10 ++ dktX7_single_11
def dkwX7_single_9 : List UInt8 := [167, 255, 138, 187, 0, 143, 89, 42, 180, 0, 3, 42, 27, 42, 180, 0, 15, 27, 46, 42, 180, 0, 15, 27]
abbrev dktX7_single_9 : List UInt8 := dkwX7_single_9 ++ dktX7_single_10
def dkwX7_single_8 : List UInt8 := [29, 46, 42, 180, 0, 15, 27, 4, 96, 46, 25, 4, 180, 0, 140, 183, 0, 128, 182, 0, 115, 132, 3, 1]
abbrev dktX7_single_8 : List UInt8 := dkwX7_single_8 ++ dktX7_single_9
def dkwX7_single_7 : List UInt8 := [180, 0, 134, 25, 4, 29, 183, 0, 137, 182, 0, 115, 42, 187, 0, 126, 89, 42, 180, 0, 3, 42, 27, 44]
abbrev dktX7_single_7 : List UInt8 := dkwX7_single_7 ++ dktX7_single_8
def dkwX7_single_6 : List UInt8 := [42, 187, 0, 132, 89, 42, 180, 0, 3, 42, 27, 42, 180, 0, 15, 27, 46, 44, 29, 46, 25, 4]
abbrev dktX7_single_6 : List UInt8 := dkwX7_single_6 ++ dktX7_single_7
def dkwX7_single_5 : List UInt8 := [185, 0, 98, 2, 0, 192, 0, 102, 58, 4, 25, 4, 180, 0, 104, 42, 180, 0, 58, 27, 46, 160, 0, 70]
abbrev dktX7_single_5 : List UInt8 := dkwX7_single_5 ++ dktX7_single_6
def dkwX7_single_4 : List UInt8 := [180, 0, 3, 180, 0, 91, 185, 0, 94, 1, 0, 162, 0, 108, 42, 180, 0, 3, 180, 0, 91, 29]
abbrev dktX7_single_4 : List UInt8 := dkwX7_single_4 ++ dktX7_single_5
def dkwX7_single_3 : List UInt8 := [180, 0, 15, 27, 4, 96, 46, 29, 183, 0, 131, 182, 0, 115, 132, 3, 1, 167, 255, 169, 3, 62, 29, 42]
abbrev dktX7_single_3 : List UInt8 := dkwX7_single_3 ++ dktX7_single_4
def dkwX7_single_2 : List UInt8 := [29, 183, 0, 128, 167, 0, 31, 187, 0, 129, 89, 42, 180, 0, 3, 42, 27, 42, 180, 0, 15, 27, 46, 42]
abbrev dktX7_single_2 : List UInt8 := dkwX7_single_2 ++ dktX7_single_3
def dkwX7_single_1 : List UInt8 := [187, 0, 126, 89, 42, 180, 0, 3, 42, 27, 42, 180, 0, 15, 27, 46, 42, 180, 0, 15, 27, 4, 96, 46]
abbrev dktX7_single_1 : List UInt8 := dkwX7_single_1 ++ dktX7_single_2
def dkwX7_single_0 : List UInt8 := [3, 62, 29, 42, 180, 0, 3, 180, 0, 107, 162, 0, 82, 42, 29, 42, 180, 0, 58, 27, 46, 160, 0, 34]
abbrev dktX7_single_0 : List UInt8 := dkwX7_single_0 ++ dktX7_single_1
theorem dksX7_single_0 : cX7_single.data.toList.drop 0 = dktX7_single_0 := by decide +kernel
theorem dksX7_single_1 : cX7_single.data.toList.drop 24 = dktX7_single_1 := dk_seg dksX7_single_0 24 rfl rfl
theorem dksX7_single_2 : cX7_single.data.toList.drop 48 = dktX7_single_2 := dk_seg dksX7_single_1 24 rfl rfl
theorem dksX7_single_3 : cX7_single.data.toList.drop 72 = dktX7_single_3 := dk_seg dksX7_single_2 24 rfl rfl
theorem dksX7_single_4 : cX7_single.data.toList.drop 96 = dktX7_single_4 := dk_seg dksX7_single_3 24 rfl rfl
theorem dksX7_single_5 : cX7_single.data.toList.drop 118 = dktX7_single_5 := dk_seg dksX7_single_4 22 rfl rfl
theorem dksX7_single_6 : cX7_single.data.toList.drop 142 = dktX7_single_6 := dk_seg dksX7_single_5 24 rfl rfl
theorem dksX7_single_7 : cX7_single.data.toList.drop 164 = dktX7_single_7 := dk_seg dksX7_single_6 22 rfl rfl
theorem dksX7_single_8 : cX7_single.data.toList.drop 188 = dktX7_single_8 := dk_seg dksX7_single_7 24 rfl rfl
theorem dksX7_single_9 : cX7_single.data.toList.drop 212 = dktX7_single_9 := dk_seg dksX7_single_8 24 rfl rfl
theorem dksX7_single_10 : cX7_single.data.toList.drop 236 = dktX7_single_10 := dk_seg dksX7_single_9 24 rfl rfl
theorem dksX7_single_11 : cX7_single.data.toList.drop 260 = dktX7_single_11 := dk_seg dksX7_single_10 24 rfl rfl
theorem dksX7_single_12 : cX7_single.data.toList.drop 283 = dktX7_single_12 := dk_seg dksX7_single_11 23 rfl rfl
theorem dksX7_single_13 : cX7_single.data.toList.drop 306 = dktX7_single_13 := dk_seg dksX7_single_12 23 rfl rfl
theorem dksX7_single_14 : cX7_single.data.toList.drop 330 = dktX7_single_14 := dk_seg dksX7_single_13 24 rfl rfl
theorem dksX7_single_15 : cX7_single.data.toList.drop 354 = dktX7_single_15 := dk_seg dksX7_single_14 24 rfl rfl
theorem dX7_single_0 : decode cX7_single 0 = .ok (.iconst 0, 1) := dk_3 (dk_at dksX7_single_0 0 rfl rfl)
theorem dX7_single_1 : decode cX7_single 1 = .ok (.istore_n 3, 1) := dk_62 (dk_at dksX7_single_0 1 rfl rfl)
theorem dX7_single_2 : decode cX7_single 2 = .ok (.iload_n 3, 1) := dk_29 (dk_at dksX7_single_0 2 rfl rfl)
theorem dX7_single_3 : decode cX7_single 3 = .ok (.aload_n 0, 1) := dk_42 (dk_at dksX7_single_0 3 rfl rfl)
theorem dX7_single_4 : decode cX7_single 4 = .ok (.getfield 3, 3) := dk_180 0 3 (dk_at dksX7_single_0 4 rfl rfl)
theorem dX7_single_7 : decode cX7_single 7 = .ok (.getfield 107, 3) := dk_180 0 107 (dk_at dksX7_single_0 7 rfl rfl)
theorem dX7_single_10 : decode cX7_single 10 = .ok (.if_icmp .ge 82, 3) := dk_162 0 82 (dk_at dksX7_single_0 10 rfl rfl)
theorem dX7_single_13 : decode cX7_single 13 = .ok (.aload_n 0, 1) := dk_42 (dk_at dksX7_single_0 13 rfl rfl)
theorem dX7_single_14 : decode cX7_single 14 = .ok (.iload_n 3, 1) := dk_29 (dk_at dksX7_single_0 14 rfl rfl)
theorem dX7_single_15 : decode cX7_single 15 = .ok (.aload_n 0, 1) := dk_42 (dk_at dksX7_single_0 15 rfl rfl)
theorem dX7_single_16 : decode cX7_single 16 = .ok (.getfield 58, 3) := dk_180 0 58 (dk_at dksX7_single_0 16 rfl rfl)
theorem dX7_single_19 : decode cX7_single 19 = .ok (.iload_n 1, 1) := dk_27 (dk_at dksX7_single_0 19 rfl rfl)
theorem dX7_single_20 : decode cX7_single 20 = .ok (.iaload, 1) := dk_46 (dk_at dksX7_single_0 20 rfl rfl)
theorem dX7_single_21 : decode cX7_single 21 = .ok (.if_icmp .ne 34, 3) := dk_160 0 34 (dk_at dksX7_single_0 21 rfl rfl)
theorem dX7_single_24 : decode cX7_single 24 = .ok (.new 126, 3) := dk_187 0 126 (dk_at dksX7_single_1 0 rfl rfl)
theorem dX7_single_27 : decode cX7_single 27 = .ok (.dup, 1) := dk_89 (dk_at dksX7_single_1 3 rfl rfl)
theorem dX7_single_28 : decode cX7_single 28 = .ok (.aload_n 0, 1) := dk_42 (dk_at dksX7_single_1 4 rfl rfl)
theorem dX7_single_29 : decode cX7_single 29 = .ok (.getfield 3, 3) := dk_180 0 3 (dk_at dksX7_single_1 5 rfl rfl)
theorem dX7_single_32 : decode cX7_single 32 = .ok (.aload_n 0, 1) := dk_42 (dk_at dksX7_single_1 8 rfl rfl)
theorem dX7_single_33 : decode cX7_single 33 = .ok (.iload_n 1, 1) := dk_27 (dk_at dksX7_single_1 9 rfl rfl)
theorem dX7_single_34 : decode cX7_single 34 = .ok (.aload_n 0, 1) := dk_42 (dk_at dksX7_single_1 10 rfl rfl)
theorem dX7_single_35 : decode cX7_single 35 = .ok (.getfield 15, 3) := dk_180 0 15 (dk_at dksX7_single_1 11 rfl rfl)
theorem dX7_single_38 : decode cX7_single 38 = .ok (.iload_n 1, 1) := dk_27 (dk_at dksX7_single_1 14 rfl rfl)
theorem dX7_single_39 : decode cX7_single 39 = .ok (.iaload, 1) := dk_46 (dk_at dksX7_single_1 15 rfl rfl)
theorem dX7_single_40 : decode cX7_single 40 = .ok (.aload_n 0, 1) := dk_42 (dk_at dksX7_single_1 16 rfl rfl)
theorem dX7_single_41 : decode cX7_single 41 = .ok (.getfield 15, 3) := dk_180 0 15 (dk_at dksX7_single_1 17 rfl rfl)
theorem dX7_single_44 : decode cX7_single 44 = .ok (.iload_n 1, 1) := dk_27 (dk_at dksX7_single_1 20 rfl rfl)
theorem dX7_single_45 : decode cX7_single 45 = .ok (.iconst 1, 1) := dk_4 (dk_at dksX7_single_1 21 rfl rfl)
theorem dX7_single_46 : decode cX7_single 46 = .ok (.iadd, 1) := dk_96 (dk_at dksX7_single_1 22 rfl rfl)
theorem dX7_single_47 : decode cX7_single 47 = .ok (.iaload, 1) := dk_46 (dk_at dksX7_single_1 23 rfl rfl)
theorem dX7_single_48 : decode cX7_single 48 = .ok (.iload_n 3, 1) := dk_29 (dk_at dksX7_single_2 0 rfl rfl)
theorem dX7_single_49 : decode cX7_single 49 = .ok (.invokespecial 128, 3) := dk_183 0 128 (dk_at dksX7_single_2 1 rfl rfl)
theorem dX7_single_52 : decode cX7_single 52 = .ok (.goto 31, 3) := dk_167 0 31 (dk_at dksX7_single_2 4 rfl rfl)
theorem dX7_single_55 : decode cX7_single 55 = .ok (.new 129, 3) := dk_187 0 129 (dk_at dksX7_single_2 7 rfl rfl)
theorem dX7_single_58 : decode cX7_single 58 = .ok (.dup, 1) := dk_89 (dk_at dksX7_single_2 10 rfl rfl)
theorem dX7_single_59 : decode cX7_single 59 = .ok (.aload_n 0, 1) := dk_42 (dk_at dksX7_single_2 11 rfl rfl)
theorem dX7_single_60 : decode cX7_single 60 = .ok (.getfield 3, 3) := dk_180 0 3 (dk_at dksX7_single_2 12 rfl rfl)
theorem dX7_single_63 : decode cX7_single 63 = .ok (.aload_n 0, 1) := dk_42 (dk_at dksX7_single_2 15 rfl rfl)
theorem dX7_single_64 : decode cX7_single 64 = .ok (.iload_n 1, 1) := dk_27 (dk_at dksX7_single_2 16 rfl rfl)
theorem dX7_single_65 : decode cX7_single 65 = .ok (.aload_n 0, 1) := dk_42 (dk_at dksX7_single_2 17 rfl rfl)
theorem dX7_single_66 : decode cX7_single 66 = .ok (.getfield 15, 3) := dk_180 0 15 (dk_at dksX7_single_2 18 rfl rfl)
theorem dX7_single_69 : decode cX7_single 69 = .ok (.iload_n 1, 1) := dk_27 (dk_at dksX7_single_2 21 rfl rfl)
theorem dX7_single_70 : decode cX7_single 70 = .ok (.iaload, 1) := dk_46 (dk_at dksX7_single_2 22 rfl rfl)
theorem dX7_single_71 : decode cX7_single 71 = .ok (.aload_n 0, 1) := dk_42 (dk_at dksX7_single_2 23 rfl rfl)
theorem dX7_single_72 : decode cX7_single 72 = .ok (.getfield 15, 3) := dk_180 0 15 (dk_at dksX7_single_3 0 rfl rfl)
theorem dX7_single_75 : decode cX7_single 75 = .ok (.iload_n 1, 1) := dk_27 (dk_at dksX7_single_3 3 rfl rfl)
theorem dX7_single_76 : decode cX7_single 76 = .ok (.iconst 1, 1) := dk_4 (dk_at dksX7_single_3 4 rfl rfl)
theorem dX7_single_77 : decode cX7_single 77 = .ok (.iadd, 1) := dk_96 (dk_at dksX7_single_3 5 rfl rfl)
theorem dX7_single_78 : decode cX7_single 78 = .ok (.iaload, 1) := dk_46 (dk_at dksX7_single_3 6 rfl rfl)
theorem dX7_single_79 : decode cX7_single 79 = .ok (.iload_n 3, 1) := dk_29 (dk_at dksX7_single_3 7 rfl rfl)
theorem dX7_single_80 : decode cX7_single 80 = .ok (.invokespecial 131, 3) := dk_183 0 131 (dk_at dksX7_single_3 8 rfl rfl)
theorem dX7_single_83 : decode cX7_single 83 = .ok (.invokevirtual 115, 3) := dk_182 0 115 (dk_at dksX7_single_3 11 rfl rfl)
theorem dX7_single_86 : decode cX7_single 86 = .ok (.iinc 3 1, 3) := dk_132 3 1 (dk_at dksX7_single_3 14 rfl rfl)
theorem dX7_single_89 : decode cX7_single 89 = .ok (.goto (-87), 3) := dk_167 255 169 (dk_at dksX7_single_3 17 rfl rfl)
theorem dX7_single_92 : decode cX7_single 92 = .ok (.iconst 0, 1) := dk_3 (dk_at dksX7_single_3 20 rfl rfl)
theorem dX7_single_93 : decode cX7_single 93 = .ok (.istore_n 3, 1) := dk_62 (dk_at dksX7_single_3 21 rfl rfl)
theorem dX7_single_94 : decode cX7_single 94 = .ok (.iload_n 3, 1) := dk_29 (dk_at dksX7_single_3 22 rfl rfl)
theorem dX7_single_95 : decode cX7_single 95 = .ok (.aload_n 0, 1) := dk_42 (dk_at dksX7_single_3 23 rfl rfl)
theorem dX7_single_96 : decode cX7_single 96 = .ok (.getfield 3, 3) := dk_180 0 3 (dk_at dksX7_single_4 0 rfl rfl)
theorem dX7_single_99 : decode cX7_single 99 = .ok (.getfield 91, 3) := dk_180 0 91 (dk_at dksX7_single_4 3 rfl rfl)
theorem dX7_single_102 : decode cX7_single 102 = .ok (.invokeinterface 94 1, 5) := by decide +kernel
theorem dX7_single_107 : decode cX7_single 107 = .ok (.if_icmp .ge 108, 3) := dk_162 0 108 (dk_at dksX7_single_4 11 rfl rfl)
theorem dX7_single_110 : decode cX7_single 110 = .ok (.aload_n 0, 1) := dk_42 (dk_at dksX7_single_4 14 rfl rfl)
theorem dX7_single_111 : decode cX7_single 111 = .ok (.getfield 3, 3) := dk_180 0 3 (dk_at dksX7_single_4 15 rfl rfl)
theorem dX7_single_114 : decode cX7_single 114 = .ok (.getfield 91, 3) := dk_180 0 91 (dk_at dksX7_single_4 18 rfl rfl)
theorem dX7_single_117 : decode cX7_single 117 = .ok (.iload_n 3, 1) := dk_29 (dk_at dksX7_single_4 21 rfl rfl)
theorem dX7_single_118 : decode cX7_single 118 = .ok (.invokeinterface 98 2, 5) := by decide +kernel
theorem dX7_single_123 : decode cX7_single 123 = .ok (.checkcast 102, 3) := dk_192 0 102 (dk_at dksX7_single_5 5 rfl rfl)
theorem dX7_single_126 : decode cX7_single 126 = .ok (.astore 4, 2) := dk_58 4 (dk_at dksX7_single_5 8 rfl rfl)
theorem dX7_single_128 : decode cX7_single 128 = .ok (.aload 4, 2) := dk_25 4 (dk_at dksX7_single_5 10 rfl rfl)
theorem dX7_single_130 : decode cX7_single 130 = .ok (.getfield 104, 3) := dk_180 0 104 (dk_at dksX7_single_5 12 rfl rfl)
theorem dX7_single_133 : decode cX7_single 133 = .ok (.aload_n 0, 1) := dk_42 (dk_at dksX7_single_5 15 rfl rfl)
theorem dX7_single_134 : decode cX7_single 134 = .ok (.getfield 58, 3) := dk_180 0 58 (dk_at dksX7_single_5 16 rfl rfl)
theorem dX7_single_137 : decode cX7_single 137 = .ok (.iload_n 1, 1) := dk_27 (dk_at dksX7_single_5 19 rfl rfl)
theorem dX7_single_138 : decode cX7_single 138 = .ok (.iaload, 1) := dk_46 (dk_at dksX7_single_5 20 rfl rfl)
theorem dX7_single_139 : decode cX7_single 139 = .ok (.if_icmp .ne 70, 3) := dk_160 0 70 (dk_at dksX7_single_5 21 rfl rfl)
theorem dX7_single_142 : decode cX7_single 142 = .ok (.aload_n 0, 1) := dk_42 (dk_at dksX7_single_6 0 rfl rfl)
theorem dX7_single_143 : decode cX7_single 143 = .ok (.new 132, 3) := dk_187 0 132 (dk_at dksX7_single_6 1 rfl rfl)
theorem dX7_single_146 : decode cX7_single 146 = .ok (.dup, 1) := dk_89 (dk_at dksX7_single_6 4 rfl rfl)
theorem dX7_single_147 : decode cX7_single 147 = .ok (.aload_n 0, 1) := dk_42 (dk_at dksX7_single_6 5 rfl rfl)
theorem dX7_single_148 : decode cX7_single 148 = .ok (.getfield 3, 3) := dk_180 0 3 (dk_at dksX7_single_6 6 rfl rfl)
theorem dX7_single_151 : decode cX7_single 151 = .ok (.aload_n 0, 1) := dk_42 (dk_at dksX7_single_6 9 rfl rfl)
theorem dX7_single_152 : decode cX7_single 152 = .ok (.iload_n 1, 1) := dk_27 (dk_at dksX7_single_6 10 rfl rfl)
theorem dX7_single_153 : decode cX7_single 153 = .ok (.aload_n 0, 1) := dk_42 (dk_at dksX7_single_6 11 rfl rfl)
theorem dX7_single_154 : decode cX7_single 154 = .ok (.getfield 15, 3) := dk_180 0 15 (dk_at dksX7_single_6 12 rfl rfl)
theorem dX7_single_157 : decode cX7_single 157 = .ok (.iload_n 1, 1) := dk_27 (dk_at dksX7_single_6 15 rfl rfl)
theorem dX7_single_158 : decode cX7_single 158 = .ok (.iaload, 1) := dk_46 (dk_at dksX7_single_6 16 rfl rfl)
theorem dX7_single_159 : decode cX7_single 159 = .ok (.aload_n 2, 1) := dk_44 (dk_at dksX7_single_6 17 rfl rfl)
theorem dX7_single_160 : decode cX7_single 160 = .ok (.iload_n 3, 1) := dk_29 (dk_at dksX7_single_6 18 rfl rfl)
theorem dX7_single_161 : decode cX7_single 161 = .ok (.iaload, 1) := dk_46 (dk_at dksX7_single_6 19 rfl rfl)
theorem dX7_single_162 : decode cX7_single 162 = .ok (.aload 4, 2) := dk_25 4 (dk_at dksX7_single_6 20 rfl rfl)
theorem dX7_single_164 : decode cX7_single 164 = .ok (.getfield 134, 3) := dk_180 0 134 (dk_at dksX7_single_7 0 rfl rfl)
theorem dX7_single_167 : decode cX7_single 167 = .ok (.aload 4, 2) := dk_25 4 (dk_at dksX7_single_7 3 rfl rfl)
theorem dX7_single_169 : decode cX7_single 169 = .ok (.iload_n 3, 1) := dk_29 (dk_at dksX7_single_7 5 rfl rfl)
theorem dX7_single_170 : decode cX7_single 170 = .ok (.invokespecial 137, 3) := dk_183 0 137 (dk_at dksX7_single_7 6 rfl rfl)
theorem dX7_single_173 : decode cX7_single 173 = .ok (.invokevirtual 115, 3) := dk_182 0 115 (dk_at dksX7_single_7 9 rfl rfl)
theorem dX7_single_176 : decode cX7_single 176 = .ok (.aload_n 0, 1) := dk_42 (dk_at dksX7_single_7 12 rfl rfl)
theorem dX7_single_177 : decode cX7_single 177 = .ok (.new 126, 3) := dk_187 0 126 (dk_at dksX7_single_7 13 rfl rfl)
theorem dX7_single_180 : decode cX7_single 180 = .ok (.dup, 1) := dk_89 (dk_at dksX7_single_7 16 rfl rfl)
theorem dX7_single_181 : decode cX7_single 181 = .ok (.aload_n 0, 1) := dk_42 (dk_at dksX7_single_7 17 rfl rfl)
theorem dX7_single_182 : decode cX7_single 182 = .ok (.getfield 3, 3) := dk_180 0 3 (dk_at dksX7_single_7 18 rfl rfl)
theorem dX7_single_185 : decode cX7_single 185 = .ok (.aload_n 0, 1) := dk_42 (dk_at dksX7_single_7 21 rfl rfl)
theorem dX7_single_186 : decode cX7_single 186 = .ok (.iload_n 1, 1) := dk_27 (dk_at dksX7_single_7 22 rfl rfl)
theorem dX7_single_187 : decode cX7_single 187 = .ok (.aload_n 2, 1) := dk_44 (dk_at dksX7_single_7 23 rfl rfl)
theorem dX7_single_188 : decode cX7_single 188 = .ok (.iload_n 3, 1) := dk_29 (dk_at dksX7_single_8 0 rfl rfl)
theorem dX7_single_189 : decode cX7_single 189 = .ok (.iaload, 1) := dk_46 (dk_at dksX7_single_8 1 rfl rfl)
theorem dX7_single_190 : decode cX7_single 190 = .ok (.aload_n 0, 1) := dk_42 (dk_at dksX7_single_8 2 rfl rfl)
theorem dX7_single_191 : decode cX7_single 191 = .ok (.getfield 15, 3) := dk_180 0 15 (dk_at dksX7_single_8 3 rfl rfl)
theorem dX7_single_194 : decode cX7_single 194 = .ok (.iload_n 1, 1) := dk_27 (dk_at dksX7_single_8 6 rfl rfl)
theorem dX7_single_195 : decode cX7_single 195 = .ok (.iconst 1, 1) := dk_4 (dk_at dksX7_single_8 7 rfl rfl)
theorem dX7_single_196 : decode cX7_single 196 = .ok (.iadd, 1) := dk_96 (dk_at dksX7_single_8 8 rfl rfl)
theorem dX7_single_197 : decode cX7_single 197 = .ok (.iaload, 1) := dk_46 (dk_at dksX7_single_8 9 rfl rfl)
theorem dX7_single_198 : decode cX7_single 198 = .ok (.aload 4, 2) := dk_25 4 (dk_at dksX7_single_8 10 rfl rfl)
theorem dX7_single_200 : decode cX7_single 200 = .ok (.getfield 140, 3) := dk_180 0 140 (dk_at dksX7_single_8 12 rfl rfl)
theorem dX7_single_203 : decode cX7_single 203 = .ok (.invokespecial 128, 3) := dk_183 0 128 (dk_at dksX7_single_8 15 rfl rfl)
theorem dX7_single_206 : decode cX7_single 206 = .ok (.invokevirtual 115, 3) := dk_182 0 115 (dk_at dksX7_single_8 18 rfl rfl)
theorem dX7_single_209 : decode cX7_single 209 = .ok (.iinc 3 1, 3) := dk_132 3 1 (dk_at dksX7_single_8 21 rfl rfl)
theorem dX7_single_212 : decode cX7_single 212 = .ok (.goto (-118), 3) := dk_167 255 138 (dk_at dksX7_single_9 0 rfl rfl)
theorem dX7_single_215 : decode cX7_single 215 = .ok (.new 143, 3) := dk_187 0 143 (dk_at dksX7_single_9 3 rfl rfl)
theorem dX7_single_218 : decode cX7_single 218 = .ok (.dup, 1) := dk_89 (dk_at dksX7_single_9 6 rfl rfl)
theorem dX7_single_219 : decode cX7_single 219 = .ok (.aload_n 0, 1) := dk_42 (dk_at dksX7_single_9 7 rfl rfl)
theorem dX7_single_220 : decode cX7_single 220 = .ok (.getfield 3, 3) := dk_180 0 3 (dk_at dksX7_single_9 8 rfl rfl)
theorem dX7_single_223 : decode cX7_single 223 = .ok (.aload_n 0, 1) := dk_42 (dk_at dksX7_single_9 11 rfl rfl)
theorem dX7_single_224 : decode cX7_single 224 = .ok (.iload_n 1, 1) := dk_27 (dk_at dksX7_single_9 12 rfl rfl)
theorem dX7_single_225 : decode cX7_single 225 = .ok (.aload_n 0, 1) := dk_42 (dk_at dksX7_single_9 13 rfl rfl)
theorem dX7_single_226 : decode cX7_single 226 = .ok (.getfield 15, 3) := dk_180 0 15 (dk_at dksX7_single_9 14 rfl rfl)
theorem dX7_single_229 : decode cX7_single 229 = .ok (.iload_n 1, 1) := dk_27 (dk_at dksX7_single_9 17 rfl rfl)
theorem dX7_single_230 : decode cX7_single 230 = .ok (.iaload, 1) := dk_46 (dk_at dksX7_single_9 18 rfl rfl)
theorem dX7_single_231 : decode cX7_single 231 = .ok (.aload_n 0, 1) := dk_42 (dk_at dksX7_single_9 19 rfl rfl)
theorem dX7_single_232 : decode cX7_single 232 = .ok (.getfield 15, 3) := dk_180 0 15 (dk_at dksX7_single_9 20 rfl rfl)
theorem dX7_single_235 : decode cX7_single 235 = .ok (.iload_n 1, 1) := dk_27 (dk_at dksX7_single_9 23 rfl rfl)
theorem dX7_single_236 : decode cX7_single 236 = .ok (.iconst 1, 1) := dk_4 (dk_at dksX7_single_10 0 rfl rfl)
theorem dX7_single_237 : decode cX7_single 237 = .ok (.iadd, 1) := dk_96 (dk_at dksX7_single_10 1 rfl rfl)
theorem dX7_single_238 : decode cX7_single 238 = .ok (.iaload, 1) := dk_46 (dk_at dksX7_single_10 2 rfl rfl)
theorem dX7_single_239 : decode cX7_single 239 = .ok (.invokespecial 145, 3) := dk_183 0 145 (dk_at dksX7_single_10 3 rfl rfl)
theorem dX7_single_242 : decode cX7_single 242 = .ok (.astore_n 3, 1) := dk_78 (dk_at dksX7_single_10 6 rfl rfl)
theorem dX7_single_243 : decode cX7_single 243 = .ok (.aload_n 0, 1) := dk_42 (dk_at dksX7_single_10 7 rfl rfl)
theorem dX7_single_244 : decode cX7_single 244 = .ok (.getfield 31, 3) := dk_180 0 31 (dk_at dksX7_single_10 8 rfl rfl)
theorem dX7_single_247 : decode cX7_single 247 = .ok (.iload_n 1, 1) := dk_27 (dk_at dksX7_single_10 11 rfl rfl)
theorem dX7_single_248 : decode cX7_single 248 = .ok (.aaload, 1) := dk_50 (dk_at dksX7_single_10 12 rfl rfl)
theorem dX7_single_249 : decode cX7_single 249 = .ok (.iconst 1, 1) := dk_4 (dk_at dksX7_single_10 13 rfl rfl)
theorem dX7_single_250 : decode cX7_single 250 = .ok (.aload_n 0, 1) := dk_42 (dk_at dksX7_single_10 14 rfl rfl)
theorem dX7_single_251 : decode cX7_single 251 = .ok (.getfield 3, 3) := dk_180 0 3 (dk_at dksX7_single_10 15 rfl rfl)
theorem dX7_single_254 : decode cX7_single 254 = .ok (.aload_n 0, 1) := dk_42 (dk_at dksX7_single_10 18 rfl rfl)
theorem dX7_single_255 : decode cX7_single 255 = .ok (.getfield 61, 3) := dk_180 0 61 (dk_at dksX7_single_10 19 rfl rfl)
theorem dX7_single_258 : decode cX7_single 258 = .ok (.aload_n 3, 1) := dk_45 (dk_at dksX7_single_10 22 rfl rfl)
theorem dX7_single_259 : decode cX7_single 259 = .ok (.aload_n 0, 1) := dk_42 (dk_at dksX7_single_10 23 rfl rfl)
theorem dX7_single_260 : decode cX7_single 260 = .ok (.getfield 65, 3) := dk_180 0 65 (dk_at dksX7_single_11 0 rfl rfl)
theorem dX7_single_263 : decode cX7_single 263 = .ok (.invokevirtual 77, 3) := dk_182 0 77 (dk_at dksX7_single_11 3 rfl rfl)
theorem dX7_single_266 : decode cX7_single 266 = .ok (.ifCond .eq 7, 3) := dk_153 0 7 (dk_at dksX7_single_11 6 rfl rfl)
theorem dX7_single_269 : decode cX7_single 269 = .ok (.aload_n 3, 1) := dk_45 (dk_at dksX7_single_11 9 rfl rfl)
theorem dX7_single_270 : decode cX7_single 270 = .ok (.goto 4, 3) := dk_167 0 4 (dk_at dksX7_single_11 10 rfl rfl)
theorem dX7_single_273 : decode cX7_single 273 = .ok (.aconst_null, 1) := dk_1 (dk_at dksX7_single_11 13 rfl rfl)
theorem dX7_single_274 : decode cX7_single 274 = .ok (.aastore, 1) := dk_83 (dk_at dksX7_single_11 14 rfl rfl)
theorem dX7_single_275 : decode cX7_single 275 = .ok (.iconst 2, 1) := dk_5 (dk_at dksX7_single_11 15 rfl rfl)
theorem dX7_single_276 : decode cX7_single 276 = .ok (.istore 4, 2) := dk_54 4 (dk_at dksX7_single_11 16 rfl rfl)
theorem dX7_single_278 : decode cX7_single 278 = .ok (.iload_n 1, 1) := dk_27 (dk_at dksX7_single_11 18 rfl rfl)
theorem dX7_single_279 : decode cX7_single 279 = .ok (.iload 4, 2) := dk_21 4 (dk_at dksX7_single_11 19 rfl rfl)
theorem dX7_single_281 : decode cX7_single 281 = .ok (.iadd, 1) := dk_96 (dk_at dksX7_single_11 21 rfl rfl)
theorem dX7_single_282 : decode cX7_single 282 = .ok (.aload_n 0, 1) := dk_42 (dk_at dksX7_single_11 22 rfl rfl)
theorem dX7_single_283 : decode cX7_single 283 = .ok (.getfield 65, 3) := dk_180 0 65 (dk_at dksX7_single_12 0 rfl rfl)
theorem dX7_single_286 : decode cX7_single 286 = .ok (.if_icmp .gt 76, 3) := dk_163 0 76 (dk_at dksX7_single_12 3 rfl rfl)
theorem dX7_single_289 : decode cX7_single 289 = .ok (.new 148, 3) := dk_187 0 148 (dk_at dksX7_single_12 6 rfl rfl)
theorem dX7_single_292 : decode cX7_single 292 = .ok (.dup, 1) := dk_89 (dk_at dksX7_single_12 9 rfl rfl)
theorem dX7_single_293 : decode cX7_single 293 = .ok (.aload_n 0, 1) := dk_42 (dk_at dksX7_single_12 10 rfl rfl)
theorem dX7_single_294 : decode cX7_single 294 = .ok (.getfield 3, 3) := dk_180 0 3 (dk_at dksX7_single_12 11 rfl rfl)
theorem dX7_single_297 : decode cX7_single 297 = .ok (.aload_n 0, 1) := dk_42 (dk_at dksX7_single_12 14 rfl rfl)
theorem dX7_single_298 : decode cX7_single 298 = .ok (.iload_n 1, 1) := dk_27 (dk_at dksX7_single_12 15 rfl rfl)
theorem dX7_single_299 : decode cX7_single 299 = .ok (.aload_n 0, 1) := dk_42 (dk_at dksX7_single_12 16 rfl rfl)
theorem dX7_single_300 : decode cX7_single 300 = .ok (.getfield 15, 3) := dk_180 0 15 (dk_at dksX7_single_12 17 rfl rfl)
theorem dX7_single_303 : decode cX7_single 303 = .ok (.iload_n 1, 1) := dk_27 (dk_at dksX7_single_12 20 rfl rfl)
theorem dX7_single_304 : decode cX7_single 304 = .ok (.iaload, 1) := dk_46 (dk_at dksX7_single_12 21 rfl rfl)
theorem dX7_single_305 : decode cX7_single 305 = .ok (.aload_n 0, 1) := dk_42 (dk_at dksX7_single_12 22 rfl rfl)
theorem dX7_single_306 : decode cX7_single 306 = .ok (.getfield 15, 3) := dk_180 0 15 (dk_at dksX7_single_13 0 rfl rfl)
theorem dX7_single_309 : decode cX7_single 309 = .ok (.iload_n 1, 1) := dk_27 (dk_at dksX7_single_13 3 rfl rfl)
theorem dX7_single_310 : decode cX7_single 310 = .ok (.iload 4, 2) := dk_21 4 (dk_at dksX7_single_13 4 rfl rfl)
theorem dX7_single_312 : decode cX7_single 312 = .ok (.iadd, 1) := dk_96 (dk_at dksX7_single_13 6 rfl rfl)
theorem dX7_single_313 : decode cX7_single 313 = .ok (.iaload, 1) := dk_46 (dk_at dksX7_single_13 7 rfl rfl)
theorem dX7_single_314 : decode cX7_single 314 = .ok (.iload 4, 2) := dk_21 4 (dk_at dksX7_single_13 8 rfl rfl)
theorem dX7_single_316 : decode cX7_single 316 = .ok (.invokespecial 150, 3) := dk_183 0 150 (dk_at dksX7_single_13 10 rfl rfl)
theorem dX7_single_319 : decode cX7_single 319 = .ok (.astore 5, 2) := dk_58 5 (dk_at dksX7_single_13 13 rfl rfl)
theorem dX7_single_321 : decode cX7_single 321 = .ok (.aload_n 0, 1) := dk_42 (dk_at dksX7_single_13 15 rfl rfl)
theorem dX7_single_322 : decode cX7_single 322 = .ok (.getfield 31, 3) := dk_180 0 31 (dk_at dksX7_single_13 16 rfl rfl)
theorem dX7_single_325 : decode cX7_single 325 = .ok (.iload_n 1, 1) := dk_27 (dk_at dksX7_single_13 19 rfl rfl)
theorem dX7_single_326 : decode cX7_single 326 = .ok (.aaload, 1) := dk_50 (dk_at dksX7_single_13 20 rfl rfl)
theorem dX7_single_327 : decode cX7_single 327 = .ok (.iload 4, 2) := dk_21 4 (dk_at dksX7_single_13 21 rfl rfl)
theorem dX7_single_329 : decode cX7_single 329 = .ok (.aload_n 0, 1) := dk_42 (dk_at dksX7_single_13 23 rfl rfl)
theorem dX7_single_330 : decode cX7_single 330 = .ok (.getfield 3, 3) := dk_180 0 3 (dk_at dksX7_single_14 0 rfl rfl)
theorem dX7_single_333 : decode cX7_single 333 = .ok (.aload_n 0, 1) := dk_42 (dk_at dksX7_single_14 3 rfl rfl)
theorem dX7_single_334 : decode cX7_single 334 = .ok (.getfield 61, 3) := dk_180 0 61 (dk_at dksX7_single_14 4 rfl rfl)
theorem dX7_single_337 : decode cX7_single 337 = .ok (.aload 5, 2) := dk_25 5 (dk_at dksX7_single_14 7 rfl rfl)
theorem dX7_single_339 : decode cX7_single 339 = .ok (.aload_n 0, 1) := dk_42 (dk_at dksX7_single_14 9 rfl rfl)
theorem dX7_single_340 : decode cX7_single 340 = .ok (.getfield 65, 3) := dk_180 0 65 (dk_at dksX7_single_14 10 rfl rfl)
theorem dX7_single_343 : decode cX7_single 343 = .ok (.invokevirtual 77, 3) := dk_182 0 77 (dk_at dksX7_single_14 13 rfl rfl)
theorem dX7_single_346 : decode cX7_single 346 = .ok (.ifCond .eq 8, 3) := dk_153 0 8 (dk_at dksX7_single_14 16 rfl rfl)
theorem dX7_single_349 : decode cX7_single 349 = .ok (.aload 5, 2) := dk_25 5 (dk_at dksX7_single_14 19 rfl rfl)
theorem dX7_single_351 : decode cX7_single 351 = .ok (.goto 4, 3) := dk_167 0 4 (dk_at dksX7_single_14 21 rfl rfl)
theorem dX7_single_354 : decode cX7_single 354 = .ok (.aconst_null, 1) := dk_1 (dk_at dksX7_single_15 0 rfl rfl)
theorem dX7_single_355 : decode cX7_single 355 = .ok (.aastore, 1) := dk_83 (dk_at dksX7_single_15 1 rfl rfl)
theorem dX7_single_356 : decode cX7_single 356 = .ok (.iinc 4 1, 3) := dk_132 4 1 (dk_at dksX7_single_15 2 rfl rfl)
theorem dX7_single_359 : decode cX7_single 359 = .ok (.goto (-81), 3) := dk_167 255 175 (dk_at dksX7_single_15 5 rfl rfl)
theorem dX7_single_362 : decode cX7_single 362 = .ok (.return_, 1) := dk_177 (dk_at dksX7_single_15 8 rfl rfl)
abbrev cX7_pair : ByteArray := prog_2_method_5_code
def yX7_pair : MethodName := ⟨RX7, "pair", "(II)V"⟩
def dkwX7_pair_7 : List UInt8 := [46, 25, 4, 29, 183, 0, 159, 182, 0, 115, 132, 3, 1, 167, 255, 155, 177]
abbrev dktX7_pair_7 : List UInt8 := dkwX7_pair_7 ++ []
def dkwX7_pair_6 : List UInt8 := [42, 187, 0, 157, 89, 42, 180, 0, 3, 42, 27, 42, 180, 0, 15, 27, 46, 42, 180, 0, 15, 27, 5, 96]
abbrev dktX7_pair_6 : List UInt8 := dkwX7_pair_6 ++ dktX7_pair_7
def dkwX7_pair_5 : List UInt8 := [180, 0, 58, 27, 46, 160, 0, 53, 25, 4, 180, 0, 140, 42, 180, 0, 58, 27, 4, 96, 46, 160, 0, 37]
abbrev dktX7_pair_5 : List UInt8 := dkwX7_pair_5 ++ dktX7_pair_6
def dkwX7_pair_4 : List UInt8 := [180, 0, 3, 180, 0, 154, 29, 185, 0, 98, 2, 0, 192, 0, 102, 58, 4, 25, 4, 180, 0, 134, 42]
abbrev dktX7_pair_4 : List UInt8 := dkwX7_pair_4 ++ dktX7_pair_5
def dkwX7_pair_3 : List UInt8 := [182, 0, 115, 3, 62, 29, 42, 180, 0, 3, 180, 0, 154, 185, 0, 94, 1, 0, 162, 0, 91, 42]
abbrev dktX7_pair_3 : List UInt8 := dkwX7_pair_3 ++ dktX7_pair_4
def dkwX7_pair_2 : List UInt8 := [180, 0, 3, 42, 27, 28, 42, 180, 0, 15, 27, 5, 96, 46, 42, 180, 0, 58, 27, 46, 183, 0, 128]
abbrev dktX7_pair_2 : List UInt8 := dkwX7_pair_2 ++ dktX7_pair_3
def dkwX7_pair_1 : List UInt8 := [180, 0, 3, 42, 27, 42, 180, 0, 15, 27, 46, 28, 183, 0, 153, 182, 0, 115, 42, 187, 0, 126, 89, 42]
abbrev dktX7_pair_1 : List UInt8 := dkwX7_pair_1 ++ dktX7_pair_2
def dkwX7_pair_0 : List UInt8 := [42, 180, 0, 58, 27, 46, 42, 180, 0, 58, 27, 4, 96, 46, 159, 0, 59, 42, 187, 0, 151, 89, 42]
abbrev dktX7_pair_0 : List UInt8 := dkwX7_pair_0 ++ dktX7_pair_1
theorem dksX7_pair_0 : cX7_pair.data.toList.drop 0 = dktX7_pair_0 := by decide +kernel
theorem dksX7_pair_1 : cX7_pair.data.toList.drop 23 = dktX7_pair_1 := dk_seg dksX7_pair_0 23 rfl rfl
theorem dksX7_pair_2 : cX7_pair.data.toList.drop 47 = dktX7_pair_2 := dk_seg dksX7_pair_1 24 rfl rfl
theorem dksX7_pair_3 : cX7_pair.data.toList.drop 70 = dktX7_pair_3 := dk_seg dksX7_pair_2 23 rfl rfl
theorem dksX7_pair_4 : cX7_pair.data.toList.drop 92 = dktX7_pair_4 := dk_seg dksX7_pair_3 22 rfl rfl
theorem dksX7_pair_5 : cX7_pair.data.toList.drop 115 = dktX7_pair_5 := dk_seg dksX7_pair_4 23 rfl rfl
theorem dksX7_pair_6 : cX7_pair.data.toList.drop 139 = dktX7_pair_6 := dk_seg dksX7_pair_5 24 rfl rfl
theorem dksX7_pair_7 : cX7_pair.data.toList.drop 163 = dktX7_pair_7 := dk_seg dksX7_pair_6 24 rfl rfl
theorem dX7_pair_0 : decode cX7_pair 0 = .ok (.aload_n 0, 1) := dk_42 (dk_at dksX7_pair_0 0 rfl rfl)
theorem dX7_pair_1 : decode cX7_pair 1 = .ok (.getfield 58, 3) := dk_180 0 58 (dk_at dksX7_pair_0 1 rfl rfl)
theorem dX7_pair_4 : decode cX7_pair 4 = .ok (.iload_n 1, 1) := dk_27 (dk_at dksX7_pair_0 4 rfl rfl)
theorem dX7_pair_5 : decode cX7_pair 5 = .ok (.iaload, 1) := dk_46 (dk_at dksX7_pair_0 5 rfl rfl)
theorem dX7_pair_6 : decode cX7_pair 6 = .ok (.aload_n 0, 1) := dk_42 (dk_at dksX7_pair_0 6 rfl rfl)
theorem dX7_pair_7 : decode cX7_pair 7 = .ok (.getfield 58, 3) := dk_180 0 58 (dk_at dksX7_pair_0 7 rfl rfl)
theorem dX7_pair_10 : decode cX7_pair 10 = .ok (.iload_n 1, 1) := dk_27 (dk_at dksX7_pair_0 10 rfl rfl)
theorem dX7_pair_11 : decode cX7_pair 11 = .ok (.iconst 1, 1) := dk_4 (dk_at dksX7_pair_0 11 rfl rfl)
theorem dX7_pair_12 : decode cX7_pair 12 = .ok (.iadd, 1) := dk_96 (dk_at dksX7_pair_0 12 rfl rfl)
theorem dX7_pair_13 : decode cX7_pair 13 = .ok (.iaload, 1) := dk_46 (dk_at dksX7_pair_0 13 rfl rfl)
theorem dX7_pair_14 : decode cX7_pair 14 = .ok (.if_icmp .eq 59, 3) := dk_159 0 59 (dk_at dksX7_pair_0 14 rfl rfl)
theorem dX7_pair_17 : decode cX7_pair 17 = .ok (.aload_n 0, 1) := dk_42 (dk_at dksX7_pair_0 17 rfl rfl)
theorem dX7_pair_18 : decode cX7_pair 18 = .ok (.new 151, 3) := dk_187 0 151 (dk_at dksX7_pair_0 18 rfl rfl)
theorem dX7_pair_21 : decode cX7_pair 21 = .ok (.dup, 1) := dk_89 (dk_at dksX7_pair_0 21 rfl rfl)
theorem dX7_pair_22 : decode cX7_pair 22 = .ok (.aload_n 0, 1) := dk_42 (dk_at dksX7_pair_0 22 rfl rfl)
theorem dX7_pair_23 : decode cX7_pair 23 = .ok (.getfield 3, 3) := dk_180 0 3 (dk_at dksX7_pair_1 0 rfl rfl)
theorem dX7_pair_26 : decode cX7_pair 26 = .ok (.aload_n 0, 1) := dk_42 (dk_at dksX7_pair_1 3 rfl rfl)
theorem dX7_pair_27 : decode cX7_pair 27 = .ok (.iload_n 1, 1) := dk_27 (dk_at dksX7_pair_1 4 rfl rfl)
theorem dX7_pair_28 : decode cX7_pair 28 = .ok (.aload_n 0, 1) := dk_42 (dk_at dksX7_pair_1 5 rfl rfl)
theorem dX7_pair_29 : decode cX7_pair 29 = .ok (.getfield 15, 3) := dk_180 0 15 (dk_at dksX7_pair_1 6 rfl rfl)
theorem dX7_pair_32 : decode cX7_pair 32 = .ok (.iload_n 1, 1) := dk_27 (dk_at dksX7_pair_1 9 rfl rfl)
theorem dX7_pair_33 : decode cX7_pair 33 = .ok (.iaload, 1) := dk_46 (dk_at dksX7_pair_1 10 rfl rfl)
theorem dX7_pair_34 : decode cX7_pair 34 = .ok (.iload_n 2, 1) := dk_28 (dk_at dksX7_pair_1 11 rfl rfl)
theorem dX7_pair_35 : decode cX7_pair 35 = .ok (.invokespecial 153, 3) := dk_183 0 153 (dk_at dksX7_pair_1 12 rfl rfl)
theorem dX7_pair_38 : decode cX7_pair 38 = .ok (.invokevirtual 115, 3) := dk_182 0 115 (dk_at dksX7_pair_1 15 rfl rfl)
theorem dX7_pair_41 : decode cX7_pair 41 = .ok (.aload_n 0, 1) := dk_42 (dk_at dksX7_pair_1 18 rfl rfl)
theorem dX7_pair_42 : decode cX7_pair 42 = .ok (.new 126, 3) := dk_187 0 126 (dk_at dksX7_pair_1 19 rfl rfl)
theorem dX7_pair_45 : decode cX7_pair 45 = .ok (.dup, 1) := dk_89 (dk_at dksX7_pair_1 22 rfl rfl)
theorem dX7_pair_46 : decode cX7_pair 46 = .ok (.aload_n 0, 1) := dk_42 (dk_at dksX7_pair_1 23 rfl rfl)
theorem dX7_pair_47 : decode cX7_pair 47 = .ok (.getfield 3, 3) := dk_180 0 3 (dk_at dksX7_pair_2 0 rfl rfl)
theorem dX7_pair_50 : decode cX7_pair 50 = .ok (.aload_n 0, 1) := dk_42 (dk_at dksX7_pair_2 3 rfl rfl)
theorem dX7_pair_51 : decode cX7_pair 51 = .ok (.iload_n 1, 1) := dk_27 (dk_at dksX7_pair_2 4 rfl rfl)
theorem dX7_pair_52 : decode cX7_pair 52 = .ok (.iload_n 2, 1) := dk_28 (dk_at dksX7_pair_2 5 rfl rfl)
theorem dX7_pair_53 : decode cX7_pair 53 = .ok (.aload_n 0, 1) := dk_42 (dk_at dksX7_pair_2 6 rfl rfl)
theorem dX7_pair_54 : decode cX7_pair 54 = .ok (.getfield 15, 3) := dk_180 0 15 (dk_at dksX7_pair_2 7 rfl rfl)
theorem dX7_pair_57 : decode cX7_pair 57 = .ok (.iload_n 1, 1) := dk_27 (dk_at dksX7_pair_2 10 rfl rfl)
theorem dX7_pair_58 : decode cX7_pair 58 = .ok (.iconst 2, 1) := dk_5 (dk_at dksX7_pair_2 11 rfl rfl)
theorem dX7_pair_59 : decode cX7_pair 59 = .ok (.iadd, 1) := dk_96 (dk_at dksX7_pair_2 12 rfl rfl)
theorem dX7_pair_60 : decode cX7_pair 60 = .ok (.iaload, 1) := dk_46 (dk_at dksX7_pair_2 13 rfl rfl)
theorem dX7_pair_61 : decode cX7_pair 61 = .ok (.aload_n 0, 1) := dk_42 (dk_at dksX7_pair_2 14 rfl rfl)
theorem dX7_pair_62 : decode cX7_pair 62 = .ok (.getfield 58, 3) := dk_180 0 58 (dk_at dksX7_pair_2 15 rfl rfl)
theorem dX7_pair_65 : decode cX7_pair 65 = .ok (.iload_n 1, 1) := dk_27 (dk_at dksX7_pair_2 18 rfl rfl)
theorem dX7_pair_66 : decode cX7_pair 66 = .ok (.iaload, 1) := dk_46 (dk_at dksX7_pair_2 19 rfl rfl)
theorem dX7_pair_67 : decode cX7_pair 67 = .ok (.invokespecial 128, 3) := dk_183 0 128 (dk_at dksX7_pair_2 20 rfl rfl)
theorem dX7_pair_70 : decode cX7_pair 70 = .ok (.invokevirtual 115, 3) := dk_182 0 115 (dk_at dksX7_pair_3 0 rfl rfl)
theorem dX7_pair_73 : decode cX7_pair 73 = .ok (.iconst 0, 1) := dk_3 (dk_at dksX7_pair_3 3 rfl rfl)
theorem dX7_pair_74 : decode cX7_pair 74 = .ok (.istore_n 3, 1) := dk_62 (dk_at dksX7_pair_3 4 rfl rfl)
theorem dX7_pair_75 : decode cX7_pair 75 = .ok (.iload_n 3, 1) := dk_29 (dk_at dksX7_pair_3 5 rfl rfl)
theorem dX7_pair_76 : decode cX7_pair 76 = .ok (.aload_n 0, 1) := dk_42 (dk_at dksX7_pair_3 6 rfl rfl)
theorem dX7_pair_77 : decode cX7_pair 77 = .ok (.getfield 3, 3) := dk_180 0 3 (dk_at dksX7_pair_3 7 rfl rfl)
theorem dX7_pair_80 : decode cX7_pair 80 = .ok (.getfield 154, 3) := dk_180 0 154 (dk_at dksX7_pair_3 10 rfl rfl)
theorem dX7_pair_83 : decode cX7_pair 83 = .ok (.invokeinterface 94 1, 5) := by decide +kernel
theorem dX7_pair_88 : decode cX7_pair 88 = .ok (.if_icmp .ge 91, 3) := dk_162 0 91 (dk_at dksX7_pair_3 18 rfl rfl)
theorem dX7_pair_91 : decode cX7_pair 91 = .ok (.aload_n 0, 1) := dk_42 (dk_at dksX7_pair_3 21 rfl rfl)
theorem dX7_pair_92 : decode cX7_pair 92 = .ok (.getfield 3, 3) := dk_180 0 3 (dk_at dksX7_pair_4 0 rfl rfl)
theorem dX7_pair_95 : decode cX7_pair 95 = .ok (.getfield 154, 3) := dk_180 0 154 (dk_at dksX7_pair_4 3 rfl rfl)
theorem dX7_pair_98 : decode cX7_pair 98 = .ok (.iload_n 3, 1) := dk_29 (dk_at dksX7_pair_4 6 rfl rfl)
theorem dX7_pair_99 : decode cX7_pair 99 = .ok (.invokeinterface 98 2, 5) := by decide +kernel
theorem dX7_pair_104 : decode cX7_pair 104 = .ok (.checkcast 102, 3) := dk_192 0 102 (dk_at dksX7_pair_4 12 rfl rfl)
theorem dX7_pair_107 : decode cX7_pair 107 = .ok (.astore 4, 2) := dk_58 4 (dk_at dksX7_pair_4 15 rfl rfl)
theorem dX7_pair_109 : decode cX7_pair 109 = .ok (.aload 4, 2) := dk_25 4 (dk_at dksX7_pair_4 17 rfl rfl)
theorem dX7_pair_111 : decode cX7_pair 111 = .ok (.getfield 134, 3) := dk_180 0 134 (dk_at dksX7_pair_4 19 rfl rfl)
theorem dX7_pair_114 : decode cX7_pair 114 = .ok (.aload_n 0, 1) := dk_42 (dk_at dksX7_pair_4 22 rfl rfl)
theorem dX7_pair_115 : decode cX7_pair 115 = .ok (.getfield 58, 3) := dk_180 0 58 (dk_at dksX7_pair_5 0 rfl rfl)
theorem dX7_pair_118 : decode cX7_pair 118 = .ok (.iload_n 1, 1) := dk_27 (dk_at dksX7_pair_5 3 rfl rfl)
theorem dX7_pair_119 : decode cX7_pair 119 = .ok (.iaload, 1) := dk_46 (dk_at dksX7_pair_5 4 rfl rfl)
theorem dX7_pair_120 : decode cX7_pair 120 = .ok (.if_icmp .ne 53, 3) := dk_160 0 53 (dk_at dksX7_pair_5 5 rfl rfl)
theorem dX7_pair_123 : decode cX7_pair 123 = .ok (.aload 4, 2) := dk_25 4 (dk_at dksX7_pair_5 8 rfl rfl)
theorem dX7_pair_125 : decode cX7_pair 125 = .ok (.getfield 140, 3) := dk_180 0 140 (dk_at dksX7_pair_5 10 rfl rfl)
theorem dX7_pair_128 : decode cX7_pair 128 = .ok (.aload_n 0, 1) := dk_42 (dk_at dksX7_pair_5 13 rfl rfl)
theorem dX7_pair_129 : decode cX7_pair 129 = .ok (.getfield 58, 3) := dk_180 0 58 (dk_at dksX7_pair_5 14 rfl rfl)
theorem dX7_pair_132 : decode cX7_pair 132 = .ok (.iload_n 1, 1) := dk_27 (dk_at dksX7_pair_5 17 rfl rfl)
theorem dX7_pair_133 : decode cX7_pair 133 = .ok (.iconst 1, 1) := dk_4 (dk_at dksX7_pair_5 18 rfl rfl)
theorem dX7_pair_134 : decode cX7_pair 134 = .ok (.iadd, 1) := dk_96 (dk_at dksX7_pair_5 19 rfl rfl)
theorem dX7_pair_135 : decode cX7_pair 135 = .ok (.iaload, 1) := dk_46 (dk_at dksX7_pair_5 20 rfl rfl)
theorem dX7_pair_136 : decode cX7_pair 136 = .ok (.if_icmp .ne 37, 3) := dk_160 0 37 (dk_at dksX7_pair_5 21 rfl rfl)
theorem dX7_pair_139 : decode cX7_pair 139 = .ok (.aload_n 0, 1) := dk_42 (dk_at dksX7_pair_6 0 rfl rfl)
theorem dX7_pair_140 : decode cX7_pair 140 = .ok (.new 157, 3) := dk_187 0 157 (dk_at dksX7_pair_6 1 rfl rfl)
theorem dX7_pair_143 : decode cX7_pair 143 = .ok (.dup, 1) := dk_89 (dk_at dksX7_pair_6 4 rfl rfl)
theorem dX7_pair_144 : decode cX7_pair 144 = .ok (.aload_n 0, 1) := dk_42 (dk_at dksX7_pair_6 5 rfl rfl)
theorem dX7_pair_145 : decode cX7_pair 145 = .ok (.getfield 3, 3) := dk_180 0 3 (dk_at dksX7_pair_6 6 rfl rfl)
theorem dX7_pair_148 : decode cX7_pair 148 = .ok (.aload_n 0, 1) := dk_42 (dk_at dksX7_pair_6 9 rfl rfl)
theorem dX7_pair_149 : decode cX7_pair 149 = .ok (.iload_n 1, 1) := dk_27 (dk_at dksX7_pair_6 10 rfl rfl)
theorem dX7_pair_150 : decode cX7_pair 150 = .ok (.aload_n 0, 1) := dk_42 (dk_at dksX7_pair_6 11 rfl rfl)
theorem dX7_pair_151 : decode cX7_pair 151 = .ok (.getfield 15, 3) := dk_180 0 15 (dk_at dksX7_pair_6 12 rfl rfl)
theorem dX7_pair_154 : decode cX7_pair 154 = .ok (.iload_n 1, 1) := dk_27 (dk_at dksX7_pair_6 15 rfl rfl)
theorem dX7_pair_155 : decode cX7_pair 155 = .ok (.iaload, 1) := dk_46 (dk_at dksX7_pair_6 16 rfl rfl)
theorem dX7_pair_156 : decode cX7_pair 156 = .ok (.aload_n 0, 1) := dk_42 (dk_at dksX7_pair_6 17 rfl rfl)
theorem dX7_pair_157 : decode cX7_pair 157 = .ok (.getfield 15, 3) := dk_180 0 15 (dk_at dksX7_pair_6 18 rfl rfl)
theorem dX7_pair_160 : decode cX7_pair 160 = .ok (.iload_n 1, 1) := dk_27 (dk_at dksX7_pair_6 21 rfl rfl)
theorem dX7_pair_161 : decode cX7_pair 161 = .ok (.iconst 2, 1) := dk_5 (dk_at dksX7_pair_6 22 rfl rfl)
theorem dX7_pair_162 : decode cX7_pair 162 = .ok (.iadd, 1) := dk_96 (dk_at dksX7_pair_6 23 rfl rfl)
theorem dX7_pair_163 : decode cX7_pair 163 = .ok (.iaload, 1) := dk_46 (dk_at dksX7_pair_7 0 rfl rfl)
theorem dX7_pair_164 : decode cX7_pair 164 = .ok (.aload 4, 2) := dk_25 4 (dk_at dksX7_pair_7 1 rfl rfl)
theorem dX7_pair_166 : decode cX7_pair 166 = .ok (.iload_n 3, 1) := dk_29 (dk_at dksX7_pair_7 3 rfl rfl)
theorem dX7_pair_167 : decode cX7_pair 167 = .ok (.invokespecial 159, 3) := dk_183 0 159 (dk_at dksX7_pair_7 4 rfl rfl)
theorem dX7_pair_170 : decode cX7_pair 170 = .ok (.invokevirtual 115, 3) := dk_182 0 115 (dk_at dksX7_pair_7 7 rfl rfl)
theorem dX7_pair_173 : decode cX7_pair 173 = .ok (.iinc 3 1, 3) := dk_132 3 1 (dk_at dksX7_pair_7 10 rfl rfl)
theorem dX7_pair_176 : decode cX7_pair 176 = .ok (.goto (-101), 3) := dk_167 255 155 (dk_at dksX7_pair_7 13 rfl rfl)
theorem dX7_pair_179 : decode cX7_pair 179 = .ok (.return_, 1) := dk_177 (dk_at dksX7_pair_7 16 rfl rfl)
abbrev cX7_skipping : ByteArray := prog_2_method_6_code
def yX7_skipping : MethodName := ⟨RX7, "skipping", "()V"⟩
def dkwX7_skipping_4 : List UInt8 := [184, 0, 167, 80, 132, 3, 1, 167, 255, 193, 132, 2, 255, 167, 255, 170, 132, 1, 1, 167, 255, 143, 177]
abbrev dktX7_skipping_4 : List UInt8 := dkwX7_skipping_4 ++ []
def dkwX7_skipping_3 : List UInt8 := [47, 42, 180, 0, 31, 28, 50, 29, 50, 182, 0, 164, 133, 42, 180, 0, 36, 28, 29, 96, 50, 27, 47, 97]
abbrev dktX7_skipping_3 : List UInt8 := dkwX7_skipping_3 ++ dktX7_skipping_4
def dkwX7_skipping_2 : List UInt8 := [180, 0, 31, 28, 50, 29, 50, 198, 0, 45, 42, 180, 0, 36, 28, 50, 27, 42, 180, 0, 36, 28, 50, 27]
abbrev dktX7_skipping_2 : List UInt8 := dkwX7_skipping_2 ++ dktX7_skipping_3
def dkwX7_skipping_1 : List UInt8 := [155, 0, 88, 42, 180, 0, 36, 28, 50, 27, 20, 0, 162, 80, 4, 62, 28, 29, 96, 27, 163, 0, 62, 42]
abbrev dktX7_skipping_1 : List UInt8 := dkwX7_skipping_1 ++ dktX7_skipping_2
def dkwX7_skipping_0 : List UInt8 := [3, 60, 27, 42, 180, 0, 65, 163, 0, 111, 42, 180, 0, 36, 27, 50, 27, 9, 80, 27, 4, 100, 61, 28]
abbrev dktX7_skipping_0 : List UInt8 := dkwX7_skipping_0 ++ dktX7_skipping_1
theorem dksX7_skipping_0 : cX7_skipping.data.toList.drop 0 = dktX7_skipping_0 := by decide +kernel
theorem dksX7_skipping_1 : cX7_skipping.data.toList.drop 24 = dktX7_skipping_1 := dk_seg dksX7_skipping_0 24 rfl rfl
theorem dksX7_skipping_2 : cX7_skipping.data.toList.drop 48 = dktX7_skipping_2 := dk_seg dksX7_skipping_1 24 rfl rfl
theorem dksX7_skipping_3 : cX7_skipping.data.toList.drop 72 = dktX7_skipping_3 := dk_seg dksX7_skipping_2 24 rfl rfl
theorem dksX7_skipping_4 : cX7_skipping.data.toList.drop 96 = dktX7_skipping_4 := dk_seg dksX7_skipping_3 24 rfl rfl
theorem dX7_skipping_0 : decode cX7_skipping 0 = .ok (.iconst 0, 1) := dk_3 (dk_at dksX7_skipping_0 0 rfl rfl)
theorem dX7_skipping_1 : decode cX7_skipping 1 = .ok (.istore_n 1, 1) := dk_60 (dk_at dksX7_skipping_0 1 rfl rfl)
theorem dX7_skipping_2 : decode cX7_skipping 2 = .ok (.iload_n 1, 1) := dk_27 (dk_at dksX7_skipping_0 2 rfl rfl)
theorem dX7_skipping_3 : decode cX7_skipping 3 = .ok (.aload_n 0, 1) := dk_42 (dk_at dksX7_skipping_0 3 rfl rfl)
theorem dX7_skipping_4 : decode cX7_skipping 4 = .ok (.getfield 65, 3) := dk_180 0 65 (dk_at dksX7_skipping_0 4 rfl rfl)
theorem dX7_skipping_7 : decode cX7_skipping 7 = .ok (.if_icmp .gt 111, 3) := dk_163 0 111 (dk_at dksX7_skipping_0 7 rfl rfl)
theorem dX7_skipping_10 : decode cX7_skipping 10 = .ok (.aload_n 0, 1) := dk_42 (dk_at dksX7_skipping_0 10 rfl rfl)
theorem dX7_skipping_11 : decode cX7_skipping 11 = .ok (.getfield 36, 3) := dk_180 0 36 (dk_at dksX7_skipping_0 11 rfl rfl)
theorem dX7_skipping_14 : decode cX7_skipping 14 = .ok (.iload_n 1, 1) := dk_27 (dk_at dksX7_skipping_0 14 rfl rfl)
theorem dX7_skipping_15 : decode cX7_skipping 15 = .ok (.aaload, 1) := dk_50 (dk_at dksX7_skipping_0 15 rfl rfl)
theorem dX7_skipping_16 : decode cX7_skipping 16 = .ok (.iload_n 1, 1) := dk_27 (dk_at dksX7_skipping_0 16 rfl rfl)
theorem dX7_skipping_17 : decode cX7_skipping 17 = .ok (.lconst 0, 1) := dk_9 (dk_at dksX7_skipping_0 17 rfl rfl)
theorem dX7_skipping_18 : decode cX7_skipping 18 = .ok (.lastore, 1) := dk_80 (dk_at dksX7_skipping_0 18 rfl rfl)
theorem dX7_skipping_19 : decode cX7_skipping 19 = .ok (.iload_n 1, 1) := dk_27 (dk_at dksX7_skipping_0 19 rfl rfl)
theorem dX7_skipping_20 : decode cX7_skipping 20 = .ok (.iconst 1, 1) := dk_4 (dk_at dksX7_skipping_0 20 rfl rfl)
theorem dX7_skipping_21 : decode cX7_skipping 21 = .ok (.isub, 1) := dk_100 (dk_at dksX7_skipping_0 21 rfl rfl)
theorem dX7_skipping_22 : decode cX7_skipping 22 = .ok (.istore_n 2, 1) := dk_61 (dk_at dksX7_skipping_0 22 rfl rfl)
theorem dX7_skipping_23 : decode cX7_skipping 23 = .ok (.iload_n 2, 1) := dk_28 (dk_at dksX7_skipping_0 23 rfl rfl)
theorem dX7_skipping_24 : decode cX7_skipping 24 = .ok (.ifCond .lt 88, 3) := dk_155 0 88 (dk_at dksX7_skipping_1 0 rfl rfl)
theorem dX7_skipping_27 : decode cX7_skipping 27 = .ok (.aload_n 0, 1) := dk_42 (dk_at dksX7_skipping_1 3 rfl rfl)
theorem dX7_skipping_28 : decode cX7_skipping 28 = .ok (.getfield 36, 3) := dk_180 0 36 (dk_at dksX7_skipping_1 4 rfl rfl)
theorem dX7_skipping_31 : decode cX7_skipping 31 = .ok (.iload_n 2, 1) := dk_28 (dk_at dksX7_skipping_1 7 rfl rfl)
theorem dX7_skipping_32 : decode cX7_skipping 32 = .ok (.aaload, 1) := dk_50 (dk_at dksX7_skipping_1 8 rfl rfl)
theorem dX7_skipping_33 : decode cX7_skipping 33 = .ok (.iload_n 1, 1) := dk_27 (dk_at dksX7_skipping_1 9 rfl rfl)
theorem dX7_skipping_34 : decode cX7_skipping 34 = .ok (.ldc2_w 162, 3) := dk_20 0 162 (dk_at dksX7_skipping_1 10 rfl rfl)
theorem dX7_skipping_37 : decode cX7_skipping 37 = .ok (.lastore, 1) := dk_80 (dk_at dksX7_skipping_1 13 rfl rfl)
theorem dX7_skipping_38 : decode cX7_skipping 38 = .ok (.iconst 1, 1) := dk_4 (dk_at dksX7_skipping_1 14 rfl rfl)
theorem dX7_skipping_39 : decode cX7_skipping 39 = .ok (.istore_n 3, 1) := dk_62 (dk_at dksX7_skipping_1 15 rfl rfl)
theorem dX7_skipping_40 : decode cX7_skipping 40 = .ok (.iload_n 2, 1) := dk_28 (dk_at dksX7_skipping_1 16 rfl rfl)
theorem dX7_skipping_41 : decode cX7_skipping 41 = .ok (.iload_n 3, 1) := dk_29 (dk_at dksX7_skipping_1 17 rfl rfl)
theorem dX7_skipping_42 : decode cX7_skipping 42 = .ok (.iadd, 1) := dk_96 (dk_at dksX7_skipping_1 18 rfl rfl)
theorem dX7_skipping_43 : decode cX7_skipping 43 = .ok (.iload_n 1, 1) := dk_27 (dk_at dksX7_skipping_1 19 rfl rfl)
theorem dX7_skipping_44 : decode cX7_skipping 44 = .ok (.if_icmp .gt 62, 3) := dk_163 0 62 (dk_at dksX7_skipping_1 20 rfl rfl)
theorem dX7_skipping_47 : decode cX7_skipping 47 = .ok (.aload_n 0, 1) := dk_42 (dk_at dksX7_skipping_1 23 rfl rfl)
theorem dX7_skipping_48 : decode cX7_skipping 48 = .ok (.getfield 31, 3) := dk_180 0 31 (dk_at dksX7_skipping_2 0 rfl rfl)
theorem dX7_skipping_51 : decode cX7_skipping 51 = .ok (.iload_n 2, 1) := dk_28 (dk_at dksX7_skipping_2 3 rfl rfl)
theorem dX7_skipping_52 : decode cX7_skipping 52 = .ok (.aaload, 1) := dk_50 (dk_at dksX7_skipping_2 4 rfl rfl)
theorem dX7_skipping_53 : decode cX7_skipping 53 = .ok (.iload_n 3, 1) := dk_29 (dk_at dksX7_skipping_2 5 rfl rfl)
theorem dX7_skipping_54 : decode cX7_skipping 54 = .ok (.aaload, 1) := dk_50 (dk_at dksX7_skipping_2 6 rfl rfl)
theorem dX7_skipping_55 : decode cX7_skipping 55 = .ok (.ifnull 45, 3) := dk_198 0 45 (dk_at dksX7_skipping_2 7 rfl rfl)
theorem dX7_skipping_58 : decode cX7_skipping 58 = .ok (.aload_n 0, 1) := dk_42 (dk_at dksX7_skipping_2 10 rfl rfl)
theorem dX7_skipping_59 : decode cX7_skipping 59 = .ok (.getfield 36, 3) := dk_180 0 36 (dk_at dksX7_skipping_2 11 rfl rfl)
theorem dX7_skipping_62 : decode cX7_skipping 62 = .ok (.iload_n 2, 1) := dk_28 (dk_at dksX7_skipping_2 14 rfl rfl)
theorem dX7_skipping_63 : decode cX7_skipping 63 = .ok (.aaload, 1) := dk_50 (dk_at dksX7_skipping_2 15 rfl rfl)
theorem dX7_skipping_64 : decode cX7_skipping 64 = .ok (.iload_n 1, 1) := dk_27 (dk_at dksX7_skipping_2 16 rfl rfl)
theorem dX7_skipping_65 : decode cX7_skipping 65 = .ok (.aload_n 0, 1) := dk_42 (dk_at dksX7_skipping_2 17 rfl rfl)
theorem dX7_skipping_66 : decode cX7_skipping 66 = .ok (.getfield 36, 3) := dk_180 0 36 (dk_at dksX7_skipping_2 18 rfl rfl)
theorem dX7_skipping_69 : decode cX7_skipping 69 = .ok (.iload_n 2, 1) := dk_28 (dk_at dksX7_skipping_2 21 rfl rfl)
theorem dX7_skipping_70 : decode cX7_skipping 70 = .ok (.aaload, 1) := dk_50 (dk_at dksX7_skipping_2 22 rfl rfl)
theorem dX7_skipping_71 : decode cX7_skipping 71 = .ok (.iload_n 1, 1) := dk_27 (dk_at dksX7_skipping_2 23 rfl rfl)
theorem dX7_skipping_72 : decode cX7_skipping 72 = .ok (.laload, 1) := dk_47 (dk_at dksX7_skipping_3 0 rfl rfl)
theorem dX7_skipping_73 : decode cX7_skipping 73 = .ok (.aload_n 0, 1) := dk_42 (dk_at dksX7_skipping_3 1 rfl rfl)
theorem dX7_skipping_74 : decode cX7_skipping 74 = .ok (.getfield 31, 3) := dk_180 0 31 (dk_at dksX7_skipping_3 2 rfl rfl)
theorem dX7_skipping_77 : decode cX7_skipping 77 = .ok (.iload_n 2, 1) := dk_28 (dk_at dksX7_skipping_3 5 rfl rfl)
theorem dX7_skipping_78 : decode cX7_skipping 78 = .ok (.aaload, 1) := dk_50 (dk_at dksX7_skipping_3 6 rfl rfl)
theorem dX7_skipping_79 : decode cX7_skipping 79 = .ok (.iload_n 3, 1) := dk_29 (dk_at dksX7_skipping_3 7 rfl rfl)
theorem dX7_skipping_80 : decode cX7_skipping 80 = .ok (.aaload, 1) := dk_50 (dk_at dksX7_skipping_3 8 rfl rfl)
theorem dX7_skipping_81 : decode cX7_skipping 81 = .ok (.invokevirtual 164, 3) := dk_182 0 164 (dk_at dksX7_skipping_3 9 rfl rfl)
theorem dX7_skipping_84 : decode cX7_skipping 84 = .ok (.i2l, 1) := dk_133 (dk_at dksX7_skipping_3 12 rfl rfl)
theorem dX7_skipping_85 : decode cX7_skipping 85 = .ok (.aload_n 0, 1) := dk_42 (dk_at dksX7_skipping_3 13 rfl rfl)
theorem dX7_skipping_86 : decode cX7_skipping 86 = .ok (.getfield 36, 3) := dk_180 0 36 (dk_at dksX7_skipping_3 14 rfl rfl)
theorem dX7_skipping_89 : decode cX7_skipping 89 = .ok (.iload_n 2, 1) := dk_28 (dk_at dksX7_skipping_3 17 rfl rfl)
theorem dX7_skipping_90 : decode cX7_skipping 90 = .ok (.iload_n 3, 1) := dk_29 (dk_at dksX7_skipping_3 18 rfl rfl)
theorem dX7_skipping_91 : decode cX7_skipping 91 = .ok (.iadd, 1) := dk_96 (dk_at dksX7_skipping_3 19 rfl rfl)
theorem dX7_skipping_92 : decode cX7_skipping 92 = .ok (.aaload, 1) := dk_50 (dk_at dksX7_skipping_3 20 rfl rfl)
theorem dX7_skipping_93 : decode cX7_skipping 93 = .ok (.iload_n 1, 1) := dk_27 (dk_at dksX7_skipping_3 21 rfl rfl)
theorem dX7_skipping_94 : decode cX7_skipping 94 = .ok (.laload, 1) := dk_47 (dk_at dksX7_skipping_3 22 rfl rfl)
theorem dX7_skipping_95 : decode cX7_skipping 95 = .ok (.ladd, 1) := dk_97 (dk_at dksX7_skipping_3 23 rfl rfl)
theorem dX7_skipping_96 : decode cX7_skipping 96 = .ok (.invokestatic 167, 3) := dk_184 0 167 (dk_at dksX7_skipping_4 0 rfl rfl)
theorem dX7_skipping_99 : decode cX7_skipping 99 = .ok (.lastore, 1) := dk_80 (dk_at dksX7_skipping_4 3 rfl rfl)
theorem dX7_skipping_100 : decode cX7_skipping 100 = .ok (.iinc 3 1, 3) := dk_132 3 1 (dk_at dksX7_skipping_4 4 rfl rfl)
theorem dX7_skipping_103 : decode cX7_skipping 103 = .ok (.goto (-63), 3) := dk_167 255 193 (dk_at dksX7_skipping_4 7 rfl rfl)
theorem dX7_skipping_106 : decode cX7_skipping 106 = .ok (.iinc 2 (-1), 3) := dk_132 2 255 (dk_at dksX7_skipping_4 10 rfl rfl)
theorem dX7_skipping_109 : decode cX7_skipping 109 = .ok (.goto (-86), 3) := dk_167 255 170 (dk_at dksX7_skipping_4 13 rfl rfl)
theorem dX7_skipping_112 : decode cX7_skipping 112 = .ok (.iinc 1 1, 3) := dk_132 1 1 (dk_at dksX7_skipping_4 16 rfl rfl)
theorem dX7_skipping_115 : decode cX7_skipping 115 = .ok (.goto (-113), 3) := dk_167 255 143 (dk_at dksX7_skipping_4 19 rfl rfl)
theorem dX7_skipping_118 : decode cX7_skipping 118 = .ok (.return_, 1) := dk_177 (dk_at dksX7_skipping_4 22 rfl rfl)
abbrev cX7_reading : ByteArray := prog_2_method_8_code
def yX7_reading : MethodName := ⟨RX7, "reading", "()V"⟩
def dkwX7_reading_7 : List UInt8 := [80, 132, 3, 1, 167, 255, 186, 132, 1, 1, 167, 255, 151, 177]
abbrev dktX7_reading_7 : List UInt8 := dkwX7_reading_7 ++ []
def dkwX7_reading_6 : List UInt8 := [180, 0, 187, 42, 180, 0, 43, 44, 180, 0, 184, 50, 29, 50, 44, 180, 0, 187, 47, 22, 4, 184, 0, 167]
abbrev dktX7_reading_6 : List UInt8 := dkwX7_reading_6 ++ dktX7_reading_7
def dkwX7_reading_5 : List UInt8 := [180, 0, 65, 184, 0, 180, 133, 97, 55, 4, 42, 180, 0, 43, 44, 180, 0, 184, 50, 29, 50, 44]
abbrev dktX7_reading_5 : List UInt8 := dkwX7_reading_5 ++ dktX7_reading_6
def dkwX7_reading_4 : List UInt8 := [77, 3, 62, 29, 44, 180, 0, 173, 163, 0, 68, 42, 29, 44, 182, 0, 176, 42, 180, 0, 61, 44, 42]
abbrev dktX7_reading_4 : List UInt8 := dkwX7_reading_4 ++ dktX7_reading_5
def dkwX7_reading_3 : List UInt8 := [180, 0, 25, 185, 0, 94, 1, 0, 162, 0, 98, 42, 180, 0, 25, 27, 185, 0, 98, 2, 0, 192, 0, 126]
abbrev dktX7_reading_3 : List UInt8 := dkwX7_reading_3 ++ dktX7_reading_4
def dkwX7_reading_2 : List UInt8 := [132, 3, 1, 167, 255, 232, 132, 2, 1, 167, 255, 216, 132, 1, 1, 167, 255, 197, 3, 60, 27, 42]
abbrev dktX7_reading_2 : List UInt8 := dkwX7_reading_2 ++ dktX7_reading_3
def dkwX7_reading_1 : List UInt8 := [62, 29, 42, 180, 0, 89, 162, 0, 22, 42, 180, 0, 43, 27, 50, 28, 50, 29, 20, 0, 162, 80]
abbrev dktX7_reading_1 : List UInt8 := dkwX7_reading_1 ++ dktX7_reading_2
def dkwX7_reading_0 : List UInt8 := [3, 60, 27, 42, 180, 0, 3, 180, 0, 107, 162, 0, 54, 3, 61, 28, 42, 180, 0, 89, 162, 0, 38, 3]
abbrev dktX7_reading_0 : List UInt8 := dkwX7_reading_0 ++ dktX7_reading_1
theorem dksX7_reading_0 : cX7_reading.data.toList.drop 0 = dktX7_reading_0 := by decide +kernel
theorem dksX7_reading_1 : cX7_reading.data.toList.drop 24 = dktX7_reading_1 := dk_seg dksX7_reading_0 24 rfl rfl
theorem dksX7_reading_2 : cX7_reading.data.toList.drop 46 = dktX7_reading_2 := dk_seg dksX7_reading_1 22 rfl rfl
theorem dksX7_reading_3 : cX7_reading.data.toList.drop 68 = dktX7_reading_3 := dk_seg dksX7_reading_2 22 rfl rfl
theorem dksX7_reading_4 : cX7_reading.data.toList.drop 92 = dktX7_reading_4 := dk_seg dksX7_reading_3 24 rfl rfl
theorem dksX7_reading_5 : cX7_reading.data.toList.drop 115 = dktX7_reading_5 := dk_seg dksX7_reading_4 23 rfl rfl
theorem dksX7_reading_6 : cX7_reading.data.toList.drop 137 = dktX7_reading_6 := dk_seg dksX7_reading_5 22 rfl rfl
theorem dksX7_reading_7 : cX7_reading.data.toList.drop 161 = dktX7_reading_7 := dk_seg dksX7_reading_6 24 rfl rfl
theorem dX7_reading_0 : decode cX7_reading 0 = .ok (.iconst 0, 1) := dk_3 (dk_at dksX7_reading_0 0 rfl rfl)
theorem dX7_reading_1 : decode cX7_reading 1 = .ok (.istore_n 1, 1) := dk_60 (dk_at dksX7_reading_0 1 rfl rfl)
theorem dX7_reading_2 : decode cX7_reading 2 = .ok (.iload_n 1, 1) := dk_27 (dk_at dksX7_reading_0 2 rfl rfl)
theorem dX7_reading_3 : decode cX7_reading 3 = .ok (.aload_n 0, 1) := dk_42 (dk_at dksX7_reading_0 3 rfl rfl)
theorem dX7_reading_4 : decode cX7_reading 4 = .ok (.getfield 3, 3) := dk_180 0 3 (dk_at dksX7_reading_0 4 rfl rfl)
theorem dX7_reading_7 : decode cX7_reading 7 = .ok (.getfield 107, 3) := dk_180 0 107 (dk_at dksX7_reading_0 7 rfl rfl)
theorem dX7_reading_10 : decode cX7_reading 10 = .ok (.if_icmp .ge 54, 3) := dk_162 0 54 (dk_at dksX7_reading_0 10 rfl rfl)
theorem dX7_reading_13 : decode cX7_reading 13 = .ok (.iconst 0, 1) := dk_3 (dk_at dksX7_reading_0 13 rfl rfl)
theorem dX7_reading_14 : decode cX7_reading 14 = .ok (.istore_n 2, 1) := dk_61 (dk_at dksX7_reading_0 14 rfl rfl)
theorem dX7_reading_15 : decode cX7_reading 15 = .ok (.iload_n 2, 1) := dk_28 (dk_at dksX7_reading_0 15 rfl rfl)
theorem dX7_reading_16 : decode cX7_reading 16 = .ok (.aload_n 0, 1) := dk_42 (dk_at dksX7_reading_0 16 rfl rfl)
theorem dX7_reading_17 : decode cX7_reading 17 = .ok (.getfield 89, 3) := dk_180 0 89 (dk_at dksX7_reading_0 17 rfl rfl)
theorem dX7_reading_20 : decode cX7_reading 20 = .ok (.if_icmp .ge 38, 3) := dk_162 0 38 (dk_at dksX7_reading_0 20 rfl rfl)
theorem dX7_reading_23 : decode cX7_reading 23 = .ok (.iconst 0, 1) := dk_3 (dk_at dksX7_reading_0 23 rfl rfl)
theorem dX7_reading_24 : decode cX7_reading 24 = .ok (.istore_n 3, 1) := dk_62 (dk_at dksX7_reading_1 0 rfl rfl)
theorem dX7_reading_25 : decode cX7_reading 25 = .ok (.iload_n 3, 1) := dk_29 (dk_at dksX7_reading_1 1 rfl rfl)
theorem dX7_reading_26 : decode cX7_reading 26 = .ok (.aload_n 0, 1) := dk_42 (dk_at dksX7_reading_1 2 rfl rfl)
theorem dX7_reading_27 : decode cX7_reading 27 = .ok (.getfield 89, 3) := dk_180 0 89 (dk_at dksX7_reading_1 3 rfl rfl)
theorem dX7_reading_30 : decode cX7_reading 30 = .ok (.if_icmp .ge 22, 3) := dk_162 0 22 (dk_at dksX7_reading_1 6 rfl rfl)
theorem dX7_reading_33 : decode cX7_reading 33 = .ok (.aload_n 0, 1) := dk_42 (dk_at dksX7_reading_1 9 rfl rfl)
theorem dX7_reading_34 : decode cX7_reading 34 = .ok (.getfield 43, 3) := dk_180 0 43 (dk_at dksX7_reading_1 10 rfl rfl)
theorem dX7_reading_37 : decode cX7_reading 37 = .ok (.iload_n 1, 1) := dk_27 (dk_at dksX7_reading_1 13 rfl rfl)
theorem dX7_reading_38 : decode cX7_reading 38 = .ok (.aaload, 1) := dk_50 (dk_at dksX7_reading_1 14 rfl rfl)
theorem dX7_reading_39 : decode cX7_reading 39 = .ok (.iload_n 2, 1) := dk_28 (dk_at dksX7_reading_1 15 rfl rfl)
theorem dX7_reading_40 : decode cX7_reading 40 = .ok (.aaload, 1) := dk_50 (dk_at dksX7_reading_1 16 rfl rfl)
theorem dX7_reading_41 : decode cX7_reading 41 = .ok (.iload_n 3, 1) := dk_29 (dk_at dksX7_reading_1 17 rfl rfl)
theorem dX7_reading_42 : decode cX7_reading 42 = .ok (.ldc2_w 162, 3) := dk_20 0 162 (dk_at dksX7_reading_1 18 rfl rfl)
theorem dX7_reading_45 : decode cX7_reading 45 = .ok (.lastore, 1) := dk_80 (dk_at dksX7_reading_1 21 rfl rfl)
theorem dX7_reading_46 : decode cX7_reading 46 = .ok (.iinc 3 1, 3) := dk_132 3 1 (dk_at dksX7_reading_2 0 rfl rfl)
theorem dX7_reading_49 : decode cX7_reading 49 = .ok (.goto (-24), 3) := dk_167 255 232 (dk_at dksX7_reading_2 3 rfl rfl)
theorem dX7_reading_52 : decode cX7_reading 52 = .ok (.iinc 2 1, 3) := dk_132 2 1 (dk_at dksX7_reading_2 6 rfl rfl)
theorem dX7_reading_55 : decode cX7_reading 55 = .ok (.goto (-40), 3) := dk_167 255 216 (dk_at dksX7_reading_2 9 rfl rfl)
theorem dX7_reading_58 : decode cX7_reading 58 = .ok (.iinc 1 1, 3) := dk_132 1 1 (dk_at dksX7_reading_2 12 rfl rfl)
theorem dX7_reading_61 : decode cX7_reading 61 = .ok (.goto (-59), 3) := dk_167 255 197 (dk_at dksX7_reading_2 15 rfl rfl)
theorem dX7_reading_64 : decode cX7_reading 64 = .ok (.iconst 0, 1) := dk_3 (dk_at dksX7_reading_2 18 rfl rfl)
theorem dX7_reading_65 : decode cX7_reading 65 = .ok (.istore_n 1, 1) := dk_60 (dk_at dksX7_reading_2 19 rfl rfl)
theorem dX7_reading_66 : decode cX7_reading 66 = .ok (.iload_n 1, 1) := dk_27 (dk_at dksX7_reading_2 20 rfl rfl)
theorem dX7_reading_67 : decode cX7_reading 67 = .ok (.aload_n 0, 1) := dk_42 (dk_at dksX7_reading_2 21 rfl rfl)
theorem dX7_reading_68 : decode cX7_reading 68 = .ok (.getfield 25, 3) := dk_180 0 25 (dk_at dksX7_reading_3 0 rfl rfl)
theorem dX7_reading_71 : decode cX7_reading 71 = .ok (.invokeinterface 94 1, 5) := by decide +kernel
theorem dX7_reading_76 : decode cX7_reading 76 = .ok (.if_icmp .ge 98, 3) := dk_162 0 98 (dk_at dksX7_reading_3 8 rfl rfl)
theorem dX7_reading_79 : decode cX7_reading 79 = .ok (.aload_n 0, 1) := dk_42 (dk_at dksX7_reading_3 11 rfl rfl)
theorem dX7_reading_80 : decode cX7_reading 80 = .ok (.getfield 25, 3) := dk_180 0 25 (dk_at dksX7_reading_3 12 rfl rfl)
theorem dX7_reading_83 : decode cX7_reading 83 = .ok (.iload_n 1, 1) := dk_27 (dk_at dksX7_reading_3 15 rfl rfl)
theorem dX7_reading_84 : decode cX7_reading 84 = .ok (.invokeinterface 98 2, 5) := by decide +kernel
theorem dX7_reading_89 : decode cX7_reading 89 = .ok (.checkcast 126, 3) := dk_192 0 126 (dk_at dksX7_reading_3 21 rfl rfl)
theorem dX7_reading_92 : decode cX7_reading 92 = .ok (.astore_n 2, 1) := dk_77 (dk_at dksX7_reading_4 0 rfl rfl)
theorem dX7_reading_93 : decode cX7_reading 93 = .ok (.iconst 0, 1) := dk_3 (dk_at dksX7_reading_4 1 rfl rfl)
theorem dX7_reading_94 : decode cX7_reading 94 = .ok (.istore_n 3, 1) := dk_62 (dk_at dksX7_reading_4 2 rfl rfl)
theorem dX7_reading_95 : decode cX7_reading 95 = .ok (.iload_n 3, 1) := dk_29 (dk_at dksX7_reading_4 3 rfl rfl)
theorem dX7_reading_96 : decode cX7_reading 96 = .ok (.aload_n 2, 1) := dk_44 (dk_at dksX7_reading_4 4 rfl rfl)
theorem dX7_reading_97 : decode cX7_reading 97 = .ok (.getfield 173, 3) := dk_180 0 173 (dk_at dksX7_reading_4 5 rfl rfl)
theorem dX7_reading_100 : decode cX7_reading 100 = .ok (.if_icmp .gt 68, 3) := dk_163 0 68 (dk_at dksX7_reading_4 8 rfl rfl)
theorem dX7_reading_103 : decode cX7_reading 103 = .ok (.aload_n 0, 1) := dk_42 (dk_at dksX7_reading_4 11 rfl rfl)
theorem dX7_reading_104 : decode cX7_reading 104 = .ok (.iload_n 3, 1) := dk_29 (dk_at dksX7_reading_4 12 rfl rfl)
theorem dX7_reading_105 : decode cX7_reading 105 = .ok (.aload_n 2, 1) := dk_44 (dk_at dksX7_reading_4 13 rfl rfl)
theorem dX7_reading_106 : decode cX7_reading 106 = .ok (.invokevirtual 176, 3) := dk_182 0 176 (dk_at dksX7_reading_4 14 rfl rfl)
theorem dX7_reading_109 : decode cX7_reading 109 = .ok (.aload_n 0, 1) := dk_42 (dk_at dksX7_reading_4 17 rfl rfl)
theorem dX7_reading_110 : decode cX7_reading 110 = .ok (.getfield 61, 3) := dk_180 0 61 (dk_at dksX7_reading_4 18 rfl rfl)
theorem dX7_reading_113 : decode cX7_reading 113 = .ok (.aload_n 2, 1) := dk_44 (dk_at dksX7_reading_4 21 rfl rfl)
theorem dX7_reading_114 : decode cX7_reading 114 = .ok (.aload_n 0, 1) := dk_42 (dk_at dksX7_reading_4 22 rfl rfl)
theorem dX7_reading_115 : decode cX7_reading 115 = .ok (.getfield 65, 3) := dk_180 0 65 (dk_at dksX7_reading_5 0 rfl rfl)
theorem dX7_reading_118 : decode cX7_reading 118 = .ok (.invokestatic 180, 3) := dk_184 0 180 (dk_at dksX7_reading_5 3 rfl rfl)
theorem dX7_reading_121 : decode cX7_reading 121 = .ok (.i2l, 1) := dk_133 (dk_at dksX7_reading_5 6 rfl rfl)
theorem dX7_reading_122 : decode cX7_reading 122 = .ok (.ladd, 1) := dk_97 (dk_at dksX7_reading_5 7 rfl rfl)
theorem dX7_reading_123 : decode cX7_reading 123 = .ok (.lstore 4, 2) := dk_55 4 (dk_at dksX7_reading_5 8 rfl rfl)
theorem dX7_reading_125 : decode cX7_reading 125 = .ok (.aload_n 0, 1) := dk_42 (dk_at dksX7_reading_5 10 rfl rfl)
theorem dX7_reading_126 : decode cX7_reading 126 = .ok (.getfield 43, 3) := dk_180 0 43 (dk_at dksX7_reading_5 11 rfl rfl)
theorem dX7_reading_129 : decode cX7_reading 129 = .ok (.aload_n 2, 1) := dk_44 (dk_at dksX7_reading_5 14 rfl rfl)
theorem dX7_reading_130 : decode cX7_reading 130 = .ok (.getfield 184, 3) := dk_180 0 184 (dk_at dksX7_reading_5 15 rfl rfl)
theorem dX7_reading_133 : decode cX7_reading 133 = .ok (.aaload, 1) := dk_50 (dk_at dksX7_reading_5 18 rfl rfl)
theorem dX7_reading_134 : decode cX7_reading 134 = .ok (.iload_n 3, 1) := dk_29 (dk_at dksX7_reading_5 19 rfl rfl)
theorem dX7_reading_135 : decode cX7_reading 135 = .ok (.aaload, 1) := dk_50 (dk_at dksX7_reading_5 20 rfl rfl)
theorem dX7_reading_136 : decode cX7_reading 136 = .ok (.aload_n 2, 1) := dk_44 (dk_at dksX7_reading_5 21 rfl rfl)
theorem dX7_reading_137 : decode cX7_reading 137 = .ok (.getfield 187, 3) := dk_180 0 187 (dk_at dksX7_reading_6 0 rfl rfl)
theorem dX7_reading_140 : decode cX7_reading 140 = .ok (.aload_n 0, 1) := dk_42 (dk_at dksX7_reading_6 3 rfl rfl)
theorem dX7_reading_141 : decode cX7_reading 141 = .ok (.getfield 43, 3) := dk_180 0 43 (dk_at dksX7_reading_6 4 rfl rfl)
theorem dX7_reading_144 : decode cX7_reading 144 = .ok (.aload_n 2, 1) := dk_44 (dk_at dksX7_reading_6 7 rfl rfl)
theorem dX7_reading_145 : decode cX7_reading 145 = .ok (.getfield 184, 3) := dk_180 0 184 (dk_at dksX7_reading_6 8 rfl rfl)
theorem dX7_reading_148 : decode cX7_reading 148 = .ok (.aaload, 1) := dk_50 (dk_at dksX7_reading_6 11 rfl rfl)
theorem dX7_reading_149 : decode cX7_reading 149 = .ok (.iload_n 3, 1) := dk_29 (dk_at dksX7_reading_6 12 rfl rfl)
theorem dX7_reading_150 : decode cX7_reading 150 = .ok (.aaload, 1) := dk_50 (dk_at dksX7_reading_6 13 rfl rfl)
theorem dX7_reading_151 : decode cX7_reading 151 = .ok (.aload_n 2, 1) := dk_44 (dk_at dksX7_reading_6 14 rfl rfl)
theorem dX7_reading_152 : decode cX7_reading 152 = .ok (.getfield 187, 3) := dk_180 0 187 (dk_at dksX7_reading_6 15 rfl rfl)
theorem dX7_reading_155 : decode cX7_reading 155 = .ok (.laload, 1) := dk_47 (dk_at dksX7_reading_6 18 rfl rfl)
theorem dX7_reading_156 : decode cX7_reading 156 = .ok (.lload 4, 2) := dk_22 4 (dk_at dksX7_reading_6 19 rfl rfl)
theorem dX7_reading_158 : decode cX7_reading 158 = .ok (.invokestatic 167, 3) := dk_184 0 167 (dk_at dksX7_reading_6 21 rfl rfl)
theorem dX7_reading_161 : decode cX7_reading 161 = .ok (.lastore, 1) := dk_80 (dk_at dksX7_reading_7 0 rfl rfl)
theorem dX7_reading_162 : decode cX7_reading 162 = .ok (.iinc 3 1, 3) := dk_132 3 1 (dk_at dksX7_reading_7 1 rfl rfl)
theorem dX7_reading_165 : decode cX7_reading 165 = .ok (.goto (-70), 3) := dk_167 255 186 (dk_at dksX7_reading_7 4 rfl rfl)
theorem dX7_reading_168 : decode cX7_reading 168 = .ok (.iinc 1 1, 3) := dk_132 1 1 (dk_at dksX7_reading_7 7 rfl rfl)
theorem dX7_reading_171 : decode cX7_reading 171 = .ok (.goto (-105), 3) := dk_167 255 151 (dk_at dksX7_reading_7 10 rfl rfl)
theorem dX7_reading_174 : decode cX7_reading 174 = .ok (.return_, 1) := dk_177 (dk_at dksX7_reading_7 13 rfl rfl)
abbrev cX7_upTo : ByteArray := prog_2_method_7_code
def yX7_upTo : MethodName := ⟨RX7, "upTo", "(ILMendReader$Step;)J"⟩
def dkwX7_upTo_3 : List UInt8 := [20, 0, 162, 173]
abbrev dktX7_upTo_3 : List UInt8 := dkwX7_upTo_3 ++ []
def dkwX7_upTo_2 : List UInt8 := [180, 0, 36, 42, 180, 0, 19, 27, 46, 50, 42, 180, 0, 19, 44, 180, 0, 173, 46, 47, 167, 0, 6]
abbrev dktX7_upTo_2 : List UInt8 := dkwX7_upTo_2 ++ dktX7_upTo_3
def dkwX7_upTo_1 : List UInt8 := [180, 0, 19, 44, 180, 0, 173, 46, 16, 252, 159, 0, 35, 27, 44, 180, 0, 173, 162, 0, 27, 42]
abbrev dktX7_upTo_1 : List UInt8 := dkwX7_upTo_1 ++ dktX7_upTo_2
def dkwX7_upTo_0 : List UInt8 := [27, 44, 180, 0, 173, 160, 0, 5, 9, 173, 42, 180, 0, 19, 27, 46, 16, 252, 159, 0, 49, 42]
abbrev dktX7_upTo_0 : List UInt8 := dkwX7_upTo_0 ++ dktX7_upTo_1
theorem dksX7_upTo_0 : cX7_upTo.data.toList.drop 0 = dktX7_upTo_0 := by decide +kernel
theorem dksX7_upTo_1 : cX7_upTo.data.toList.drop 22 = dktX7_upTo_1 := dk_seg dksX7_upTo_0 22 rfl rfl
theorem dksX7_upTo_2 : cX7_upTo.data.toList.drop 44 = dktX7_upTo_2 := dk_seg dksX7_upTo_1 22 rfl rfl
theorem dksX7_upTo_3 : cX7_upTo.data.toList.drop 67 = dktX7_upTo_3 := dk_seg dksX7_upTo_2 23 rfl rfl
theorem dX7_upTo_0 : decode cX7_upTo 0 = .ok (.iload_n 1, 1) := dk_27 (dk_at dksX7_upTo_0 0 rfl rfl)
theorem dX7_upTo_1 : decode cX7_upTo 1 = .ok (.aload_n 2, 1) := dk_44 (dk_at dksX7_upTo_0 1 rfl rfl)
theorem dX7_upTo_2 : decode cX7_upTo 2 = .ok (.getfield 173, 3) := dk_180 0 173 (dk_at dksX7_upTo_0 2 rfl rfl)
theorem dX7_upTo_5 : decode cX7_upTo 5 = .ok (.if_icmp .ne 5, 3) := dk_160 0 5 (dk_at dksX7_upTo_0 5 rfl rfl)
theorem dX7_upTo_8 : decode cX7_upTo 8 = .ok (.lconst 0, 1) := dk_9 (dk_at dksX7_upTo_0 8 rfl rfl)
theorem dX7_upTo_9 : decode cX7_upTo 9 = .ok (.lreturn, 1) := dk_173 (dk_at dksX7_upTo_0 9 rfl rfl)
theorem dX7_upTo_10 : decode cX7_upTo 10 = .ok (.aload_n 0, 1) := dk_42 (dk_at dksX7_upTo_0 10 rfl rfl)
theorem dX7_upTo_11 : decode cX7_upTo 11 = .ok (.getfield 19, 3) := dk_180 0 19 (dk_at dksX7_upTo_0 11 rfl rfl)
theorem dX7_upTo_14 : decode cX7_upTo 14 = .ok (.iload_n 1, 1) := dk_27 (dk_at dksX7_upTo_0 14 rfl rfl)
theorem dX7_upTo_15 : decode cX7_upTo 15 = .ok (.iaload, 1) := dk_46 (dk_at dksX7_upTo_0 15 rfl rfl)
theorem dX7_upTo_16 : decode cX7_upTo 16 = .ok (.bipush (-4), 2) := dk_16 252 (dk_at dksX7_upTo_0 16 rfl rfl)
theorem dX7_upTo_18 : decode cX7_upTo 18 = .ok (.if_icmp .eq 49, 3) := dk_159 0 49 (dk_at dksX7_upTo_0 18 rfl rfl)
theorem dX7_upTo_21 : decode cX7_upTo 21 = .ok (.aload_n 0, 1) := dk_42 (dk_at dksX7_upTo_0 21 rfl rfl)
theorem dX7_upTo_22 : decode cX7_upTo 22 = .ok (.getfield 19, 3) := dk_180 0 19 (dk_at dksX7_upTo_1 0 rfl rfl)
theorem dX7_upTo_25 : decode cX7_upTo 25 = .ok (.aload_n 2, 1) := dk_44 (dk_at dksX7_upTo_1 3 rfl rfl)
theorem dX7_upTo_26 : decode cX7_upTo 26 = .ok (.getfield 173, 3) := dk_180 0 173 (dk_at dksX7_upTo_1 4 rfl rfl)
theorem dX7_upTo_29 : decode cX7_upTo 29 = .ok (.iaload, 1) := dk_46 (dk_at dksX7_upTo_1 7 rfl rfl)
theorem dX7_upTo_30 : decode cX7_upTo 30 = .ok (.bipush (-4), 2) := dk_16 252 (dk_at dksX7_upTo_1 8 rfl rfl)
theorem dX7_upTo_32 : decode cX7_upTo 32 = .ok (.if_icmp .eq 35, 3) := dk_159 0 35 (dk_at dksX7_upTo_1 10 rfl rfl)
theorem dX7_upTo_35 : decode cX7_upTo 35 = .ok (.iload_n 1, 1) := dk_27 (dk_at dksX7_upTo_1 13 rfl rfl)
theorem dX7_upTo_36 : decode cX7_upTo 36 = .ok (.aload_n 2, 1) := dk_44 (dk_at dksX7_upTo_1 14 rfl rfl)
theorem dX7_upTo_37 : decode cX7_upTo 37 = .ok (.getfield 173, 3) := dk_180 0 173 (dk_at dksX7_upTo_1 15 rfl rfl)
theorem dX7_upTo_40 : decode cX7_upTo 40 = .ok (.if_icmp .ge 27, 3) := dk_162 0 27 (dk_at dksX7_upTo_1 18 rfl rfl)
theorem dX7_upTo_43 : decode cX7_upTo 43 = .ok (.aload_n 0, 1) := dk_42 (dk_at dksX7_upTo_1 21 rfl rfl)
theorem dX7_upTo_44 : decode cX7_upTo 44 = .ok (.getfield 36, 3) := dk_180 0 36 (dk_at dksX7_upTo_2 0 rfl rfl)
theorem dX7_upTo_47 : decode cX7_upTo 47 = .ok (.aload_n 0, 1) := dk_42 (dk_at dksX7_upTo_2 3 rfl rfl)
theorem dX7_upTo_48 : decode cX7_upTo 48 = .ok (.getfield 19, 3) := dk_180 0 19 (dk_at dksX7_upTo_2 4 rfl rfl)
theorem dX7_upTo_51 : decode cX7_upTo 51 = .ok (.iload_n 1, 1) := dk_27 (dk_at dksX7_upTo_2 7 rfl rfl)
theorem dX7_upTo_52 : decode cX7_upTo 52 = .ok (.iaload, 1) := dk_46 (dk_at dksX7_upTo_2 8 rfl rfl)
theorem dX7_upTo_53 : decode cX7_upTo 53 = .ok (.aaload, 1) := dk_50 (dk_at dksX7_upTo_2 9 rfl rfl)
theorem dX7_upTo_54 : decode cX7_upTo 54 = .ok (.aload_n 0, 1) := dk_42 (dk_at dksX7_upTo_2 10 rfl rfl)
theorem dX7_upTo_55 : decode cX7_upTo 55 = .ok (.getfield 19, 3) := dk_180 0 19 (dk_at dksX7_upTo_2 11 rfl rfl)
theorem dX7_upTo_58 : decode cX7_upTo 58 = .ok (.aload_n 2, 1) := dk_44 (dk_at dksX7_upTo_2 14 rfl rfl)
theorem dX7_upTo_59 : decode cX7_upTo 59 = .ok (.getfield 173, 3) := dk_180 0 173 (dk_at dksX7_upTo_2 15 rfl rfl)
theorem dX7_upTo_62 : decode cX7_upTo 62 = .ok (.iaload, 1) := dk_46 (dk_at dksX7_upTo_2 18 rfl rfl)
theorem dX7_upTo_63 : decode cX7_upTo 63 = .ok (.laload, 1) := dk_47 (dk_at dksX7_upTo_2 19 rfl rfl)
theorem dX7_upTo_64 : decode cX7_upTo 64 = .ok (.goto 6, 3) := dk_167 0 6 (dk_at dksX7_upTo_2 20 rfl rfl)
theorem dX7_upTo_67 : decode cX7_upTo 67 = .ok (.ldc2_w 162, 3) := dk_20 0 162 (dk_at dksX7_upTo_3 0 rfl rfl)
theorem dX7_upTo_70 : decode cX7_upTo 70 = .ok (.lreturn, 1) := dk_173 (dk_at dksX7_upTo_3 3 rfl rfl)
abbrev cX7_fill : ByteArray := prog_2_method_11_code
def yX7_fill : MethodName := ⟨RX7, "fill", "()V"⟩
def dkwX7_fill_9 : List UInt8 := [167, 255, 198, 132, 2, 1, 167, 255, 55, 132, 1, 255, 167, 255, 43, 177]
abbrev dktX7_fill_9 : List UInt8 := dkwX7_fill_9 ++ []
def dkwX7_fill_8 : List UInt8 := [21, 4, 185, 0, 98, 2, 0, 192, 0, 191, 27, 28, 182, 0, 214, 128, 62, 132, 4, 1, 167, 255, 210]
abbrev dktX7_fill_8 : List UInt8 := dkwX7_fill_8 ++ dktX7_fill_9
def dkwX7_fill_7 : List UInt8 := [180, 0, 3, 180, 0, 206, 185, 0, 94, 1, 0, 162, 0, 35, 29, 42, 42, 180, 0, 3, 180, 0, 206]
abbrev dktX7_fill_7 : List UInt8 := dkwX7_fill_7 ++ dktX7_fill_8
def dkwX7_fill_6 : List UInt8 := [167, 255, 209, 132, 3, 1, 167, 255, 166, 4, 62, 29, 153, 0, 60, 3, 62, 3, 54, 4, 21, 4, 42]
abbrev dktX7_fill_6 : List UInt8 := dkwX7_fill_6 ++ dktX7_fill_7
def dkwX7_fill_5 : List UInt8 := [180, 0, 209, 160, 0, 12, 27, 28, 160, 0, 7, 9, 167, 0, 6, 20, 0, 162, 80, 132, 5, 1]
abbrev dktX7_fill_5 : List UInt8 := dkwX7_fill_5 ++ dktX7_fill_6
def dkwX7_fill_4 : List UInt8 := [25, 4, 180, 0, 209, 163, 0, 43, 42, 25, 4, 21, 5, 182, 0, 211, 27, 50, 28, 21, 5, 25, 4]
abbrev dktX7_fill_4 : List UInt8 := dkwX7_fill_4 ++ dktX7_fill_5
def dkwX7_fill_3 : List UInt8 := [42, 180, 0, 3, 180, 0, 206, 29, 185, 0, 98, 2, 0, 192, 0, 191, 58, 4, 3, 54, 5, 21, 5]
abbrev dktX7_fill_3 : List UInt8 := dkwX7_fill_3 ++ dktX7_fill_4
def dkwX7_fill_2 : List UInt8 := [132, 3, 1, 167, 255, 229, 3, 62, 29, 42, 180, 0, 3, 180, 0, 206, 185, 0, 94, 1, 0, 162, 0, 80]
abbrev dktX7_fill_2 : List UInt8 := dkwX7_fill_2 ++ dktX7_fill_3
def dkwX7_fill_1 : List UInt8 := [42, 180, 0, 3, 180, 0, 203, 162, 0, 22, 42, 180, 0, 49, 29, 50, 27, 50, 28, 20, 0, 162, 80]
abbrev dktX7_fill_1 : List UInt8 := dkwX7_fill_1 ++ dktX7_fill_2
def dkwX7_fill_0 : List UInt8 := [42, 180, 0, 89, 4, 100, 60, 27, 155, 0, 215, 27, 61, 28, 42, 180, 0, 89, 162, 0, 199, 3, 62, 29]
abbrev dktX7_fill_0 : List UInt8 := dkwX7_fill_0 ++ dktX7_fill_1
theorem dksX7_fill_0 : cX7_fill.data.toList.drop 0 = dktX7_fill_0 := by decide +kernel
theorem dksX7_fill_1 : cX7_fill.data.toList.drop 24 = dktX7_fill_1 := dk_seg dksX7_fill_0 24 rfl rfl
theorem dksX7_fill_2 : cX7_fill.data.toList.drop 47 = dktX7_fill_2 := dk_seg dksX7_fill_1 23 rfl rfl
theorem dksX7_fill_3 : cX7_fill.data.toList.drop 71 = dktX7_fill_3 := dk_seg dksX7_fill_2 24 rfl rfl
theorem dksX7_fill_4 : cX7_fill.data.toList.drop 94 = dktX7_fill_4 := dk_seg dksX7_fill_3 23 rfl rfl
theorem dksX7_fill_5 : cX7_fill.data.toList.drop 117 = dktX7_fill_5 := dk_seg dksX7_fill_4 23 rfl rfl
theorem dksX7_fill_6 : cX7_fill.data.toList.drop 139 = dktX7_fill_6 := dk_seg dksX7_fill_5 22 rfl rfl
theorem dksX7_fill_7 : cX7_fill.data.toList.drop 162 = dktX7_fill_7 := dk_seg dksX7_fill_6 23 rfl rfl
theorem dksX7_fill_8 : cX7_fill.data.toList.drop 185 = dktX7_fill_8 := dk_seg dksX7_fill_7 23 rfl rfl
theorem dksX7_fill_9 : cX7_fill.data.toList.drop 208 = dktX7_fill_9 := dk_seg dksX7_fill_8 23 rfl rfl
theorem dX7_fill_0 : decode cX7_fill 0 = .ok (.aload_n 0, 1) := dk_42 (dk_at dksX7_fill_0 0 rfl rfl)
theorem dX7_fill_1 : decode cX7_fill 1 = .ok (.getfield 89, 3) := dk_180 0 89 (dk_at dksX7_fill_0 1 rfl rfl)
theorem dX7_fill_4 : decode cX7_fill 4 = .ok (.iconst 1, 1) := dk_4 (dk_at dksX7_fill_0 4 rfl rfl)
theorem dX7_fill_5 : decode cX7_fill 5 = .ok (.isub, 1) := dk_100 (dk_at dksX7_fill_0 5 rfl rfl)
theorem dX7_fill_6 : decode cX7_fill 6 = .ok (.istore_n 1, 1) := dk_60 (dk_at dksX7_fill_0 6 rfl rfl)
theorem dX7_fill_7 : decode cX7_fill 7 = .ok (.iload_n 1, 1) := dk_27 (dk_at dksX7_fill_0 7 rfl rfl)
theorem dX7_fill_8 : decode cX7_fill 8 = .ok (.ifCond .lt 215, 3) := dk_155 0 215 (dk_at dksX7_fill_0 8 rfl rfl)
theorem dX7_fill_11 : decode cX7_fill 11 = .ok (.iload_n 1, 1) := dk_27 (dk_at dksX7_fill_0 11 rfl rfl)
theorem dX7_fill_12 : decode cX7_fill 12 = .ok (.istore_n 2, 1) := dk_61 (dk_at dksX7_fill_0 12 rfl rfl)
theorem dX7_fill_13 : decode cX7_fill 13 = .ok (.iload_n 2, 1) := dk_28 (dk_at dksX7_fill_0 13 rfl rfl)
theorem dX7_fill_14 : decode cX7_fill 14 = .ok (.aload_n 0, 1) := dk_42 (dk_at dksX7_fill_0 14 rfl rfl)
theorem dX7_fill_15 : decode cX7_fill 15 = .ok (.getfield 89, 3) := dk_180 0 89 (dk_at dksX7_fill_0 15 rfl rfl)
theorem dX7_fill_18 : decode cX7_fill 18 = .ok (.if_icmp .ge 199, 3) := dk_162 0 199 (dk_at dksX7_fill_0 18 rfl rfl)
theorem dX7_fill_21 : decode cX7_fill 21 = .ok (.iconst 0, 1) := dk_3 (dk_at dksX7_fill_0 21 rfl rfl)
theorem dX7_fill_22 : decode cX7_fill 22 = .ok (.istore_n 3, 1) := dk_62 (dk_at dksX7_fill_0 22 rfl rfl)
theorem dX7_fill_23 : decode cX7_fill 23 = .ok (.iload_n 3, 1) := dk_29 (dk_at dksX7_fill_0 23 rfl rfl)
theorem dX7_fill_24 : decode cX7_fill 24 = .ok (.aload_n 0, 1) := dk_42 (dk_at dksX7_fill_1 0 rfl rfl)
theorem dX7_fill_25 : decode cX7_fill 25 = .ok (.getfield 3, 3) := dk_180 0 3 (dk_at dksX7_fill_1 1 rfl rfl)
theorem dX7_fill_28 : decode cX7_fill 28 = .ok (.getfield 203, 3) := dk_180 0 203 (dk_at dksX7_fill_1 4 rfl rfl)
theorem dX7_fill_31 : decode cX7_fill 31 = .ok (.if_icmp .ge 22, 3) := dk_162 0 22 (dk_at dksX7_fill_1 7 rfl rfl)
theorem dX7_fill_34 : decode cX7_fill 34 = .ok (.aload_n 0, 1) := dk_42 (dk_at dksX7_fill_1 10 rfl rfl)
theorem dX7_fill_35 : decode cX7_fill 35 = .ok (.getfield 49, 3) := dk_180 0 49 (dk_at dksX7_fill_1 11 rfl rfl)
theorem dX7_fill_38 : decode cX7_fill 38 = .ok (.iload_n 3, 1) := dk_29 (dk_at dksX7_fill_1 14 rfl rfl)
theorem dX7_fill_39 : decode cX7_fill 39 = .ok (.aaload, 1) := dk_50 (dk_at dksX7_fill_1 15 rfl rfl)
theorem dX7_fill_40 : decode cX7_fill 40 = .ok (.iload_n 1, 1) := dk_27 (dk_at dksX7_fill_1 16 rfl rfl)
theorem dX7_fill_41 : decode cX7_fill 41 = .ok (.aaload, 1) := dk_50 (dk_at dksX7_fill_1 17 rfl rfl)
theorem dX7_fill_42 : decode cX7_fill 42 = .ok (.iload_n 2, 1) := dk_28 (dk_at dksX7_fill_1 18 rfl rfl)
theorem dX7_fill_43 : decode cX7_fill 43 = .ok (.ldc2_w 162, 3) := dk_20 0 162 (dk_at dksX7_fill_1 19 rfl rfl)
theorem dX7_fill_46 : decode cX7_fill 46 = .ok (.lastore, 1) := dk_80 (dk_at dksX7_fill_1 22 rfl rfl)
theorem dX7_fill_47 : decode cX7_fill 47 = .ok (.iinc 3 1, 3) := dk_132 3 1 (dk_at dksX7_fill_2 0 rfl rfl)
theorem dX7_fill_50 : decode cX7_fill 50 = .ok (.goto (-27), 3) := dk_167 255 229 (dk_at dksX7_fill_2 3 rfl rfl)
theorem dX7_fill_53 : decode cX7_fill 53 = .ok (.iconst 0, 1) := dk_3 (dk_at dksX7_fill_2 6 rfl rfl)
theorem dX7_fill_54 : decode cX7_fill 54 = .ok (.istore_n 3, 1) := dk_62 (dk_at dksX7_fill_2 7 rfl rfl)
theorem dX7_fill_55 : decode cX7_fill 55 = .ok (.iload_n 3, 1) := dk_29 (dk_at dksX7_fill_2 8 rfl rfl)
theorem dX7_fill_56 : decode cX7_fill 56 = .ok (.aload_n 0, 1) := dk_42 (dk_at dksX7_fill_2 9 rfl rfl)
theorem dX7_fill_57 : decode cX7_fill 57 = .ok (.getfield 3, 3) := dk_180 0 3 (dk_at dksX7_fill_2 10 rfl rfl)
theorem dX7_fill_60 : decode cX7_fill 60 = .ok (.getfield 206, 3) := dk_180 0 206 (dk_at dksX7_fill_2 13 rfl rfl)
theorem dX7_fill_63 : decode cX7_fill 63 = .ok (.invokeinterface 94 1, 5) := by decide +kernel
theorem dX7_fill_68 : decode cX7_fill 68 = .ok (.if_icmp .ge 80, 3) := dk_162 0 80 (dk_at dksX7_fill_2 21 rfl rfl)
theorem dX7_fill_71 : decode cX7_fill 71 = .ok (.aload_n 0, 1) := dk_42 (dk_at dksX7_fill_3 0 rfl rfl)
theorem dX7_fill_72 : decode cX7_fill 72 = .ok (.getfield 3, 3) := dk_180 0 3 (dk_at dksX7_fill_3 1 rfl rfl)
theorem dX7_fill_75 : decode cX7_fill 75 = .ok (.getfield 206, 3) := dk_180 0 206 (dk_at dksX7_fill_3 4 rfl rfl)
theorem dX7_fill_78 : decode cX7_fill 78 = .ok (.iload_n 3, 1) := dk_29 (dk_at dksX7_fill_3 7 rfl rfl)
theorem dX7_fill_79 : decode cX7_fill 79 = .ok (.invokeinterface 98 2, 5) := by decide +kernel
theorem dX7_fill_84 : decode cX7_fill 84 = .ok (.checkcast 191, 3) := dk_192 0 191 (dk_at dksX7_fill_3 13 rfl rfl)
theorem dX7_fill_87 : decode cX7_fill 87 = .ok (.astore 4, 2) := dk_58 4 (dk_at dksX7_fill_3 16 rfl rfl)
theorem dX7_fill_89 : decode cX7_fill 89 = .ok (.iconst 0, 1) := dk_3 (dk_at dksX7_fill_3 18 rfl rfl)
theorem dX7_fill_90 : decode cX7_fill 90 = .ok (.istore 5, 2) := dk_54 5 (dk_at dksX7_fill_3 19 rfl rfl)
theorem dX7_fill_92 : decode cX7_fill 92 = .ok (.iload 5, 2) := dk_21 5 (dk_at dksX7_fill_3 21 rfl rfl)
theorem dX7_fill_94 : decode cX7_fill 94 = .ok (.aload 4, 2) := dk_25 4 (dk_at dksX7_fill_4 0 rfl rfl)
theorem dX7_fill_96 : decode cX7_fill 96 = .ok (.getfield 209, 3) := dk_180 0 209 (dk_at dksX7_fill_4 2 rfl rfl)
theorem dX7_fill_99 : decode cX7_fill 99 = .ok (.if_icmp .gt 43, 3) := dk_163 0 43 (dk_at dksX7_fill_4 5 rfl rfl)
theorem dX7_fill_102 : decode cX7_fill 102 = .ok (.aload_n 0, 1) := dk_42 (dk_at dksX7_fill_4 8 rfl rfl)
theorem dX7_fill_103 : decode cX7_fill 103 = .ok (.aload 4, 2) := dk_25 4 (dk_at dksX7_fill_4 9 rfl rfl)
theorem dX7_fill_105 : decode cX7_fill 105 = .ok (.iload 5, 2) := dk_21 5 (dk_at dksX7_fill_4 11 rfl rfl)
theorem dX7_fill_107 : decode cX7_fill 107 = .ok (.invokevirtual 211, 3) := dk_182 0 211 (dk_at dksX7_fill_4 13 rfl rfl)
theorem dX7_fill_110 : decode cX7_fill 110 = .ok (.iload_n 1, 1) := dk_27 (dk_at dksX7_fill_4 16 rfl rfl)
theorem dX7_fill_111 : decode cX7_fill 111 = .ok (.aaload, 1) := dk_50 (dk_at dksX7_fill_4 17 rfl rfl)
theorem dX7_fill_112 : decode cX7_fill 112 = .ok (.iload_n 2, 1) := dk_28 (dk_at dksX7_fill_4 18 rfl rfl)
theorem dX7_fill_113 : decode cX7_fill 113 = .ok (.iload 5, 2) := dk_21 5 (dk_at dksX7_fill_4 19 rfl rfl)
theorem dX7_fill_115 : decode cX7_fill 115 = .ok (.aload 4, 2) := dk_25 4 (dk_at dksX7_fill_4 21 rfl rfl)
theorem dX7_fill_117 : decode cX7_fill 117 = .ok (.getfield 209, 3) := dk_180 0 209 (dk_at dksX7_fill_5 0 rfl rfl)
theorem dX7_fill_120 : decode cX7_fill 120 = .ok (.if_icmp .ne 12, 3) := dk_160 0 12 (dk_at dksX7_fill_5 3 rfl rfl)
theorem dX7_fill_123 : decode cX7_fill 123 = .ok (.iload_n 1, 1) := dk_27 (dk_at dksX7_fill_5 6 rfl rfl)
theorem dX7_fill_124 : decode cX7_fill 124 = .ok (.iload_n 2, 1) := dk_28 (dk_at dksX7_fill_5 7 rfl rfl)
theorem dX7_fill_125 : decode cX7_fill 125 = .ok (.if_icmp .ne 7, 3) := dk_160 0 7 (dk_at dksX7_fill_5 8 rfl rfl)
theorem dX7_fill_128 : decode cX7_fill 128 = .ok (.lconst 0, 1) := dk_9 (dk_at dksX7_fill_5 11 rfl rfl)
theorem dX7_fill_129 : decode cX7_fill 129 = .ok (.goto 6, 3) := dk_167 0 6 (dk_at dksX7_fill_5 12 rfl rfl)
theorem dX7_fill_132 : decode cX7_fill 132 = .ok (.ldc2_w 162, 3) := dk_20 0 162 (dk_at dksX7_fill_5 15 rfl rfl)
theorem dX7_fill_135 : decode cX7_fill 135 = .ok (.lastore, 1) := dk_80 (dk_at dksX7_fill_5 18 rfl rfl)
theorem dX7_fill_136 : decode cX7_fill 136 = .ok (.iinc 5 1, 3) := dk_132 5 1 (dk_at dksX7_fill_5 19 rfl rfl)
theorem dX7_fill_139 : decode cX7_fill 139 = .ok (.goto (-47), 3) := dk_167 255 209 (dk_at dksX7_fill_6 0 rfl rfl)
theorem dX7_fill_142 : decode cX7_fill 142 = .ok (.iinc 3 1, 3) := dk_132 3 1 (dk_at dksX7_fill_6 3 rfl rfl)
theorem dX7_fill_145 : decode cX7_fill 145 = .ok (.goto (-90), 3) := dk_167 255 166 (dk_at dksX7_fill_6 6 rfl rfl)
theorem dX7_fill_148 : decode cX7_fill 148 = .ok (.iconst 1, 1) := dk_4 (dk_at dksX7_fill_6 9 rfl rfl)
theorem dX7_fill_149 : decode cX7_fill 149 = .ok (.istore_n 3, 1) := dk_62 (dk_at dksX7_fill_6 10 rfl rfl)
theorem dX7_fill_150 : decode cX7_fill 150 = .ok (.iload_n 3, 1) := dk_29 (dk_at dksX7_fill_6 11 rfl rfl)
theorem dX7_fill_151 : decode cX7_fill 151 = .ok (.ifCond .eq 60, 3) := dk_153 0 60 (dk_at dksX7_fill_6 12 rfl rfl)
theorem dX7_fill_154 : decode cX7_fill 154 = .ok (.iconst 0, 1) := dk_3 (dk_at dksX7_fill_6 15 rfl rfl)
theorem dX7_fill_155 : decode cX7_fill 155 = .ok (.istore_n 3, 1) := dk_62 (dk_at dksX7_fill_6 16 rfl rfl)
theorem dX7_fill_156 : decode cX7_fill 156 = .ok (.iconst 0, 1) := dk_3 (dk_at dksX7_fill_6 17 rfl rfl)
theorem dX7_fill_157 : decode cX7_fill 157 = .ok (.istore 4, 2) := dk_54 4 (dk_at dksX7_fill_6 18 rfl rfl)
theorem dX7_fill_159 : decode cX7_fill 159 = .ok (.iload 4, 2) := dk_21 4 (dk_at dksX7_fill_6 20 rfl rfl)
theorem dX7_fill_161 : decode cX7_fill 161 = .ok (.aload_n 0, 1) := dk_42 (dk_at dksX7_fill_6 22 rfl rfl)
theorem dX7_fill_162 : decode cX7_fill 162 = .ok (.getfield 3, 3) := dk_180 0 3 (dk_at dksX7_fill_7 0 rfl rfl)
theorem dX7_fill_165 : decode cX7_fill 165 = .ok (.getfield 206, 3) := dk_180 0 206 (dk_at dksX7_fill_7 3 rfl rfl)
theorem dX7_fill_168 : decode cX7_fill 168 = .ok (.invokeinterface 94 1, 5) := by decide +kernel
theorem dX7_fill_173 : decode cX7_fill 173 = .ok (.if_icmp .ge 35, 3) := dk_162 0 35 (dk_at dksX7_fill_7 11 rfl rfl)
theorem dX7_fill_176 : decode cX7_fill 176 = .ok (.iload_n 3, 1) := dk_29 (dk_at dksX7_fill_7 14 rfl rfl)
theorem dX7_fill_177 : decode cX7_fill 177 = .ok (.aload_n 0, 1) := dk_42 (dk_at dksX7_fill_7 15 rfl rfl)
theorem dX7_fill_178 : decode cX7_fill 178 = .ok (.aload_n 0, 1) := dk_42 (dk_at dksX7_fill_7 16 rfl rfl)
theorem dX7_fill_179 : decode cX7_fill 179 = .ok (.getfield 3, 3) := dk_180 0 3 (dk_at dksX7_fill_7 17 rfl rfl)
theorem dX7_fill_182 : decode cX7_fill 182 = .ok (.getfield 206, 3) := dk_180 0 206 (dk_at dksX7_fill_7 20 rfl rfl)
theorem dX7_fill_185 : decode cX7_fill 185 = .ok (.iload 4, 2) := dk_21 4 (dk_at dksX7_fill_8 0 rfl rfl)
theorem dX7_fill_187 : decode cX7_fill 187 = .ok (.invokeinterface 98 2, 5) := by decide +kernel
theorem dX7_fill_192 : decode cX7_fill 192 = .ok (.checkcast 191, 3) := dk_192 0 191 (dk_at dksX7_fill_8 7 rfl rfl)
theorem dX7_fill_195 : decode cX7_fill 195 = .ok (.iload_n 1, 1) := dk_27 (dk_at dksX7_fill_8 10 rfl rfl)
theorem dX7_fill_196 : decode cX7_fill 196 = .ok (.iload_n 2, 1) := dk_28 (dk_at dksX7_fill_8 11 rfl rfl)
theorem dX7_fill_197 : decode cX7_fill 197 = .ok (.invokevirtual 214, 3) := dk_182 0 214 (dk_at dksX7_fill_8 12 rfl rfl)
theorem dX7_fill_200 : decode cX7_fill 200 = .ok (.ior, 1) := dk_128 (dk_at dksX7_fill_8 15 rfl rfl)
theorem dX7_fill_201 : decode cX7_fill 201 = .ok (.istore_n 3, 1) := dk_62 (dk_at dksX7_fill_8 16 rfl rfl)
theorem dX7_fill_202 : decode cX7_fill 202 = .ok (.iinc 4 1, 3) := dk_132 4 1 (dk_at dksX7_fill_8 17 rfl rfl)
theorem dX7_fill_205 : decode cX7_fill 205 = .ok (.goto (-46), 3) := dk_167 255 210 (dk_at dksX7_fill_8 20 rfl rfl)
theorem dX7_fill_208 : decode cX7_fill 208 = .ok (.goto (-58), 3) := dk_167 255 198 (dk_at dksX7_fill_9 0 rfl rfl)
theorem dX7_fill_211 : decode cX7_fill 211 = .ok (.iinc 2 1, 3) := dk_132 2 1 (dk_at dksX7_fill_9 3 rfl rfl)
theorem dX7_fill_214 : decode cX7_fill 214 = .ok (.goto (-201), 3) := dk_167 255 55 (dk_at dksX7_fill_9 6 rfl rfl)
theorem dX7_fill_217 : decode cX7_fill 217 = .ok (.iinc 1 (-1), 3) := dk_132 1 255 (dk_at dksX7_fill_9 9 rfl rfl)
theorem dX7_fill_220 : decode cX7_fill 220 = .ok (.goto (-213), 3) := dk_167 255 43 (dk_at dksX7_fill_9 12 rfl rfl)
theorem dX7_fill_223 : decode cX7_fill 223 = .ok (.return_, 1) := dk_177 (dk_at dksX7_fill_9 15 rfl rfl)
abbrev cX7_rest : ByteArray := prog_2_method_10_code
def yX7_rest : MethodName := ⟨RX7, "rest", "(LMendReader$Rule;I)[[J"⟩
def dkwX7_rest_0 : List UInt8 := [42, 180, 0, 55, 7, 43, 180, 0, 200, 104, 28, 96, 50, 176]
abbrev dktX7_rest_0 : List UInt8 := dkwX7_rest_0 ++ []
theorem dksX7_rest_0 : cX7_rest.data.toList.drop 0 = dktX7_rest_0 := by decide +kernel
theorem dX7_rest_0 : decode cX7_rest 0 = .ok (.aload_n 0, 1) := dk_42 (dk_at dksX7_rest_0 0 rfl rfl)
theorem dX7_rest_1 : decode cX7_rest 1 = .ok (.getfield 55, 3) := dk_180 0 55 (dk_at dksX7_rest_0 1 rfl rfl)
theorem dX7_rest_4 : decode cX7_rest 4 = .ok (.iconst 4, 1) := dk_7 (dk_at dksX7_rest_0 4 rfl rfl)
theorem dX7_rest_5 : decode cX7_rest 5 = .ok (.aload_n 1, 1) := dk_43 (dk_at dksX7_rest_0 5 rfl rfl)
theorem dX7_rest_6 : decode cX7_rest 6 = .ok (.getfield 200, 3) := dk_180 0 200 (dk_at dksX7_rest_0 6 rfl rfl)
theorem dX7_rest_9 : decode cX7_rest 9 = .ok (.imul, 1) := dk_104 (dk_at dksX7_rest_0 9 rfl rfl)
theorem dX7_rest_10 : decode cX7_rest 10 = .ok (.iload_n 2, 1) := dk_28 (dk_at dksX7_rest_0 10 rfl rfl)
theorem dX7_rest_11 : decode cX7_rest 11 = .ok (.iadd, 1) := dk_96 (dk_at dksX7_rest_0 11 rfl rfl)
theorem dX7_rest_12 : decode cX7_rest 12 = .ok (.aaload, 1) := dk_50 (dk_at dksX7_rest_0 12 rfl rfl)
theorem dX7_rest_13 : decode cX7_rest 13 = .ok (.areturn, 1) := dk_176 (dk_at dksX7_rest_0 13 rfl rfl)
abbrev cX7_lessens : ByteArray := prog_2_method_12_code
def yX7_lessens : MethodName := ⟨RX7, "lessens", "(LMendReader$Rule;II)Z"⟩
def dkwX7_lessens_7 : List UInt8 := [28, 50, 29, 22, 4, 80, 21, 6, 172]
abbrev dktX7_lessens_7 : List UInt8 := dkwX7_lessens_7 ++ []
def dkwX7_lessens_6 : List UInt8 := [156, 0, 7, 4, 167, 0, 4, 3, 54, 6, 21, 6, 153, 0, 18, 42, 180, 0, 49, 43, 180, 0, 222, 50]
abbrev dktX7_lessens_6 : List UInt8 := dkwX7_lessens_6 ++ dktX7_lessens_7
def dkwX7_lessens_5 : List UInt8 := [180, 0, 49, 43, 180, 0, 222, 50, 28, 50, 29, 47, 148, 156, 0, 16, 22, 4, 20, 0, 162, 148]
abbrev dktX7_lessens_5 : List UInt8 := dkwX7_lessens_5 ++ dktX7_lessens_6
def dkwX7_lessens_4 : List UInt8 := [132, 4, 255, 167, 255, 169, 42, 43, 3, 182, 0, 211, 28, 50, 29, 47, 10, 97, 55, 4, 22, 4, 42]
abbrev dktX7_lessens_4 : List UInt8 := dkwX7_lessens_4 ++ dktX7_lessens_5
def dkwX7_lessens_3 : List UInt8 := [167, 255, 215, 42, 43, 21, 4, 182, 0, 211, 28, 50, 29, 22, 5, 20, 0, 162, 184, 0, 167, 80]
abbrev dktX7_lessens_3 : List UInt8 := dkwX7_lessens_3 ++ dktX7_lessens_4
def dkwX7_lessens_2 : List UInt8 := [43, 21, 4, 4, 96, 182, 0, 211, 21, 7, 50, 29, 47, 97, 184, 0, 167, 55, 5, 132, 7, 1]
abbrev dktX7_lessens_2 : List UInt8 := dkwX7_lessens_2 ++ dktX7_lessens_3
def dkwX7_lessens_1 : List UInt8 := [55, 5, 28, 54, 7, 21, 7, 29, 163, 0, 41, 22, 5, 42, 43, 21, 4, 28, 21, 7, 182, 0, 218, 42]
abbrev dktX7_lessens_1 : List UInt8 := dkwX7_lessens_1 ++ dktX7_lessens_2
def dkwX7_lessens_0 : List UInt8 := [43, 180, 0, 209, 4, 100, 54, 4, 21, 4, 155, 0, 88, 42, 43, 21, 4, 182, 0, 211, 28, 50, 29, 47]
abbrev dktX7_lessens_0 : List UInt8 := dkwX7_lessens_0 ++ dktX7_lessens_1
theorem dksX7_lessens_0 : cX7_lessens.data.toList.drop 0 = dktX7_lessens_0 := by decide +kernel
theorem dksX7_lessens_1 : cX7_lessens.data.toList.drop 24 = dktX7_lessens_1 := dk_seg dksX7_lessens_0 24 rfl rfl
theorem dksX7_lessens_2 : cX7_lessens.data.toList.drop 48 = dktX7_lessens_2 := dk_seg dksX7_lessens_1 24 rfl rfl
theorem dksX7_lessens_3 : cX7_lessens.data.toList.drop 70 = dktX7_lessens_3 := dk_seg dksX7_lessens_2 22 rfl rfl
theorem dksX7_lessens_4 : cX7_lessens.data.toList.drop 92 = dktX7_lessens_4 := dk_seg dksX7_lessens_3 22 rfl rfl
theorem dksX7_lessens_5 : cX7_lessens.data.toList.drop 115 = dktX7_lessens_5 := dk_seg dksX7_lessens_4 23 rfl rfl
theorem dksX7_lessens_6 : cX7_lessens.data.toList.drop 137 = dktX7_lessens_6 := dk_seg dksX7_lessens_5 22 rfl rfl
theorem dksX7_lessens_7 : cX7_lessens.data.toList.drop 161 = dktX7_lessens_7 := dk_seg dksX7_lessens_6 24 rfl rfl
theorem dX7_lessens_0 : decode cX7_lessens 0 = .ok (.aload_n 1, 1) := dk_43 (dk_at dksX7_lessens_0 0 rfl rfl)
theorem dX7_lessens_1 : decode cX7_lessens 1 = .ok (.getfield 209, 3) := dk_180 0 209 (dk_at dksX7_lessens_0 1 rfl rfl)
theorem dX7_lessens_4 : decode cX7_lessens 4 = .ok (.iconst 1, 1) := dk_4 (dk_at dksX7_lessens_0 4 rfl rfl)
theorem dX7_lessens_5 : decode cX7_lessens 5 = .ok (.isub, 1) := dk_100 (dk_at dksX7_lessens_0 5 rfl rfl)
theorem dX7_lessens_6 : decode cX7_lessens 6 = .ok (.istore 4, 2) := dk_54 4 (dk_at dksX7_lessens_0 6 rfl rfl)
theorem dX7_lessens_8 : decode cX7_lessens 8 = .ok (.iload 4, 2) := dk_21 4 (dk_at dksX7_lessens_0 8 rfl rfl)
theorem dX7_lessens_10 : decode cX7_lessens 10 = .ok (.ifCond .lt 88, 3) := dk_155 0 88 (dk_at dksX7_lessens_0 10 rfl rfl)
theorem dX7_lessens_13 : decode cX7_lessens 13 = .ok (.aload_n 0, 1) := dk_42 (dk_at dksX7_lessens_0 13 rfl rfl)
theorem dX7_lessens_14 : decode cX7_lessens 14 = .ok (.aload_n 1, 1) := dk_43 (dk_at dksX7_lessens_0 14 rfl rfl)
theorem dX7_lessens_15 : decode cX7_lessens 15 = .ok (.iload 4, 2) := dk_21 4 (dk_at dksX7_lessens_0 15 rfl rfl)
theorem dX7_lessens_17 : decode cX7_lessens 17 = .ok (.invokevirtual 211, 3) := dk_182 0 211 (dk_at dksX7_lessens_0 17 rfl rfl)
theorem dX7_lessens_20 : decode cX7_lessens 20 = .ok (.iload_n 2, 1) := dk_28 (dk_at dksX7_lessens_0 20 rfl rfl)
theorem dX7_lessens_21 : decode cX7_lessens 21 = .ok (.aaload, 1) := dk_50 (dk_at dksX7_lessens_0 21 rfl rfl)
theorem dX7_lessens_22 : decode cX7_lessens 22 = .ok (.iload_n 3, 1) := dk_29 (dk_at dksX7_lessens_0 22 rfl rfl)
theorem dX7_lessens_23 : decode cX7_lessens 23 = .ok (.laload, 1) := dk_47 (dk_at dksX7_lessens_0 23 rfl rfl)
theorem dX7_lessens_24 : decode cX7_lessens 24 = .ok (.lstore 5, 2) := dk_55 5 (dk_at dksX7_lessens_1 0 rfl rfl)
theorem dX7_lessens_26 : decode cX7_lessens 26 = .ok (.iload_n 2, 1) := dk_28 (dk_at dksX7_lessens_1 2 rfl rfl)
theorem dX7_lessens_27 : decode cX7_lessens 27 = .ok (.istore 7, 2) := dk_54 7 (dk_at dksX7_lessens_1 3 rfl rfl)
theorem dX7_lessens_29 : decode cX7_lessens 29 = .ok (.iload 7, 2) := dk_21 7 (dk_at dksX7_lessens_1 5 rfl rfl)
theorem dX7_lessens_31 : decode cX7_lessens 31 = .ok (.iload_n 3, 1) := dk_29 (dk_at dksX7_lessens_1 7 rfl rfl)
theorem dX7_lessens_32 : decode cX7_lessens 32 = .ok (.if_icmp .gt 41, 3) := dk_163 0 41 (dk_at dksX7_lessens_1 8 rfl rfl)
theorem dX7_lessens_35 : decode cX7_lessens 35 = .ok (.lload 5, 2) := dk_22 5 (dk_at dksX7_lessens_1 11 rfl rfl)
theorem dX7_lessens_37 : decode cX7_lessens 37 = .ok (.aload_n 0, 1) := dk_42 (dk_at dksX7_lessens_1 13 rfl rfl)
theorem dX7_lessens_38 : decode cX7_lessens 38 = .ok (.aload_n 1, 1) := dk_43 (dk_at dksX7_lessens_1 14 rfl rfl)
theorem dX7_lessens_39 : decode cX7_lessens 39 = .ok (.iload 4, 2) := dk_21 4 (dk_at dksX7_lessens_1 15 rfl rfl)
theorem dX7_lessens_41 : decode cX7_lessens 41 = .ok (.iload_n 2, 1) := dk_28 (dk_at dksX7_lessens_1 17 rfl rfl)
theorem dX7_lessens_42 : decode cX7_lessens 42 = .ok (.iload 7, 2) := dk_21 7 (dk_at dksX7_lessens_1 18 rfl rfl)
theorem dX7_lessens_44 : decode cX7_lessens 44 = .ok (.invokevirtual 218, 3) := dk_182 0 218 (dk_at dksX7_lessens_1 20 rfl rfl)
theorem dX7_lessens_47 : decode cX7_lessens 47 = .ok (.aload_n 0, 1) := dk_42 (dk_at dksX7_lessens_1 23 rfl rfl)
theorem dX7_lessens_48 : decode cX7_lessens 48 = .ok (.aload_n 1, 1) := dk_43 (dk_at dksX7_lessens_2 0 rfl rfl)
theorem dX7_lessens_49 : decode cX7_lessens 49 = .ok (.iload 4, 2) := dk_21 4 (dk_at dksX7_lessens_2 1 rfl rfl)
theorem dX7_lessens_51 : decode cX7_lessens 51 = .ok (.iconst 1, 1) := dk_4 (dk_at dksX7_lessens_2 3 rfl rfl)
theorem dX7_lessens_52 : decode cX7_lessens 52 = .ok (.iadd, 1) := dk_96 (dk_at dksX7_lessens_2 4 rfl rfl)
theorem dX7_lessens_53 : decode cX7_lessens 53 = .ok (.invokevirtual 211, 3) := dk_182 0 211 (dk_at dksX7_lessens_2 5 rfl rfl)
theorem dX7_lessens_56 : decode cX7_lessens 56 = .ok (.iload 7, 2) := dk_21 7 (dk_at dksX7_lessens_2 8 rfl rfl)
theorem dX7_lessens_58 : decode cX7_lessens 58 = .ok (.aaload, 1) := dk_50 (dk_at dksX7_lessens_2 10 rfl rfl)
theorem dX7_lessens_59 : decode cX7_lessens 59 = .ok (.iload_n 3, 1) := dk_29 (dk_at dksX7_lessens_2 11 rfl rfl)
theorem dX7_lessens_60 : decode cX7_lessens 60 = .ok (.laload, 1) := dk_47 (dk_at dksX7_lessens_2 12 rfl rfl)
theorem dX7_lessens_61 : decode cX7_lessens 61 = .ok (.ladd, 1) := dk_97 (dk_at dksX7_lessens_2 13 rfl rfl)
theorem dX7_lessens_62 : decode cX7_lessens 62 = .ok (.invokestatic 167, 3) := dk_184 0 167 (dk_at dksX7_lessens_2 14 rfl rfl)
theorem dX7_lessens_65 : decode cX7_lessens 65 = .ok (.lstore 5, 2) := dk_55 5 (dk_at dksX7_lessens_2 17 rfl rfl)
theorem dX7_lessens_67 : decode cX7_lessens 67 = .ok (.iinc 7 1, 3) := dk_132 7 1 (dk_at dksX7_lessens_2 19 rfl rfl)
theorem dX7_lessens_70 : decode cX7_lessens 70 = .ok (.goto (-41), 3) := dk_167 255 215 (dk_at dksX7_lessens_3 0 rfl rfl)
theorem dX7_lessens_73 : decode cX7_lessens 73 = .ok (.aload_n 0, 1) := dk_42 (dk_at dksX7_lessens_3 3 rfl rfl)
theorem dX7_lessens_74 : decode cX7_lessens 74 = .ok (.aload_n 1, 1) := dk_43 (dk_at dksX7_lessens_3 4 rfl rfl)
theorem dX7_lessens_75 : decode cX7_lessens 75 = .ok (.iload 4, 2) := dk_21 4 (dk_at dksX7_lessens_3 5 rfl rfl)
theorem dX7_lessens_77 : decode cX7_lessens 77 = .ok (.invokevirtual 211, 3) := dk_182 0 211 (dk_at dksX7_lessens_3 7 rfl rfl)
theorem dX7_lessens_80 : decode cX7_lessens 80 = .ok (.iload_n 2, 1) := dk_28 (dk_at dksX7_lessens_3 10 rfl rfl)
theorem dX7_lessens_81 : decode cX7_lessens 81 = .ok (.aaload, 1) := dk_50 (dk_at dksX7_lessens_3 11 rfl rfl)
theorem dX7_lessens_82 : decode cX7_lessens 82 = .ok (.iload_n 3, 1) := dk_29 (dk_at dksX7_lessens_3 12 rfl rfl)
theorem dX7_lessens_83 : decode cX7_lessens 83 = .ok (.lload 5, 2) := dk_22 5 (dk_at dksX7_lessens_3 13 rfl rfl)
theorem dX7_lessens_85 : decode cX7_lessens 85 = .ok (.ldc2_w 162, 3) := dk_20 0 162 (dk_at dksX7_lessens_3 15 rfl rfl)
theorem dX7_lessens_88 : decode cX7_lessens 88 = .ok (.invokestatic 167, 3) := dk_184 0 167 (dk_at dksX7_lessens_3 18 rfl rfl)
theorem dX7_lessens_91 : decode cX7_lessens 91 = .ok (.lastore, 1) := dk_80 (dk_at dksX7_lessens_3 21 rfl rfl)
theorem dX7_lessens_92 : decode cX7_lessens 92 = .ok (.iinc 4 (-1), 3) := dk_132 4 255 (dk_at dksX7_lessens_4 0 rfl rfl)
theorem dX7_lessens_95 : decode cX7_lessens 95 = .ok (.goto (-87), 3) := dk_167 255 169 (dk_at dksX7_lessens_4 3 rfl rfl)
theorem dX7_lessens_98 : decode cX7_lessens 98 = .ok (.aload_n 0, 1) := dk_42 (dk_at dksX7_lessens_4 6 rfl rfl)
theorem dX7_lessens_99 : decode cX7_lessens 99 = .ok (.aload_n 1, 1) := dk_43 (dk_at dksX7_lessens_4 7 rfl rfl)
theorem dX7_lessens_100 : decode cX7_lessens 100 = .ok (.iconst 0, 1) := dk_3 (dk_at dksX7_lessens_4 8 rfl rfl)
theorem dX7_lessens_101 : decode cX7_lessens 101 = .ok (.invokevirtual 211, 3) := dk_182 0 211 (dk_at dksX7_lessens_4 9 rfl rfl)
theorem dX7_lessens_104 : decode cX7_lessens 104 = .ok (.iload_n 2, 1) := dk_28 (dk_at dksX7_lessens_4 12 rfl rfl)
theorem dX7_lessens_105 : decode cX7_lessens 105 = .ok (.aaload, 1) := dk_50 (dk_at dksX7_lessens_4 13 rfl rfl)
theorem dX7_lessens_106 : decode cX7_lessens 106 = .ok (.iload_n 3, 1) := dk_29 (dk_at dksX7_lessens_4 14 rfl rfl)
theorem dX7_lessens_107 : decode cX7_lessens 107 = .ok (.laload, 1) := dk_47 (dk_at dksX7_lessens_4 15 rfl rfl)
theorem dX7_lessens_108 : decode cX7_lessens 108 = .ok (.lconst 1, 1) := dk_10 (dk_at dksX7_lessens_4 16 rfl rfl)
theorem dX7_lessens_109 : decode cX7_lessens 109 = .ok (.ladd, 1) := dk_97 (dk_at dksX7_lessens_4 17 rfl rfl)
theorem dX7_lessens_110 : decode cX7_lessens 110 = .ok (.lstore 4, 2) := dk_55 4 (dk_at dksX7_lessens_4 18 rfl rfl)
theorem dX7_lessens_112 : decode cX7_lessens 112 = .ok (.lload 4, 2) := dk_22 4 (dk_at dksX7_lessens_4 20 rfl rfl)
theorem dX7_lessens_114 : decode cX7_lessens 114 = .ok (.aload_n 0, 1) := dk_42 (dk_at dksX7_lessens_4 22 rfl rfl)
theorem dX7_lessens_115 : decode cX7_lessens 115 = .ok (.getfield 49, 3) := dk_180 0 49 (dk_at dksX7_lessens_5 0 rfl rfl)
theorem dX7_lessens_118 : decode cX7_lessens 118 = .ok (.aload_n 1, 1) := dk_43 (dk_at dksX7_lessens_5 3 rfl rfl)
theorem dX7_lessens_119 : decode cX7_lessens 119 = .ok (.getfield 222, 3) := dk_180 0 222 (dk_at dksX7_lessens_5 4 rfl rfl)
theorem dX7_lessens_122 : decode cX7_lessens 122 = .ok (.aaload, 1) := dk_50 (dk_at dksX7_lessens_5 7 rfl rfl)
theorem dX7_lessens_123 : decode cX7_lessens 123 = .ok (.iload_n 2, 1) := dk_28 (dk_at dksX7_lessens_5 8 rfl rfl)
theorem dX7_lessens_124 : decode cX7_lessens 124 = .ok (.aaload, 1) := dk_50 (dk_at dksX7_lessens_5 9 rfl rfl)
theorem dX7_lessens_125 : decode cX7_lessens 125 = .ok (.iload_n 3, 1) := dk_29 (dk_at dksX7_lessens_5 10 rfl rfl)
theorem dX7_lessens_126 : decode cX7_lessens 126 = .ok (.laload, 1) := dk_47 (dk_at dksX7_lessens_5 11 rfl rfl)
theorem dX7_lessens_127 : decode cX7_lessens 127 = .ok (.lcmp, 1) := dk_148 (dk_at dksX7_lessens_5 12 rfl rfl)
theorem dX7_lessens_128 : decode cX7_lessens 128 = .ok (.ifCond .ge 16, 3) := dk_156 0 16 (dk_at dksX7_lessens_5 13 rfl rfl)
theorem dX7_lessens_131 : decode cX7_lessens 131 = .ok (.lload 4, 2) := dk_22 4 (dk_at dksX7_lessens_5 16 rfl rfl)
theorem dX7_lessens_133 : decode cX7_lessens 133 = .ok (.ldc2_w 162, 3) := dk_20 0 162 (dk_at dksX7_lessens_5 18 rfl rfl)
theorem dX7_lessens_136 : decode cX7_lessens 136 = .ok (.lcmp, 1) := dk_148 (dk_at dksX7_lessens_5 21 rfl rfl)
theorem dX7_lessens_137 : decode cX7_lessens 137 = .ok (.ifCond .ge 7, 3) := dk_156 0 7 (dk_at dksX7_lessens_6 0 rfl rfl)
theorem dX7_lessens_140 : decode cX7_lessens 140 = .ok (.iconst 1, 1) := dk_4 (dk_at dksX7_lessens_6 3 rfl rfl)
theorem dX7_lessens_141 : decode cX7_lessens 141 = .ok (.goto 4, 3) := dk_167 0 4 (dk_at dksX7_lessens_6 4 rfl rfl)
theorem dX7_lessens_144 : decode cX7_lessens 144 = .ok (.iconst 0, 1) := dk_3 (dk_at dksX7_lessens_6 7 rfl rfl)
theorem dX7_lessens_145 : decode cX7_lessens 145 = .ok (.istore 6, 2) := dk_54 6 (dk_at dksX7_lessens_6 8 rfl rfl)
theorem dX7_lessens_147 : decode cX7_lessens 147 = .ok (.iload 6, 2) := dk_21 6 (dk_at dksX7_lessens_6 10 rfl rfl)
theorem dX7_lessens_149 : decode cX7_lessens 149 = .ok (.ifCond .eq 18, 3) := dk_153 0 18 (dk_at dksX7_lessens_6 12 rfl rfl)
theorem dX7_lessens_152 : decode cX7_lessens 152 = .ok (.aload_n 0, 1) := dk_42 (dk_at dksX7_lessens_6 15 rfl rfl)
theorem dX7_lessens_153 : decode cX7_lessens 153 = .ok (.getfield 49, 3) := dk_180 0 49 (dk_at dksX7_lessens_6 16 rfl rfl)
theorem dX7_lessens_156 : decode cX7_lessens 156 = .ok (.aload_n 1, 1) := dk_43 (dk_at dksX7_lessens_6 19 rfl rfl)
theorem dX7_lessens_157 : decode cX7_lessens 157 = .ok (.getfield 222, 3) := dk_180 0 222 (dk_at dksX7_lessens_6 20 rfl rfl)
theorem dX7_lessens_160 : decode cX7_lessens 160 = .ok (.aaload, 1) := dk_50 (dk_at dksX7_lessens_6 23 rfl rfl)
theorem dX7_lessens_161 : decode cX7_lessens 161 = .ok (.iload_n 2, 1) := dk_28 (dk_at dksX7_lessens_7 0 rfl rfl)
theorem dX7_lessens_162 : decode cX7_lessens 162 = .ok (.aaload, 1) := dk_50 (dk_at dksX7_lessens_7 1 rfl rfl)
theorem dX7_lessens_163 : decode cX7_lessens 163 = .ok (.iload_n 3, 1) := dk_29 (dk_at dksX7_lessens_7 2 rfl rfl)
theorem dX7_lessens_164 : decode cX7_lessens 164 = .ok (.lload 4, 2) := dk_22 4 (dk_at dksX7_lessens_7 3 rfl rfl)
theorem dX7_lessens_166 : decode cX7_lessens 166 = .ok (.lastore, 1) := dk_80 (dk_at dksX7_lessens_7 5 rfl rfl)
theorem dX7_lessens_167 : decode cX7_lessens 167 = .ok (.iload 6, 2) := dk_21 6 (dk_at dksX7_lessens_7 6 rfl rfl)
theorem dX7_lessens_169 : decode cX7_lessens 169 = .ok (.ireturn, 1) := dk_172 (dk_at dksX7_lessens_7 8 rfl rfl)
abbrev cX7_symbol : ByteArray := prog_2_method_9_code
def yX7_symbol : MethodName := ⟨RX7, "symbol", "(LMendReader$Rule;III)J"⟩
def dkwX7_symbol_2 : List UInt8 := [20, 0, 162, 148, 155, 0, 9, 20, 0, 162, 167, 0, 9, 22, 5, 20, 0, 198, 105, 173]
abbrev dktX7_symbol_2 : List UInt8 := dkwX7_symbol_2 ++ []
def dkwX7_symbol_1 : List UInt8 := [21, 4, 47, 173, 42, 180, 0, 43, 43, 180, 0, 195, 28, 46, 50, 29, 50, 21, 4, 47, 55, 5, 22, 5]
abbrev dktX7_symbol_1 : List UInt8 := dkwX7_symbol_1 ++ dktX7_symbol_2
def dkwX7_symbol_0 : List UInt8 := [43, 180, 0, 190, 28, 46, 4, 160, 0, 20, 42, 180, 0, 49, 43, 180, 0, 195, 28, 46, 50, 29, 50]
abbrev dktX7_symbol_0 : List UInt8 := dkwX7_symbol_0 ++ dktX7_symbol_1
theorem dksX7_symbol_0 : cX7_symbol.data.toList.drop 0 = dktX7_symbol_0 := by decide +kernel
theorem dksX7_symbol_1 : cX7_symbol.data.toList.drop 23 = dktX7_symbol_1 := dk_seg dksX7_symbol_0 23 rfl rfl
theorem dksX7_symbol_2 : cX7_symbol.data.toList.drop 47 = dktX7_symbol_2 := dk_seg dksX7_symbol_1 24 rfl rfl
theorem dX7_symbol_0 : decode cX7_symbol 0 = .ok (.aload_n 1, 1) := dk_43 (dk_at dksX7_symbol_0 0 rfl rfl)
theorem dX7_symbol_1 : decode cX7_symbol 1 = .ok (.getfield 190, 3) := dk_180 0 190 (dk_at dksX7_symbol_0 1 rfl rfl)
theorem dX7_symbol_4 : decode cX7_symbol 4 = .ok (.iload_n 2, 1) := dk_28 (dk_at dksX7_symbol_0 4 rfl rfl)
theorem dX7_symbol_5 : decode cX7_symbol 5 = .ok (.iaload, 1) := dk_46 (dk_at dksX7_symbol_0 5 rfl rfl)
theorem dX7_symbol_6 : decode cX7_symbol 6 = .ok (.iconst 1, 1) := dk_4 (dk_at dksX7_symbol_0 6 rfl rfl)
theorem dX7_symbol_7 : decode cX7_symbol 7 = .ok (.if_icmp .ne 20, 3) := dk_160 0 20 (dk_at dksX7_symbol_0 7 rfl rfl)
theorem dX7_symbol_10 : decode cX7_symbol 10 = .ok (.aload_n 0, 1) := dk_42 (dk_at dksX7_symbol_0 10 rfl rfl)
theorem dX7_symbol_11 : decode cX7_symbol 11 = .ok (.getfield 49, 3) := dk_180 0 49 (dk_at dksX7_symbol_0 11 rfl rfl)
theorem dX7_symbol_14 : decode cX7_symbol 14 = .ok (.aload_n 1, 1) := dk_43 (dk_at dksX7_symbol_0 14 rfl rfl)
theorem dX7_symbol_15 : decode cX7_symbol 15 = .ok (.getfield 195, 3) := dk_180 0 195 (dk_at dksX7_symbol_0 15 rfl rfl)
theorem dX7_symbol_18 : decode cX7_symbol 18 = .ok (.iload_n 2, 1) := dk_28 (dk_at dksX7_symbol_0 18 rfl rfl)
theorem dX7_symbol_19 : decode cX7_symbol 19 = .ok (.iaload, 1) := dk_46 (dk_at dksX7_symbol_0 19 rfl rfl)
theorem dX7_symbol_20 : decode cX7_symbol 20 = .ok (.aaload, 1) := dk_50 (dk_at dksX7_symbol_0 20 rfl rfl)
theorem dX7_symbol_21 : decode cX7_symbol 21 = .ok (.iload_n 3, 1) := dk_29 (dk_at dksX7_symbol_0 21 rfl rfl)
theorem dX7_symbol_22 : decode cX7_symbol 22 = .ok (.aaload, 1) := dk_50 (dk_at dksX7_symbol_0 22 rfl rfl)
theorem dX7_symbol_23 : decode cX7_symbol 23 = .ok (.iload 4, 2) := dk_21 4 (dk_at dksX7_symbol_1 0 rfl rfl)
theorem dX7_symbol_25 : decode cX7_symbol 25 = .ok (.laload, 1) := dk_47 (dk_at dksX7_symbol_1 2 rfl rfl)
theorem dX7_symbol_26 : decode cX7_symbol 26 = .ok (.lreturn, 1) := dk_173 (dk_at dksX7_symbol_1 3 rfl rfl)
theorem dX7_symbol_27 : decode cX7_symbol 27 = .ok (.aload_n 0, 1) := dk_42 (dk_at dksX7_symbol_1 4 rfl rfl)
theorem dX7_symbol_28 : decode cX7_symbol 28 = .ok (.getfield 43, 3) := dk_180 0 43 (dk_at dksX7_symbol_1 5 rfl rfl)
theorem dX7_symbol_31 : decode cX7_symbol 31 = .ok (.aload_n 1, 1) := dk_43 (dk_at dksX7_symbol_1 8 rfl rfl)
theorem dX7_symbol_32 : decode cX7_symbol 32 = .ok (.getfield 195, 3) := dk_180 0 195 (dk_at dksX7_symbol_1 9 rfl rfl)
theorem dX7_symbol_35 : decode cX7_symbol 35 = .ok (.iload_n 2, 1) := dk_28 (dk_at dksX7_symbol_1 12 rfl rfl)
theorem dX7_symbol_36 : decode cX7_symbol 36 = .ok (.iaload, 1) := dk_46 (dk_at dksX7_symbol_1 13 rfl rfl)
theorem dX7_symbol_37 : decode cX7_symbol 37 = .ok (.aaload, 1) := dk_50 (dk_at dksX7_symbol_1 14 rfl rfl)
theorem dX7_symbol_38 : decode cX7_symbol 38 = .ok (.iload_n 3, 1) := dk_29 (dk_at dksX7_symbol_1 15 rfl rfl)
theorem dX7_symbol_39 : decode cX7_symbol 39 = .ok (.aaload, 1) := dk_50 (dk_at dksX7_symbol_1 16 rfl rfl)
theorem dX7_symbol_40 : decode cX7_symbol 40 = .ok (.iload 4, 2) := dk_21 4 (dk_at dksX7_symbol_1 17 rfl rfl)
theorem dX7_symbol_42 : decode cX7_symbol 42 = .ok (.laload, 1) := dk_47 (dk_at dksX7_symbol_1 19 rfl rfl)
theorem dX7_symbol_43 : decode cX7_symbol 43 = .ok (.lstore 5, 2) := dk_55 5 (dk_at dksX7_symbol_1 20 rfl rfl)
theorem dX7_symbol_45 : decode cX7_symbol 45 = .ok (.lload 5, 2) := dk_22 5 (dk_at dksX7_symbol_1 22 rfl rfl)
theorem dX7_symbol_47 : decode cX7_symbol 47 = .ok (.ldc2_w 162, 3) := dk_20 0 162 (dk_at dksX7_symbol_2 0 rfl rfl)
theorem dX7_symbol_50 : decode cX7_symbol 50 = .ok (.lcmp, 1) := dk_148 (dk_at dksX7_symbol_2 3 rfl rfl)
theorem dX7_symbol_51 : decode cX7_symbol 51 = .ok (.ifCond .lt 9, 3) := dk_155 0 9 (dk_at dksX7_symbol_2 4 rfl rfl)
theorem dX7_symbol_54 : decode cX7_symbol 54 = .ok (.ldc2_w 162, 3) := dk_20 0 162 (dk_at dksX7_symbol_2 7 rfl rfl)
theorem dX7_symbol_57 : decode cX7_symbol 57 = .ok (.goto 9, 3) := dk_167 0 9 (dk_at dksX7_symbol_2 10 rfl rfl)
theorem dX7_symbol_60 : decode cX7_symbol 60 = .ok (.lload 5, 2) := dk_22 5 (dk_at dksX7_symbol_2 13 rfl rfl)
theorem dX7_symbol_62 : decode cX7_symbol 62 = .ok (.ldc2_w 198, 3) := dk_20 0 198 (dk_at dksX7_symbol_2 15 rfl rfl)
theorem dX7_symbol_65 : decode cX7_symbol 65 = .ok (.lmul, 1) := dk_105 (dk_at dksX7_symbol_2 18 rfl rfl)
theorem dX7_symbol_66 : decode cX7_symbol 66 = .ok (.lreturn, 1) := dk_173 (dk_at dksX7_symbol_2 19 rfl rfl)
abbrev cX7_best : ByteArray := prog_2_method_13_code
def yX7_best : MethodName := ⟨RX7, "best", "()I"⟩
def dkwX7_best_5 : List UInt8 := [21, 4, 60, 132, 4, 1, 167, 255, 140, 27, 172]
abbrev dktX7_best_5 : List UInt8 := dkwX7_best_5 ++ []
def dkwX7_best_4 : List UInt8 := [148, 156, 0, 26, 22, 5, 42, 180, 0, 36, 21, 4, 50, 42, 180, 0, 65, 47, 20, 0, 198, 105, 97, 65]
abbrev dktX7_best_4 : List UInt8 := dkwX7_best_4 ++ dktX7_best_5
def dkwX7_best_3 : List UInt8 := [148, 156, 0, 50, 22, 5, 42, 180, 0, 36, 21, 4, 50, 42, 180, 0, 65, 47, 20, 0, 198, 105, 97, 32]
abbrev dktX7_best_3 : List UInt8 := dkwX7_best_3 ++ dktX7_best_4
def dkwX7_best_2 : List UInt8 := [22, 5, 20, 0, 162, 148, 156, 0, 69, 42, 180, 0, 36, 21, 4, 50, 42, 180, 0, 65, 47, 20, 0, 162]
abbrev dktX7_best_2 : List UInt8 := dkwX7_best_2 ++ dktX7_best_3
def dkwX7_best_1 : List UInt8 := [180, 0, 3, 180, 0, 225, 50, 42, 180, 0, 15, 3, 46, 50, 42, 180, 0, 15, 21, 4, 46, 47, 55, 5]
abbrev dktX7_best_1 : List UInt8 := dkwX7_best_1 ++ dktX7_best_2
def dkwX7_best_0 : List UInt8 := [16, 252, 60, 20, 0, 162, 65, 3, 54, 4, 21, 4, 42, 180, 0, 65, 163, 0, 113, 42, 180, 0, 49, 42]
abbrev dktX7_best_0 : List UInt8 := dkwX7_best_0 ++ dktX7_best_1
theorem dksX7_best_0 : cX7_best.data.toList.drop 0 = dktX7_best_0 := by decide +kernel
theorem dksX7_best_1 : cX7_best.data.toList.drop 24 = dktX7_best_1 := dk_seg dksX7_best_0 24 rfl rfl
theorem dksX7_best_2 : cX7_best.data.toList.drop 48 = dktX7_best_2 := dk_seg dksX7_best_1 24 rfl rfl
theorem dksX7_best_3 : cX7_best.data.toList.drop 72 = dktX7_best_3 := dk_seg dksX7_best_2 24 rfl rfl
theorem dksX7_best_4 : cX7_best.data.toList.drop 96 = dktX7_best_4 := dk_seg dksX7_best_3 24 rfl rfl
theorem dksX7_best_5 : cX7_best.data.toList.drop 120 = dktX7_best_5 := dk_seg dksX7_best_4 24 rfl rfl
theorem dX7_best_0 : decode cX7_best 0 = .ok (.bipush (-4), 2) := dk_16 252 (dk_at dksX7_best_0 0 rfl rfl)
theorem dX7_best_2 : decode cX7_best 2 = .ok (.istore_n 1, 1) := dk_60 (dk_at dksX7_best_0 2 rfl rfl)
theorem dX7_best_3 : decode cX7_best 3 = .ok (.ldc2_w 162, 3) := dk_20 0 162 (dk_at dksX7_best_0 3 rfl rfl)
theorem dX7_best_6 : decode cX7_best 6 = .ok (.lstore_n 2, 1) := dk_65 (dk_at dksX7_best_0 6 rfl rfl)
theorem dX7_best_7 : decode cX7_best 7 = .ok (.iconst 0, 1) := dk_3 (dk_at dksX7_best_0 7 rfl rfl)
theorem dX7_best_8 : decode cX7_best 8 = .ok (.istore 4, 2) := dk_54 4 (dk_at dksX7_best_0 8 rfl rfl)
theorem dX7_best_10 : decode cX7_best 10 = .ok (.iload 4, 2) := dk_21 4 (dk_at dksX7_best_0 10 rfl rfl)
theorem dX7_best_12 : decode cX7_best 12 = .ok (.aload_n 0, 1) := dk_42 (dk_at dksX7_best_0 12 rfl rfl)
theorem dX7_best_13 : decode cX7_best 13 = .ok (.getfield 65, 3) := dk_180 0 65 (dk_at dksX7_best_0 13 rfl rfl)
theorem dX7_best_16 : decode cX7_best 16 = .ok (.if_icmp .gt 113, 3) := dk_163 0 113 (dk_at dksX7_best_0 16 rfl rfl)
theorem dX7_best_19 : decode cX7_best 19 = .ok (.aload_n 0, 1) := dk_42 (dk_at dksX7_best_0 19 rfl rfl)
theorem dX7_best_20 : decode cX7_best 20 = .ok (.getfield 49, 3) := dk_180 0 49 (dk_at dksX7_best_0 20 rfl rfl)
theorem dX7_best_23 : decode cX7_best 23 = .ok (.aload_n 0, 1) := dk_42 (dk_at dksX7_best_0 23 rfl rfl)
theorem dX7_best_24 : decode cX7_best 24 = .ok (.getfield 3, 3) := dk_180 0 3 (dk_at dksX7_best_1 0 rfl rfl)
theorem dX7_best_27 : decode cX7_best 27 = .ok (.getfield 225, 3) := dk_180 0 225 (dk_at dksX7_best_1 3 rfl rfl)
theorem dX7_best_30 : decode cX7_best 30 = .ok (.aaload, 1) := dk_50 (dk_at dksX7_best_1 6 rfl rfl)
theorem dX7_best_31 : decode cX7_best 31 = .ok (.aload_n 0, 1) := dk_42 (dk_at dksX7_best_1 7 rfl rfl)
theorem dX7_best_32 : decode cX7_best 32 = .ok (.getfield 15, 3) := dk_180 0 15 (dk_at dksX7_best_1 8 rfl rfl)
theorem dX7_best_35 : decode cX7_best 35 = .ok (.iconst 0, 1) := dk_3 (dk_at dksX7_best_1 11 rfl rfl)
theorem dX7_best_36 : decode cX7_best 36 = .ok (.iaload, 1) := dk_46 (dk_at dksX7_best_1 12 rfl rfl)
theorem dX7_best_37 : decode cX7_best 37 = .ok (.aaload, 1) := dk_50 (dk_at dksX7_best_1 13 rfl rfl)
theorem dX7_best_38 : decode cX7_best 38 = .ok (.aload_n 0, 1) := dk_42 (dk_at dksX7_best_1 14 rfl rfl)
theorem dX7_best_39 : decode cX7_best 39 = .ok (.getfield 15, 3) := dk_180 0 15 (dk_at dksX7_best_1 15 rfl rfl)
theorem dX7_best_42 : decode cX7_best 42 = .ok (.iload 4, 2) := dk_21 4 (dk_at dksX7_best_1 18 rfl rfl)
theorem dX7_best_44 : decode cX7_best 44 = .ok (.iaload, 1) := dk_46 (dk_at dksX7_best_1 20 rfl rfl)
theorem dX7_best_45 : decode cX7_best 45 = .ok (.laload, 1) := dk_47 (dk_at dksX7_best_1 21 rfl rfl)
theorem dX7_best_46 : decode cX7_best 46 = .ok (.lstore 5, 2) := dk_55 5 (dk_at dksX7_best_1 22 rfl rfl)
theorem dX7_best_48 : decode cX7_best 48 = .ok (.lload 5, 2) := dk_22 5 (dk_at dksX7_best_2 0 rfl rfl)
theorem dX7_best_50 : decode cX7_best 50 = .ok (.ldc2_w 162, 3) := dk_20 0 162 (dk_at dksX7_best_2 2 rfl rfl)
theorem dX7_best_53 : decode cX7_best 53 = .ok (.lcmp, 1) := dk_148 (dk_at dksX7_best_2 5 rfl rfl)
theorem dX7_best_54 : decode cX7_best 54 = .ok (.ifCond .ge 69, 3) := dk_156 0 69 (dk_at dksX7_best_2 6 rfl rfl)
theorem dX7_best_57 : decode cX7_best 57 = .ok (.aload_n 0, 1) := dk_42 (dk_at dksX7_best_2 9 rfl rfl)
theorem dX7_best_58 : decode cX7_best 58 = .ok (.getfield 36, 3) := dk_180 0 36 (dk_at dksX7_best_2 10 rfl rfl)
theorem dX7_best_61 : decode cX7_best 61 = .ok (.iload 4, 2) := dk_21 4 (dk_at dksX7_best_2 13 rfl rfl)
theorem dX7_best_63 : decode cX7_best 63 = .ok (.aaload, 1) := dk_50 (dk_at dksX7_best_2 15 rfl rfl)
theorem dX7_best_64 : decode cX7_best 64 = .ok (.aload_n 0, 1) := dk_42 (dk_at dksX7_best_2 16 rfl rfl)
theorem dX7_best_65 : decode cX7_best 65 = .ok (.getfield 65, 3) := dk_180 0 65 (dk_at dksX7_best_2 17 rfl rfl)
theorem dX7_best_68 : decode cX7_best 68 = .ok (.laload, 1) := dk_47 (dk_at dksX7_best_2 20 rfl rfl)
theorem dX7_best_69 : decode cX7_best 69 = .ok (.ldc2_w 162, 3) := dk_20 0 162 (dk_at dksX7_best_2 21 rfl rfl)
theorem dX7_best_72 : decode cX7_best 72 = .ok (.lcmp, 1) := dk_148 (dk_at dksX7_best_3 0 rfl rfl)
theorem dX7_best_73 : decode cX7_best 73 = .ok (.ifCond .ge 50, 3) := dk_156 0 50 (dk_at dksX7_best_3 1 rfl rfl)
theorem dX7_best_76 : decode cX7_best 76 = .ok (.lload 5, 2) := dk_22 5 (dk_at dksX7_best_3 4 rfl rfl)
theorem dX7_best_78 : decode cX7_best 78 = .ok (.aload_n 0, 1) := dk_42 (dk_at dksX7_best_3 6 rfl rfl)
theorem dX7_best_79 : decode cX7_best 79 = .ok (.getfield 36, 3) := dk_180 0 36 (dk_at dksX7_best_3 7 rfl rfl)
theorem dX7_best_82 : decode cX7_best 82 = .ok (.iload 4, 2) := dk_21 4 (dk_at dksX7_best_3 10 rfl rfl)
theorem dX7_best_84 : decode cX7_best 84 = .ok (.aaload, 1) := dk_50 (dk_at dksX7_best_3 12 rfl rfl)
theorem dX7_best_85 : decode cX7_best 85 = .ok (.aload_n 0, 1) := dk_42 (dk_at dksX7_best_3 13 rfl rfl)
theorem dX7_best_86 : decode cX7_best 86 = .ok (.getfield 65, 3) := dk_180 0 65 (dk_at dksX7_best_3 14 rfl rfl)
theorem dX7_best_89 : decode cX7_best 89 = .ok (.laload, 1) := dk_47 (dk_at dksX7_best_3 17 rfl rfl)
theorem dX7_best_90 : decode cX7_best 90 = .ok (.ldc2_w 198, 3) := dk_20 0 198 (dk_at dksX7_best_3 18 rfl rfl)
theorem dX7_best_93 : decode cX7_best 93 = .ok (.lmul, 1) := dk_105 (dk_at dksX7_best_3 21 rfl rfl)
theorem dX7_best_94 : decode cX7_best 94 = .ok (.ladd, 1) := dk_97 (dk_at dksX7_best_3 22 rfl rfl)
theorem dX7_best_95 : decode cX7_best 95 = .ok (.lload_n 2, 1) := dk_32 (dk_at dksX7_best_3 23 rfl rfl)
theorem dX7_best_96 : decode cX7_best 96 = .ok (.lcmp, 1) := dk_148 (dk_at dksX7_best_4 0 rfl rfl)
theorem dX7_best_97 : decode cX7_best 97 = .ok (.ifCond .ge 26, 3) := dk_156 0 26 (dk_at dksX7_best_4 1 rfl rfl)
theorem dX7_best_100 : decode cX7_best 100 = .ok (.lload 5, 2) := dk_22 5 (dk_at dksX7_best_4 4 rfl rfl)
theorem dX7_best_102 : decode cX7_best 102 = .ok (.aload_n 0, 1) := dk_42 (dk_at dksX7_best_4 6 rfl rfl)
theorem dX7_best_103 : decode cX7_best 103 = .ok (.getfield 36, 3) := dk_180 0 36 (dk_at dksX7_best_4 7 rfl rfl)
theorem dX7_best_106 : decode cX7_best 106 = .ok (.iload 4, 2) := dk_21 4 (dk_at dksX7_best_4 10 rfl rfl)
theorem dX7_best_108 : decode cX7_best 108 = .ok (.aaload, 1) := dk_50 (dk_at dksX7_best_4 12 rfl rfl)
theorem dX7_best_109 : decode cX7_best 109 = .ok (.aload_n 0, 1) := dk_42 (dk_at dksX7_best_4 13 rfl rfl)
theorem dX7_best_110 : decode cX7_best 110 = .ok (.getfield 65, 3) := dk_180 0 65 (dk_at dksX7_best_4 14 rfl rfl)
theorem dX7_best_113 : decode cX7_best 113 = .ok (.laload, 1) := dk_47 (dk_at dksX7_best_4 17 rfl rfl)
theorem dX7_best_114 : decode cX7_best 114 = .ok (.ldc2_w 198, 3) := dk_20 0 198 (dk_at dksX7_best_4 18 rfl rfl)
theorem dX7_best_117 : decode cX7_best 117 = .ok (.lmul, 1) := dk_105 (dk_at dksX7_best_4 21 rfl rfl)
theorem dX7_best_118 : decode cX7_best 118 = .ok (.ladd, 1) := dk_97 (dk_at dksX7_best_4 22 rfl rfl)
theorem dX7_best_119 : decode cX7_best 119 = .ok (.lstore_n 2, 1) := dk_65 (dk_at dksX7_best_4 23 rfl rfl)
theorem dX7_best_120 : decode cX7_best 120 = .ok (.iload 4, 2) := dk_21 4 (dk_at dksX7_best_5 0 rfl rfl)
theorem dX7_best_122 : decode cX7_best 122 = .ok (.istore_n 1, 1) := dk_60 (dk_at dksX7_best_5 2 rfl rfl)
theorem dX7_best_123 : decode cX7_best 123 = .ok (.iinc 4 1, 3) := dk_132 4 1 (dk_at dksX7_best_5 3 rfl rfl)
theorem dX7_best_126 : decode cX7_best 126 = .ok (.goto (-116), 3) := dk_167 255 140 (dk_at dksX7_best_5 6 rfl rfl)
theorem dX7_best_129 : decode cX7_best 129 = .ok (.iload_n 1, 1) := dk_27 (dk_at dksX7_best_5 9 rfl rfl)
theorem dX7_best_130 : decode cX7_best 130 = .ok (.ireturn, 1) := dk_172 (dk_at dksX7_best_5 10 rfl rfl)
abbrev cX7_along : ByteArray := prog_2_method_14_code
def yX7_along : MethodName := ⟨RX7, "along", "([I)J"⟩
def dkwX7_along_7 : List UInt8 := [180, 0, 36, 21, 5, 50, 42, 180, 0, 65, 47, 97, 184, 0, 167, 66, 132, 5, 1, 167, 255, 217, 33, 173]
abbrev dktX7_along_7 : List UInt8 := dkwX7_along_7 ++ []
def dkwX7_along_6 : List UInt8 := [66, 3, 54, 5, 21, 5, 42, 180, 0, 65, 163, 0, 36, 33, 44, 42, 180, 0, 15, 21, 5, 46, 47, 42]
abbrev dktX7_along_6 : List UInt8 := dkwX7_along_6 ++ dktX7_along_7
def dkwX7_along_5 : List UInt8 := [132, 6, 1, 167, 255, 214, 132, 5, 1, 167, 255, 188, 25, 4, 77, 132, 3, 1, 167, 255, 164, 20, 0, 162]
abbrev dktX7_along_5 : List UInt8 := dkwX7_along_5 ++ dktX7_along_6
def dkwX7_along_4 : List UInt8 := [47, 44, 21, 6, 47, 42, 180, 0, 43, 43, 29, 46, 50, 21, 6, 50, 21, 5, 47, 97, 184, 0, 167, 80]
abbrev dktX7_along_4 : List UInt8 := dkwX7_along_4 ++ dktX7_along_5
def dkwX7_along_3 : List UInt8 := [21, 5, 20, 0, 162, 80, 3, 54, 6, 21, 6, 21, 5, 163, 0, 41, 25, 4, 21, 5, 25, 4, 21, 5]
abbrev dktX7_along_3 : List UInt8 := dkwX7_along_3 ++ dktX7_along_4
def dkwX7_along_2 : List UInt8 := [162, 0, 92, 16, 55, 188, 11, 58, 4, 3, 54, 5, 21, 5, 42, 180, 0, 89, 162, 0, 65, 25, 4]
abbrev dktX7_along_2 : List UInt8 := dkwX7_along_2 ++ dktX7_along_3
def dkwX7_along_1 : List UInt8 := [160, 0, 7, 9, 167, 0, 6, 20, 0, 162, 80, 132, 3, 1, 167, 255, 225, 3, 62, 29, 43, 190]
abbrev dktX7_along_1 : List UInt8 := dkwX7_along_1 ++ dktX7_along_2
def dkwX7_along_0 : List UInt8 := [16, 55, 188, 11, 77, 3, 62, 29, 42, 180, 0, 89, 162, 0, 29, 44, 29, 29, 42, 180, 0, 15, 3, 46]
abbrev dktX7_along_0 : List UInt8 := dkwX7_along_0 ++ dktX7_along_1
theorem dksX7_along_0 : cX7_along.data.toList.drop 0 = dktX7_along_0 := by decide +kernel
theorem dksX7_along_1 : cX7_along.data.toList.drop 24 = dktX7_along_1 := dk_seg dksX7_along_0 24 rfl rfl
theorem dksX7_along_2 : cX7_along.data.toList.drop 46 = dktX7_along_2 := dk_seg dksX7_along_1 22 rfl rfl
theorem dksX7_along_3 : cX7_along.data.toList.drop 69 = dktX7_along_3 := dk_seg dksX7_along_2 23 rfl rfl
theorem dksX7_along_4 : cX7_along.data.toList.drop 93 = dktX7_along_4 := dk_seg dksX7_along_3 24 rfl rfl
theorem dksX7_along_5 : cX7_along.data.toList.drop 117 = dktX7_along_5 := dk_seg dksX7_along_4 24 rfl rfl
theorem dksX7_along_6 : cX7_along.data.toList.drop 141 = dktX7_along_6 := dk_seg dksX7_along_5 24 rfl rfl
theorem dksX7_along_7 : cX7_along.data.toList.drop 165 = dktX7_along_7 := dk_seg dksX7_along_6 24 rfl rfl
theorem dX7_along_0 : decode cX7_along 0 = .ok (.bipush 55, 2) := dk_16 55 (dk_at dksX7_along_0 0 rfl rfl)
theorem dX7_along_2 : decode cX7_along 2 = .ok (.newarray .long, 2) := dk_188_11 (dk_at dksX7_along_0 2 rfl rfl)
theorem dX7_along_4 : decode cX7_along 4 = .ok (.astore_n 2, 1) := dk_77 (dk_at dksX7_along_0 4 rfl rfl)
theorem dX7_along_5 : decode cX7_along 5 = .ok (.iconst 0, 1) := dk_3 (dk_at dksX7_along_0 5 rfl rfl)
theorem dX7_along_6 : decode cX7_along 6 = .ok (.istore_n 3, 1) := dk_62 (dk_at dksX7_along_0 6 rfl rfl)
theorem dX7_along_7 : decode cX7_along 7 = .ok (.iload_n 3, 1) := dk_29 (dk_at dksX7_along_0 7 rfl rfl)
theorem dX7_along_8 : decode cX7_along 8 = .ok (.aload_n 0, 1) := dk_42 (dk_at dksX7_along_0 8 rfl rfl)
theorem dX7_along_9 : decode cX7_along 9 = .ok (.getfield 89, 3) := dk_180 0 89 (dk_at dksX7_along_0 9 rfl rfl)
theorem dX7_along_12 : decode cX7_along 12 = .ok (.if_icmp .ge 29, 3) := dk_162 0 29 (dk_at dksX7_along_0 12 rfl rfl)
theorem dX7_along_15 : decode cX7_along 15 = .ok (.aload_n 2, 1) := dk_44 (dk_at dksX7_along_0 15 rfl rfl)
theorem dX7_along_16 : decode cX7_along 16 = .ok (.iload_n 3, 1) := dk_29 (dk_at dksX7_along_0 16 rfl rfl)
theorem dX7_along_17 : decode cX7_along 17 = .ok (.iload_n 3, 1) := dk_29 (dk_at dksX7_along_0 17 rfl rfl)
theorem dX7_along_18 : decode cX7_along 18 = .ok (.aload_n 0, 1) := dk_42 (dk_at dksX7_along_0 18 rfl rfl)
theorem dX7_along_19 : decode cX7_along 19 = .ok (.getfield 15, 3) := dk_180 0 15 (dk_at dksX7_along_0 19 rfl rfl)
theorem dX7_along_22 : decode cX7_along 22 = .ok (.iconst 0, 1) := dk_3 (dk_at dksX7_along_0 22 rfl rfl)
theorem dX7_along_23 : decode cX7_along 23 = .ok (.iaload, 1) := dk_46 (dk_at dksX7_along_0 23 rfl rfl)
theorem dX7_along_24 : decode cX7_along 24 = .ok (.if_icmp .ne 7, 3) := dk_160 0 7 (dk_at dksX7_along_1 0 rfl rfl)
theorem dX7_along_27 : decode cX7_along 27 = .ok (.lconst 0, 1) := dk_9 (dk_at dksX7_along_1 3 rfl rfl)
theorem dX7_along_28 : decode cX7_along 28 = .ok (.goto 6, 3) := dk_167 0 6 (dk_at dksX7_along_1 4 rfl rfl)
theorem dX7_along_31 : decode cX7_along 31 = .ok (.ldc2_w 162, 3) := dk_20 0 162 (dk_at dksX7_along_1 7 rfl rfl)
theorem dX7_along_34 : decode cX7_along 34 = .ok (.lastore, 1) := dk_80 (dk_at dksX7_along_1 10 rfl rfl)
theorem dX7_along_35 : decode cX7_along 35 = .ok (.iinc 3 1, 3) := dk_132 3 1 (dk_at dksX7_along_1 11 rfl rfl)
theorem dX7_along_38 : decode cX7_along 38 = .ok (.goto (-31), 3) := dk_167 255 225 (dk_at dksX7_along_1 14 rfl rfl)
theorem dX7_along_41 : decode cX7_along 41 = .ok (.iconst 0, 1) := dk_3 (dk_at dksX7_along_1 17 rfl rfl)
theorem dX7_along_42 : decode cX7_along 42 = .ok (.istore_n 3, 1) := dk_62 (dk_at dksX7_along_1 18 rfl rfl)
theorem dX7_along_43 : decode cX7_along 43 = .ok (.iload_n 3, 1) := dk_29 (dk_at dksX7_along_1 19 rfl rfl)
theorem dX7_along_44 : decode cX7_along 44 = .ok (.aload_n 1, 1) := dk_43 (dk_at dksX7_along_1 20 rfl rfl)
theorem dX7_along_45 : decode cX7_along 45 = .ok (.arraylength, 1) := dk_190 (dk_at dksX7_along_1 21 rfl rfl)
theorem dX7_along_46 : decode cX7_along 46 = .ok (.if_icmp .ge 92, 3) := dk_162 0 92 (dk_at dksX7_along_2 0 rfl rfl)
theorem dX7_along_49 : decode cX7_along 49 = .ok (.bipush 55, 2) := dk_16 55 (dk_at dksX7_along_2 3 rfl rfl)
theorem dX7_along_51 : decode cX7_along 51 = .ok (.newarray .long, 2) := dk_188_11 (dk_at dksX7_along_2 5 rfl rfl)
theorem dX7_along_53 : decode cX7_along 53 = .ok (.astore 4, 2) := dk_58 4 (dk_at dksX7_along_2 7 rfl rfl)
theorem dX7_along_55 : decode cX7_along 55 = .ok (.iconst 0, 1) := dk_3 (dk_at dksX7_along_2 9 rfl rfl)
theorem dX7_along_56 : decode cX7_along 56 = .ok (.istore 5, 2) := dk_54 5 (dk_at dksX7_along_2 10 rfl rfl)
theorem dX7_along_58 : decode cX7_along 58 = .ok (.iload 5, 2) := dk_21 5 (dk_at dksX7_along_2 12 rfl rfl)
theorem dX7_along_60 : decode cX7_along 60 = .ok (.aload_n 0, 1) := dk_42 (dk_at dksX7_along_2 14 rfl rfl)
theorem dX7_along_61 : decode cX7_along 61 = .ok (.getfield 89, 3) := dk_180 0 89 (dk_at dksX7_along_2 15 rfl rfl)
theorem dX7_along_64 : decode cX7_along 64 = .ok (.if_icmp .ge 65, 3) := dk_162 0 65 (dk_at dksX7_along_2 18 rfl rfl)
theorem dX7_along_67 : decode cX7_along 67 = .ok (.aload 4, 2) := dk_25 4 (dk_at dksX7_along_2 21 rfl rfl)
theorem dX7_along_69 : decode cX7_along 69 = .ok (.iload 5, 2) := dk_21 5 (dk_at dksX7_along_3 0 rfl rfl)
theorem dX7_along_71 : decode cX7_along 71 = .ok (.ldc2_w 162, 3) := dk_20 0 162 (dk_at dksX7_along_3 2 rfl rfl)
theorem dX7_along_74 : decode cX7_along 74 = .ok (.lastore, 1) := dk_80 (dk_at dksX7_along_3 5 rfl rfl)
theorem dX7_along_75 : decode cX7_along 75 = .ok (.iconst 0, 1) := dk_3 (dk_at dksX7_along_3 6 rfl rfl)
theorem dX7_along_76 : decode cX7_along 76 = .ok (.istore 6, 2) := dk_54 6 (dk_at dksX7_along_3 7 rfl rfl)
theorem dX7_along_78 : decode cX7_along 78 = .ok (.iload 6, 2) := dk_21 6 (dk_at dksX7_along_3 9 rfl rfl)
theorem dX7_along_80 : decode cX7_along 80 = .ok (.iload 5, 2) := dk_21 5 (dk_at dksX7_along_3 11 rfl rfl)
theorem dX7_along_82 : decode cX7_along 82 = .ok (.if_icmp .gt 41, 3) := dk_163 0 41 (dk_at dksX7_along_3 13 rfl rfl)
theorem dX7_along_85 : decode cX7_along 85 = .ok (.aload 4, 2) := dk_25 4 (dk_at dksX7_along_3 16 rfl rfl)
theorem dX7_along_87 : decode cX7_along 87 = .ok (.iload 5, 2) := dk_21 5 (dk_at dksX7_along_3 18 rfl rfl)
theorem dX7_along_89 : decode cX7_along 89 = .ok (.aload 4, 2) := dk_25 4 (dk_at dksX7_along_3 20 rfl rfl)
theorem dX7_along_91 : decode cX7_along 91 = .ok (.iload 5, 2) := dk_21 5 (dk_at dksX7_along_3 22 rfl rfl)
theorem dX7_along_93 : decode cX7_along 93 = .ok (.laload, 1) := dk_47 (dk_at dksX7_along_4 0 rfl rfl)
theorem dX7_along_94 : decode cX7_along 94 = .ok (.aload_n 2, 1) := dk_44 (dk_at dksX7_along_4 1 rfl rfl)
theorem dX7_along_95 : decode cX7_along 95 = .ok (.iload 6, 2) := dk_21 6 (dk_at dksX7_along_4 2 rfl rfl)
theorem dX7_along_97 : decode cX7_along 97 = .ok (.laload, 1) := dk_47 (dk_at dksX7_along_4 4 rfl rfl)
theorem dX7_along_98 : decode cX7_along 98 = .ok (.aload_n 0, 1) := dk_42 (dk_at dksX7_along_4 5 rfl rfl)
theorem dX7_along_99 : decode cX7_along 99 = .ok (.getfield 43, 3) := dk_180 0 43 (dk_at dksX7_along_4 6 rfl rfl)
theorem dX7_along_102 : decode cX7_along 102 = .ok (.aload_n 1, 1) := dk_43 (dk_at dksX7_along_4 9 rfl rfl)
theorem dX7_along_103 : decode cX7_along 103 = .ok (.iload_n 3, 1) := dk_29 (dk_at dksX7_along_4 10 rfl rfl)
theorem dX7_along_104 : decode cX7_along 104 = .ok (.iaload, 1) := dk_46 (dk_at dksX7_along_4 11 rfl rfl)
theorem dX7_along_105 : decode cX7_along 105 = .ok (.aaload, 1) := dk_50 (dk_at dksX7_along_4 12 rfl rfl)
theorem dX7_along_106 : decode cX7_along 106 = .ok (.iload 6, 2) := dk_21 6 (dk_at dksX7_along_4 13 rfl rfl)
theorem dX7_along_108 : decode cX7_along 108 = .ok (.aaload, 1) := dk_50 (dk_at dksX7_along_4 15 rfl rfl)
theorem dX7_along_109 : decode cX7_along 109 = .ok (.iload 5, 2) := dk_21 5 (dk_at dksX7_along_4 16 rfl rfl)
theorem dX7_along_111 : decode cX7_along 111 = .ok (.laload, 1) := dk_47 (dk_at dksX7_along_4 18 rfl rfl)
theorem dX7_along_112 : decode cX7_along 112 = .ok (.ladd, 1) := dk_97 (dk_at dksX7_along_4 19 rfl rfl)
theorem dX7_along_113 : decode cX7_along 113 = .ok (.invokestatic 167, 3) := dk_184 0 167 (dk_at dksX7_along_4 20 rfl rfl)
theorem dX7_along_116 : decode cX7_along 116 = .ok (.lastore, 1) := dk_80 (dk_at dksX7_along_4 23 rfl rfl)
theorem dX7_along_117 : decode cX7_along 117 = .ok (.iinc 6 1, 3) := dk_132 6 1 (dk_at dksX7_along_5 0 rfl rfl)
theorem dX7_along_120 : decode cX7_along 120 = .ok (.goto (-42), 3) := dk_167 255 214 (dk_at dksX7_along_5 3 rfl rfl)
theorem dX7_along_123 : decode cX7_along 123 = .ok (.iinc 5 1, 3) := dk_132 5 1 (dk_at dksX7_along_5 6 rfl rfl)
theorem dX7_along_126 : decode cX7_along 126 = .ok (.goto (-68), 3) := dk_167 255 188 (dk_at dksX7_along_5 9 rfl rfl)
theorem dX7_along_129 : decode cX7_along 129 = .ok (.aload 4, 2) := dk_25 4 (dk_at dksX7_along_5 12 rfl rfl)
theorem dX7_along_131 : decode cX7_along 131 = .ok (.astore_n 2, 1) := dk_77 (dk_at dksX7_along_5 14 rfl rfl)
theorem dX7_along_132 : decode cX7_along 132 = .ok (.iinc 3 1, 3) := dk_132 3 1 (dk_at dksX7_along_5 15 rfl rfl)
theorem dX7_along_135 : decode cX7_along 135 = .ok (.goto (-92), 3) := dk_167 255 164 (dk_at dksX7_along_5 18 rfl rfl)
theorem dX7_along_138 : decode cX7_along 138 = .ok (.ldc2_w 162, 3) := dk_20 0 162 (dk_at dksX7_along_5 21 rfl rfl)
theorem dX7_along_141 : decode cX7_along 141 = .ok (.lstore_n 3, 1) := dk_66 (dk_at dksX7_along_6 0 rfl rfl)
theorem dX7_along_142 : decode cX7_along 142 = .ok (.iconst 0, 1) := dk_3 (dk_at dksX7_along_6 1 rfl rfl)
theorem dX7_along_143 : decode cX7_along 143 = .ok (.istore 5, 2) := dk_54 5 (dk_at dksX7_along_6 2 rfl rfl)
theorem dX7_along_145 : decode cX7_along 145 = .ok (.iload 5, 2) := dk_21 5 (dk_at dksX7_along_6 4 rfl rfl)
theorem dX7_along_147 : decode cX7_along 147 = .ok (.aload_n 0, 1) := dk_42 (dk_at dksX7_along_6 6 rfl rfl)
theorem dX7_along_148 : decode cX7_along 148 = .ok (.getfield 65, 3) := dk_180 0 65 (dk_at dksX7_along_6 7 rfl rfl)
theorem dX7_along_151 : decode cX7_along 151 = .ok (.if_icmp .gt 36, 3) := dk_163 0 36 (dk_at dksX7_along_6 10 rfl rfl)
theorem dX7_along_154 : decode cX7_along 154 = .ok (.lload_n 3, 1) := dk_33 (dk_at dksX7_along_6 13 rfl rfl)
theorem dX7_along_155 : decode cX7_along 155 = .ok (.aload_n 2, 1) := dk_44 (dk_at dksX7_along_6 14 rfl rfl)
theorem dX7_along_156 : decode cX7_along 156 = .ok (.aload_n 0, 1) := dk_42 (dk_at dksX7_along_6 15 rfl rfl)
theorem dX7_along_157 : decode cX7_along 157 = .ok (.getfield 15, 3) := dk_180 0 15 (dk_at dksX7_along_6 16 rfl rfl)
theorem dX7_along_160 : decode cX7_along 160 = .ok (.iload 5, 2) := dk_21 5 (dk_at dksX7_along_6 19 rfl rfl)
theorem dX7_along_162 : decode cX7_along 162 = .ok (.iaload, 1) := dk_46 (dk_at dksX7_along_6 21 rfl rfl)
theorem dX7_along_163 : decode cX7_along 163 = .ok (.laload, 1) := dk_47 (dk_at dksX7_along_6 22 rfl rfl)
theorem dX7_along_164 : decode cX7_along 164 = .ok (.aload_n 0, 1) := dk_42 (dk_at dksX7_along_6 23 rfl rfl)
theorem dX7_along_165 : decode cX7_along 165 = .ok (.getfield 36, 3) := dk_180 0 36 (dk_at dksX7_along_7 0 rfl rfl)
theorem dX7_along_168 : decode cX7_along 168 = .ok (.iload 5, 2) := dk_21 5 (dk_at dksX7_along_7 3 rfl rfl)
theorem dX7_along_170 : decode cX7_along 170 = .ok (.aaload, 1) := dk_50 (dk_at dksX7_along_7 5 rfl rfl)
theorem dX7_along_171 : decode cX7_along 171 = .ok (.aload_n 0, 1) := dk_42 (dk_at dksX7_along_7 6 rfl rfl)
theorem dX7_along_172 : decode cX7_along 172 = .ok (.getfield 65, 3) := dk_180 0 65 (dk_at dksX7_along_7 7 rfl rfl)
theorem dX7_along_175 : decode cX7_along 175 = .ok (.laload, 1) := dk_47 (dk_at dksX7_along_7 10 rfl rfl)
theorem dX7_along_176 : decode cX7_along 176 = .ok (.ladd, 1) := dk_97 (dk_at dksX7_along_7 11 rfl rfl)
theorem dX7_along_177 : decode cX7_along 177 = .ok (.invokestatic 167, 3) := dk_184 0 167 (dk_at dksX7_along_7 12 rfl rfl)
theorem dX7_along_180 : decode cX7_along 180 = .ok (.lstore_n 3, 1) := dk_66 (dk_at dksX7_along_7 15 rfl rfl)
theorem dX7_along_181 : decode cX7_along 181 = .ok (.iinc 5 1, 3) := dk_132 5 1 (dk_at dksX7_along_7 16 rfl rfl)
theorem dX7_along_184 : decode cX7_along 184 = .ok (.goto (-39), 3) := dk_167 255 217 (dk_at dksX7_along_7 19 rfl rfl)
theorem dX7_along_187 : decode cX7_along 187 = .ok (.lload_n 3, 1) := dk_33 (dk_at dksX7_along_7 22 rfl rfl)
theorem dX7_along_188 : decode cX7_along 188 = .ok (.lreturn, 1) := dk_173 (dk_at dksX7_along_7 23 rfl rfl)
theorem q73 : (Jvm.Cond.initialized "MendReader$Chart") ∈ lw_all := lw_g (lw_at lw_m1 17 rfl) rfl
theorem q168 : (Jvm.Cond.fieldLinkNest "MendReader$Chart" (107 : Nat) "MendReader" "tokens" "I" "MendReader") ∈ lw_tbl := lw_at lw_m1 112 rfl
theorem q183 : (Jvm.Cond.fieldLinkNest "MendReader$Chart" (203 : Nat) "MendReader" "names" "I" "MendReader") ∈ lw_tbl := lw_at lw_m1 127 rfl
theorem q185 : (Jvm.Cond.fieldLinkNest "MendReader$Chart" (225 : Nat) "MendReader" "start" "I" "MendReader") ∈ lw_tbl := lw_at lw_m1 129 rfl
theorem q188 : (Jvm.Cond.fieldLinkNest "MendReader$Chart" (206 : Nat) "MendReader" "rules" "Ljava/util/List;" "MendReader") ∈ lw_tbl := lw_at lw_m1 132 rfl
theorem q190 : (Jvm.Cond.fieldLinkNest "MendReader$Chart" (91 : Nat) "MendReader" "stuck" "Ljava/util/List;" "MendReader") ∈ lw_tbl := lw_at lw_m1 134 rfl
theorem q192 : (Jvm.Cond.fieldLinkNest "MendReader$Chart" (154 : Nat) "MendReader" "parted" "Ljava/util/List;" "MendReader") ∈ lw_tbl := lw_at lw_m1 136 rfl
theorem q196 : (Jvm.Cond.fieldLinkNest "MendReader$Chart" (39 : Nat) "MendReader" "readCells" "[[[J" "MendReader") ∈ lw_tbl := lw_at lw_m1 140 rfl
theorem q198 : (Jvm.Cond.fieldLinkNest "MendReader$Chart" (46 : Nat) "MendReader" "treeCells" "[[[J" "MendReader") ∈ lw_tbl := lw_at lw_m1 142 rfl
theorem q200 : (Jvm.Cond.fieldLinkNest "MendReader$Chart" (52 : Nat) "MendReader" "restCells" "[[[J" "MendReader") ∈ lw_tbl := lw_at lw_m1 144 rfl
theorem q299 : (Jvm.Cond.fieldLinkNest "MendReader$Chart" (200 : Nat) "MendReader$Rule" "number" "I" "MendReader") ∈ lw_tbl := lw_at lw_m2 3 rfl
theorem q302 : (Jvm.Cond.fieldLinkNest "MendReader$Chart" (222 : Nat) "MendReader$Rule" "name" "I" "MendReader") ∈ lw_tbl := lw_at lw_m2 6 rfl
theorem q306 : (Jvm.Cond.fieldLinkNest "MendReader$Chart" (190 : Nat) "MendReader$Rule" "sorts" "[I" "MendReader") ∈ lw_tbl := lw_at lw_m2 10 rfl
theorem q310 : (Jvm.Cond.fieldLinkNest "MendReader$Chart" (195 : Nat) "MendReader$Rule" "which" "[I" "MendReader") ∈ lw_tbl := lw_at lw_m2 14 rfl
theorem q313 : (Jvm.Cond.fieldLinkNest "MendReader$Chart" (209 : Nat) "MendReader$Rule" "size" "I" "MendReader") ∈ lw_tbl := lw_at lw_m2 17 rfl
theorem q363 : (Jvm.Cond.selects "MendReader$Chart" ({ cls := "java/lang/Object", name := "getClass", desc := "()Ljava/lang/Class;" } : Jvm.MethodName) ({ cls := "java/lang/Object", name := "getClass", desc := "()Ljava/lang/Class;" } : Jvm.MethodName)) ∈ lw_all := lw_g (lw_at lw_m2 67 rfl) rfl
theorem q448 : (Jvm.Cond.fieldLinkNest "MendReader$Chart" (134 : Nat) "MendReader$Form" "a" "I" "MendReader") ∈ lw_tbl := lw_at lw_m2 152 rfl
theorem q451 : (Jvm.Cond.fieldLinkNest "MendReader$Chart" (140 : Nat) "MendReader$Form" "b" "I" "MendReader") ∈ lw_tbl := lw_at lw_m2 155 rfl
theorem q454 : (Jvm.Cond.fieldLinkNest "MendReader$Chart" (104 : Nat) "MendReader$Form" "c" "I" "MendReader") ∈ lw_tbl := lw_at lw_m2 158 rfl
theorem q517 : (Jvm.Cond.instantiable "MendReader$Chart" (13 : Nat)) ∈ lw_all := lw_g (lw_at lw_m2 221 rfl) rfl
theorem q519 : (Jvm.Cond.instanceMethod ({ cls := "MendReader$Chart", name := "<init>", desc := "(LMendReader;[ILMendReader$Way;)V" } : Jvm.MethodName)) ∈ lw_all := lw_g (lw_at lw_m2 223 rfl) rfl
theorem q520 : (Jvm.Cond.code ({ cls := "MendReader$Chart", name := "<init>", desc := "(LMendReader;[ILMendReader$Way;)V" } : Jvm.MethodName) prog_2_method_1_code (4 : Nat) (Option.none : Option Jvm.ClassFile.FieldType)) ∈ lw_all := lw_g (lw_at lw_m2 224 rfl) rfl
theorem q521 : (Jvm.Cond.methodLink "MendReader$Chart" (9 : Nat) ({ cls := "java/lang/Object", name := "<init>", desc := "()V" } : Jvm.MethodName)) ∈ lw_all := lw_g (lw_at lw_m2 225 rfl) rfl
theorem q522 : (Jvm.Cond.classLink "MendReader$Chart" (22 : Nat) "java/util/ArrayList") ∈ lw_all := lw_g (lw_at lw_m2 226 rfl) rfl
theorem q523 : (Jvm.Cond.methodLink "MendReader$Chart" (24 : Nat) ({ cls := "java/util/ArrayList", name := "<init>", desc := "()V" } : Jvm.MethodName)) ∈ lw_all := lw_g (lw_at lw_m2 227 rfl) rfl
theorem q524 : (Jvm.Cond.classLink "MendReader$Chart" (29 : Nat) "[[LMendReader$Step;") ∈ lw_all := lw_g (lw_at lw_m2 228 rfl) rfl
theorem q527 : (Jvm.Cond.classLink "MendReader$Chart" (34 : Nat) "[[J") ∈ lw_all := lw_g (lw_at lw_m2 231 rfl) rfl
theorem q528 : (Jvm.Cond.methodLink "MendReader$Chart" (69 : Nat) ({ cls := "MendReader$Chart", name := "knots", desc := "()V" } : Jvm.MethodName)) ∈ lw_all := lw_g (lw_at lw_m2 232 rfl) rfl
theorem q529 : (Jvm.Cond.privateMethod ({ cls := "MendReader$Chart", name := "knots", desc := "()V" } : Jvm.MethodName)) ∈ lw_tbl := lw_at lw_m2 233 rfl
theorem q530 : (Jvm.Cond.instanceMethod ({ cls := "MendReader$Chart", name := "knots", desc := "()V" } : Jvm.MethodName)) ∈ lw_all := lw_g (lw_at lw_m2 234 rfl) rfl
theorem q531 : (Jvm.Cond.code ({ cls := "MendReader$Chart", name := "knots", desc := "()V" } : Jvm.MethodName) prog_2_method_3_code (5 : Nat) (Option.none : Option Jvm.ClassFile.FieldType)) ∈ lw_all := lw_g (lw_at lw_m2 235 rfl) rfl
theorem q532 : (Jvm.Cond.classLink "MendReader$Chart" (87 : Nat) "[[I") ∈ lw_all := lw_g (lw_at lw_m2 236 rfl) rfl
theorem q533 : (Jvm.Cond.interfaceEntry "MendReader$Chart" (94 : Nat)) ∈ lw_tbl := lw_at lw_m2 237 rfl
theorem q534 : (Jvm.Cond.methodLink "MendReader$Chart" (94 : Nat) ({ cls := "java/util/List", name := "size", desc := "()I" } : Jvm.MethodName)) ∈ lw_all := lw_g (lw_at lw_m2 238 rfl) rfl
theorem q535 : (Jvm.Cond.interfaceEntry "MendReader$Chart" (98 : Nat)) ∈ lw_tbl := lw_at lw_m2 239 rfl
theorem q536 : (Jvm.Cond.methodLink "MendReader$Chart" (98 : Nat) ({ cls := "java/util/List", name := "get", desc := "(I)Ljava/lang/Object;" } : Jvm.MethodName)) ∈ lw_all := lw_g (lw_at lw_m3 0 rfl) rfl
theorem q537 : (Jvm.Cond.classLink "MendReader$Chart" (102 : Nat) "MendReader$Form") ∈ lw_all := lw_g (lw_at lw_m3 1 rfl) rfl
theorem q538 : (Jvm.Cond.classLink "MendReader$Chart" (110 : Nat) "MendReader$Lost") ∈ lw_all := lw_g (lw_at lw_m3 2 rfl) rfl
theorem q540 : (Jvm.Cond.methodLink "MendReader$Chart" (112 : Nat) ({ cls := "MendReader$Lost", name := "<init>", desc := "(LMendReader;LMendReader$Chart;IIII)V" } : Jvm.MethodName)) ∈ lw_all := lw_g (lw_at lw_m3 4 rfl) rfl
theorem q568 : (Jvm.Cond.fieldLink "MendReader$Chart" (173 : Nat) "MendReader$Step" "from" "I") ∈ lw_all := lw_g (lw_at lw_m3 32 rfl) rfl
theorem q571 : (Jvm.Cond.fieldLink "MendReader$Chart" (187 : Nat) "MendReader$Step" "to" "I") ∈ lw_all := lw_g (lw_at lw_m3 35 rfl) rfl
theorem q578 : (Jvm.Cond.fieldLink "MendReader$Chart" (184 : Nat) "MendReader$Step" "token" "I") ∈ lw_all := lw_g (lw_at lw_m3 42 rfl) rfl
theorem q595 : (Jvm.Cond.methodLink "MendReader$Chart" (115 : Nat) ({ cls := "MendReader$Chart", name := "add", desc := "(LMendReader$Step;)V" } : Jvm.MethodName)) ∈ lw_all := lw_g (lw_at lw_m3 59 rfl) rfl
theorem q596 : (Jvm.Cond.privateMethod ({ cls := "MendReader$Chart", name := "add", desc := "(LMendReader$Step;)V" } : Jvm.MethodName)) ∈ lw_tbl := lw_at lw_m3 60 rfl
theorem q597 : (Jvm.Cond.instanceMethod ({ cls := "MendReader$Chart", name := "add", desc := "(LMendReader$Step;)V" } : Jvm.MethodName)) ∈ lw_all := lw_g (lw_at lw_m3 61 rfl) rfl
theorem q598 : (Jvm.Cond.code ({ cls := "MendReader$Chart", name := "add", desc := "(LMendReader$Step;)V" } : Jvm.MethodName) prog_2_method_2_code (2 : Nat) (Option.none : Option Jvm.ClassFile.FieldType)) ∈ lw_all := lw_g (lw_at lw_m3 62 rfl) rfl
theorem q599 : (Jvm.Cond.methodLinkNest "MendReader$Chart" (77 : Nat) ({ cls := "MendReader", name := "may", desc := "(LMendReader$Way;LMendReader$Step;I)Z" } : Jvm.MethodName) "MendReader") ∈ lw_tbl := lw_at lw_m3 63 rfl
theorem q740 : (Jvm.Cond.interfaceEntry "MendReader$Chart" (81 : Nat)) ∈ lw_tbl := lw_at lw_m3 204 rfl
theorem q741 : (Jvm.Cond.methodLink "MendReader$Chart" (81 : Nat) ({ cls := "java/util/List", name := "add", desc := "(Ljava/lang/Object;)Z" } : Jvm.MethodName)) ∈ lw_all := lw_g (lw_at lw_m3 205 rfl) rfl
theorem q742 : (Jvm.Cond.methodLink "MendReader$Chart" (118 : Nat) ({ cls := "MendReader$Chart", name := "single", desc := "(I[I)V" } : Jvm.MethodName)) ∈ lw_all := lw_g (lw_at lw_m3 206 rfl) rfl
theorem q743 : (Jvm.Cond.privateMethod ({ cls := "MendReader$Chart", name := "single", desc := "(I[I)V" } : Jvm.MethodName)) ∈ lw_tbl := lw_at lw_m3 207 rfl
theorem q744 : (Jvm.Cond.instanceMethod ({ cls := "MendReader$Chart", name := "single", desc := "(I[I)V" } : Jvm.MethodName)) ∈ lw_all := lw_g (lw_at lw_m3 208 rfl) rfl
theorem q745 : (Jvm.Cond.code ({ cls := "MendReader$Chart", name := "single", desc := "(I[I)V" } : Jvm.MethodName) prog_2_method_4_code (6 : Nat) (Option.none : Option Jvm.ClassFile.FieldType)) ∈ lw_all := lw_g (lw_at lw_m3 209 rfl) rfl
theorem q746 : (Jvm.Cond.classLink "MendReader$Chart" (126 : Nat) "MendReader$Step") ∈ lw_all := lw_g (lw_at lw_m3 210 rfl) rfl
theorem q748 : (Jvm.Cond.methodLink "MendReader$Chart" (128 : Nat) ({ cls := "MendReader$Step", name := "<init>", desc := "(LMendReader;LMendReader$Chart;IIII)V" } : Jvm.MethodName)) ∈ lw_all := lw_g (lw_at lw_m3 212 rfl) rfl
theorem q756 : (Jvm.Cond.classLink "MendReader$Chart" (129 : Nat) "MendReader$Other") ∈ lw_all := lw_g (lw_at lw_m3 220 rfl) rfl
theorem q758 : (Jvm.Cond.methodLink "MendReader$Chart" (131 : Nat) ({ cls := "MendReader$Other", name := "<init>", desc := "(LMendReader;LMendReader$Chart;IIII)V" } : Jvm.MethodName)) ∈ lw_all := lw_g (lw_at lw_m3 222 rfl) rfl
theorem q772 : (Jvm.Cond.classLink "MendReader$Chart" (132 : Nat) "MendReader$Stuck") ∈ lw_all := lw_g (lw_at lw_m3 236 rfl) rfl
theorem q774 : (Jvm.Cond.methodLink "MendReader$Chart" (137 : Nat) ({ cls := "MendReader$Stuck", name := "<init>", desc := "(LMendReader;LMendReader$Chart;IIIILMendReader$Form;I)V" } : Jvm.MethodName)) ∈ lw_all := lw_g (lw_at lw_m3 238 rfl) rfl
theorem q795 : (Jvm.Cond.classLink "MendReader$Chart" (143 : Nat) "MendReader$Extra") ∈ lw_all := lw_g (lw_at lw_m4 19 rfl) rfl
theorem q797 : (Jvm.Cond.methodLink "MendReader$Chart" (145 : Nat) ({ cls := "MendReader$Extra", name := "<init>", desc := "(LMendReader;LMendReader$Chart;III)V" } : Jvm.MethodName)) ∈ lw_all := lw_g (lw_at lw_m4 21 rfl) rfl
theorem q811 : (Jvm.Cond.classLink "MendReader$Chart" (148 : Nat) "MendReader$Run") ∈ lw_all := lw_g (lw_at lw_m4 35 rfl) rfl
theorem q813 : (Jvm.Cond.methodLink "MendReader$Chart" (150 : Nat) ({ cls := "MendReader$Run", name := "<init>", desc := "(LMendReader;LMendReader$Chart;IIII)V" } : Jvm.MethodName)) ∈ lw_all := lw_g (lw_at lw_m4 37 rfl) rfl
theorem q831 : (Jvm.Cond.methodLink "MendReader$Chart" (122 : Nat) ({ cls := "MendReader$Chart", name := "pair", desc := "(II)V" } : Jvm.MethodName)) ∈ lw_all := lw_g (lw_at lw_m4 55 rfl) rfl
theorem q832 : (Jvm.Cond.privateMethod ({ cls := "MendReader$Chart", name := "pair", desc := "(II)V" } : Jvm.MethodName)) ∈ lw_tbl := lw_at lw_m4 56 rfl
theorem q833 : (Jvm.Cond.instanceMethod ({ cls := "MendReader$Chart", name := "pair", desc := "(II)V" } : Jvm.MethodName)) ∈ lw_all := lw_g (lw_at lw_m4 57 rfl) rfl
theorem q834 : (Jvm.Cond.code ({ cls := "MendReader$Chart", name := "pair", desc := "(II)V" } : Jvm.MethodName) prog_2_method_5_code (5 : Nat) (Option.none : Option Jvm.ClassFile.FieldType)) ∈ lw_all := lw_g (lw_at lw_m4 58 rfl) rfl
theorem q835 : (Jvm.Cond.classLink "MendReader$Chart" (151 : Nat) "MendReader$Turned") ∈ lw_all := lw_g (lw_at lw_m4 59 rfl) rfl
theorem q837 : (Jvm.Cond.methodLink "MendReader$Chart" (153 : Nat) ({ cls := "MendReader$Turned", name := "<init>", desc := "(LMendReader;LMendReader$Chart;III)V" } : Jvm.MethodName)) ∈ lw_all := lw_g (lw_at lw_m4 61 rfl) rfl
theorem q852 : (Jvm.Cond.classLink "MendReader$Chart" (157 : Nat) "MendReader$Parted") ∈ lw_all := lw_g (lw_at lw_m4 76 rfl) rfl
theorem q854 : (Jvm.Cond.methodLink "MendReader$Chart" (159 : Nat) ({ cls := "MendReader$Parted", name := "<init>", desc := "(LMendReader;LMendReader$Chart;IIILMendReader$Form;I)V" } : Jvm.MethodName)) ∈ lw_all := lw_g (lw_at lw_m4 78 rfl) rfl
theorem q872 : (Jvm.Cond.methodLink "MendReader$Chart" (72 : Nat) ({ cls := "MendReader$Chart", name := "skipping", desc := "()V" } : Jvm.MethodName)) ∈ lw_all := lw_g (lw_at lw_m4 96 rfl) rfl
theorem q873 : (Jvm.Cond.privateMethod ({ cls := "MendReader$Chart", name := "skipping", desc := "()V" } : Jvm.MethodName)) ∈ lw_tbl := lw_at lw_m4 97 rfl
theorem q874 : (Jvm.Cond.instanceMethod ({ cls := "MendReader$Chart", name := "skipping", desc := "()V" } : Jvm.MethodName)) ∈ lw_all := lw_g (lw_at lw_m4 98 rfl) rfl
theorem q875 : (Jvm.Cond.code ({ cls := "MendReader$Chart", name := "skipping", desc := "()V" } : Jvm.MethodName) prog_2_method_6_code (4 : Nat) (Option.none : Option Jvm.ClassFile.FieldType)) ∈ lw_all := lw_g (lw_at lw_m4 99 rfl) rfl
theorem q876 : (Jvm.Cond.constantLong "MendReader$Chart" (162 : Nat) (1152921504606846976 : Int64)) ∈ lw_all := lw_g (lw_at lw_m4 100 rfl) rfl
theorem q877 : (Jvm.Cond.methodLink "MendReader$Chart" (164 : Nat) ({ cls := "MendReader$Step", name := "price", desc := "()I" } : Jvm.MethodName)) ∈ lw_all := lw_g (lw_at lw_m4 101 rfl) rfl
theorem q901 : (Jvm.Cond.methodLink "MendReader$Chart" (167 : Nat) ({ cls := "java/lang/Math", name := "min", desc := "(JJ)J" } : Jvm.MethodName)) ∈ lw_all := lw_g (lw_at lw_m4 125 rfl) rfl
theorem q904 : (Jvm.Cond.methodLink "MendReader$Chart" (74 : Nat) ({ cls := "MendReader$Chart", name := "reading", desc := "()V" } : Jvm.MethodName)) ∈ lw_all := lw_g (lw_at lw_m4 128 rfl) rfl
theorem q905 : (Jvm.Cond.privateMethod ({ cls := "MendReader$Chart", name := "reading", desc := "()V" } : Jvm.MethodName)) ∈ lw_tbl := lw_at lw_m4 129 rfl
theorem q906 : (Jvm.Cond.instanceMethod ({ cls := "MendReader$Chart", name := "reading", desc := "()V" } : Jvm.MethodName)) ∈ lw_all := lw_g (lw_at lw_m4 130 rfl) rfl
theorem q907 : (Jvm.Cond.code ({ cls := "MendReader$Chart", name := "reading", desc := "()V" } : Jvm.MethodName) prog_2_method_8_code (6 : Nat) (Option.none : Option Jvm.ClassFile.FieldType)) ∈ lw_all := lw_g (lw_at lw_m4 131 rfl) rfl
theorem q908 : (Jvm.Cond.methodLink "MendReader$Chart" (176 : Nat) ({ cls := "MendReader$Chart", name := "upTo", desc := "(ILMendReader$Step;)J" } : Jvm.MethodName)) ∈ lw_all := lw_g (lw_at lw_m4 132 rfl) rfl
theorem q909 : (Jvm.Cond.privateMethod ({ cls := "MendReader$Chart", name := "upTo", desc := "(ILMendReader$Step;)J" } : Jvm.MethodName)) ∈ lw_tbl := lw_at lw_m4 133 rfl
theorem q910 : (Jvm.Cond.instanceMethod ({ cls := "MendReader$Chart", name := "upTo", desc := "(ILMendReader$Step;)J" } : Jvm.MethodName)) ∈ lw_all := lw_g (lw_at lw_m4 134 rfl) rfl
theorem q911 : (Jvm.Cond.code ({ cls := "MendReader$Chart", name := "upTo", desc := "(ILMendReader$Step;)J" } : Jvm.MethodName) prog_2_method_7_code (3 : Nat) (Option.some Jvm.ClassFile.FieldType.long)) ∈ lw_all := lw_g (lw_at lw_m4 135 rfl) rfl
theorem q912 : (Jvm.Cond.methodLinkNest "MendReader$Chart" (180 : Nat) ({ cls := "MendReader", name := "priceOf", desc := "(LMendReader$Way;LMendReader$Step;I)I" } : Jvm.MethodName) "MendReader") ∈ lw_tbl := lw_at lw_m4 136 rfl
theorem q918 : (Jvm.Cond.fieldLink "MendReader$Chart" (58 : Nat) "MendReader$Chart" "text" "[I") ∈ lw_all := lw_g (lw_at lw_m4 142 rfl) rfl
theorem q922 : (Jvm.Cond.fieldLink "MendReader$Chart" (65 : Nat) "MendReader$Chart" "n" "I") ∈ lw_all := lw_g (lw_at lw_m4 146 rfl) rfl
theorem q925 : (Jvm.Cond.fieldLink "MendReader$Chart" (61 : Nat) "MendReader$Chart" "way" "LMendReader$Way;") ∈ lw_all := lw_g (lw_at lw_m4 149 rfl) rfl
theorem q928 : (Jvm.Cond.fieldLink "MendReader$Chart" (15 : Nat) "MendReader$Chart" "knot" "[I") ∈ lw_all := lw_g (lw_at lw_m4 152 rfl) rfl
theorem q930 : (Jvm.Cond.fieldLink "MendReader$Chart" (19 : Nat) "MendReader$Chart" "mainOf" "[I") ∈ lw_all := lw_g (lw_at lw_m4 154 rfl) rfl
theorem q932 : (Jvm.Cond.fieldLink "MendReader$Chart" (89 : Nat) "MendReader$Chart" "knots" "I") ∈ lw_all := lw_g (lw_at lw_m4 156 rfl) rfl
theorem q934 : (Jvm.Cond.fieldLink "MendReader$Chart" (25 : Nat) "MendReader$Chart" "steps" "Ljava/util/List;") ∈ lw_all := lw_g (lw_at lw_m4 158 rfl) rfl
theorem q936 : (Jvm.Cond.fieldLink "MendReader$Chart" (31 : Nat) "MendReader$Chart" "skips" "[[LMendReader$Step;") ∈ lw_all := lw_g (lw_at lw_m4 160 rfl) rfl
theorem q938 : (Jvm.Cond.fieldLink "MendReader$Chart" (36 : Nat) "MendReader$Chart" "skipping" "[[J") ∈ lw_all := lw_g (lw_at lw_m4 162 rfl) rfl
theorem q941 : (Jvm.Cond.fieldLink "MendReader$Chart" (43 : Nat) "MendReader$Chart" "read" "[[[J") ∈ lw_all := lw_g (lw_at lw_m4 165 rfl) rfl
theorem q943 : (Jvm.Cond.fieldLink "MendReader$Chart" (49 : Nat) "MendReader$Chart" "tree" "[[[J") ∈ lw_all := lw_g (lw_at lw_m4 167 rfl) rfl
theorem q946 : (Jvm.Cond.fieldLink "MendReader$Chart" (55 : Nat) "MendReader$Chart" "rest" "[[[J") ∈ lw_all := lw_g (lw_at lw_m4 170 rfl) rfl
theorem q947 : (Jvm.Cond.fieldLink "MendReader$Chart" (3 : Nat) "MendReader$Chart" "this$0" "LMendReader;") ∈ lw_all := lw_g (lw_at lw_m4 171 rfl) rfl
theorem q948 : (Jvm.Cond.laysFinal "MendReader$Chart" "MendReader$Chart" "text" "[I") ∈ lw_all := lw_g (lw_at lw_m4 172 rfl) rfl
theorem q949 : (Jvm.Cond.soleField "MendReader$Chart" "text") ∈ lw_all := lw_g (lw_at lw_m4 173 rfl) rfl
theorem q950 : (Jvm.Cond.laysFinal "MendReader$Chart" "MendReader$Chart" "n" "I") ∈ lw_all := lw_g (lw_at lw_m4 174 rfl) rfl
theorem q951 : (Jvm.Cond.soleField "MendReader$Chart" "n") ∈ lw_all := lw_g (lw_at lw_m4 175 rfl) rfl
theorem q952 : (Jvm.Cond.laysFinal "MendReader$Chart" "MendReader$Chart" "way" "LMendReader$Way;") ∈ lw_all := lw_g (lw_at lw_m4 176 rfl) rfl
theorem q953 : (Jvm.Cond.soleField "MendReader$Chart" "way") ∈ lw_all := lw_g (lw_at lw_m4 177 rfl) rfl
theorem q954 : (Jvm.Cond.laysFinal "MendReader$Chart" "MendReader$Chart" "knot" "[I") ∈ lw_all := lw_g (lw_at lw_m4 178 rfl) rfl
theorem q955 : (Jvm.Cond.soleField "MendReader$Chart" "knot") ∈ lw_all := lw_g (lw_at lw_m4 179 rfl) rfl
theorem q956 : (Jvm.Cond.laysFinal "MendReader$Chart" "MendReader$Chart" "mainOf" "[I") ∈ lw_all := lw_g (lw_at lw_m4 180 rfl) rfl
theorem q957 : (Jvm.Cond.soleField "MendReader$Chart" "mainOf") ∈ lw_all := lw_g (lw_at lw_m4 181 rfl) rfl
theorem q958 : (Jvm.Cond.lays "MendReader$Chart" "MendReader$Chart" "knots" "I") ∈ lw_all := lw_g (lw_at lw_m4 182 rfl) rfl
theorem q959 : (Jvm.Cond.soleField "MendReader$Chart" "knots") ∈ lw_all := lw_g (lw_at lw_m4 183 rfl) rfl
theorem q960 : (Jvm.Cond.laysFinal "MendReader$Chart" "MendReader$Chart" "steps" "Ljava/util/List;") ∈ lw_all := lw_g (lw_at lw_m4 184 rfl) rfl
theorem q961 : (Jvm.Cond.soleField "MendReader$Chart" "steps") ∈ lw_all := lw_g (lw_at lw_m4 185 rfl) rfl
theorem q962 : (Jvm.Cond.laysFinal "MendReader$Chart" "MendReader$Chart" "skips" "[[LMendReader$Step;") ∈ lw_all := lw_g (lw_at lw_m4 186 rfl) rfl
theorem q963 : (Jvm.Cond.soleField "MendReader$Chart" "skips") ∈ lw_all := lw_g (lw_at lw_m4 187 rfl) rfl
theorem q964 : (Jvm.Cond.laysFinal "MendReader$Chart" "MendReader$Chart" "skipping" "[[J") ∈ lw_all := lw_g (lw_at lw_m4 188 rfl) rfl
theorem q965 : (Jvm.Cond.soleField "MendReader$Chart" "skipping") ∈ lw_all := lw_g (lw_at lw_m4 189 rfl) rfl
theorem q966 : (Jvm.Cond.laysFinal "MendReader$Chart" "MendReader$Chart" "read" "[[[J") ∈ lw_all := lw_g (lw_at lw_m4 190 rfl) rfl
theorem q967 : (Jvm.Cond.soleField "MendReader$Chart" "read") ∈ lw_all := lw_g (lw_at lw_m4 191 rfl) rfl
theorem q968 : (Jvm.Cond.laysFinal "MendReader$Chart" "MendReader$Chart" "tree" "[[[J") ∈ lw_all := lw_g (lw_at lw_m4 192 rfl) rfl
theorem q969 : (Jvm.Cond.soleField "MendReader$Chart" "tree") ∈ lw_all := lw_g (lw_at lw_m4 193 rfl) rfl
theorem q970 : (Jvm.Cond.laysFinal "MendReader$Chart" "MendReader$Chart" "rest" "[[[J") ∈ lw_all := lw_g (lw_at lw_m4 194 rfl) rfl
theorem q971 : (Jvm.Cond.soleField "MendReader$Chart" "rest") ∈ lw_all := lw_g (lw_at lw_m4 195 rfl) rfl
theorem q972 : (Jvm.Cond.laysFinal "MendReader$Chart" "MendReader$Chart" "this$0" "LMendReader;") ∈ lw_all := lw_g (lw_at lw_m4 196 rfl) rfl
theorem q973 : (Jvm.Cond.soleField "MendReader$Chart" "this$0") ∈ lw_all := lw_g (lw_at lw_m4 197 rfl) rfl
theorem q974 : (Jvm.Cond.superclass "MendReader$Chart" "java/lang/Object") ∈ lw_all := lw_g (lw_at lw_m4 198 rfl) rfl
theorem q976 : (Jvm.Cond.instanceMethod ({ cls := "MendReader$Chart", name := "fill", desc := "()V" } : Jvm.MethodName)) ∈ lw_all := lw_g (lw_at lw_m4 200 rfl) rfl
theorem q977 : (Jvm.Cond.selects "MendReader$Chart" ({ cls := "MendReader$Chart", name := "fill", desc := "()V" } : Jvm.MethodName) ({ cls := "MendReader$Chart", name := "fill", desc := "()V" } : Jvm.MethodName)) ∈ lw_all := lw_g (lw_at lw_m4 201 rfl) rfl
theorem q978 : (Jvm.Cond.code ({ cls := "MendReader$Chart", name := "fill", desc := "()V" } : Jvm.MethodName) prog_2_method_11_code (6 : Nat) (Option.none : Option Jvm.ClassFile.FieldType)) ∈ lw_all := lw_g (lw_at lw_m4 202 rfl) rfl
theorem q979 : (Jvm.Cond.classLink "MendReader$Chart" (191 : Nat) "MendReader$Rule") ∈ lw_all := lw_g (lw_at lw_m4 203 rfl) rfl
theorem q980 : (Jvm.Cond.methodLink "MendReader$Chart" (211 : Nat) ({ cls := "MendReader$Chart", name := "rest", desc := "(LMendReader$Rule;I)[[J" } : Jvm.MethodName)) ∈ lw_all := lw_g (lw_at lw_m4 204 rfl) rfl
theorem q981 : (Jvm.Cond.privateMethod ({ cls := "MendReader$Chart", name := "rest", desc := "(LMendReader$Rule;I)[[J" } : Jvm.MethodName)) ∈ lw_tbl := lw_at lw_m4 205 rfl
theorem q982 : (Jvm.Cond.instanceMethod ({ cls := "MendReader$Chart", name := "rest", desc := "(LMendReader$Rule;I)[[J" } : Jvm.MethodName)) ∈ lw_all := lw_g (lw_at lw_m4 206 rfl) rfl
theorem q983 : (Jvm.Cond.code ({ cls := "MendReader$Chart", name := "rest", desc := "(LMendReader$Rule;I)[[J" } : Jvm.MethodName) prog_2_method_10_code (3 : Nat) (Option.some (Jvm.ClassFile.FieldType.array (Jvm.ClassFile.FieldType.array Jvm.ClassFile.FieldType.long)))) ∈ lw_all := lw_g (lw_at lw_m4 207 rfl) rfl
theorem q984 : (Jvm.Cond.methodLink "MendReader$Chart" (214 : Nat) ({ cls := "MendReader$Chart", name := "lessens", desc := "(LMendReader$Rule;II)Z" } : Jvm.MethodName)) ∈ lw_all := lw_g (lw_at lw_m4 208 rfl) rfl
theorem q985 : (Jvm.Cond.privateMethod ({ cls := "MendReader$Chart", name := "lessens", desc := "(LMendReader$Rule;II)Z" } : Jvm.MethodName)) ∈ lw_tbl := lw_at lw_m4 209 rfl
theorem q986 : (Jvm.Cond.instanceMethod ({ cls := "MendReader$Chart", name := "lessens", desc := "(LMendReader$Rule;II)Z" } : Jvm.MethodName)) ∈ lw_all := lw_g (lw_at lw_m4 210 rfl) rfl
theorem q987 : (Jvm.Cond.code ({ cls := "MendReader$Chart", name := "lessens", desc := "(LMendReader$Rule;II)Z" } : Jvm.MethodName) prog_2_method_12_code (8 : Nat) (Option.some Jvm.ClassFile.FieldType.boolean)) ∈ lw_all := lw_g (lw_at lw_m4 211 rfl) rfl
theorem q988 : (Jvm.Cond.methodLink "MendReader$Chart" (218 : Nat) ({ cls := "MendReader$Chart", name := "symbol", desc := "(LMendReader$Rule;III)J" } : Jvm.MethodName)) ∈ lw_all := lw_g (lw_at lw_m4 212 rfl) rfl
theorem q989 : (Jvm.Cond.privateMethod ({ cls := "MendReader$Chart", name := "symbol", desc := "(LMendReader$Rule;III)J" } : Jvm.MethodName)) ∈ lw_tbl := lw_at lw_m4 213 rfl
theorem q990 : (Jvm.Cond.instanceMethod ({ cls := "MendReader$Chart", name := "symbol", desc := "(LMendReader$Rule;III)J" } : Jvm.MethodName)) ∈ lw_all := lw_g (lw_at lw_m4 214 rfl) rfl
theorem q991 : (Jvm.Cond.code ({ cls := "MendReader$Chart", name := "symbol", desc := "(LMendReader$Rule;III)J" } : Jvm.MethodName) prog_2_method_9_code (7 : Nat) (Option.some Jvm.ClassFile.FieldType.long)) ∈ lw_all := lw_g (lw_at lw_m4 215 rfl) rfl
theorem q992 : (Jvm.Cond.constantLong "MendReader$Chart" (198 : Nat) (16777216 : Int64)) ∈ lw_all := lw_g (lw_at lw_m4 216 rfl) rfl
theorem q1003 : (Jvm.Cond.instanceMethod ({ cls := "MendReader$Chart", name := "best", desc := "()I" } : Jvm.MethodName)) ∈ lw_all := lw_g (lw_at lw_m4 227 rfl) rfl
theorem q1004 : (Jvm.Cond.selects "MendReader$Chart" ({ cls := "MendReader$Chart", name := "best", desc := "()I" } : Jvm.MethodName) ({ cls := "MendReader$Chart", name := "best", desc := "()I" } : Jvm.MethodName)) ∈ lw_all := lw_g (lw_at lw_m4 228 rfl) rfl
theorem q1005 : (Jvm.Cond.code ({ cls := "MendReader$Chart", name := "best", desc := "()I" } : Jvm.MethodName) prog_2_method_13_code (7 : Nat) (Option.some Jvm.ClassFile.FieldType.int)) ∈ lw_all := lw_g (lw_at lw_m4 229 rfl) rfl
theorem q1320 : (Jvm.Cond.instanceMethod ({ cls := "MendReader$Chart", name := "along", desc := "([I)J" } : Jvm.MethodName)) ∈ lw_all := lw_g (lw_at lw_m6 64 rfl) rfl
theorem q1321 : (Jvm.Cond.selects "MendReader$Chart" ({ cls := "MendReader$Chart", name := "along", desc := "([I)J" } : Jvm.MethodName) ({ cls := "MendReader$Chart", name := "along", desc := "([I)J" } : Jvm.MethodName)) ∈ lw_all := lw_g (lw_at lw_m6 65 rfl) rfl
theorem q1322 : (Jvm.Cond.code ({ cls := "MendReader$Chart", name := "along", desc := "([I)J" } : Jvm.MethodName) prog_2_method_14_code (7 : Nat) (Option.some Jvm.ClassFile.FieldType.long)) ∈ lw_all := lw_g (lw_at lw_m6 66 rfl) rfl
theorem q1781 : (Jvm.Cond.castable "MendReader$Chart" "java/lang/Object") ∈ lw_tbl := lw_at lw_m8 45 rfl
theorem in_X7 : ∀ w ∈ wsX70, w ∈ lw_all := lw_in wsX70 [948, 950, 952, 954, 956, 958, 960, 962, 964, 966, 968, 970, 972] (by decide +kernel) (by decide +kernel)
