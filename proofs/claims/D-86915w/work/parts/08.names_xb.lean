/-! MendReader$Step -/
set_option maxRecDepth 100000
def RX8 : String := "MendReader$Step"
def TX8 : u_T := fun k => match k with
  | 0 => ("MendReader$Step", "chart", "LMendReader$Chart;", true)
  | 1 => ("MendReader$Step", "place", "I", true)
  | 2 => ("MendReader$Step", "from", "I", true)
  | 3 => ("MendReader$Step", "to", "I", true)
  | 4 => ("MendReader$Step", "token", "I", true)
  | _ => ("MendReader$Step", "this$0", "LMendReader;", true)
def tyX8 : Nat → FieldType := fun k => match k with
  | 0 => .object "MendReader$Chart"
  | 1 => .int
  | 2 => .int
  | 3 => .int
  | 4 => .int
  | _ => .object "MendReader"
abbrev wsX80 : List Cond := u_ws RX8 TX8 6
theorem nmX8 : ∀ a, a < 6 → ∀ b, b < 6 → a ≠ b → (TX8 a).2.1 ≠ (TX8 b).2.1 := by decide +kernel
theorem tyX8_ok : ∀ k, k < 6 → parseFieldDescriptor (TX8 k).2.2.1 = some (tyX8 k) := by decide +kernel
abbrev cX8_init : ByteArray := prog_12_method_1_code
def yX8_init : MethodName := ⟨RX8, "<init>", "(LMendReader;LMendReader$Chart;IIII)V"⟩
def dkwX8_init_1 : List UInt8 := [181, 0, 21, 42, 21, 5, 181, 0, 24, 42, 21, 6, 181, 0, 27, 177]
abbrev dktX8_init_1 : List UInt8 := dkwX8_init_1 ++ []
def dkwX8_init_0 : List UInt8 := [42, 43, 181, 0, 1, 42, 183, 0, 7, 42, 44, 181, 0, 13, 42, 29, 181, 0, 17, 42, 21, 4]
abbrev dktX8_init_0 : List UInt8 := dkwX8_init_0 ++ dktX8_init_1
theorem dksX8_init_0 : cX8_init.data.toList.drop 0 = dktX8_init_0 := by decide +kernel
theorem dksX8_init_1 : cX8_init.data.toList.drop 22 = dktX8_init_1 := dk_seg dksX8_init_0 22 rfl rfl
theorem dX8_init_0 : decode cX8_init 0 = .ok (.aload_n 0, 1) := dk_42 (dk_at dksX8_init_0 0 rfl rfl)
theorem dX8_init_1 : decode cX8_init 1 = .ok (.aload_n 1, 1) := dk_43 (dk_at dksX8_init_0 1 rfl rfl)
theorem dX8_init_2 : decode cX8_init 2 = .ok (.putfield 1, 3) := dk_181 0 1 (dk_at dksX8_init_0 2 rfl rfl)
theorem dX8_init_5 : decode cX8_init 5 = .ok (.aload_n 0, 1) := dk_42 (dk_at dksX8_init_0 5 rfl rfl)
theorem dX8_init_6 : decode cX8_init 6 = .ok (.invokespecial 7, 3) := dk_183 0 7 (dk_at dksX8_init_0 6 rfl rfl)
theorem dX8_init_9 : decode cX8_init 9 = .ok (.aload_n 0, 1) := dk_42 (dk_at dksX8_init_0 9 rfl rfl)
theorem dX8_init_10 : decode cX8_init 10 = .ok (.aload_n 2, 1) := dk_44 (dk_at dksX8_init_0 10 rfl rfl)
theorem dX8_init_11 : decode cX8_init 11 = .ok (.putfield 13, 3) := dk_181 0 13 (dk_at dksX8_init_0 11 rfl rfl)
theorem dX8_init_14 : decode cX8_init 14 = .ok (.aload_n 0, 1) := dk_42 (dk_at dksX8_init_0 14 rfl rfl)
theorem dX8_init_15 : decode cX8_init 15 = .ok (.iload_n 3, 1) := dk_29 (dk_at dksX8_init_0 15 rfl rfl)
theorem dX8_init_16 : decode cX8_init 16 = .ok (.putfield 17, 3) := dk_181 0 17 (dk_at dksX8_init_0 16 rfl rfl)
theorem dX8_init_19 : decode cX8_init 19 = .ok (.aload_n 0, 1) := dk_42 (dk_at dksX8_init_0 19 rfl rfl)
theorem dX8_init_20 : decode cX8_init 20 = .ok (.iload 4, 2) := dk_21 4 (dk_at dksX8_init_0 20 rfl rfl)
theorem dX8_init_22 : decode cX8_init 22 = .ok (.putfield 21, 3) := dk_181 0 21 (dk_at dksX8_init_1 0 rfl rfl)
theorem dX8_init_25 : decode cX8_init 25 = .ok (.aload_n 0, 1) := dk_42 (dk_at dksX8_init_1 3 rfl rfl)
theorem dX8_init_26 : decode cX8_init 26 = .ok (.iload 5, 2) := dk_21 5 (dk_at dksX8_init_1 4 rfl rfl)
theorem dX8_init_28 : decode cX8_init 28 = .ok (.putfield 24, 3) := dk_181 0 24 (dk_at dksX8_init_1 6 rfl rfl)
theorem dX8_init_31 : decode cX8_init 31 = .ok (.aload_n 0, 1) := dk_42 (dk_at dksX8_init_1 9 rfl rfl)
theorem dX8_init_32 : decode cX8_init 32 = .ok (.iload 6, 2) := dk_21 6 (dk_at dksX8_init_1 10 rfl rfl)
theorem dX8_init_34 : decode cX8_init 34 = .ok (.putfield 27, 3) := dk_181 0 27 (dk_at dksX8_init_1 12 rfl rfl)
theorem dX8_init_37 : decode cX8_init 37 = .ok (.return_, 1) := dk_177 (dk_at dksX8_init_1 15 rfl rfl)
abbrev cX8_kind : ByteArray := prog_12_method_2_code
def yX8_kind : MethodName := ⟨RX8, "kind", "()I"⟩
theorem dX8_kind_0 : decode cX8_kind 0 = .ok (.iconst 0, 1) := by decide +kernel
theorem dX8_kind_1 : decode cX8_kind 1 = .ok (.ireturn, 1) := by decide +kernel
abbrev cX8_touchesFence : ByteArray := prog_12_method_4_code
def yX8_touchesFence : MethodName := ⟨RX8, "touchesFence", "()Z"⟩
theorem dX8_touchesFence_0 : decode cX8_touchesFence 0 = .ok (.iconst 0, 1) := by decide +kernel
theorem dX8_touchesFence_1 : decode cX8_touchesFence 1 = .ok (.ireturn, 1) := by decide +kernel
abbrev cX8_told : ByteArray := prog_12_method_7_code
def yX8_told : MethodName := ⟨RX8, "told", "()I"⟩
theorem dX8_told_0 : decode cX8_told 0 = .ok (.iconst 0, 1) := by decide +kernel
theorem dX8_told_1 : decode cX8_told 1 = .ok (.ireturn, 1) := by decide +kernel
abbrev cX8_first : ByteArray := prog_12_method_5_code
def yX8_first : MethodName := ⟨RX8, "first", "()I"⟩
theorem dX8_first_0 : decode cX8_first 0 = .ok (.aload_n 0, 1) := by decide +kernel
theorem dX8_first_1 : decode cX8_first 1 = .ok (.getfield 17, 3) := by decide +kernel
theorem dX8_first_4 : decode cX8_first 4 = .ok (.ireturn, 1) := by decide +kernel
abbrev cX8_behind : ByteArray := prog_12_method_6_code
def yX8_behind : MethodName := ⟨RX8, "behind", "()I"⟩
theorem dX8_behind_0 : decode cX8_behind 0 = .ok (.aload_n 0, 1) := by decide +kernel
theorem dX8_behind_1 : decode cX8_behind 1 = .ok (.getfield 17, 3) := by decide +kernel
theorem dX8_behind_4 : decode cX8_behind 4 = .ok (.ireturn, 1) := by decide +kernel
abbrev cX8_price : ByteArray := prog_12_method_3_code
def yX8_price : MethodName := ⟨RX8, "price", "()I"⟩
theorem dX8_price_0 : decode cX8_price 0 = .ok (.iconst 0, 1) := by decide +kernel
theorem dX8_price_1 : decode cX8_price 1 = .ok (.ireturn, 1) := by decide +kernel
abbrev cX8_form : ByteArray := prog_12_method_8_code
def yX8_form : MethodName := ⟨RX8, "form", "()I"⟩
theorem dX8_form_0 : decode cX8_form 0 = .ok (.iconst 0, 1) := by decide +kernel
theorem dX8_form_1 : decode cX8_form 1 = .ok (.ireturn, 1) := by decide +kernel
theorem q74 : (Jvm.Cond.initialized "MendReader$Step") ∈ lw_all := lw_g (lw_at lw_m1 18 rfl) rfl
theorem q373 : (Jvm.Cond.selects "MendReader$Step" ({ cls := "java/lang/Object", name := "getClass", desc := "()Ljava/lang/Class;" } : Jvm.MethodName) ({ cls := "java/lang/Object", name := "getClass", desc := "()Ljava/lang/Class;" } : Jvm.MethodName)) ∈ lw_all := lw_g (lw_at lw_m2 77 rfl) rfl
theorem q544 : (Jvm.Cond.instanceMethod ({ cls := "MendReader$Step", name := "<init>", desc := "(LMendReader;LMendReader$Chart;IIII)V" } : Jvm.MethodName)) ∈ lw_all := lw_g (lw_at lw_m3 8 rfl) rfl
theorem q545 : (Jvm.Cond.code ({ cls := "MendReader$Step", name := "<init>", desc := "(LMendReader;LMendReader$Chart;IIII)V" } : Jvm.MethodName) prog_12_method_1_code (7 : Nat) (Option.none : Option Jvm.ClassFile.FieldType)) ∈ lw_all := lw_g (lw_at lw_m3 9 rfl) rfl
theorem q546 : (Jvm.Cond.methodLink "MendReader$Step" (7 : Nat) ({ cls := "java/lang/Object", name := "<init>", desc := "()V" } : Jvm.MethodName)) ∈ lw_all := lw_g (lw_at lw_m3 10 rfl) rfl
theorem q548 : (Jvm.Cond.fieldLink "MendReader$Step" (13 : Nat) "MendReader$Step" "chart" "LMendReader$Chart;") ∈ lw_all := lw_g (lw_at lw_m3 12 rfl) rfl
theorem q555 : (Jvm.Cond.fieldLink "MendReader$Step" (17 : Nat) "MendReader$Step" "place" "I") ∈ lw_all := lw_g (lw_at lw_m3 19 rfl) rfl
theorem q566 : (Jvm.Cond.fieldLink "MendReader$Step" (21 : Nat) "MendReader$Step" "from" "I") ∈ lw_all := lw_g (lw_at lw_m3 30 rfl) rfl
theorem q569 : (Jvm.Cond.fieldLink "MendReader$Step" (24 : Nat) "MendReader$Step" "to" "I") ∈ lw_all := lw_g (lw_at lw_m3 33 rfl) rfl
theorem q572 : (Jvm.Cond.fieldLink "MendReader$Step" (27 : Nat) "MendReader$Step" "token" "I") ∈ lw_all := lw_g (lw_at lw_m3 36 rfl) rfl
theorem q579 : (Jvm.Cond.fieldLink "MendReader$Step" (1 : Nat) "MendReader$Step" "this$0" "LMendReader;") ∈ lw_all := lw_g (lw_at lw_m3 43 rfl) rfl
theorem q583 : (Jvm.Cond.soleField "MendReader$Step" "chart") ∈ lw_all := lw_g (lw_at lw_m3 47 rfl) rfl
theorem q585 : (Jvm.Cond.soleField "MendReader$Step" "place") ∈ lw_all := lw_g (lw_at lw_m3 49 rfl) rfl
theorem q587 : (Jvm.Cond.soleField "MendReader$Step" "from") ∈ lw_all := lw_g (lw_at lw_m3 51 rfl) rfl
theorem q589 : (Jvm.Cond.soleField "MendReader$Step" "to") ∈ lw_all := lw_g (lw_at lw_m3 53 rfl) rfl
theorem q591 : (Jvm.Cond.soleField "MendReader$Step" "token") ∈ lw_all := lw_g (lw_at lw_m3 55 rfl) rfl
theorem q593 : (Jvm.Cond.soleField "MendReader$Step" "this$0") ∈ lw_all := lw_g (lw_at lw_m3 57 rfl) rfl
theorem q604 : (Jvm.Cond.instanceMethod ({ cls := "MendReader$Step", name := "kind", desc := "()I" } : Jvm.MethodName)) ∈ lw_all := lw_g (lw_at lw_m3 68 rfl) rfl
theorem q605 : (Jvm.Cond.selects "MendReader$Step" ({ cls := "MendReader$Step", name := "kind", desc := "()I" } : Jvm.MethodName) ({ cls := "MendReader$Step", name := "kind", desc := "()I" } : Jvm.MethodName)) ∈ lw_all := lw_g (lw_at lw_m3 69 rfl) rfl
theorem q606 : (Jvm.Cond.sameMethod "MendReader$Step" "MendReader$Step" "kind" "()I") ∈ lw_all := lw_g (lw_at lw_m3 70 rfl) rfl
theorem q641 : (Jvm.Cond.code ({ cls := "MendReader$Step", name := "kind", desc := "()I" } : Jvm.MethodName) prog_12_method_2_code (1 : Nat) (Option.some Jvm.ClassFile.FieldType.int)) ∈ lw_all := lw_g (lw_at lw_m3 105 rfl) rfl
theorem q643 : (Jvm.Cond.instanceMethod ({ cls := "MendReader$Step", name := "touchesFence", desc := "()Z" } : Jvm.MethodName)) ∈ lw_all := lw_g (lw_at lw_m3 107 rfl) rfl
theorem q644 : (Jvm.Cond.selects "MendReader$Step" ({ cls := "MendReader$Step", name := "touchesFence", desc := "()Z" } : Jvm.MethodName) ({ cls := "MendReader$Step", name := "touchesFence", desc := "()Z" } : Jvm.MethodName)) ∈ lw_all := lw_g (lw_at lw_m3 108 rfl) rfl
theorem q645 : (Jvm.Cond.sameMethod "MendReader$Step" "MendReader$Step" "touchesFence" "()Z") ∈ lw_all := lw_g (lw_at lw_m3 109 rfl) rfl
theorem q674 : (Jvm.Cond.code ({ cls := "MendReader$Step", name := "touchesFence", desc := "()Z" } : Jvm.MethodName) prog_12_method_4_code (1 : Nat) (Option.some Jvm.ClassFile.FieldType.boolean)) ∈ lw_all := lw_g (lw_at lw_m3 138 rfl) rfl
theorem q681 : (Jvm.Cond.instanceMethod ({ cls := "MendReader$Step", name := "told", desc := "()I" } : Jvm.MethodName)) ∈ lw_all := lw_g (lw_at lw_m3 145 rfl) rfl
theorem q682 : (Jvm.Cond.selects "MendReader$Step" ({ cls := "MendReader$Step", name := "told", desc := "()I" } : Jvm.MethodName) ({ cls := "MendReader$Step", name := "told", desc := "()I" } : Jvm.MethodName)) ∈ lw_all := lw_g (lw_at lw_m3 146 rfl) rfl
theorem q683 : (Jvm.Cond.sameMethod "MendReader$Step" "MendReader$Step" "told" "()I") ∈ lw_all := lw_g (lw_at lw_m3 147 rfl) rfl
theorem q701 : (Jvm.Cond.code ({ cls := "MendReader$Step", name := "told", desc := "()I" } : Jvm.MethodName) prog_12_method_7_code (1 : Nat) (Option.some Jvm.ClassFile.FieldType.int)) ∈ lw_all := lw_g (lw_at lw_m3 165 rfl) rfl
theorem q703 : (Jvm.Cond.instanceMethod ({ cls := "MendReader$Step", name := "first", desc := "()I" } : Jvm.MethodName)) ∈ lw_all := lw_g (lw_at lw_m3 167 rfl) rfl
theorem q704 : (Jvm.Cond.selects "MendReader$Step" ({ cls := "MendReader$Step", name := "first", desc := "()I" } : Jvm.MethodName) ({ cls := "MendReader$Step", name := "first", desc := "()I" } : Jvm.MethodName)) ∈ lw_all := lw_g (lw_at lw_m3 168 rfl) rfl
theorem q705 : (Jvm.Cond.sameMethod "MendReader$Step" "MendReader$Step" "first" "()I") ∈ lw_all := lw_g (lw_at lw_m3 169 rfl) rfl
theorem q713 : (Jvm.Cond.code ({ cls := "MendReader$Step", name := "first", desc := "()I" } : Jvm.MethodName) prog_12_method_5_code (1 : Nat) (Option.some Jvm.ClassFile.FieldType.int)) ∈ lw_all := lw_g (lw_at lw_m3 177 rfl) rfl
theorem q715 : (Jvm.Cond.instanceMethod ({ cls := "MendReader$Step", name := "behind", desc := "()I" } : Jvm.MethodName)) ∈ lw_all := lw_g (lw_at lw_m3 179 rfl) rfl
theorem q716 : (Jvm.Cond.selects "MendReader$Step" ({ cls := "MendReader$Step", name := "behind", desc := "()I" } : Jvm.MethodName) ({ cls := "MendReader$Step", name := "behind", desc := "()I" } : Jvm.MethodName)) ∈ lw_all := lw_g (lw_at lw_m3 180 rfl) rfl
theorem q717 : (Jvm.Cond.sameMethod "MendReader$Step" "MendReader$Step" "behind" "()I") ∈ lw_all := lw_g (lw_at lw_m3 181 rfl) rfl
theorem q739 : (Jvm.Cond.code ({ cls := "MendReader$Step", name := "behind", desc := "()I" } : Jvm.MethodName) prog_12_method_6_code (1 : Nat) (Option.some Jvm.ClassFile.FieldType.int)) ∈ lw_all := lw_g (lw_at lw_m3 203 rfl) rfl
theorem q747 : (Jvm.Cond.instantiable "MendReader$Step" (6 : Nat)) ∈ lw_all := lw_g (lw_at lw_m3 211 rfl) rfl
theorem q749 : (Jvm.Cond.laysFinal "MendReader$Step" "MendReader$Step" "chart" "LMendReader$Chart;") ∈ lw_all := lw_g (lw_at lw_m3 213 rfl) rfl
theorem q750 : (Jvm.Cond.laysFinal "MendReader$Step" "MendReader$Step" "place" "I") ∈ lw_all := lw_g (lw_at lw_m3 214 rfl) rfl
theorem q751 : (Jvm.Cond.laysFinal "MendReader$Step" "MendReader$Step" "from" "I") ∈ lw_all := lw_g (lw_at lw_m3 215 rfl) rfl
theorem q752 : (Jvm.Cond.laysFinal "MendReader$Step" "MendReader$Step" "to" "I") ∈ lw_all := lw_g (lw_at lw_m3 216 rfl) rfl
theorem q753 : (Jvm.Cond.laysFinal "MendReader$Step" "MendReader$Step" "token" "I") ∈ lw_all := lw_g (lw_at lw_m3 217 rfl) rfl
theorem q754 : (Jvm.Cond.laysFinal "MendReader$Step" "MendReader$Step" "this$0" "LMendReader;") ∈ lw_all := lw_g (lw_at lw_m3 218 rfl) rfl
theorem q755 : (Jvm.Cond.superclass "MendReader$Step" "java/lang/Object") ∈ lw_all := lw_g (lw_at lw_m3 219 rfl) rfl
theorem q878 : (Jvm.Cond.instanceMethod ({ cls := "MendReader$Step", name := "price", desc := "()I" } : Jvm.MethodName)) ∈ lw_all := lw_g (lw_at lw_m4 102 rfl) rfl
theorem q879 : (Jvm.Cond.selects "MendReader$Step" ({ cls := "MendReader$Step", name := "price", desc := "()I" } : Jvm.MethodName) ({ cls := "MendReader$Step", name := "price", desc := "()I" } : Jvm.MethodName)) ∈ lw_all := lw_g (lw_at lw_m4 103 rfl) rfl
theorem q880 : (Jvm.Cond.sameMethod "MendReader$Step" "MendReader$Step" "price" "()I") ∈ lw_all := lw_g (lw_at lw_m4 104 rfl) rfl
theorem q900 : (Jvm.Cond.code ({ cls := "MendReader$Step", name := "price", desc := "()I" } : Jvm.MethodName) prog_12_method_3_code (1 : Nat) (Option.some Jvm.ClassFile.FieldType.int)) ∈ lw_all := lw_g (lw_at lw_m4 124 rfl) rfl
theorem q1044 : (Jvm.Cond.instanceMethod ({ cls := "MendReader$Step", name := "form", desc := "()I" } : Jvm.MethodName)) ∈ lw_all := lw_g (lw_at lw_m5 28 rfl) rfl
theorem q1045 : (Jvm.Cond.selects "MendReader$Step" ({ cls := "MendReader$Step", name := "form", desc := "()I" } : Jvm.MethodName) ({ cls := "MendReader$Step", name := "form", desc := "()I" } : Jvm.MethodName)) ∈ lw_all := lw_g (lw_at lw_m5 29 rfl) rfl
theorem q1046 : (Jvm.Cond.sameMethod "MendReader$Step" "MendReader$Step" "form" "()I") ∈ lw_all := lw_g (lw_at lw_m5 30 rfl) rfl
theorem q1056 : (Jvm.Cond.code ({ cls := "MendReader$Step", name := "form", desc := "()I" } : Jvm.MethodName) prog_12_method_8_code (1 : Nat) (Option.some Jvm.ClassFile.FieldType.int)) ∈ lw_all := lw_g (lw_at lw_m5 40 rfl) rfl
theorem q1772 : (Jvm.Cond.castable "MendReader$Step" "java/lang/Object") ∈ lw_tbl := lw_at lw_m8 36 rfl
theorem in_X8 : ∀ w ∈ wsX80, w ∈ lw_all := lw_in wsX80 [749, 750, 751, 752, 753, 754] (by decide +kernel) (by decide +kernel)
/-! MendReader$Lost -/
set_option maxRecDepth 100000
def RX9 : String := "MendReader$Lost"
def TX9 : u_T := fun k => match k with
  | 0 => ("MendReader$Step", "chart", "LMendReader$Chart;", true)
  | 1 => ("MendReader$Step", "place", "I", true)
  | 2 => ("MendReader$Step", "from", "I", true)
  | 3 => ("MendReader$Step", "to", "I", true)
  | 4 => ("MendReader$Step", "token", "I", true)
  | 5 => ("MendReader$Step", "this$0", "LMendReader;", true)
  | _ => ("MendReader$Lost", "this$0", "LMendReader;", true)
def tyX9 : Nat → FieldType := fun k => match k with
  | 0 => .object "MendReader$Chart"
  | 1 => .int
  | 2 => .int
  | 3 => .int
  | 4 => .int
  | 5 => .object "MendReader"
  | _ => .object "MendReader"
abbrev wsX90 : List Cond := u_ws RX9 TX9 7
-- two fields of one name: no nmX9
theorem tyX9_ok : ∀ k, k < 7 → parseFieldDescriptor (TX9 k).2.2.1 = some (tyX9 k) := by decide +kernel
abbrev cX9_init : ByteArray := prog_5_method_1_code
def yX9_init : MethodName := ⟨RX9, "<init>", "(LMendReader;LMendReader$Chart;IIII)V"⟩
def dkwX9_init_0 : List UInt8 := [42, 43, 181, 0, 1, 42, 43, 44, 29, 21, 4, 21, 5, 21, 6, 183, 0, 7, 177]
abbrev dktX9_init_0 : List UInt8 := dkwX9_init_0 ++ []
theorem dksX9_init_0 : cX9_init.data.toList.drop 0 = dktX9_init_0 := by decide +kernel
theorem dX9_init_0 : decode cX9_init 0 = .ok (.aload_n 0, 1) := dk_42 (dk_at dksX9_init_0 0 rfl rfl)
theorem dX9_init_1 : decode cX9_init 1 = .ok (.aload_n 1, 1) := dk_43 (dk_at dksX9_init_0 1 rfl rfl)
theorem dX9_init_2 : decode cX9_init 2 = .ok (.putfield 1, 3) := dk_181 0 1 (dk_at dksX9_init_0 2 rfl rfl)
theorem dX9_init_5 : decode cX9_init 5 = .ok (.aload_n 0, 1) := dk_42 (dk_at dksX9_init_0 5 rfl rfl)
theorem dX9_init_6 : decode cX9_init 6 = .ok (.aload_n 1, 1) := dk_43 (dk_at dksX9_init_0 6 rfl rfl)
theorem dX9_init_7 : decode cX9_init 7 = .ok (.aload_n 2, 1) := dk_44 (dk_at dksX9_init_0 7 rfl rfl)
theorem dX9_init_8 : decode cX9_init 8 = .ok (.iload_n 3, 1) := dk_29 (dk_at dksX9_init_0 8 rfl rfl)
theorem dX9_init_9 : decode cX9_init 9 = .ok (.iload 4, 2) := dk_21 4 (dk_at dksX9_init_0 9 rfl rfl)
theorem dX9_init_11 : decode cX9_init 11 = .ok (.iload 5, 2) := dk_21 5 (dk_at dksX9_init_0 11 rfl rfl)
theorem dX9_init_13 : decode cX9_init 13 = .ok (.iload 6, 2) := dk_21 6 (dk_at dksX9_init_0 13 rfl rfl)
theorem dX9_init_15 : decode cX9_init 15 = .ok (.invokespecial 7, 3) := dk_183 0 7 (dk_at dksX9_init_0 15 rfl rfl)
theorem dX9_init_18 : decode cX9_init 18 = .ok (.return_, 1) := dk_177 (dk_at dksX9_init_0 18 rfl rfl)
abbrev cX9_kind : ByteArray := prog_5_method_2_code
def yX9_kind : MethodName := ⟨RX9, "kind", "()I"⟩
def dkwX9_kind_0 : List UInt8 := [42, 183, 0, 13, 4, 96, 172]
abbrev dktX9_kind_0 : List UInt8 := dkwX9_kind_0 ++ []
theorem dksX9_kind_0 : cX9_kind.data.toList.drop 0 = dktX9_kind_0 := by decide +kernel
theorem dX9_kind_0 : decode cX9_kind 0 = .ok (.aload_n 0, 1) := dk_42 (dk_at dksX9_kind_0 0 rfl rfl)
theorem dX9_kind_1 : decode cX9_kind 1 = .ok (.invokespecial 13, 3) := dk_183 0 13 (dk_at dksX9_kind_0 1 rfl rfl)
theorem dX9_kind_4 : decode cX9_kind 4 = .ok (.iconst 1, 1) := dk_4 (dk_at dksX9_kind_0 4 rfl rfl)
theorem dX9_kind_5 : decode cX9_kind 5 = .ok (.iadd, 1) := dk_96 (dk_at dksX9_kind_0 5 rfl rfl)
theorem dX9_kind_6 : decode cX9_kind 6 = .ok (.ireturn, 1) := dk_172 (dk_at dksX9_kind_0 6 rfl rfl)
abbrev cX9_touchesFence : ByteArray := prog_5_method_4_code
def yX9_touchesFence : MethodName := ⟨RX9, "touchesFence", "()Z"⟩
def dkwX9_touchesFence_0 : List UInt8 := [42, 180, 0, 1, 180, 0, 27, 42, 180, 0, 23, 51, 172]
abbrev dktX9_touchesFence_0 : List UInt8 := dkwX9_touchesFence_0 ++ []
theorem dksX9_touchesFence_0 : cX9_touchesFence.data.toList.drop 0 = dktX9_touchesFence_0 := by decide +kernel
theorem dX9_touchesFence_0 : decode cX9_touchesFence 0 = .ok (.aload_n 0, 1) := dk_42 (dk_at dksX9_touchesFence_0 0 rfl rfl)
theorem dX9_touchesFence_1 : decode cX9_touchesFence 1 = .ok (.getfield 1, 3) := dk_180 0 1 (dk_at dksX9_touchesFence_0 1 rfl rfl)
theorem dX9_touchesFence_4 : decode cX9_touchesFence 4 = .ok (.getfield 27, 3) := dk_180 0 27 (dk_at dksX9_touchesFence_0 4 rfl rfl)
theorem dX9_touchesFence_7 : decode cX9_touchesFence 7 = .ok (.aload_n 0, 1) := dk_42 (dk_at dksX9_touchesFence_0 7 rfl rfl)
theorem dX9_touchesFence_8 : decode cX9_touchesFence 8 = .ok (.getfield 23, 3) := dk_180 0 23 (dk_at dksX9_touchesFence_0 8 rfl rfl)
theorem dX9_touchesFence_11 : decode cX9_touchesFence 11 = .ok (.baload, 1) := dk_51 (dk_at dksX9_touchesFence_0 11 rfl rfl)
theorem dX9_touchesFence_12 : decode cX9_touchesFence 12 = .ok (.ireturn, 1) := dk_172 (dk_at dksX9_touchesFence_0 12 rfl rfl)
abbrev cX9_told : ByteArray := prog_5_method_5_code
def yX9_told : MethodName := ⟨RX9, "told", "()I"⟩
theorem dX9_told_0 : decode cX9_told 0 = .ok (.aload_n 0, 1) := by decide +kernel
theorem dX9_told_1 : decode cX9_told 1 = .ok (.getfield 23, 3) := by decide +kernel
theorem dX9_told_4 : decode cX9_told 4 = .ok (.ireturn, 1) := by decide +kernel
abbrev cX9_price : ByteArray := prog_5_method_3_code
def yX9_price : MethodName := ⟨RX9, "price", "()I"⟩
def dkwX9_price_0 : List UInt8 := [42, 180, 0, 1, 180, 0, 17, 3, 50, 42, 180, 0, 23, 46, 172]
abbrev dktX9_price_0 : List UInt8 := dkwX9_price_0 ++ []
theorem dksX9_price_0 : cX9_price.data.toList.drop 0 = dktX9_price_0 := by decide +kernel
theorem dX9_price_0 : decode cX9_price 0 = .ok (.aload_n 0, 1) := dk_42 (dk_at dksX9_price_0 0 rfl rfl)
theorem dX9_price_1 : decode cX9_price 1 = .ok (.getfield 1, 3) := dk_180 0 1 (dk_at dksX9_price_0 1 rfl rfl)
theorem dX9_price_4 : decode cX9_price 4 = .ok (.getfield 17, 3) := dk_180 0 17 (dk_at dksX9_price_0 4 rfl rfl)
theorem dX9_price_7 : decode cX9_price 7 = .ok (.iconst 0, 1) := dk_3 (dk_at dksX9_price_0 7 rfl rfl)
theorem dX9_price_8 : decode cX9_price 8 = .ok (.aaload, 1) := dk_50 (dk_at dksX9_price_0 8 rfl rfl)
theorem dX9_price_9 : decode cX9_price 9 = .ok (.aload_n 0, 1) := dk_42 (dk_at dksX9_price_0 9 rfl rfl)
theorem dX9_price_10 : decode cX9_price 10 = .ok (.getfield 23, 3) := dk_180 0 23 (dk_at dksX9_price_0 10 rfl rfl)
theorem dX9_price_13 : decode cX9_price 13 = .ok (.iaload, 1) := dk_46 (dk_at dksX9_price_0 13 rfl rfl)
theorem dX9_price_14 : decode cX9_price 14 = .ok (.ireturn, 1) := dk_172 (dk_at dksX9_price_0 14 rfl rfl)
theorem q75 : (Jvm.Cond.initialized "MendReader$Lost") ∈ lw_all := lw_g (lw_at lw_m1 19 rfl) rfl
theorem q170 : (Jvm.Cond.fieldLinkNest "MendReader$Lost" (27 : Nat) "MendReader" "isFence" "[Z" "MendReader") ∈ lw_tbl := lw_at lw_m1 114 rfl
theorem q176 : (Jvm.Cond.fieldLinkNest "MendReader$Lost" (17 : Nat) "MendReader" "prices" "[[I" "MendReader") ∈ lw_tbl := lw_at lw_m1 120 rfl
theorem q366 : (Jvm.Cond.selects "MendReader$Lost" ({ cls := "java/lang/Object", name := "getClass", desc := "()Ljava/lang/Class;" } : Jvm.MethodName) ({ cls := "java/lang/Object", name := "getClass", desc := "()Ljava/lang/Class;" } : Jvm.MethodName)) ∈ lw_all := lw_g (lw_at lw_m2 70 rfl) rfl
theorem q539 : (Jvm.Cond.instantiable "MendReader$Lost" (7 : Nat)) ∈ lw_all := lw_g (lw_at lw_m3 3 rfl) rfl
theorem q541 : (Jvm.Cond.instanceMethod ({ cls := "MendReader$Lost", name := "<init>", desc := "(LMendReader;LMendReader$Chart;IIII)V" } : Jvm.MethodName)) ∈ lw_all := lw_g (lw_at lw_m3 5 rfl) rfl
theorem q542 : (Jvm.Cond.code ({ cls := "MendReader$Lost", name := "<init>", desc := "(LMendReader;LMendReader$Chart;IIII)V" } : Jvm.MethodName) prog_5_method_1_code (7 : Nat) (Option.none : Option Jvm.ClassFile.FieldType)) ∈ lw_all := lw_g (lw_at lw_m3 6 rfl) rfl
theorem q543 : (Jvm.Cond.methodLink "MendReader$Lost" (7 : Nat) ({ cls := "MendReader$Step", name := "<init>", desc := "(LMendReader;LMendReader$Chart;IIII)V" } : Jvm.MethodName)) ∈ lw_all := lw_g (lw_at lw_m3 7 rfl) rfl
theorem q547 : (Jvm.Cond.fieldLink "MendReader$Lost" (1 : Nat) "MendReader$Lost" "this$0" "LMendReader;") ∈ lw_all := lw_g (lw_at lw_m3 11 rfl) rfl
theorem q575 : (Jvm.Cond.fieldLink "MendReader$Lost" (23 : Nat) "MendReader$Lost" "token" "I") ∈ lw_all := lw_g (lw_at lw_m3 39 rfl) rfl
theorem q576 : (Jvm.Cond.sameField "MendReader$Lost" "MendReader$Step" "token" "I") ∈ lw_all := lw_g (lw_at lw_m3 40 rfl) rfl
theorem q580 : (Jvm.Cond.laysFinal "MendReader$Lost" "MendReader$Lost" "this$0" "LMendReader;") ∈ lw_all := lw_g (lw_at lw_m3 44 rfl) rfl
theorem q581 : (Jvm.Cond.soleField "MendReader$Lost" "this$0") ∈ lw_all := lw_g (lw_at lw_m3 45 rfl) rfl
theorem q582 : (Jvm.Cond.laysFinal "MendReader$Lost" "MendReader$Step" "chart" "LMendReader$Chart;") ∈ lw_all := lw_g (lw_at lw_m3 46 rfl) rfl
theorem q584 : (Jvm.Cond.laysFinal "MendReader$Lost" "MendReader$Step" "place" "I") ∈ lw_all := lw_g (lw_at lw_m3 48 rfl) rfl
theorem q586 : (Jvm.Cond.laysFinal "MendReader$Lost" "MendReader$Step" "from" "I") ∈ lw_all := lw_g (lw_at lw_m3 50 rfl) rfl
theorem q588 : (Jvm.Cond.laysFinal "MendReader$Lost" "MendReader$Step" "to" "I") ∈ lw_all := lw_g (lw_at lw_m3 52 rfl) rfl
theorem q590 : (Jvm.Cond.laysFinal "MendReader$Lost" "MendReader$Step" "token" "I") ∈ lw_all := lw_g (lw_at lw_m3 54 rfl) rfl
theorem q592 : (Jvm.Cond.laysFinal "MendReader$Lost" "MendReader$Step" "this$0" "LMendReader;") ∈ lw_all := lw_g (lw_at lw_m3 56 rfl) rfl
theorem q594 : (Jvm.Cond.superclass "MendReader$Lost" "MendReader$Step") ∈ lw_all := lw_g (lw_at lw_m3 58 rfl) rfl
theorem q612 : (Jvm.Cond.instanceMethod ({ cls := "MendReader$Lost", name := "kind", desc := "()I" } : Jvm.MethodName)) ∈ lw_all := lw_g (lw_at lw_m3 76 rfl) rfl
theorem q613 : (Jvm.Cond.code ({ cls := "MendReader$Lost", name := "kind", desc := "()I" } : Jvm.MethodName) prog_5_method_2_code (1 : Nat) (Option.some Jvm.ClassFile.FieldType.int)) ∈ lw_all := lw_g (lw_at lw_m3 77 rfl) rfl
theorem q614 : (Jvm.Cond.methodLink "MendReader$Lost" (13 : Nat) ({ cls := "MendReader$Step", name := "kind", desc := "()I" } : Jvm.MethodName)) ∈ lw_all := lw_g (lw_at lw_m3 78 rfl) rfl
theorem q615 : (Jvm.Cond.selects "MendReader$Lost" ({ cls := "MendReader$Step", name := "kind", desc := "()I" } : Jvm.MethodName) ({ cls := "MendReader$Lost", name := "kind", desc := "()I" } : Jvm.MethodName)) ∈ lw_all := lw_g (lw_at lw_m3 79 rfl) rfl
theorem q647 : (Jvm.Cond.instanceMethod ({ cls := "MendReader$Lost", name := "touchesFence", desc := "()Z" } : Jvm.MethodName)) ∈ lw_all := lw_g (lw_at lw_m3 111 rfl) rfl
theorem q648 : (Jvm.Cond.code ({ cls := "MendReader$Lost", name := "touchesFence", desc := "()Z" } : Jvm.MethodName) prog_5_method_4_code (1 : Nat) (Option.some Jvm.ClassFile.FieldType.boolean)) ∈ lw_all := lw_g (lw_at lw_m3 112 rfl) rfl
theorem q649 : (Jvm.Cond.selects "MendReader$Lost" ({ cls := "MendReader$Step", name := "touchesFence", desc := "()Z" } : Jvm.MethodName) ({ cls := "MendReader$Lost", name := "touchesFence", desc := "()Z" } : Jvm.MethodName)) ∈ lw_all := lw_g (lw_at lw_m3 113 rfl) rfl
theorem q671 : (Jvm.Cond.declares ({ cls := "MendReader$Lost", name := "touchesFence", desc := "()Z" } : Jvm.MethodName)) ∈ lw_tbl := lw_at lw_m3 135 rfl
theorem q687 : (Jvm.Cond.selects "MendReader$Lost" ({ cls := "MendReader$Step", name := "told", desc := "()I" } : Jvm.MethodName) ({ cls := "MendReader$Lost", name := "told", desc := "()I" } : Jvm.MethodName)) ∈ lw_all := lw_g (lw_at lw_m3 151 rfl) rfl
theorem q688 : (Jvm.Cond.instanceMethod ({ cls := "MendReader$Lost", name := "told", desc := "()I" } : Jvm.MethodName)) ∈ lw_all := lw_g (lw_at lw_m3 152 rfl) rfl
theorem q689 : (Jvm.Cond.code ({ cls := "MendReader$Lost", name := "told", desc := "()I" } : Jvm.MethodName) prog_5_method_5_code (1 : Nat) (Option.some Jvm.ClassFile.FieldType.int)) ∈ lw_all := lw_g (lw_at lw_m3 153 rfl) rfl
theorem q707 : (Jvm.Cond.selects "MendReader$Lost" ({ cls := "MendReader$Step", name := "first", desc := "()I" } : Jvm.MethodName) ({ cls := "MendReader$Step", name := "first", desc := "()I" } : Jvm.MethodName)) ∈ lw_all := lw_g (lw_at lw_m3 171 rfl) rfl
theorem q721 : (Jvm.Cond.selects "MendReader$Lost" ({ cls := "MendReader$Step", name := "behind", desc := "()I" } : Jvm.MethodName) ({ cls := "MendReader$Step", name := "behind", desc := "()I" } : Jvm.MethodName)) ∈ lw_all := lw_g (lw_at lw_m3 185 rfl) rfl
theorem q884 : (Jvm.Cond.selects "MendReader$Lost" ({ cls := "MendReader$Step", name := "price", desc := "()I" } : Jvm.MethodName) ({ cls := "MendReader$Lost", name := "price", desc := "()I" } : Jvm.MethodName)) ∈ lw_all := lw_g (lw_at lw_m4 108 rfl) rfl
theorem q885 : (Jvm.Cond.instanceMethod ({ cls := "MendReader$Lost", name := "price", desc := "()I" } : Jvm.MethodName)) ∈ lw_all := lw_g (lw_at lw_m4 109 rfl) rfl
theorem q886 : (Jvm.Cond.code ({ cls := "MendReader$Lost", name := "price", desc := "()I" } : Jvm.MethodName) prog_5_method_3_code (1 : Nat) (Option.some Jvm.ClassFile.FieldType.int)) ∈ lw_all := lw_g (lw_at lw_m4 110 rfl) rfl
theorem q1048 : (Jvm.Cond.selects "MendReader$Lost" ({ cls := "MendReader$Step", name := "form", desc := "()I" } : Jvm.MethodName) ({ cls := "MendReader$Step", name := "form", desc := "()I" } : Jvm.MethodName)) ∈ lw_all := lw_g (lw_at lw_m5 32 rfl) rfl
theorem q1755 : (Jvm.Cond.sameMethod "MendReader$Lost" "MendReader$Lost" "kind" "()I") ∈ lw_all := lw_g (lw_at lw_m8 19 rfl) rfl
theorem q1759 : (Jvm.Cond.sameMethod "MendReader$Lost" "MendReader$Lost" "touchesFence" "()Z") ∈ lw_all := lw_g (lw_at lw_m8 23 rfl) rfl
theorem q1765 : (Jvm.Cond.castable "MendReader$Lost" "MendReader$Step") ∈ lw_tbl := lw_at lw_m8 29 rfl
theorem q1782 : (Jvm.Cond.castable "MendReader$Lost" "java/lang/Object") ∈ lw_tbl := lw_at lw_m8 46 rfl
theorem in_X9 : ∀ w ∈ wsX90, w ∈ lw_all := lw_in wsX90 [582, 584, 586, 588, 590, 592, 580] (by decide +kernel) (by decide +kernel)
/-! MendReader$Other -/
set_option maxRecDepth 100000
def RX10 : String := "MendReader$Other"
def TX10 : u_T := fun k => match k with
  | 0 => ("MendReader$Step", "chart", "LMendReader$Chart;", true)
  | 1 => ("MendReader$Step", "place", "I", true)
  | 2 => ("MendReader$Step", "from", "I", true)
  | 3 => ("MendReader$Step", "to", "I", true)
  | 4 => ("MendReader$Step", "token", "I", true)
  | 5 => ("MendReader$Step", "this$0", "LMendReader;", true)
  | 6 => ("MendReader$Lost", "this$0", "LMendReader;", true)
  | _ => ("MendReader$Other", "this$0", "LMendReader;", true)
def tyX10 : Nat → FieldType := fun k => match k with
  | 0 => .object "MendReader$Chart"
  | 1 => .int
  | 2 => .int
  | 3 => .int
  | 4 => .int
  | 5 => .object "MendReader"
  | 6 => .object "MendReader"
  | _ => .object "MendReader"
abbrev wsX100 : List Cond := u_ws RX10 TX10 8
-- two fields of one name: no nmX10
theorem tyX10_ok : ∀ k, k < 8 → parseFieldDescriptor (TX10 k).2.2.1 = some (tyX10 k) := by decide +kernel
abbrev cX10_kind : ByteArray := prog_6_method_2_code
def yX10_kind : MethodName := ⟨RX10, "kind", "()I"⟩
def dkwX10_kind_0 : List UInt8 := [42, 183, 0, 13, 4, 96, 172]
abbrev dktX10_kind_0 : List UInt8 := dkwX10_kind_0 ++ []
theorem dksX10_kind_0 : cX10_kind.data.toList.drop 0 = dktX10_kind_0 := by decide +kernel
theorem dX10_kind_0 : decode cX10_kind 0 = .ok (.aload_n 0, 1) := dk_42 (dk_at dksX10_kind_0 0 rfl rfl)
theorem dX10_kind_1 : decode cX10_kind 1 = .ok (.invokespecial 13, 3) := dk_183 0 13 (dk_at dksX10_kind_0 1 rfl rfl)
theorem dX10_kind_4 : decode cX10_kind 4 = .ok (.iconst 1, 1) := dk_4 (dk_at dksX10_kind_0 4 rfl rfl)
theorem dX10_kind_5 : decode cX10_kind 5 = .ok (.iadd, 1) := dk_96 (dk_at dksX10_kind_0 5 rfl rfl)
theorem dX10_kind_6 : decode cX10_kind 6 = .ok (.ireturn, 1) := dk_172 (dk_at dksX10_kind_0 6 rfl rfl)
abbrev cX10_touchesFence : ByteArray := prog_6_method_4_code
def yX10_touchesFence : MethodName := ⟨RX10, "touchesFence", "()Z"⟩
def dkwX10_touchesFence_1 : List UInt8 := [180, 0, 33, 46, 51, 153, 0, 7, 4, 167, 0, 4, 3, 172]
abbrev dktX10_touchesFence_1 : List UInt8 := dkwX10_touchesFence_1 ++ []
def dkwX10_touchesFence_0 : List UInt8 := [42, 183, 0, 37, 154, 0, 26, 42, 180, 0, 1, 180, 0, 41, 42, 180, 0, 23, 180, 0, 27, 42]
abbrev dktX10_touchesFence_0 : List UInt8 := dkwX10_touchesFence_0 ++ dktX10_touchesFence_1
theorem dksX10_touchesFence_0 : cX10_touchesFence.data.toList.drop 0 = dktX10_touchesFence_0 := by decide +kernel
theorem dksX10_touchesFence_1 : cX10_touchesFence.data.toList.drop 22 = dktX10_touchesFence_1 := dk_seg dksX10_touchesFence_0 22 rfl rfl
theorem dX10_touchesFence_0 : decode cX10_touchesFence 0 = .ok (.aload_n 0, 1) := dk_42 (dk_at dksX10_touchesFence_0 0 rfl rfl)
theorem dX10_touchesFence_1 : decode cX10_touchesFence 1 = .ok (.invokespecial 37, 3) := dk_183 0 37 (dk_at dksX10_touchesFence_0 1 rfl rfl)
theorem dX10_touchesFence_4 : decode cX10_touchesFence 4 = .ok (.ifCond .ne 26, 3) := dk_154 0 26 (dk_at dksX10_touchesFence_0 4 rfl rfl)
theorem dX10_touchesFence_7 : decode cX10_touchesFence 7 = .ok (.aload_n 0, 1) := dk_42 (dk_at dksX10_touchesFence_0 7 rfl rfl)
theorem dX10_touchesFence_8 : decode cX10_touchesFence 8 = .ok (.getfield 1, 3) := dk_180 0 1 (dk_at dksX10_touchesFence_0 8 rfl rfl)
theorem dX10_touchesFence_11 : decode cX10_touchesFence 11 = .ok (.getfield 41, 3) := dk_180 0 41 (dk_at dksX10_touchesFence_0 11 rfl rfl)
theorem dX10_touchesFence_14 : decode cX10_touchesFence 14 = .ok (.aload_n 0, 1) := dk_42 (dk_at dksX10_touchesFence_0 14 rfl rfl)
theorem dX10_touchesFence_15 : decode cX10_touchesFence 15 = .ok (.getfield 23, 3) := dk_180 0 23 (dk_at dksX10_touchesFence_0 15 rfl rfl)
theorem dX10_touchesFence_18 : decode cX10_touchesFence 18 = .ok (.getfield 27, 3) := dk_180 0 27 (dk_at dksX10_touchesFence_0 18 rfl rfl)
theorem dX10_touchesFence_21 : decode cX10_touchesFence 21 = .ok (.aload_n 0, 1) := dk_42 (dk_at dksX10_touchesFence_0 21 rfl rfl)
theorem dX10_touchesFence_22 : decode cX10_touchesFence 22 = .ok (.getfield 33, 3) := dk_180 0 33 (dk_at dksX10_touchesFence_1 0 rfl rfl)
theorem dX10_touchesFence_25 : decode cX10_touchesFence 25 = .ok (.iaload, 1) := dk_46 (dk_at dksX10_touchesFence_1 3 rfl rfl)
theorem dX10_touchesFence_26 : decode cX10_touchesFence 26 = .ok (.baload, 1) := dk_51 (dk_at dksX10_touchesFence_1 4 rfl rfl)
theorem dX10_touchesFence_27 : decode cX10_touchesFence 27 = .ok (.ifCond .eq 7, 3) := dk_153 0 7 (dk_at dksX10_touchesFence_1 5 rfl rfl)
theorem dX10_touchesFence_30 : decode cX10_touchesFence 30 = .ok (.iconst 1, 1) := dk_4 (dk_at dksX10_touchesFence_1 8 rfl rfl)
theorem dX10_touchesFence_31 : decode cX10_touchesFence 31 = .ok (.goto 4, 3) := dk_167 0 4 (dk_at dksX10_touchesFence_1 9 rfl rfl)
theorem dX10_touchesFence_34 : decode cX10_touchesFence 34 = .ok (.iconst 0, 1) := dk_3 (dk_at dksX10_touchesFence_1 12 rfl rfl)
theorem dX10_touchesFence_35 : decode cX10_touchesFence 35 = .ok (.ireturn, 1) := dk_172 (dk_at dksX10_touchesFence_1 13 rfl rfl)
abbrev cX10_behind : ByteArray := prog_6_method_5_code
def yX10_behind : MethodName := ⟨RX10, "behind", "()I"⟩
def dkwX10_behind_0 : List UInt8 := [42, 180, 0, 33, 4, 96, 172]
abbrev dktX10_behind_0 : List UInt8 := dkwX10_behind_0 ++ []
theorem dksX10_behind_0 : cX10_behind.data.toList.drop 0 = dktX10_behind_0 := by decide +kernel
theorem dX10_behind_0 : decode cX10_behind 0 = .ok (.aload_n 0, 1) := dk_42 (dk_at dksX10_behind_0 0 rfl rfl)
theorem dX10_behind_1 : decode cX10_behind 1 = .ok (.getfield 33, 3) := dk_180 0 33 (dk_at dksX10_behind_0 1 rfl rfl)
theorem dX10_behind_4 : decode cX10_behind 4 = .ok (.iconst 1, 1) := dk_4 (dk_at dksX10_behind_0 4 rfl rfl)
theorem dX10_behind_5 : decode cX10_behind 5 = .ok (.iadd, 1) := dk_96 (dk_at dksX10_behind_0 5 rfl rfl)
theorem dX10_behind_6 : decode cX10_behind 6 = .ok (.ireturn, 1) := dk_172 (dk_at dksX10_behind_0 6 rfl rfl)
abbrev cX10_init : ByteArray := prog_6_method_1_code
def yX10_init : MethodName := ⟨RX10, "<init>", "(LMendReader;LMendReader$Chart;IIII)V"⟩
def dkwX10_init_0 : List UInt8 := [42, 43, 181, 0, 1, 42, 43, 44, 29, 21, 4, 21, 5, 21, 6, 183, 0, 7, 177]
abbrev dktX10_init_0 : List UInt8 := dkwX10_init_0 ++ []
theorem dksX10_init_0 : cX10_init.data.toList.drop 0 = dktX10_init_0 := by decide +kernel
theorem dX10_init_0 : decode cX10_init 0 = .ok (.aload_n 0, 1) := dk_42 (dk_at dksX10_init_0 0 rfl rfl)
theorem dX10_init_1 : decode cX10_init 1 = .ok (.aload_n 1, 1) := dk_43 (dk_at dksX10_init_0 1 rfl rfl)
theorem dX10_init_2 : decode cX10_init 2 = .ok (.putfield 1, 3) := dk_181 0 1 (dk_at dksX10_init_0 2 rfl rfl)
theorem dX10_init_5 : decode cX10_init 5 = .ok (.aload_n 0, 1) := dk_42 (dk_at dksX10_init_0 5 rfl rfl)
theorem dX10_init_6 : decode cX10_init 6 = .ok (.aload_n 1, 1) := dk_43 (dk_at dksX10_init_0 6 rfl rfl)
theorem dX10_init_7 : decode cX10_init 7 = .ok (.aload_n 2, 1) := dk_44 (dk_at dksX10_init_0 7 rfl rfl)
theorem dX10_init_8 : decode cX10_init 8 = .ok (.iload_n 3, 1) := dk_29 (dk_at dksX10_init_0 8 rfl rfl)
theorem dX10_init_9 : decode cX10_init 9 = .ok (.iload 4, 2) := dk_21 4 (dk_at dksX10_init_0 9 rfl rfl)
theorem dX10_init_11 : decode cX10_init 11 = .ok (.iload 5, 2) := dk_21 5 (dk_at dksX10_init_0 11 rfl rfl)
theorem dX10_init_13 : decode cX10_init 13 = .ok (.iload 6, 2) := dk_21 6 (dk_at dksX10_init_0 13 rfl rfl)
theorem dX10_init_15 : decode cX10_init 15 = .ok (.invokespecial 7, 3) := dk_183 0 7 (dk_at dksX10_init_0 15 rfl rfl)
theorem dX10_init_18 : decode cX10_init 18 = .ok (.return_, 1) := dk_177 (dk_at dksX10_init_0 18 rfl rfl)
abbrev cX10_price : ByteArray := prog_6_method_3_code
def yX10_price : MethodName := ⟨RX10, "price", "()I"⟩
def dkwX10_price_0 : List UInt8 := [42, 180, 0, 1, 180, 0, 17, 5, 50, 42, 180, 0, 23, 180, 0, 27, 42, 180, 0, 33, 46, 46, 172]
abbrev dktX10_price_0 : List UInt8 := dkwX10_price_0 ++ []
theorem dksX10_price_0 : cX10_price.data.toList.drop 0 = dktX10_price_0 := by decide +kernel
theorem dX10_price_0 : decode cX10_price 0 = .ok (.aload_n 0, 1) := dk_42 (dk_at dksX10_price_0 0 rfl rfl)
theorem dX10_price_1 : decode cX10_price 1 = .ok (.getfield 1, 3) := dk_180 0 1 (dk_at dksX10_price_0 1 rfl rfl)
theorem dX10_price_4 : decode cX10_price 4 = .ok (.getfield 17, 3) := dk_180 0 17 (dk_at dksX10_price_0 4 rfl rfl)
theorem dX10_price_7 : decode cX10_price 7 = .ok (.iconst 2, 1) := dk_5 (dk_at dksX10_price_0 7 rfl rfl)
theorem dX10_price_8 : decode cX10_price 8 = .ok (.aaload, 1) := dk_50 (dk_at dksX10_price_0 8 rfl rfl)
theorem dX10_price_9 : decode cX10_price 9 = .ok (.aload_n 0, 1) := dk_42 (dk_at dksX10_price_0 9 rfl rfl)
theorem dX10_price_10 : decode cX10_price 10 = .ok (.getfield 23, 3) := dk_180 0 23 (dk_at dksX10_price_0 10 rfl rfl)
theorem dX10_price_13 : decode cX10_price 13 = .ok (.getfield 27, 3) := dk_180 0 27 (dk_at dksX10_price_0 13 rfl rfl)
theorem dX10_price_16 : decode cX10_price 16 = .ok (.aload_n 0, 1) := dk_42 (dk_at dksX10_price_0 16 rfl rfl)
theorem dX10_price_17 : decode cX10_price 17 = .ok (.getfield 33, 3) := dk_180 0 33 (dk_at dksX10_price_0 17 rfl rfl)
theorem dX10_price_20 : decode cX10_price 20 = .ok (.iaload, 1) := dk_46 (dk_at dksX10_price_0 20 rfl rfl)
theorem dX10_price_21 : decode cX10_price 21 = .ok (.iaload, 1) := dk_46 (dk_at dksX10_price_0 21 rfl rfl)
theorem dX10_price_22 : decode cX10_price 22 = .ok (.ireturn, 1) := dk_172 (dk_at dksX10_price_0 22 rfl rfl)
theorem q76 : (Jvm.Cond.initialized "MendReader$Other") ∈ lw_all := lw_g (lw_at lw_m1 20 rfl) rfl
theorem q171 : (Jvm.Cond.fieldLinkNest "MendReader$Other" (41 : Nat) "MendReader" "isFence" "[Z" "MendReader") ∈ lw_tbl := lw_at lw_m1 115 rfl
theorem q177 : (Jvm.Cond.fieldLinkNest "MendReader$Other" (17 : Nat) "MendReader" "prices" "[[I" "MendReader") ∈ lw_tbl := lw_at lw_m1 121 rfl
theorem q367 : (Jvm.Cond.selects "MendReader$Other" ({ cls := "java/lang/Object", name := "getClass", desc := "()Ljava/lang/Class;" } : Jvm.MethodName) ({ cls := "java/lang/Object", name := "getClass", desc := "()Ljava/lang/Class;" } : Jvm.MethodName)) ∈ lw_all := lw_g (lw_at lw_m2 71 rfl) rfl
theorem q551 : (Jvm.Cond.fieldLink "MendReader$Other" (23 : Nat) "MendReader$Other" "chart" "LMendReader$Chart;") ∈ lw_all := lw_g (lw_at lw_m3 15 rfl) rfl
theorem q552 : (Jvm.Cond.sameField "MendReader$Other" "MendReader$Step" "chart" "LMendReader$Chart;") ∈ lw_all := lw_g (lw_at lw_m3 16 rfl) rfl
theorem q559 : (Jvm.Cond.fieldLink "MendReader$Other" (33 : Nat) "MendReader$Other" "place" "I") ∈ lw_all := lw_g (lw_at lw_m3 23 rfl) rfl
theorem q560 : (Jvm.Cond.sameField "MendReader$Other" "MendReader$Step" "place" "I") ∈ lw_all := lw_g (lw_at lw_m3 24 rfl) rfl
theorem q616 : (Jvm.Cond.selects "MendReader$Other" ({ cls := "MendReader$Step", name := "kind", desc := "()I" } : Jvm.MethodName) ({ cls := "MendReader$Other", name := "kind", desc := "()I" } : Jvm.MethodName)) ∈ lw_all := lw_g (lw_at lw_m3 80 rfl) rfl
theorem q617 : (Jvm.Cond.instanceMethod ({ cls := "MendReader$Other", name := "kind", desc := "()I" } : Jvm.MethodName)) ∈ lw_all := lw_g (lw_at lw_m3 81 rfl) rfl
theorem q618 : (Jvm.Cond.code ({ cls := "MendReader$Other", name := "kind", desc := "()I" } : Jvm.MethodName) prog_6_method_2_code (1 : Nat) (Option.some Jvm.ClassFile.FieldType.int)) ∈ lw_all := lw_g (lw_at lw_m3 82 rfl) rfl
theorem q619 : (Jvm.Cond.methodLink "MendReader$Other" (13 : Nat) ({ cls := "MendReader$Lost", name := "kind", desc := "()I" } : Jvm.MethodName)) ∈ lw_all := lw_g (lw_at lw_m3 83 rfl) rfl
theorem q620 : (Jvm.Cond.superclass "MendReader$Other" "MendReader$Lost") ∈ lw_all := lw_g (lw_at lw_m3 84 rfl) rfl
theorem q650 : (Jvm.Cond.selects "MendReader$Other" ({ cls := "MendReader$Step", name := "touchesFence", desc := "()Z" } : Jvm.MethodName) ({ cls := "MendReader$Other", name := "touchesFence", desc := "()Z" } : Jvm.MethodName)) ∈ lw_all := lw_g (lw_at lw_m3 114 rfl) rfl
theorem q651 : (Jvm.Cond.instanceMethod ({ cls := "MendReader$Other", name := "touchesFence", desc := "()Z" } : Jvm.MethodName)) ∈ lw_all := lw_g (lw_at lw_m3 115 rfl) rfl
theorem q652 : (Jvm.Cond.code ({ cls := "MendReader$Other", name := "touchesFence", desc := "()Z" } : Jvm.MethodName) prog_6_method_4_code (1 : Nat) (Option.some Jvm.ClassFile.FieldType.boolean)) ∈ lw_all := lw_g (lw_at lw_m3 116 rfl) rfl
theorem q653 : (Jvm.Cond.methodLink "MendReader$Other" (37 : Nat) ({ cls := "MendReader$Lost", name := "touchesFence", desc := "()Z" } : Jvm.MethodName)) ∈ lw_all := lw_g (lw_at lw_m3 117 rfl) rfl
theorem q690 : (Jvm.Cond.selects "MendReader$Other" ({ cls := "MendReader$Step", name := "told", desc := "()I" } : Jvm.MethodName) ({ cls := "MendReader$Lost", name := "told", desc := "()I" } : Jvm.MethodName)) ∈ lw_all := lw_g (lw_at lw_m3 154 rfl) rfl
theorem q708 : (Jvm.Cond.selects "MendReader$Other" ({ cls := "MendReader$Step", name := "first", desc := "()I" } : Jvm.MethodName) ({ cls := "MendReader$Step", name := "first", desc := "()I" } : Jvm.MethodName)) ∈ lw_all := lw_g (lw_at lw_m3 172 rfl) rfl
theorem q722 : (Jvm.Cond.selects "MendReader$Other" ({ cls := "MendReader$Step", name := "behind", desc := "()I" } : Jvm.MethodName) ({ cls := "MendReader$Other", name := "behind", desc := "()I" } : Jvm.MethodName)) ∈ lw_all := lw_g (lw_at lw_m3 186 rfl) rfl
theorem q723 : (Jvm.Cond.instanceMethod ({ cls := "MendReader$Other", name := "behind", desc := "()I" } : Jvm.MethodName)) ∈ lw_all := lw_g (lw_at lw_m3 187 rfl) rfl
theorem q724 : (Jvm.Cond.code ({ cls := "MendReader$Other", name := "behind", desc := "()I" } : Jvm.MethodName) prog_6_method_5_code (1 : Nat) (Option.some Jvm.ClassFile.FieldType.int)) ∈ lw_all := lw_g (lw_at lw_m3 188 rfl) rfl
theorem q730 : (Jvm.Cond.declares ({ cls := "MendReader$Other", name := "behind", desc := "()I" } : Jvm.MethodName)) ∈ lw_tbl := lw_at lw_m3 194 rfl
theorem q757 : (Jvm.Cond.instantiable "MendReader$Other" (8 : Nat)) ∈ lw_all := lw_g (lw_at lw_m3 221 rfl) rfl
theorem q759 : (Jvm.Cond.instanceMethod ({ cls := "MendReader$Other", name := "<init>", desc := "(LMendReader;LMendReader$Chart;IIII)V" } : Jvm.MethodName)) ∈ lw_all := lw_g (lw_at lw_m3 223 rfl) rfl
theorem q760 : (Jvm.Cond.code ({ cls := "MendReader$Other", name := "<init>", desc := "(LMendReader;LMendReader$Chart;IIII)V" } : Jvm.MethodName) prog_6_method_1_code (7 : Nat) (Option.none : Option Jvm.ClassFile.FieldType)) ∈ lw_all := lw_g (lw_at lw_m3 224 rfl) rfl
theorem q761 : (Jvm.Cond.methodLink "MendReader$Other" (7 : Nat) ({ cls := "MendReader$Lost", name := "<init>", desc := "(LMendReader;LMendReader$Chart;IIII)V" } : Jvm.MethodName)) ∈ lw_all := lw_g (lw_at lw_m3 225 rfl) rfl
theorem q762 : (Jvm.Cond.fieldLink "MendReader$Other" (1 : Nat) "MendReader$Other" "this$0" "LMendReader;") ∈ lw_all := lw_g (lw_at lw_m3 226 rfl) rfl
theorem q763 : (Jvm.Cond.laysFinal "MendReader$Other" "MendReader$Other" "this$0" "LMendReader;") ∈ lw_all := lw_g (lw_at lw_m3 227 rfl) rfl
theorem q764 : (Jvm.Cond.soleField "MendReader$Other" "this$0") ∈ lw_all := lw_g (lw_at lw_m3 228 rfl) rfl
theorem q765 : (Jvm.Cond.laysFinal "MendReader$Other" "MendReader$Lost" "this$0" "LMendReader;") ∈ lw_all := lw_g (lw_at lw_m3 229 rfl) rfl
theorem q766 : (Jvm.Cond.laysFinal "MendReader$Other" "MendReader$Step" "chart" "LMendReader$Chart;") ∈ lw_all := lw_g (lw_at lw_m3 230 rfl) rfl
theorem q767 : (Jvm.Cond.laysFinal "MendReader$Other" "MendReader$Step" "place" "I") ∈ lw_all := lw_g (lw_at lw_m3 231 rfl) rfl
theorem q768 : (Jvm.Cond.laysFinal "MendReader$Other" "MendReader$Step" "from" "I") ∈ lw_all := lw_g (lw_at lw_m3 232 rfl) rfl
theorem q769 : (Jvm.Cond.laysFinal "MendReader$Other" "MendReader$Step" "to" "I") ∈ lw_all := lw_g (lw_at lw_m3 233 rfl) rfl
theorem q770 : (Jvm.Cond.laysFinal "MendReader$Other" "MendReader$Step" "token" "I") ∈ lw_all := lw_g (lw_at lw_m3 234 rfl) rfl
theorem q771 : (Jvm.Cond.laysFinal "MendReader$Other" "MendReader$Step" "this$0" "LMendReader;") ∈ lw_all := lw_g (lw_at lw_m3 235 rfl) rfl
theorem q887 : (Jvm.Cond.selects "MendReader$Other" ({ cls := "MendReader$Step", name := "price", desc := "()I" } : Jvm.MethodName) ({ cls := "MendReader$Other", name := "price", desc := "()I" } : Jvm.MethodName)) ∈ lw_all := lw_g (lw_at lw_m4 111 rfl) rfl
theorem q888 : (Jvm.Cond.instanceMethod ({ cls := "MendReader$Other", name := "price", desc := "()I" } : Jvm.MethodName)) ∈ lw_all := lw_g (lw_at lw_m4 112 rfl) rfl
theorem q889 : (Jvm.Cond.code ({ cls := "MendReader$Other", name := "price", desc := "()I" } : Jvm.MethodName) prog_6_method_3_code (1 : Nat) (Option.some Jvm.ClassFile.FieldType.int)) ∈ lw_all := lw_g (lw_at lw_m4 113 rfl) rfl
theorem q920 : (Jvm.Cond.fieldLinkNest "MendReader$Other" (27 : Nat) "MendReader$Chart" "text" "[I" "MendReader") ∈ lw_tbl := lw_at lw_m4 144 rfl
theorem q1049 : (Jvm.Cond.selects "MendReader$Other" ({ cls := "MendReader$Step", name := "form", desc := "()I" } : Jvm.MethodName) ({ cls := "MendReader$Step", name := "form", desc := "()I" } : Jvm.MethodName)) ∈ lw_all := lw_g (lw_at lw_m5 33 rfl) rfl
theorem q1757 : (Jvm.Cond.sameMethod "MendReader$Other" "MendReader$Other" "kind" "()I") ∈ lw_all := lw_g (lw_at lw_m8 21 rfl) rfl
theorem q1760 : (Jvm.Cond.sameMethod "MendReader$Other" "MendReader$Other" "touchesFence" "()Z") ∈ lw_all := lw_g (lw_at lw_m8 24 rfl) rfl
theorem q1761 : (Jvm.Cond.sameMethod "MendReader$Other" "MendReader$Other" "behind" "()I") ∈ lw_all := lw_g (lw_at lw_m8 25 rfl) rfl
theorem q1766 : (Jvm.Cond.castable "MendReader$Other" "MendReader$Step") ∈ lw_tbl := lw_at lw_m8 30 rfl
theorem q1783 : (Jvm.Cond.castable "MendReader$Other" "java/lang/Object") ∈ lw_tbl := lw_at lw_m8 47 rfl
theorem in_X10 : ∀ w ∈ wsX100, w ∈ lw_all := lw_in wsX100 [766, 767, 768, 769, 770, 771, 765, 763] (by decide +kernel) (by decide +kernel)
/-! MendReader$Stuck -/
set_option maxRecDepth 100000
def RX11 : String := "MendReader$Stuck"
def TX11 : u_T := fun k => match k with
  | 0 => ("MendReader$Step", "chart", "LMendReader$Chart;", true)
  | 1 => ("MendReader$Step", "place", "I", true)
  | 2 => ("MendReader$Step", "from", "I", true)
  | 3 => ("MendReader$Step", "to", "I", true)
  | 4 => ("MendReader$Step", "token", "I", true)
  | 5 => ("MendReader$Step", "this$0", "LMendReader;", true)
  | 6 => ("MendReader$Lost", "this$0", "LMendReader;", true)
  | 7 => ("MendReader$Other", "this$0", "LMendReader;", true)
  | 8 => ("MendReader$Stuck", "form", "LMendReader$Form;", true)
  | 9 => ("MendReader$Stuck", "number", "I", true)
  | _ => ("MendReader$Stuck", "this$0", "LMendReader;", true)
def tyX11 : Nat → FieldType := fun k => match k with
  | 0 => .object "MendReader$Chart"
  | 1 => .int
  | 2 => .int
  | 3 => .int
  | 4 => .int
  | 5 => .object "MendReader"
  | 6 => .object "MendReader"
  | 7 => .object "MendReader"
  | 8 => .object "MendReader$Form"
  | 9 => .int
  | _ => .object "MendReader"
abbrev wsX110 : List Cond := u_ws RX11 TX11 11
-- two fields of one name: no nmX11
theorem tyX11_ok : ∀ k, k < 11 → parseFieldDescriptor (TX11 k).2.2.1 = some (tyX11 k) := by decide +kernel
abbrev cX11_kind : ByteArray := prog_13_method_3_code
def yX11_kind : MethodName := ⟨RX11, "kind", "()I"⟩
def dkwX11_kind_0 : List UInt8 := [42, 183, 0, 26, 5, 96, 172]
abbrev dktX11_kind_0 : List UInt8 := dkwX11_kind_0 ++ []
theorem dksX11_kind_0 : cX11_kind.data.toList.drop 0 = dktX11_kind_0 := by decide +kernel
theorem dX11_kind_0 : decode cX11_kind 0 = .ok (.aload_n 0, 1) := dk_42 (dk_at dksX11_kind_0 0 rfl rfl)
theorem dX11_kind_1 : decode cX11_kind 1 = .ok (.invokespecial 26, 3) := dk_183 0 26 (dk_at dksX11_kind_0 1 rfl rfl)
theorem dX11_kind_4 : decode cX11_kind 4 = .ok (.iconst 2, 1) := dk_5 (dk_at dksX11_kind_0 4 rfl rfl)
theorem dX11_kind_5 : decode cX11_kind 5 = .ok (.iadd, 1) := dk_96 (dk_at dksX11_kind_0 5 rfl rfl)
theorem dX11_kind_6 : decode cX11_kind 6 = .ok (.ireturn, 1) := dk_172 (dk_at dksX11_kind_0 6 rfl rfl)
abbrev cX11_touchesFence : ByteArray := prog_13_method_5_code
def yX11_touchesFence : MethodName := ⟨RX11, "touchesFence", "()Z"⟩
def dkwX11_touchesFence_1 : List UInt8 := [167, 0, 4, 3, 172]
abbrev dktX11_touchesFence_1 : List UInt8 := dkwX11_touchesFence_1 ++ []
def dkwX11_touchesFence_0 : List UInt8 := [42, 183, 0, 33, 154, 0, 18, 42, 180, 0, 1, 180, 0, 37, 42, 182, 0, 43, 51, 153, 0, 7, 4]
abbrev dktX11_touchesFence_0 : List UInt8 := dkwX11_touchesFence_0 ++ dktX11_touchesFence_1
theorem dksX11_touchesFence_0 : cX11_touchesFence.data.toList.drop 0 = dktX11_touchesFence_0 := by decide +kernel
theorem dksX11_touchesFence_1 : cX11_touchesFence.data.toList.drop 23 = dktX11_touchesFence_1 := dk_seg dksX11_touchesFence_0 23 rfl rfl
theorem dX11_touchesFence_0 : decode cX11_touchesFence 0 = .ok (.aload_n 0, 1) := dk_42 (dk_at dksX11_touchesFence_0 0 rfl rfl)
theorem dX11_touchesFence_1 : decode cX11_touchesFence 1 = .ok (.invokespecial 33, 3) := dk_183 0 33 (dk_at dksX11_touchesFence_0 1 rfl rfl)
theorem dX11_touchesFence_4 : decode cX11_touchesFence 4 = .ok (.ifCond .ne 18, 3) := dk_154 0 18 (dk_at dksX11_touchesFence_0 4 rfl rfl)
theorem dX11_touchesFence_7 : decode cX11_touchesFence 7 = .ok (.aload_n 0, 1) := dk_42 (dk_at dksX11_touchesFence_0 7 rfl rfl)
theorem dX11_touchesFence_8 : decode cX11_touchesFence 8 = .ok (.getfield 1, 3) := dk_180 0 1 (dk_at dksX11_touchesFence_0 8 rfl rfl)
theorem dX11_touchesFence_11 : decode cX11_touchesFence 11 = .ok (.getfield 37, 3) := dk_180 0 37 (dk_at dksX11_touchesFence_0 11 rfl rfl)
theorem dX11_touchesFence_14 : decode cX11_touchesFence 14 = .ok (.aload_n 0, 1) := dk_42 (dk_at dksX11_touchesFence_0 14 rfl rfl)
theorem dX11_touchesFence_15 : decode cX11_touchesFence 15 = .ok (.invokevirtual 43, 3) := dk_182 0 43 (dk_at dksX11_touchesFence_0 15 rfl rfl)
theorem dX11_touchesFence_18 : decode cX11_touchesFence 18 = .ok (.baload, 1) := dk_51 (dk_at dksX11_touchesFence_0 18 rfl rfl)
theorem dX11_touchesFence_19 : decode cX11_touchesFence 19 = .ok (.ifCond .eq 7, 3) := dk_153 0 7 (dk_at dksX11_touchesFence_0 19 rfl rfl)
theorem dX11_touchesFence_22 : decode cX11_touchesFence 22 = .ok (.iconst 1, 1) := dk_4 (dk_at dksX11_touchesFence_0 22 rfl rfl)
theorem dX11_touchesFence_23 : decode cX11_touchesFence 23 = .ok (.goto 4, 3) := dk_167 0 4 (dk_at dksX11_touchesFence_1 0 rfl rfl)
theorem dX11_touchesFence_26 : decode cX11_touchesFence 26 = .ok (.iconst 0, 1) := dk_3 (dk_at dksX11_touchesFence_1 3 rfl rfl)
theorem dX11_touchesFence_27 : decode cX11_touchesFence 27 = .ok (.ireturn, 1) := dk_172 (dk_at dksX11_touchesFence_1 4 rfl rfl)
abbrev cX11_second : ByteArray := prog_13_method_2_code
def yX11_second : MethodName := ⟨RX11, "second", "()I"⟩
def dkwX11_second_0 : List UInt8 := [42, 180, 0, 13, 180, 0, 21, 172]
abbrev dktX11_second_0 : List UInt8 := dkwX11_second_0 ++ []
theorem dksX11_second_0 : cX11_second.data.toList.drop 0 = dktX11_second_0 := by decide +kernel
theorem dX11_second_0 : decode cX11_second 0 = .ok (.aload_n 0, 1) := dk_42 (dk_at dksX11_second_0 0 rfl rfl)
theorem dX11_second_1 : decode cX11_second 1 = .ok (.getfield 13, 3) := dk_180 0 13 (dk_at dksX11_second_0 1 rfl rfl)
theorem dX11_second_4 : decode cX11_second 4 = .ok (.getfield 21, 3) := dk_180 0 21 (dk_at dksX11_second_0 4 rfl rfl)
theorem dX11_second_7 : decode cX11_second 7 = .ok (.ireturn, 1) := dk_172 (dk_at dksX11_second_0 7 rfl rfl)
abbrev cX11_told : ByteArray := prog_13_method_6_code
def yX11_told : MethodName := ⟨RX11, "told", "()I"⟩
theorem dX11_told_0 : decode cX11_told 0 = .ok (.aload_n 0, 1) := by decide +kernel
theorem dX11_told_1 : decode cX11_told 1 = .ok (.getfield 17, 3) := by decide +kernel
theorem dX11_told_4 : decode cX11_told 4 = .ok (.ireturn, 1) := by decide +kernel
abbrev cX11_init : ByteArray := prog_13_method_1_code
def yX11_init : MethodName := ⟨RX11, "<init>", "(LMendReader;LMendReader$Chart;IIIILMendReader$Form;I)V"⟩
def dkwX11_init_1 : List UInt8 := [42, 21, 8, 181, 0, 17, 177]
abbrev dktX11_init_1 : List UInt8 := dkwX11_init_1 ++ []
def dkwX11_init_0 : List UInt8 := [42, 43, 181, 0, 1, 42, 43, 44, 29, 21, 4, 21, 5, 21, 6, 183, 0, 7, 42, 25, 7, 181, 0, 13]
abbrev dktX11_init_0 : List UInt8 := dkwX11_init_0 ++ dktX11_init_1
theorem dksX11_init_0 : cX11_init.data.toList.drop 0 = dktX11_init_0 := by decide +kernel
theorem dksX11_init_1 : cX11_init.data.toList.drop 24 = dktX11_init_1 := dk_seg dksX11_init_0 24 rfl rfl
theorem dX11_init_0 : decode cX11_init 0 = .ok (.aload_n 0, 1) := dk_42 (dk_at dksX11_init_0 0 rfl rfl)
theorem dX11_init_1 : decode cX11_init 1 = .ok (.aload_n 1, 1) := dk_43 (dk_at dksX11_init_0 1 rfl rfl)
theorem dX11_init_2 : decode cX11_init 2 = .ok (.putfield 1, 3) := dk_181 0 1 (dk_at dksX11_init_0 2 rfl rfl)
theorem dX11_init_5 : decode cX11_init 5 = .ok (.aload_n 0, 1) := dk_42 (dk_at dksX11_init_0 5 rfl rfl)
theorem dX11_init_6 : decode cX11_init 6 = .ok (.aload_n 1, 1) := dk_43 (dk_at dksX11_init_0 6 rfl rfl)
theorem dX11_init_7 : decode cX11_init 7 = .ok (.aload_n 2, 1) := dk_44 (dk_at dksX11_init_0 7 rfl rfl)
theorem dX11_init_8 : decode cX11_init 8 = .ok (.iload_n 3, 1) := dk_29 (dk_at dksX11_init_0 8 rfl rfl)
theorem dX11_init_9 : decode cX11_init 9 = .ok (.iload 4, 2) := dk_21 4 (dk_at dksX11_init_0 9 rfl rfl)
theorem dX11_init_11 : decode cX11_init 11 = .ok (.iload 5, 2) := dk_21 5 (dk_at dksX11_init_0 11 rfl rfl)
theorem dX11_init_13 : decode cX11_init 13 = .ok (.iload 6, 2) := dk_21 6 (dk_at dksX11_init_0 13 rfl rfl)
theorem dX11_init_15 : decode cX11_init 15 = .ok (.invokespecial 7, 3) := dk_183 0 7 (dk_at dksX11_init_0 15 rfl rfl)
theorem dX11_init_18 : decode cX11_init 18 = .ok (.aload_n 0, 1) := dk_42 (dk_at dksX11_init_0 18 rfl rfl)
theorem dX11_init_19 : decode cX11_init 19 = .ok (.aload 7, 2) := dk_25 7 (dk_at dksX11_init_0 19 rfl rfl)
theorem dX11_init_21 : decode cX11_init 21 = .ok (.putfield 13, 3) := dk_181 0 13 (dk_at dksX11_init_0 21 rfl rfl)
theorem dX11_init_24 : decode cX11_init 24 = .ok (.aload_n 0, 1) := dk_42 (dk_at dksX11_init_1 0 rfl rfl)
theorem dX11_init_25 : decode cX11_init 25 = .ok (.iload 8, 2) := dk_21 8 (dk_at dksX11_init_1 1 rfl rfl)
theorem dX11_init_27 : decode cX11_init 27 = .ok (.putfield 17, 3) := dk_181 0 17 (dk_at dksX11_init_1 3 rfl rfl)
theorem dX11_init_30 : decode cX11_init 30 = .ok (.return_, 1) := dk_177 (dk_at dksX11_init_1 6 rfl rfl)
abbrev cX11_price : ByteArray := prog_13_method_4_code
def yX11_price : MethodName := ⟨RX11, "price", "()I"⟩
def dkwX11_price_0 : List UInt8 := [42, 180, 0, 13, 180, 0, 30, 172]
abbrev dktX11_price_0 : List UInt8 := dkwX11_price_0 ++ []
theorem dksX11_price_0 : cX11_price.data.toList.drop 0 = dktX11_price_0 := by decide +kernel
theorem dX11_price_0 : decode cX11_price 0 = .ok (.aload_n 0, 1) := dk_42 (dk_at dksX11_price_0 0 rfl rfl)
theorem dX11_price_1 : decode cX11_price 1 = .ok (.getfield 13, 3) := dk_180 0 13 (dk_at dksX11_price_0 1 rfl rfl)
theorem dX11_price_4 : decode cX11_price 4 = .ok (.getfield 30, 3) := dk_180 0 30 (dk_at dksX11_price_0 4 rfl rfl)
theorem dX11_price_7 : decode cX11_price 7 = .ok (.ireturn, 1) := dk_172 (dk_at dksX11_price_0 7 rfl rfl)
abbrev cX11_form : ByteArray := prog_13_method_7_code
def yX11_form : MethodName := ⟨RX11, "form", "()I"⟩
theorem dX11_form_0 : decode cX11_form 0 = .ok (.aload_n 0, 1) := by decide +kernel
theorem dX11_form_1 : decode cX11_form 1 = .ok (.getfield 17, 3) := by decide +kernel
theorem dX11_form_4 : decode cX11_form 4 = .ok (.ireturn, 1) := by decide +kernel
theorem q77 : (Jvm.Cond.initialized "MendReader$Stuck") ∈ lw_all := lw_g (lw_at lw_m1 21 rfl) rfl
theorem q173 : (Jvm.Cond.fieldLinkNest "MendReader$Stuck" (37 : Nat) "MendReader" "isFence" "[Z" "MendReader") ∈ lw_tbl := lw_at lw_m1 117 rfl
theorem q374 : (Jvm.Cond.selects "MendReader$Stuck" ({ cls := "java/lang/Object", name := "getClass", desc := "()Ljava/lang/Class;" } : Jvm.MethodName) ({ cls := "java/lang/Object", name := "getClass", desc := "()Ljava/lang/Class;" } : Jvm.MethodName)) ∈ lw_all := lw_g (lw_at lw_m2 78 rfl) rfl
theorem q450 : (Jvm.Cond.fieldLinkNest "MendReader$Stuck" (21 : Nat) "MendReader$Form" "b" "I" "MendReader") ∈ lw_tbl := lw_at lw_m2 154 rfl
theorem q456 : (Jvm.Cond.fieldLinkNest "MendReader$Stuck" (30 : Nat) "MendReader$Form" "price" "I" "MendReader") ∈ lw_tbl := lw_at lw_m2 160 rfl
theorem q626 : (Jvm.Cond.instanceMethod ({ cls := "MendReader$Stuck", name := "kind", desc := "()I" } : Jvm.MethodName)) ∈ lw_all := lw_g (lw_at lw_m3 90 rfl) rfl
theorem q627 : (Jvm.Cond.code ({ cls := "MendReader$Stuck", name := "kind", desc := "()I" } : Jvm.MethodName) prog_13_method_3_code (1 : Nat) (Option.some Jvm.ClassFile.FieldType.int)) ∈ lw_all := lw_g (lw_at lw_m3 91 rfl) rfl
theorem q628 : (Jvm.Cond.methodLink "MendReader$Stuck" (26 : Nat) ({ cls := "MendReader$Other", name := "kind", desc := "()I" } : Jvm.MethodName)) ∈ lw_all := lw_g (lw_at lw_m3 92 rfl) rfl
theorem q629 : (Jvm.Cond.superclass "MendReader$Stuck" "MendReader$Other") ∈ lw_all := lw_g (lw_at lw_m3 93 rfl) rfl
theorem q635 : (Jvm.Cond.selects "MendReader$Stuck" ({ cls := "MendReader$Step", name := "kind", desc := "()I" } : Jvm.MethodName) ({ cls := "MendReader$Stuck", name := "kind", desc := "()I" } : Jvm.MethodName)) ∈ lw_all := lw_g (lw_at lw_m3 99 rfl) rfl
theorem q655 : (Jvm.Cond.instanceMethod ({ cls := "MendReader$Stuck", name := "touchesFence", desc := "()Z" } : Jvm.MethodName)) ∈ lw_all := lw_g (lw_at lw_m3 119 rfl) rfl
theorem q656 : (Jvm.Cond.code ({ cls := "MendReader$Stuck", name := "touchesFence", desc := "()Z" } : Jvm.MethodName) prog_13_method_5_code (1 : Nat) (Option.some Jvm.ClassFile.FieldType.boolean)) ∈ lw_all := lw_g (lw_at lw_m3 120 rfl) rfl
theorem q657 : (Jvm.Cond.methodLink "MendReader$Stuck" (33 : Nat) ({ cls := "MendReader$Other", name := "touchesFence", desc := "()Z" } : Jvm.MethodName)) ∈ lw_all := lw_g (lw_at lw_m3 121 rfl) rfl
theorem q658 : (Jvm.Cond.methodLink "MendReader$Stuck" (43 : Nat) ({ cls := "MendReader$Stuck", name := "second", desc := "()I" } : Jvm.MethodName)) ∈ lw_all := lw_g (lw_at lw_m3 122 rfl) rfl
theorem q659 : (Jvm.Cond.instanceMethod ({ cls := "MendReader$Stuck", name := "second", desc := "()I" } : Jvm.MethodName)) ∈ lw_all := lw_g (lw_at lw_m3 123 rfl) rfl
theorem q660 : (Jvm.Cond.selects "MendReader$Stuck" ({ cls := "MendReader$Stuck", name := "second", desc := "()I" } : Jvm.MethodName) ({ cls := "MendReader$Stuck", name := "second", desc := "()I" } : Jvm.MethodName)) ∈ lw_all := lw_g (lw_at lw_m3 124 rfl) rfl
theorem q661 : (Jvm.Cond.sameMethod "MendReader$Stuck" "MendReader$Stuck" "second" "()I") ∈ lw_all := lw_g (lw_at lw_m3 125 rfl) rfl
theorem q665 : (Jvm.Cond.code ({ cls := "MendReader$Stuck", name := "second", desc := "()I" } : Jvm.MethodName) prog_13_method_2_code (1 : Nat) (Option.some Jvm.ClassFile.FieldType.int)) ∈ lw_all := lw_g (lw_at lw_m3 129 rfl) rfl
theorem q672 : (Jvm.Cond.selects "MendReader$Stuck" ({ cls := "MendReader$Step", name := "touchesFence", desc := "()Z" } : Jvm.MethodName) ({ cls := "MendReader$Stuck", name := "touchesFence", desc := "()Z" } : Jvm.MethodName)) ∈ lw_all := lw_g (lw_at lw_m3 136 rfl) rfl
theorem q692 : (Jvm.Cond.instanceMethod ({ cls := "MendReader$Stuck", name := "told", desc := "()I" } : Jvm.MethodName)) ∈ lw_all := lw_g (lw_at lw_m3 156 rfl) rfl
theorem q693 : (Jvm.Cond.code ({ cls := "MendReader$Stuck", name := "told", desc := "()I" } : Jvm.MethodName) prog_13_method_6_code (1 : Nat) (Option.some Jvm.ClassFile.FieldType.int)) ∈ lw_all := lw_g (lw_at lw_m3 157 rfl) rfl
theorem q697 : (Jvm.Cond.selects "MendReader$Stuck" ({ cls := "MendReader$Step", name := "told", desc := "()I" } : Jvm.MethodName) ({ cls := "MendReader$Stuck", name := "told", desc := "()I" } : Jvm.MethodName)) ∈ lw_all := lw_g (lw_at lw_m3 161 rfl) rfl
theorem q711 : (Jvm.Cond.selects "MendReader$Stuck" ({ cls := "MendReader$Step", name := "first", desc := "()I" } : Jvm.MethodName) ({ cls := "MendReader$Step", name := "first", desc := "()I" } : Jvm.MethodName)) ∈ lw_all := lw_g (lw_at lw_m3 175 rfl) rfl
theorem q729 : (Jvm.Cond.sameMethod "MendReader$Stuck" "MendReader$Other" "behind" "()I") ∈ lw_all := lw_g (lw_at lw_m3 193 rfl) rfl
theorem q734 : (Jvm.Cond.selects "MendReader$Stuck" ({ cls := "MendReader$Step", name := "behind", desc := "()I" } : Jvm.MethodName) ({ cls := "MendReader$Other", name := "behind", desc := "()I" } : Jvm.MethodName)) ∈ lw_all := lw_g (lw_at lw_m3 198 rfl) rfl
theorem q773 : (Jvm.Cond.instantiable "MendReader$Stuck" (11 : Nat)) ∈ lw_all := lw_g (lw_at lw_m3 237 rfl) rfl
theorem q775 : (Jvm.Cond.instanceMethod ({ cls := "MendReader$Stuck", name := "<init>", desc := "(LMendReader;LMendReader$Chart;IIIILMendReader$Form;I)V" } : Jvm.MethodName)) ∈ lw_all := lw_g (lw_at lw_m3 239 rfl) rfl
theorem q776 : (Jvm.Cond.code ({ cls := "MendReader$Stuck", name := "<init>", desc := "(LMendReader;LMendReader$Chart;IIIILMendReader$Form;I)V" } : Jvm.MethodName) prog_13_method_1_code (9 : Nat) (Option.none : Option Jvm.ClassFile.FieldType)) ∈ lw_all := lw_g (lw_at lw_m4 0 rfl) rfl
theorem q777 : (Jvm.Cond.methodLink "MendReader$Stuck" (7 : Nat) ({ cls := "MendReader$Other", name := "<init>", desc := "(LMendReader;LMendReader$Chart;IIII)V" } : Jvm.MethodName)) ∈ lw_all := lw_g (lw_at lw_m4 1 rfl) rfl
theorem q778 : (Jvm.Cond.fieldLink "MendReader$Stuck" (13 : Nat) "MendReader$Stuck" "form" "LMendReader$Form;") ∈ lw_all := lw_g (lw_at lw_m4 2 rfl) rfl
theorem q779 : (Jvm.Cond.fieldLink "MendReader$Stuck" (17 : Nat) "MendReader$Stuck" "number" "I") ∈ lw_all := lw_g (lw_at lw_m4 3 rfl) rfl
theorem q780 : (Jvm.Cond.fieldLink "MendReader$Stuck" (1 : Nat) "MendReader$Stuck" "this$0" "LMendReader;") ∈ lw_all := lw_g (lw_at lw_m4 4 rfl) rfl
theorem q781 : (Jvm.Cond.laysFinal "MendReader$Stuck" "MendReader$Stuck" "form" "LMendReader$Form;") ∈ lw_all := lw_g (lw_at lw_m4 5 rfl) rfl
theorem q782 : (Jvm.Cond.soleField "MendReader$Stuck" "form") ∈ lw_all := lw_g (lw_at lw_m4 6 rfl) rfl
theorem q783 : (Jvm.Cond.laysFinal "MendReader$Stuck" "MendReader$Stuck" "number" "I") ∈ lw_all := lw_g (lw_at lw_m4 7 rfl) rfl
theorem q784 : (Jvm.Cond.soleField "MendReader$Stuck" "number") ∈ lw_all := lw_g (lw_at lw_m4 8 rfl) rfl
theorem q785 : (Jvm.Cond.laysFinal "MendReader$Stuck" "MendReader$Stuck" "this$0" "LMendReader;") ∈ lw_all := lw_g (lw_at lw_m4 9 rfl) rfl
theorem q786 : (Jvm.Cond.soleField "MendReader$Stuck" "this$0") ∈ lw_all := lw_g (lw_at lw_m4 10 rfl) rfl
theorem q787 : (Jvm.Cond.laysFinal "MendReader$Stuck" "MendReader$Other" "this$0" "LMendReader;") ∈ lw_all := lw_g (lw_at lw_m4 11 rfl) rfl
theorem q788 : (Jvm.Cond.laysFinal "MendReader$Stuck" "MendReader$Lost" "this$0" "LMendReader;") ∈ lw_all := lw_g (lw_at lw_m4 12 rfl) rfl
theorem q789 : (Jvm.Cond.laysFinal "MendReader$Stuck" "MendReader$Step" "chart" "LMendReader$Chart;") ∈ lw_all := lw_g (lw_at lw_m4 13 rfl) rfl
theorem q790 : (Jvm.Cond.laysFinal "MendReader$Stuck" "MendReader$Step" "place" "I") ∈ lw_all := lw_g (lw_at lw_m4 14 rfl) rfl
theorem q791 : (Jvm.Cond.laysFinal "MendReader$Stuck" "MendReader$Step" "from" "I") ∈ lw_all := lw_g (lw_at lw_m4 15 rfl) rfl
theorem q792 : (Jvm.Cond.laysFinal "MendReader$Stuck" "MendReader$Step" "to" "I") ∈ lw_all := lw_g (lw_at lw_m4 16 rfl) rfl
theorem q793 : (Jvm.Cond.laysFinal "MendReader$Stuck" "MendReader$Step" "token" "I") ∈ lw_all := lw_g (lw_at lw_m4 17 rfl) rfl
theorem q794 : (Jvm.Cond.laysFinal "MendReader$Stuck" "MendReader$Step" "this$0" "LMendReader;") ∈ lw_all := lw_g (lw_at lw_m4 18 rfl) rfl
theorem q891 : (Jvm.Cond.instanceMethod ({ cls := "MendReader$Stuck", name := "price", desc := "()I" } : Jvm.MethodName)) ∈ lw_all := lw_g (lw_at lw_m4 115 rfl) rfl
theorem q892 : (Jvm.Cond.code ({ cls := "MendReader$Stuck", name := "price", desc := "()I" } : Jvm.MethodName) prog_13_method_4_code (1 : Nat) (Option.some Jvm.ClassFile.FieldType.int)) ∈ lw_all := lw_g (lw_at lw_m4 116 rfl) rfl
theorem q896 : (Jvm.Cond.selects "MendReader$Stuck" ({ cls := "MendReader$Step", name := "price", desc := "()I" } : Jvm.MethodName) ({ cls := "MendReader$Stuck", name := "price", desc := "()I" } : Jvm.MethodName)) ∈ lw_all := lw_g (lw_at lw_m4 120 rfl) rfl
theorem q1051 : (Jvm.Cond.instanceMethod ({ cls := "MendReader$Stuck", name := "form", desc := "()I" } : Jvm.MethodName)) ∈ lw_all := lw_g (lw_at lw_m5 35 rfl) rfl
theorem q1052 : (Jvm.Cond.code ({ cls := "MendReader$Stuck", name := "form", desc := "()I" } : Jvm.MethodName) prog_13_method_7_code (1 : Nat) (Option.some Jvm.ClassFile.FieldType.int)) ∈ lw_all := lw_g (lw_at lw_m5 36 rfl) rfl
theorem q1054 : (Jvm.Cond.selects "MendReader$Stuck" ({ cls := "MendReader$Step", name := "form", desc := "()I" } : Jvm.MethodName) ({ cls := "MendReader$Stuck", name := "form", desc := "()I" } : Jvm.MethodName)) ∈ lw_all := lw_g (lw_at lw_m5 38 rfl) rfl
theorem q1756 : (Jvm.Cond.sameMethod "MendReader$Stuck" "MendReader$Stuck" "kind" "()I") ∈ lw_all := lw_g (lw_at lw_m8 20 rfl) rfl
theorem q1769 : (Jvm.Cond.castable "MendReader$Stuck" "MendReader$Step") ∈ lw_tbl := lw_at lw_m8 33 rfl
theorem q1784 : (Jvm.Cond.castable "MendReader$Stuck" "java/lang/Object") ∈ lw_tbl := lw_at lw_m8 48 rfl
theorem in_X11 : ∀ w ∈ wsX110, w ∈ lw_all := lw_in wsX110 [789, 790, 791, 792, 793, 794, 788, 787, 781, 783, 785] (by decide +kernel) (by decide +kernel)
/-! MendReader$Extra -/
set_option maxRecDepth 100000
def RX12 : String := "MendReader$Extra"
def TX12 : u_T := fun k => match k with
  | 0 => ("MendReader$Step", "chart", "LMendReader$Chart;", true)
  | 1 => ("MendReader$Step", "place", "I", true)
  | 2 => ("MendReader$Step", "from", "I", true)
  | 3 => ("MendReader$Step", "to", "I", true)
  | 4 => ("MendReader$Step", "token", "I", true)
  | 5 => ("MendReader$Step", "this$0", "LMendReader;", true)
  | 6 => ("MendReader$Lost", "this$0", "LMendReader;", true)
  | _ => ("MendReader$Extra", "this$0", "LMendReader;", true)
def tyX12 : Nat → FieldType := fun k => match k with
  | 0 => .object "MendReader$Chart"
  | 1 => .int
  | 2 => .int
  | 3 => .int
  | 4 => .int
  | 5 => .object "MendReader"
  | 6 => .object "MendReader"
  | _ => .object "MendReader"
abbrev wsX120 : List Cond := u_ws RX12 TX12 8
-- two fields of one name: no nmX12
theorem tyX12_ok : ∀ k, k < 8 → parseFieldDescriptor (TX12 k).2.2.1 = some (tyX12 k) := by decide +kernel
abbrev cX12_kind : ByteArray := prog_3_method_2_code
def yX12_kind : MethodName := ⟨RX12, "kind", "()I"⟩
def dkwX12_kind_0 : List UInt8 := [42, 183, 0, 19, 8, 96, 172]
abbrev dktX12_kind_0 : List UInt8 := dkwX12_kind_0 ++ []
theorem dksX12_kind_0 : cX12_kind.data.toList.drop 0 = dktX12_kind_0 := by decide +kernel
theorem dX12_kind_0 : decode cX12_kind 0 = .ok (.aload_n 0, 1) := dk_42 (dk_at dksX12_kind_0 0 rfl rfl)
theorem dX12_kind_1 : decode cX12_kind 1 = .ok (.invokespecial 19, 3) := dk_183 0 19 (dk_at dksX12_kind_0 1 rfl rfl)
theorem dX12_kind_4 : decode cX12_kind 4 = .ok (.iconst 5, 1) := dk_8 (dk_at dksX12_kind_0 4 rfl rfl)
theorem dX12_kind_5 : decode cX12_kind 5 = .ok (.iadd, 1) := dk_96 (dk_at dksX12_kind_0 5 rfl rfl)
theorem dX12_kind_6 : decode cX12_kind 6 = .ok (.ireturn, 1) := dk_172 (dk_at dksX12_kind_0 6 rfl rfl)
abbrev cX12_told : ByteArray := prog_3_method_5_code
def yX12_told : MethodName := ⟨RX12, "told", "()I"⟩
theorem dX12_told_0 : decode cX12_told 0 = .ok (.iconst 0, 1) := by decide +kernel
theorem dX12_told_1 : decode cX12_told 1 = .ok (.ireturn, 1) := by decide +kernel
abbrev cX12_behind : ByteArray := prog_3_method_4_code
def yX12_behind : MethodName := ⟨RX12, "behind", "()I"⟩
def dkwX12_behind_0 : List UInt8 := [42, 180, 0, 33, 4, 96, 172]
abbrev dktX12_behind_0 : List UInt8 := dkwX12_behind_0 ++ []
theorem dksX12_behind_0 : cX12_behind.data.toList.drop 0 = dktX12_behind_0 := by decide +kernel
theorem dX12_behind_0 : decode cX12_behind 0 = .ok (.aload_n 0, 1) := dk_42 (dk_at dksX12_behind_0 0 rfl rfl)
theorem dX12_behind_1 : decode cX12_behind 1 = .ok (.getfield 33, 3) := dk_180 0 33 (dk_at dksX12_behind_0 1 rfl rfl)
theorem dX12_behind_4 : decode cX12_behind 4 = .ok (.iconst 1, 1) := dk_4 (dk_at dksX12_behind_0 4 rfl rfl)
theorem dX12_behind_5 : decode cX12_behind 5 = .ok (.iadd, 1) := dk_96 (dk_at dksX12_behind_0 5 rfl rfl)
theorem dX12_behind_6 : decode cX12_behind 6 = .ok (.ireturn, 1) := dk_172 (dk_at dksX12_behind_0 6 rfl rfl)
abbrev cX12_init : ByteArray := prog_3_method_1_code
def yX12_init : MethodName := ⟨RX12, "<init>", "(LMendReader;LMendReader$Chart;III)V"⟩
def dkwX12_init_0 : List UInt8 := [42, 43, 181, 0, 1, 42, 43, 44, 29, 21, 4, 21, 5, 44, 180, 0, 7, 29, 46, 183, 0, 13, 177]
abbrev dktX12_init_0 : List UInt8 := dkwX12_init_0 ++ []
theorem dksX12_init_0 : cX12_init.data.toList.drop 0 = dktX12_init_0 := by decide +kernel
theorem dX12_init_0 : decode cX12_init 0 = .ok (.aload_n 0, 1) := dk_42 (dk_at dksX12_init_0 0 rfl rfl)
theorem dX12_init_1 : decode cX12_init 1 = .ok (.aload_n 1, 1) := dk_43 (dk_at dksX12_init_0 1 rfl rfl)
theorem dX12_init_2 : decode cX12_init 2 = .ok (.putfield 1, 3) := dk_181 0 1 (dk_at dksX12_init_0 2 rfl rfl)
theorem dX12_init_5 : decode cX12_init 5 = .ok (.aload_n 0, 1) := dk_42 (dk_at dksX12_init_0 5 rfl rfl)
theorem dX12_init_6 : decode cX12_init 6 = .ok (.aload_n 1, 1) := dk_43 (dk_at dksX12_init_0 6 rfl rfl)
theorem dX12_init_7 : decode cX12_init 7 = .ok (.aload_n 2, 1) := dk_44 (dk_at dksX12_init_0 7 rfl rfl)
theorem dX12_init_8 : decode cX12_init 8 = .ok (.iload_n 3, 1) := dk_29 (dk_at dksX12_init_0 8 rfl rfl)
theorem dX12_init_9 : decode cX12_init 9 = .ok (.iload 4, 2) := dk_21 4 (dk_at dksX12_init_0 9 rfl rfl)
theorem dX12_init_11 : decode cX12_init 11 = .ok (.iload 5, 2) := dk_21 5 (dk_at dksX12_init_0 11 rfl rfl)
theorem dX12_init_13 : decode cX12_init 13 = .ok (.aload_n 2, 1) := dk_44 (dk_at dksX12_init_0 13 rfl rfl)
theorem dX12_init_14 : decode cX12_init 14 = .ok (.getfield 7, 3) := dk_180 0 7 (dk_at dksX12_init_0 14 rfl rfl)
theorem dX12_init_17 : decode cX12_init 17 = .ok (.iload_n 3, 1) := dk_29 (dk_at dksX12_init_0 17 rfl rfl)
theorem dX12_init_18 : decode cX12_init 18 = .ok (.iaload, 1) := dk_46 (dk_at dksX12_init_0 18 rfl rfl)
theorem dX12_init_19 : decode cX12_init 19 = .ok (.invokespecial 13, 3) := dk_183 0 13 (dk_at dksX12_init_0 19 rfl rfl)
theorem dX12_init_22 : decode cX12_init 22 = .ok (.return_, 1) := dk_177 (dk_at dksX12_init_0 22 rfl rfl)
abbrev cX12_price : ByteArray := prog_3_method_3_code
def yX12_price : MethodName := ⟨RX12, "price", "()I"⟩
def dkwX12_price_0 : List UInt8 := [42, 180, 0, 1, 180, 0, 23, 4, 50, 42, 180, 0, 29, 46, 172]
abbrev dktX12_price_0 : List UInt8 := dkwX12_price_0 ++ []
theorem dksX12_price_0 : cX12_price.data.toList.drop 0 = dktX12_price_0 := by decide +kernel
theorem dX12_price_0 : decode cX12_price 0 = .ok (.aload_n 0, 1) := dk_42 (dk_at dksX12_price_0 0 rfl rfl)
theorem dX12_price_1 : decode cX12_price 1 = .ok (.getfield 1, 3) := dk_180 0 1 (dk_at dksX12_price_0 1 rfl rfl)
theorem dX12_price_4 : decode cX12_price 4 = .ok (.getfield 23, 3) := dk_180 0 23 (dk_at dksX12_price_0 4 rfl rfl)
theorem dX12_price_7 : decode cX12_price 7 = .ok (.iconst 1, 1) := dk_4 (dk_at dksX12_price_0 7 rfl rfl)
theorem dX12_price_8 : decode cX12_price 8 = .ok (.aaload, 1) := dk_50 (dk_at dksX12_price_0 8 rfl rfl)
theorem dX12_price_9 : decode cX12_price 9 = .ok (.aload_n 0, 1) := dk_42 (dk_at dksX12_price_0 9 rfl rfl)
theorem dX12_price_10 : decode cX12_price 10 = .ok (.getfield 29, 3) := dk_180 0 29 (dk_at dksX12_price_0 10 rfl rfl)
theorem dX12_price_13 : decode cX12_price 13 = .ok (.iaload, 1) := dk_46 (dk_at dksX12_price_0 13 rfl rfl)
theorem dX12_price_14 : decode cX12_price 14 = .ok (.ireturn, 1) := dk_172 (dk_at dksX12_price_0 14 rfl rfl)
theorem q78 : (Jvm.Cond.initialized "MendReader$Extra") ∈ lw_all := lw_g (lw_at lw_m1 22 rfl) rfl
theorem q175 : (Jvm.Cond.fieldLinkNest "MendReader$Extra" (23 : Nat) "MendReader" "prices" "[[I" "MendReader") ∈ lw_tbl := lw_at lw_m1 119 rfl
theorem q364 : (Jvm.Cond.selects "MendReader$Extra" ({ cls := "java/lang/Object", name := "getClass", desc := "()Ljava/lang/Class;" } : Jvm.MethodName) ({ cls := "java/lang/Object", name := "getClass", desc := "()Ljava/lang/Class;" } : Jvm.MethodName)) ∈ lw_all := lw_g (lw_at lw_m2 68 rfl) rfl
theorem q561 : (Jvm.Cond.fieldLink "MendReader$Extra" (33 : Nat) "MendReader$Extra" "place" "I") ∈ lw_all := lw_g (lw_at lw_m3 25 rfl) rfl
theorem q562 : (Jvm.Cond.sameField "MendReader$Extra" "MendReader$Step" "place" "I") ∈ lw_all := lw_g (lw_at lw_m3 26 rfl) rfl
theorem q573 : (Jvm.Cond.fieldLink "MendReader$Extra" (29 : Nat) "MendReader$Extra" "token" "I") ∈ lw_all := lw_g (lw_at lw_m3 37 rfl) rfl
theorem q574 : (Jvm.Cond.sameField "MendReader$Extra" "MendReader$Step" "token" "I") ∈ lw_all := lw_g (lw_at lw_m3 38 rfl) rfl
theorem q607 : (Jvm.Cond.selects "MendReader$Extra" ({ cls := "MendReader$Step", name := "kind", desc := "()I" } : Jvm.MethodName) ({ cls := "MendReader$Extra", name := "kind", desc := "()I" } : Jvm.MethodName)) ∈ lw_all := lw_g (lw_at lw_m3 71 rfl) rfl
theorem q608 : (Jvm.Cond.instanceMethod ({ cls := "MendReader$Extra", name := "kind", desc := "()I" } : Jvm.MethodName)) ∈ lw_all := lw_g (lw_at lw_m3 72 rfl) rfl
theorem q609 : (Jvm.Cond.code ({ cls := "MendReader$Extra", name := "kind", desc := "()I" } : Jvm.MethodName) prog_3_method_2_code (1 : Nat) (Option.some Jvm.ClassFile.FieldType.int)) ∈ lw_all := lw_g (lw_at lw_m3 73 rfl) rfl
theorem q610 : (Jvm.Cond.methodLink "MendReader$Extra" (19 : Nat) ({ cls := "MendReader$Lost", name := "kind", desc := "()I" } : Jvm.MethodName)) ∈ lw_all := lw_g (lw_at lw_m3 74 rfl) rfl
theorem q611 : (Jvm.Cond.superclass "MendReader$Extra" "MendReader$Lost") ∈ lw_all := lw_g (lw_at lw_m3 75 rfl) rfl
theorem q646 : (Jvm.Cond.selects "MendReader$Extra" ({ cls := "MendReader$Step", name := "touchesFence", desc := "()Z" } : Jvm.MethodName) ({ cls := "MendReader$Lost", name := "touchesFence", desc := "()Z" } : Jvm.MethodName)) ∈ lw_all := lw_g (lw_at lw_m3 110 rfl) rfl
theorem q670 : (Jvm.Cond.sameMethod "MendReader$Extra" "MendReader$Lost" "touchesFence" "()Z") ∈ lw_all := lw_g (lw_at lw_m3 134 rfl) rfl
theorem q684 : (Jvm.Cond.selects "MendReader$Extra" ({ cls := "MendReader$Step", name := "told", desc := "()I" } : Jvm.MethodName) ({ cls := "MendReader$Extra", name := "told", desc := "()I" } : Jvm.MethodName)) ∈ lw_all := lw_g (lw_at lw_m3 148 rfl) rfl
theorem q685 : (Jvm.Cond.instanceMethod ({ cls := "MendReader$Extra", name := "told", desc := "()I" } : Jvm.MethodName)) ∈ lw_all := lw_g (lw_at lw_m3 149 rfl) rfl
theorem q686 : (Jvm.Cond.code ({ cls := "MendReader$Extra", name := "told", desc := "()I" } : Jvm.MethodName) prog_3_method_5_code (1 : Nat) (Option.some Jvm.ClassFile.FieldType.int)) ∈ lw_all := lw_g (lw_at lw_m3 150 rfl) rfl
theorem q706 : (Jvm.Cond.selects "MendReader$Extra" ({ cls := "MendReader$Step", name := "first", desc := "()I" } : Jvm.MethodName) ({ cls := "MendReader$Step", name := "first", desc := "()I" } : Jvm.MethodName)) ∈ lw_all := lw_g (lw_at lw_m3 170 rfl) rfl
theorem q718 : (Jvm.Cond.selects "MendReader$Extra" ({ cls := "MendReader$Step", name := "behind", desc := "()I" } : Jvm.MethodName) ({ cls := "MendReader$Extra", name := "behind", desc := "()I" } : Jvm.MethodName)) ∈ lw_all := lw_g (lw_at lw_m3 182 rfl) rfl
theorem q719 : (Jvm.Cond.instanceMethod ({ cls := "MendReader$Extra", name := "behind", desc := "()I" } : Jvm.MethodName)) ∈ lw_all := lw_g (lw_at lw_m3 183 rfl) rfl
theorem q720 : (Jvm.Cond.code ({ cls := "MendReader$Extra", name := "behind", desc := "()I" } : Jvm.MethodName) prog_3_method_4_code (1 : Nat) (Option.some Jvm.ClassFile.FieldType.int)) ∈ lw_all := lw_g (lw_at lw_m3 184 rfl) rfl
theorem q796 : (Jvm.Cond.instantiable "MendReader$Extra" (8 : Nat)) ∈ lw_all := lw_g (lw_at lw_m4 20 rfl) rfl
theorem q798 : (Jvm.Cond.instanceMethod ({ cls := "MendReader$Extra", name := "<init>", desc := "(LMendReader;LMendReader$Chart;III)V" } : Jvm.MethodName)) ∈ lw_all := lw_g (lw_at lw_m4 22 rfl) rfl
theorem q799 : (Jvm.Cond.code ({ cls := "MendReader$Extra", name := "<init>", desc := "(LMendReader;LMendReader$Chart;III)V" } : Jvm.MethodName) prog_3_method_1_code (6 : Nat) (Option.none : Option Jvm.ClassFile.FieldType)) ∈ lw_all := lw_g (lw_at lw_m4 23 rfl) rfl
theorem q800 : (Jvm.Cond.methodLink "MendReader$Extra" (13 : Nat) ({ cls := "MendReader$Lost", name := "<init>", desc := "(LMendReader;LMendReader$Chart;IIII)V" } : Jvm.MethodName)) ∈ lw_all := lw_g (lw_at lw_m4 24 rfl) rfl
theorem q801 : (Jvm.Cond.fieldLink "MendReader$Extra" (1 : Nat) "MendReader$Extra" "this$0" "LMendReader;") ∈ lw_all := lw_g (lw_at lw_m4 25 rfl) rfl
theorem q802 : (Jvm.Cond.laysFinal "MendReader$Extra" "MendReader$Extra" "this$0" "LMendReader;") ∈ lw_all := lw_g (lw_at lw_m4 26 rfl) rfl
theorem q803 : (Jvm.Cond.soleField "MendReader$Extra" "this$0") ∈ lw_all := lw_g (lw_at lw_m4 27 rfl) rfl
theorem q804 : (Jvm.Cond.laysFinal "MendReader$Extra" "MendReader$Lost" "this$0" "LMendReader;") ∈ lw_all := lw_g (lw_at lw_m4 28 rfl) rfl
theorem q805 : (Jvm.Cond.laysFinal "MendReader$Extra" "MendReader$Step" "chart" "LMendReader$Chart;") ∈ lw_all := lw_g (lw_at lw_m4 29 rfl) rfl
theorem q806 : (Jvm.Cond.laysFinal "MendReader$Extra" "MendReader$Step" "place" "I") ∈ lw_all := lw_g (lw_at lw_m4 30 rfl) rfl
theorem q807 : (Jvm.Cond.laysFinal "MendReader$Extra" "MendReader$Step" "from" "I") ∈ lw_all := lw_g (lw_at lw_m4 31 rfl) rfl
theorem q808 : (Jvm.Cond.laysFinal "MendReader$Extra" "MendReader$Step" "to" "I") ∈ lw_all := lw_g (lw_at lw_m4 32 rfl) rfl
theorem q809 : (Jvm.Cond.laysFinal "MendReader$Extra" "MendReader$Step" "token" "I") ∈ lw_all := lw_g (lw_at lw_m4 33 rfl) rfl
theorem q810 : (Jvm.Cond.laysFinal "MendReader$Extra" "MendReader$Step" "this$0" "LMendReader;") ∈ lw_all := lw_g (lw_at lw_m4 34 rfl) rfl
theorem q881 : (Jvm.Cond.selects "MendReader$Extra" ({ cls := "MendReader$Step", name := "price", desc := "()I" } : Jvm.MethodName) ({ cls := "MendReader$Extra", name := "price", desc := "()I" } : Jvm.MethodName)) ∈ lw_all := lw_g (lw_at lw_m4 105 rfl) rfl
theorem q882 : (Jvm.Cond.instanceMethod ({ cls := "MendReader$Extra", name := "price", desc := "()I" } : Jvm.MethodName)) ∈ lw_all := lw_g (lw_at lw_m4 106 rfl) rfl
theorem q883 : (Jvm.Cond.code ({ cls := "MendReader$Extra", name := "price", desc := "()I" } : Jvm.MethodName) prog_3_method_3_code (1 : Nat) (Option.some Jvm.ClassFile.FieldType.int)) ∈ lw_all := lw_g (lw_at lw_m4 107 rfl) rfl
theorem q916 : (Jvm.Cond.fieldLinkNest "MendReader$Extra" (7 : Nat) "MendReader$Chart" "text" "[I" "MendReader") ∈ lw_tbl := lw_at lw_m4 140 rfl
theorem q1047 : (Jvm.Cond.selects "MendReader$Extra" ({ cls := "MendReader$Step", name := "form", desc := "()I" } : Jvm.MethodName) ({ cls := "MendReader$Step", name := "form", desc := "()I" } : Jvm.MethodName)) ∈ lw_all := lw_g (lw_at lw_m5 31 rfl) rfl
theorem q1758 : (Jvm.Cond.sameMethod "MendReader$Extra" "MendReader$Extra" "kind" "()I") ∈ lw_all := lw_g (lw_at lw_m8 22 rfl) rfl
theorem q1764 : (Jvm.Cond.castable "MendReader$Extra" "MendReader$Step") ∈ lw_tbl := lw_at lw_m8 28 rfl
theorem q1785 : (Jvm.Cond.castable "MendReader$Extra" "java/lang/Object") ∈ lw_tbl := lw_at lw_m8 49 rfl
theorem in_X12 : ∀ w ∈ wsX120, w ∈ lw_all := lw_in wsX120 [805, 806, 807, 808, 809, 810, 804, 802] (by decide +kernel) (by decide +kernel)
/-! MendReader$Run -/
set_option maxRecDepth 100000
def RX13 : String := "MendReader$Run"
def TX13 : u_T := fun k => match k with
  | 0 => ("MendReader$Step", "chart", "LMendReader$Chart;", true)
  | 1 => ("MendReader$Step", "place", "I", true)
  | 2 => ("MendReader$Step", "from", "I", true)
  | 3 => ("MendReader$Step", "to", "I", true)
  | 4 => ("MendReader$Step", "token", "I", true)
  | 5 => ("MendReader$Step", "this$0", "LMendReader;", true)
  | 6 => ("MendReader$Lost", "this$0", "LMendReader;", true)
  | 7 => ("MendReader$Extra", "this$0", "LMendReader;", true)
  | 8 => ("MendReader$Run", "many", "I", true)
  | _ => ("MendReader$Run", "this$0", "LMendReader;", true)
def tyX13 : Nat → FieldType := fun k => match k with
  | 0 => .object "MendReader$Chart"
  | 1 => .int
  | 2 => .int
  | 3 => .int
  | 4 => .int
  | 5 => .object "MendReader"
  | 6 => .object "MendReader"
  | 7 => .object "MendReader"
  | 8 => .int
  | _ => .object "MendReader"
abbrev wsX130 : List Cond := u_ws RX13 TX13 10
-- two fields of one name: no nmX13
theorem tyX13_ok : ∀ k, k < 10 → parseFieldDescriptor (TX13 k).2.2.1 = some (tyX13 k) := by decide +kernel
abbrev cX13_kind : ByteArray := prog_9_method_2_code
def yX13_kind : MethodName := ⟨RX13, "kind", "()I"⟩
def dkwX13_kind_0 : List UInt8 := [42, 183, 0, 17, 4, 96, 172]
abbrev dktX13_kind_0 : List UInt8 := dkwX13_kind_0 ++ []
theorem dksX13_kind_0 : cX13_kind.data.toList.drop 0 = dktX13_kind_0 := by decide +kernel
theorem dX13_kind_0 : decode cX13_kind 0 = .ok (.aload_n 0, 1) := dk_42 (dk_at dksX13_kind_0 0 rfl rfl)
theorem dX13_kind_1 : decode cX13_kind 1 = .ok (.invokespecial 17, 3) := dk_183 0 17 (dk_at dksX13_kind_0 1 rfl rfl)
theorem dX13_kind_4 : decode cX13_kind 4 = .ok (.iconst 1, 1) := dk_4 (dk_at dksX13_kind_0 4 rfl rfl)
theorem dX13_kind_5 : decode cX13_kind 5 = .ok (.iadd, 1) := dk_96 (dk_at dksX13_kind_0 5 rfl rfl)
theorem dX13_kind_6 : decode cX13_kind 6 = .ok (.ireturn, 1) := dk_172 (dk_at dksX13_kind_0 6 rfl rfl)
abbrev cX13_touchesFence : ByteArray := prog_9_method_4_code
def yX13_touchesFence : MethodName := ⟨RX13, "touchesFence", "()Z"⟩
def dkwX13_touchesFence_1 : List UInt8 := [180, 0, 34, 180, 0, 38, 42, 180, 0, 44, 28, 96, 46, 51, 128, 60, 132, 2, 1, 167, 255, 220, 27, 172]
abbrev dktX13_touchesFence_1 : List UInt8 := dkwX13_touchesFence_1 ++ []
def dkwX13_touchesFence_0 : List UInt8 := [42, 183, 0, 26, 60, 4, 61, 28, 42, 180, 0, 13, 162, 0, 34, 27, 42, 180, 0, 1, 180, 0, 30, 42]
abbrev dktX13_touchesFence_0 : List UInt8 := dkwX13_touchesFence_0 ++ dktX13_touchesFence_1
theorem dksX13_touchesFence_0 : cX13_touchesFence.data.toList.drop 0 = dktX13_touchesFence_0 := by decide +kernel
theorem dksX13_touchesFence_1 : cX13_touchesFence.data.toList.drop 24 = dktX13_touchesFence_1 := dk_seg dksX13_touchesFence_0 24 rfl rfl
theorem dX13_touchesFence_0 : decode cX13_touchesFence 0 = .ok (.aload_n 0, 1) := dk_42 (dk_at dksX13_touchesFence_0 0 rfl rfl)
theorem dX13_touchesFence_1 : decode cX13_touchesFence 1 = .ok (.invokespecial 26, 3) := dk_183 0 26 (dk_at dksX13_touchesFence_0 1 rfl rfl)
theorem dX13_touchesFence_4 : decode cX13_touchesFence 4 = .ok (.istore_n 1, 1) := dk_60 (dk_at dksX13_touchesFence_0 4 rfl rfl)
theorem dX13_touchesFence_5 : decode cX13_touchesFence 5 = .ok (.iconst 1, 1) := dk_4 (dk_at dksX13_touchesFence_0 5 rfl rfl)
theorem dX13_touchesFence_6 : decode cX13_touchesFence 6 = .ok (.istore_n 2, 1) := dk_61 (dk_at dksX13_touchesFence_0 6 rfl rfl)
theorem dX13_touchesFence_7 : decode cX13_touchesFence 7 = .ok (.iload_n 2, 1) := dk_28 (dk_at dksX13_touchesFence_0 7 rfl rfl)
theorem dX13_touchesFence_8 : decode cX13_touchesFence 8 = .ok (.aload_n 0, 1) := dk_42 (dk_at dksX13_touchesFence_0 8 rfl rfl)
theorem dX13_touchesFence_9 : decode cX13_touchesFence 9 = .ok (.getfield 13, 3) := dk_180 0 13 (dk_at dksX13_touchesFence_0 9 rfl rfl)
theorem dX13_touchesFence_12 : decode cX13_touchesFence 12 = .ok (.if_icmp .ge 34, 3) := dk_162 0 34 (dk_at dksX13_touchesFence_0 12 rfl rfl)
theorem dX13_touchesFence_15 : decode cX13_touchesFence 15 = .ok (.iload_n 1, 1) := dk_27 (dk_at dksX13_touchesFence_0 15 rfl rfl)
theorem dX13_touchesFence_16 : decode cX13_touchesFence 16 = .ok (.aload_n 0, 1) := dk_42 (dk_at dksX13_touchesFence_0 16 rfl rfl)
theorem dX13_touchesFence_17 : decode cX13_touchesFence 17 = .ok (.getfield 1, 3) := dk_180 0 1 (dk_at dksX13_touchesFence_0 17 rfl rfl)
theorem dX13_touchesFence_20 : decode cX13_touchesFence 20 = .ok (.getfield 30, 3) := dk_180 0 30 (dk_at dksX13_touchesFence_0 20 rfl rfl)
theorem dX13_touchesFence_23 : decode cX13_touchesFence 23 = .ok (.aload_n 0, 1) := dk_42 (dk_at dksX13_touchesFence_0 23 rfl rfl)
theorem dX13_touchesFence_24 : decode cX13_touchesFence 24 = .ok (.getfield 34, 3) := dk_180 0 34 (dk_at dksX13_touchesFence_1 0 rfl rfl)
theorem dX13_touchesFence_27 : decode cX13_touchesFence 27 = .ok (.getfield 38, 3) := dk_180 0 38 (dk_at dksX13_touchesFence_1 3 rfl rfl)
theorem dX13_touchesFence_30 : decode cX13_touchesFence 30 = .ok (.aload_n 0, 1) := dk_42 (dk_at dksX13_touchesFence_1 6 rfl rfl)
theorem dX13_touchesFence_31 : decode cX13_touchesFence 31 = .ok (.getfield 44, 3) := dk_180 0 44 (dk_at dksX13_touchesFence_1 7 rfl rfl)
theorem dX13_touchesFence_34 : decode cX13_touchesFence 34 = .ok (.iload_n 2, 1) := dk_28 (dk_at dksX13_touchesFence_1 10 rfl rfl)
theorem dX13_touchesFence_35 : decode cX13_touchesFence 35 = .ok (.iadd, 1) := dk_96 (dk_at dksX13_touchesFence_1 11 rfl rfl)
theorem dX13_touchesFence_36 : decode cX13_touchesFence 36 = .ok (.iaload, 1) := dk_46 (dk_at dksX13_touchesFence_1 12 rfl rfl)
theorem dX13_touchesFence_37 : decode cX13_touchesFence 37 = .ok (.baload, 1) := dk_51 (dk_at dksX13_touchesFence_1 13 rfl rfl)
theorem dX13_touchesFence_38 : decode cX13_touchesFence 38 = .ok (.ior, 1) := dk_128 (dk_at dksX13_touchesFence_1 14 rfl rfl)
theorem dX13_touchesFence_39 : decode cX13_touchesFence 39 = .ok (.istore_n 1, 1) := dk_60 (dk_at dksX13_touchesFence_1 15 rfl rfl)
theorem dX13_touchesFence_40 : decode cX13_touchesFence 40 = .ok (.iinc 2 1, 3) := dk_132 2 1 (dk_at dksX13_touchesFence_1 16 rfl rfl)
theorem dX13_touchesFence_43 : decode cX13_touchesFence 43 = .ok (.goto (-36), 3) := dk_167 255 220 (dk_at dksX13_touchesFence_1 19 rfl rfl)
theorem dX13_touchesFence_46 : decode cX13_touchesFence 46 = .ok (.iload_n 1, 1) := dk_27 (dk_at dksX13_touchesFence_1 22 rfl rfl)
theorem dX13_touchesFence_47 : decode cX13_touchesFence 47 = .ok (.ireturn, 1) := dk_172 (dk_at dksX13_touchesFence_1 23 rfl rfl)
abbrev cX13_told : ByteArray := prog_9_method_6_code
def yX13_told : MethodName := ⟨RX13, "told", "()I"⟩
theorem dX13_told_0 : decode cX13_told 0 = .ok (.aload_n 0, 1) := by decide +kernel
theorem dX13_told_1 : decode cX13_told 1 = .ok (.getfield 13, 3) := by decide +kernel
theorem dX13_told_4 : decode cX13_told 4 = .ok (.ireturn, 1) := by decide +kernel
abbrev cX13_behind : ByteArray := prog_9_method_5_code
def yX13_behind : MethodName := ⟨RX13, "behind", "()I"⟩
def dkwX13_behind_0 : List UInt8 := [42, 180, 0, 44, 42, 180, 0, 13, 96, 172]
abbrev dktX13_behind_0 : List UInt8 := dkwX13_behind_0 ++ []
theorem dksX13_behind_0 : cX13_behind.data.toList.drop 0 = dktX13_behind_0 := by decide +kernel
theorem dX13_behind_0 : decode cX13_behind 0 = .ok (.aload_n 0, 1) := dk_42 (dk_at dksX13_behind_0 0 rfl rfl)
theorem dX13_behind_1 : decode cX13_behind 1 = .ok (.getfield 44, 3) := dk_180 0 44 (dk_at dksX13_behind_0 1 rfl rfl)
theorem dX13_behind_4 : decode cX13_behind 4 = .ok (.aload_n 0, 1) := dk_42 (dk_at dksX13_behind_0 4 rfl rfl)
theorem dX13_behind_5 : decode cX13_behind 5 = .ok (.getfield 13, 3) := dk_180 0 13 (dk_at dksX13_behind_0 5 rfl rfl)
theorem dX13_behind_8 : decode cX13_behind 8 = .ok (.iadd, 1) := dk_96 (dk_at dksX13_behind_0 8 rfl rfl)
theorem dX13_behind_9 : decode cX13_behind 9 = .ok (.ireturn, 1) := dk_172 (dk_at dksX13_behind_0 9 rfl rfl)
abbrev cX13_init : ByteArray := prog_9_method_1_code
def yX13_init : MethodName := ⟨RX13, "<init>", "(LMendReader;LMendReader$Chart;IIII)V"⟩
def dkwX13_init_0 : List UInt8 := [42, 43, 181, 0, 1, 42, 43, 44, 29, 21, 4, 21, 5, 183, 0, 7, 42, 21, 6, 181, 0, 13, 177]
abbrev dktX13_init_0 : List UInt8 := dkwX13_init_0 ++ []
theorem dksX13_init_0 : cX13_init.data.toList.drop 0 = dktX13_init_0 := by decide +kernel
theorem dX13_init_0 : decode cX13_init 0 = .ok (.aload_n 0, 1) := dk_42 (dk_at dksX13_init_0 0 rfl rfl)
theorem dX13_init_1 : decode cX13_init 1 = .ok (.aload_n 1, 1) := dk_43 (dk_at dksX13_init_0 1 rfl rfl)
theorem dX13_init_2 : decode cX13_init 2 = .ok (.putfield 1, 3) := dk_181 0 1 (dk_at dksX13_init_0 2 rfl rfl)
theorem dX13_init_5 : decode cX13_init 5 = .ok (.aload_n 0, 1) := dk_42 (dk_at dksX13_init_0 5 rfl rfl)
theorem dX13_init_6 : decode cX13_init 6 = .ok (.aload_n 1, 1) := dk_43 (dk_at dksX13_init_0 6 rfl rfl)
theorem dX13_init_7 : decode cX13_init 7 = .ok (.aload_n 2, 1) := dk_44 (dk_at dksX13_init_0 7 rfl rfl)
theorem dX13_init_8 : decode cX13_init 8 = .ok (.iload_n 3, 1) := dk_29 (dk_at dksX13_init_0 8 rfl rfl)
theorem dX13_init_9 : decode cX13_init 9 = .ok (.iload 4, 2) := dk_21 4 (dk_at dksX13_init_0 9 rfl rfl)
theorem dX13_init_11 : decode cX13_init 11 = .ok (.iload 5, 2) := dk_21 5 (dk_at dksX13_init_0 11 rfl rfl)
theorem dX13_init_13 : decode cX13_init 13 = .ok (.invokespecial 7, 3) := dk_183 0 7 (dk_at dksX13_init_0 13 rfl rfl)
theorem dX13_init_16 : decode cX13_init 16 = .ok (.aload_n 0, 1) := dk_42 (dk_at dksX13_init_0 16 rfl rfl)
theorem dX13_init_17 : decode cX13_init 17 = .ok (.iload 6, 2) := dk_21 6 (dk_at dksX13_init_0 17 rfl rfl)
theorem dX13_init_19 : decode cX13_init 19 = .ok (.putfield 13, 3) := dk_181 0 13 (dk_at dksX13_init_0 19 rfl rfl)
theorem dX13_init_22 : decode cX13_init 22 = .ok (.return_, 1) := dk_177 (dk_at dksX13_init_0 22 rfl rfl)
abbrev cX13_price : ByteArray := prog_9_method_3_code
def yX13_price : MethodName := ⟨RX13, "price", "()I"⟩
def dkwX13_price_0 : List UInt8 := [42, 180, 0, 1, 180, 0, 21, 42, 180, 0, 13, 96, 172]
abbrev dktX13_price_0 : List UInt8 := dkwX13_price_0 ++ []
theorem dksX13_price_0 : cX13_price.data.toList.drop 0 = dktX13_price_0 := by decide +kernel
theorem dX13_price_0 : decode cX13_price 0 = .ok (.aload_n 0, 1) := dk_42 (dk_at dksX13_price_0 0 rfl rfl)
theorem dX13_price_1 : decode cX13_price 1 = .ok (.getfield 1, 3) := dk_180 0 1 (dk_at dksX13_price_0 1 rfl rfl)
theorem dX13_price_4 : decode cX13_price 4 = .ok (.getfield 21, 3) := dk_180 0 21 (dk_at dksX13_price_0 4 rfl rfl)
theorem dX13_price_7 : decode cX13_price 7 = .ok (.aload_n 0, 1) := dk_42 (dk_at dksX13_price_0 7 rfl rfl)
theorem dX13_price_8 : decode cX13_price 8 = .ok (.getfield 13, 3) := dk_180 0 13 (dk_at dksX13_price_0 8 rfl rfl)
theorem dX13_price_11 : decode cX13_price 11 = .ok (.iadd, 1) := dk_96 (dk_at dksX13_price_0 11 rfl rfl)
theorem dX13_price_12 : decode cX13_price 12 = .ok (.ireturn, 1) := dk_172 (dk_at dksX13_price_0 12 rfl rfl)
theorem q79 : (Jvm.Cond.initialized "MendReader$Run") ∈ lw_all := lw_g (lw_at lw_m1 23 rfl) rfl
theorem q172 : (Jvm.Cond.fieldLinkNest "MendReader$Run" (30 : Nat) "MendReader" "isFence" "[Z" "MendReader") ∈ lw_tbl := lw_at lw_m1 116 rfl
theorem q181 : (Jvm.Cond.fieldLinkNest "MendReader$Run" (21 : Nat) "MendReader" "runPrice" "I" "MendReader") ∈ lw_tbl := lw_at lw_m1 125 rfl
theorem q370 : (Jvm.Cond.selects "MendReader$Run" ({ cls := "java/lang/Object", name := "getClass", desc := "()Ljava/lang/Class;" } : Jvm.MethodName) ({ cls := "java/lang/Object", name := "getClass", desc := "()Ljava/lang/Class;" } : Jvm.MethodName)) ∈ lw_all := lw_g (lw_at lw_m2 74 rfl) rfl
theorem q553 : (Jvm.Cond.fieldLink "MendReader$Run" (34 : Nat) "MendReader$Run" "chart" "LMendReader$Chart;") ∈ lw_all := lw_g (lw_at lw_m3 17 rfl) rfl
theorem q554 : (Jvm.Cond.sameField "MendReader$Run" "MendReader$Step" "chart" "LMendReader$Chart;") ∈ lw_all := lw_g (lw_at lw_m3 18 rfl) rfl
theorem q563 : (Jvm.Cond.fieldLink "MendReader$Run" (44 : Nat) "MendReader$Run" "place" "I") ∈ lw_all := lw_g (lw_at lw_m3 27 rfl) rfl
theorem q564 : (Jvm.Cond.sameField "MendReader$Run" "MendReader$Step" "place" "I") ∈ lw_all := lw_g (lw_at lw_m3 28 rfl) rfl
theorem q630 : (Jvm.Cond.selects "MendReader$Run" ({ cls := "MendReader$Step", name := "kind", desc := "()I" } : Jvm.MethodName) ({ cls := "MendReader$Run", name := "kind", desc := "()I" } : Jvm.MethodName)) ∈ lw_all := lw_g (lw_at lw_m3 94 rfl) rfl
theorem q631 : (Jvm.Cond.instanceMethod ({ cls := "MendReader$Run", name := "kind", desc := "()I" } : Jvm.MethodName)) ∈ lw_all := lw_g (lw_at lw_m3 95 rfl) rfl
theorem q632 : (Jvm.Cond.code ({ cls := "MendReader$Run", name := "kind", desc := "()I" } : Jvm.MethodName) prog_9_method_2_code (1 : Nat) (Option.some Jvm.ClassFile.FieldType.int)) ∈ lw_all := lw_g (lw_at lw_m3 96 rfl) rfl
theorem q633 : (Jvm.Cond.methodLink "MendReader$Run" (17 : Nat) ({ cls := "MendReader$Extra", name := "kind", desc := "()I" } : Jvm.MethodName)) ∈ lw_all := lw_g (lw_at lw_m3 97 rfl) rfl
theorem q634 : (Jvm.Cond.superclass "MendReader$Run" "MendReader$Extra") ∈ lw_all := lw_g (lw_at lw_m3 98 rfl) rfl
theorem q666 : (Jvm.Cond.selects "MendReader$Run" ({ cls := "MendReader$Step", name := "touchesFence", desc := "()Z" } : Jvm.MethodName) ({ cls := "MendReader$Run", name := "touchesFence", desc := "()Z" } : Jvm.MethodName)) ∈ lw_all := lw_g (lw_at lw_m3 130 rfl) rfl
theorem q667 : (Jvm.Cond.instanceMethod ({ cls := "MendReader$Run", name := "touchesFence", desc := "()Z" } : Jvm.MethodName)) ∈ lw_all := lw_g (lw_at lw_m3 131 rfl) rfl
theorem q668 : (Jvm.Cond.code ({ cls := "MendReader$Run", name := "touchesFence", desc := "()Z" } : Jvm.MethodName) prog_9_method_4_code (3 : Nat) (Option.some Jvm.ClassFile.FieldType.boolean)) ∈ lw_all := lw_g (lw_at lw_m3 132 rfl) rfl
theorem q669 : (Jvm.Cond.methodLink "MendReader$Run" (26 : Nat) ({ cls := "MendReader$Extra", name := "touchesFence", desc := "()Z" } : Jvm.MethodName)) ∈ lw_all := lw_g (lw_at lw_m3 133 rfl) rfl
theorem q694 : (Jvm.Cond.selects "MendReader$Run" ({ cls := "MendReader$Step", name := "told", desc := "()I" } : Jvm.MethodName) ({ cls := "MendReader$Run", name := "told", desc := "()I" } : Jvm.MethodName)) ∈ lw_all := lw_g (lw_at lw_m3 158 rfl) rfl
theorem q695 : (Jvm.Cond.instanceMethod ({ cls := "MendReader$Run", name := "told", desc := "()I" } : Jvm.MethodName)) ∈ lw_all := lw_g (lw_at lw_m3 159 rfl) rfl
theorem q696 : (Jvm.Cond.code ({ cls := "MendReader$Run", name := "told", desc := "()I" } : Jvm.MethodName) prog_9_method_6_code (1 : Nat) (Option.some Jvm.ClassFile.FieldType.int)) ∈ lw_all := lw_g (lw_at lw_m3 160 rfl) rfl
theorem q710 : (Jvm.Cond.selects "MendReader$Run" ({ cls := "MendReader$Step", name := "first", desc := "()I" } : Jvm.MethodName) ({ cls := "MendReader$Step", name := "first", desc := "()I" } : Jvm.MethodName)) ∈ lw_all := lw_g (lw_at lw_m3 174 rfl) rfl
theorem q731 : (Jvm.Cond.selects "MendReader$Run" ({ cls := "MendReader$Step", name := "behind", desc := "()I" } : Jvm.MethodName) ({ cls := "MendReader$Run", name := "behind", desc := "()I" } : Jvm.MethodName)) ∈ lw_all := lw_g (lw_at lw_m3 195 rfl) rfl
theorem q732 : (Jvm.Cond.instanceMethod ({ cls := "MendReader$Run", name := "behind", desc := "()I" } : Jvm.MethodName)) ∈ lw_all := lw_g (lw_at lw_m3 196 rfl) rfl
theorem q733 : (Jvm.Cond.code ({ cls := "MendReader$Run", name := "behind", desc := "()I" } : Jvm.MethodName) prog_9_method_5_code (1 : Nat) (Option.some Jvm.ClassFile.FieldType.int)) ∈ lw_all := lw_g (lw_at lw_m3 197 rfl) rfl
theorem q812 : (Jvm.Cond.instantiable "MendReader$Run" (10 : Nat)) ∈ lw_all := lw_g (lw_at lw_m4 36 rfl) rfl
theorem q814 : (Jvm.Cond.instanceMethod ({ cls := "MendReader$Run", name := "<init>", desc := "(LMendReader;LMendReader$Chart;IIII)V" } : Jvm.MethodName)) ∈ lw_all := lw_g (lw_at lw_m4 38 rfl) rfl
theorem q815 : (Jvm.Cond.code ({ cls := "MendReader$Run", name := "<init>", desc := "(LMendReader;LMendReader$Chart;IIII)V" } : Jvm.MethodName) prog_9_method_1_code (7 : Nat) (Option.none : Option Jvm.ClassFile.FieldType)) ∈ lw_all := lw_g (lw_at lw_m4 39 rfl) rfl
theorem q816 : (Jvm.Cond.methodLink "MendReader$Run" (7 : Nat) ({ cls := "MendReader$Extra", name := "<init>", desc := "(LMendReader;LMendReader$Chart;III)V" } : Jvm.MethodName)) ∈ lw_all := lw_g (lw_at lw_m4 40 rfl) rfl
theorem q817 : (Jvm.Cond.fieldLink "MendReader$Run" (13 : Nat) "MendReader$Run" "many" "I") ∈ lw_all := lw_g (lw_at lw_m4 41 rfl) rfl
theorem q818 : (Jvm.Cond.fieldLink "MendReader$Run" (1 : Nat) "MendReader$Run" "this$0" "LMendReader;") ∈ lw_all := lw_g (lw_at lw_m4 42 rfl) rfl
theorem q819 : (Jvm.Cond.laysFinal "MendReader$Run" "MendReader$Run" "many" "I") ∈ lw_all := lw_g (lw_at lw_m4 43 rfl) rfl
theorem q820 : (Jvm.Cond.soleField "MendReader$Run" "many") ∈ lw_all := lw_g (lw_at lw_m4 44 rfl) rfl
theorem q821 : (Jvm.Cond.laysFinal "MendReader$Run" "MendReader$Run" "this$0" "LMendReader;") ∈ lw_all := lw_g (lw_at lw_m4 45 rfl) rfl
theorem q822 : (Jvm.Cond.soleField "MendReader$Run" "this$0") ∈ lw_all := lw_g (lw_at lw_m4 46 rfl) rfl
theorem q823 : (Jvm.Cond.laysFinal "MendReader$Run" "MendReader$Extra" "this$0" "LMendReader;") ∈ lw_all := lw_g (lw_at lw_m4 47 rfl) rfl
theorem q824 : (Jvm.Cond.laysFinal "MendReader$Run" "MendReader$Lost" "this$0" "LMendReader;") ∈ lw_all := lw_g (lw_at lw_m4 48 rfl) rfl
theorem q825 : (Jvm.Cond.laysFinal "MendReader$Run" "MendReader$Step" "chart" "LMendReader$Chart;") ∈ lw_all := lw_g (lw_at lw_m4 49 rfl) rfl
theorem q826 : (Jvm.Cond.laysFinal "MendReader$Run" "MendReader$Step" "place" "I") ∈ lw_all := lw_g (lw_at lw_m4 50 rfl) rfl
theorem q827 : (Jvm.Cond.laysFinal "MendReader$Run" "MendReader$Step" "from" "I") ∈ lw_all := lw_g (lw_at lw_m4 51 rfl) rfl
theorem q828 : (Jvm.Cond.laysFinal "MendReader$Run" "MendReader$Step" "to" "I") ∈ lw_all := lw_g (lw_at lw_m4 52 rfl) rfl
theorem q829 : (Jvm.Cond.laysFinal "MendReader$Run" "MendReader$Step" "token" "I") ∈ lw_all := lw_g (lw_at lw_m4 53 rfl) rfl
theorem q830 : (Jvm.Cond.laysFinal "MendReader$Run" "MendReader$Step" "this$0" "LMendReader;") ∈ lw_all := lw_g (lw_at lw_m4 54 rfl) rfl
theorem q893 : (Jvm.Cond.selects "MendReader$Run" ({ cls := "MendReader$Step", name := "price", desc := "()I" } : Jvm.MethodName) ({ cls := "MendReader$Run", name := "price", desc := "()I" } : Jvm.MethodName)) ∈ lw_all := lw_g (lw_at lw_m4 117 rfl) rfl
theorem q894 : (Jvm.Cond.instanceMethod ({ cls := "MendReader$Run", name := "price", desc := "()I" } : Jvm.MethodName)) ∈ lw_all := lw_g (lw_at lw_m4 118 rfl) rfl
theorem q895 : (Jvm.Cond.code ({ cls := "MendReader$Run", name := "price", desc := "()I" } : Jvm.MethodName) prog_9_method_3_code (1 : Nat) (Option.some Jvm.ClassFile.FieldType.int)) ∈ lw_all := lw_g (lw_at lw_m4 119 rfl) rfl
theorem q921 : (Jvm.Cond.fieldLinkNest "MendReader$Run" (38 : Nat) "MendReader$Chart" "text" "[I" "MendReader") ∈ lw_tbl := lw_at lw_m4 145 rfl
theorem q1053 : (Jvm.Cond.selects "MendReader$Run" ({ cls := "MendReader$Step", name := "form", desc := "()I" } : Jvm.MethodName) ({ cls := "MendReader$Step", name := "form", desc := "()I" } : Jvm.MethodName)) ∈ lw_all := lw_g (lw_at lw_m5 37 rfl) rfl
theorem q1768 : (Jvm.Cond.castable "MendReader$Run" "MendReader$Step") ∈ lw_tbl := lw_at lw_m8 32 rfl
theorem q1786 : (Jvm.Cond.castable "MendReader$Run" "java/lang/Object") ∈ lw_tbl := lw_at lw_m8 50 rfl
theorem in_X13 : ∀ w ∈ wsX130, w ∈ lw_all := lw_in wsX130 [825, 826, 827, 828, 829, 830, 824, 823, 819, 821] (by decide +kernel) (by decide +kernel)
/-! MendReader$Turned -/
set_option maxRecDepth 100000
def RX14 : String := "MendReader$Turned"
def TX14 : u_T := fun k => match k with
  | 0 => ("MendReader$Step", "chart", "LMendReader$Chart;", true)
  | 1 => ("MendReader$Step", "place", "I", true)
  | 2 => ("MendReader$Step", "from", "I", true)
  | 3 => ("MendReader$Step", "to", "I", true)
  | 4 => ("MendReader$Step", "token", "I", true)
  | 5 => ("MendReader$Step", "this$0", "LMendReader;", true)
  | 6 => ("MendReader$Lost", "this$0", "LMendReader;", true)
  | 7 => ("MendReader$Other", "this$0", "LMendReader;", true)
  | _ => ("MendReader$Turned", "this$0", "LMendReader;", true)
def tyX14 : Nat → FieldType := fun k => match k with
  | 0 => .object "MendReader$Chart"
  | 1 => .int
  | 2 => .int
  | 3 => .int
  | 4 => .int
  | 5 => .object "MendReader"
  | 6 => .object "MendReader"
  | 7 => .object "MendReader"
  | _ => .object "MendReader"
abbrev wsX140 : List Cond := u_ws RX14 TX14 9
-- two fields of one name: no nmX14
theorem tyX14_ok : ∀ k, k < 9 → parseFieldDescriptor (TX14 k).2.2.1 = some (tyX14 k) := by decide +kernel
abbrev cX14_kind : ByteArray := prog_15_method_2_code
def yX14_kind : MethodName := ⟨RX14, "kind", "()I"⟩
def dkwX14_kind_0 : List UInt8 := [42, 183, 0, 19, 4, 96, 172]
abbrev dktX14_kind_0 : List UInt8 := dkwX14_kind_0 ++ []
theorem dksX14_kind_0 : cX14_kind.data.toList.drop 0 = dktX14_kind_0 := by decide +kernel
theorem dX14_kind_0 : decode cX14_kind 0 = .ok (.aload_n 0, 1) := dk_42 (dk_at dksX14_kind_0 0 rfl rfl)
theorem dX14_kind_1 : decode cX14_kind 1 = .ok (.invokespecial 19, 3) := dk_183 0 19 (dk_at dksX14_kind_0 1 rfl rfl)
theorem dX14_kind_4 : decode cX14_kind 4 = .ok (.iconst 1, 1) := dk_4 (dk_at dksX14_kind_0 4 rfl rfl)
theorem dX14_kind_5 : decode cX14_kind 5 = .ok (.iadd, 1) := dk_96 (dk_at dksX14_kind_0 5 rfl rfl)
theorem dX14_kind_6 : decode cX14_kind 6 = .ok (.ireturn, 1) := dk_172 (dk_at dksX14_kind_0 6 rfl rfl)
abbrev cX14_told : ByteArray := prog_15_method_5_code
def yX14_told : MethodName := ⟨RX14, "told", "()I"⟩
theorem dX14_told_0 : decode cX14_told 0 = .ok (.iconst 0, 1) := by decide +kernel
theorem dX14_told_1 : decode cX14_told 1 = .ok (.ireturn, 1) := by decide +kernel
abbrev cX14_behind : ByteArray := prog_15_method_4_code
def yX14_behind : MethodName := ⟨RX14, "behind", "()I"⟩
def dkwX14_behind_0 : List UInt8 := [42, 183, 0, 29, 4, 96, 172]
abbrev dktX14_behind_0 : List UInt8 := dkwX14_behind_0 ++ []
theorem dksX14_behind_0 : cX14_behind.data.toList.drop 0 = dktX14_behind_0 := by decide +kernel
theorem dX14_behind_0 : decode cX14_behind 0 = .ok (.aload_n 0, 1) := dk_42 (dk_at dksX14_behind_0 0 rfl rfl)
theorem dX14_behind_1 : decode cX14_behind 1 = .ok (.invokespecial 29, 3) := dk_183 0 29 (dk_at dksX14_behind_0 1 rfl rfl)
theorem dX14_behind_4 : decode cX14_behind 4 = .ok (.iconst 1, 1) := dk_4 (dk_at dksX14_behind_0 4 rfl rfl)
theorem dX14_behind_5 : decode cX14_behind 5 = .ok (.iadd, 1) := dk_96 (dk_at dksX14_behind_0 5 rfl rfl)
theorem dX14_behind_6 : decode cX14_behind 6 = .ok (.ireturn, 1) := dk_172 (dk_at dksX14_behind_0 6 rfl rfl)
abbrev cX14_init : ByteArray := prog_15_method_1_code
def yX14_init : MethodName := ⟨RX14, "<init>", "(LMendReader;LMendReader$Chart;III)V"⟩
def dkwX14_init_1 : List UInt8 := [177]
abbrev dktX14_init_1 : List UInt8 := dkwX14_init_1 ++ []
def dkwX14_init_0 : List UInt8 := [42, 43, 181, 0, 1, 42, 43, 44, 29, 21, 4, 21, 5, 44, 180, 0, 7, 29, 4, 96, 46, 183, 0, 13]
abbrev dktX14_init_0 : List UInt8 := dkwX14_init_0 ++ dktX14_init_1
theorem dksX14_init_0 : cX14_init.data.toList.drop 0 = dktX14_init_0 := by decide +kernel
theorem dksX14_init_1 : cX14_init.data.toList.drop 24 = dktX14_init_1 := dk_seg dksX14_init_0 24 rfl rfl
theorem dX14_init_0 : decode cX14_init 0 = .ok (.aload_n 0, 1) := dk_42 (dk_at dksX14_init_0 0 rfl rfl)
theorem dX14_init_1 : decode cX14_init 1 = .ok (.aload_n 1, 1) := dk_43 (dk_at dksX14_init_0 1 rfl rfl)
theorem dX14_init_2 : decode cX14_init 2 = .ok (.putfield 1, 3) := dk_181 0 1 (dk_at dksX14_init_0 2 rfl rfl)
theorem dX14_init_5 : decode cX14_init 5 = .ok (.aload_n 0, 1) := dk_42 (dk_at dksX14_init_0 5 rfl rfl)
theorem dX14_init_6 : decode cX14_init 6 = .ok (.aload_n 1, 1) := dk_43 (dk_at dksX14_init_0 6 rfl rfl)
theorem dX14_init_7 : decode cX14_init 7 = .ok (.aload_n 2, 1) := dk_44 (dk_at dksX14_init_0 7 rfl rfl)
theorem dX14_init_8 : decode cX14_init 8 = .ok (.iload_n 3, 1) := dk_29 (dk_at dksX14_init_0 8 rfl rfl)
theorem dX14_init_9 : decode cX14_init 9 = .ok (.iload 4, 2) := dk_21 4 (dk_at dksX14_init_0 9 rfl rfl)
theorem dX14_init_11 : decode cX14_init 11 = .ok (.iload 5, 2) := dk_21 5 (dk_at dksX14_init_0 11 rfl rfl)
theorem dX14_init_13 : decode cX14_init 13 = .ok (.aload_n 2, 1) := dk_44 (dk_at dksX14_init_0 13 rfl rfl)
theorem dX14_init_14 : decode cX14_init 14 = .ok (.getfield 7, 3) := dk_180 0 7 (dk_at dksX14_init_0 14 rfl rfl)
theorem dX14_init_17 : decode cX14_init 17 = .ok (.iload_n 3, 1) := dk_29 (dk_at dksX14_init_0 17 rfl rfl)
theorem dX14_init_18 : decode cX14_init 18 = .ok (.iconst 1, 1) := dk_4 (dk_at dksX14_init_0 18 rfl rfl)
theorem dX14_init_19 : decode cX14_init 19 = .ok (.iadd, 1) := dk_96 (dk_at dksX14_init_0 19 rfl rfl)
theorem dX14_init_20 : decode cX14_init 20 = .ok (.iaload, 1) := dk_46 (dk_at dksX14_init_0 20 rfl rfl)
theorem dX14_init_21 : decode cX14_init 21 = .ok (.invokespecial 13, 3) := dk_183 0 13 (dk_at dksX14_init_0 21 rfl rfl)
theorem dX14_init_24 : decode cX14_init 24 = .ok (.return_, 1) := dk_177 (dk_at dksX14_init_1 0 rfl rfl)
abbrev cX14_price : ByteArray := prog_15_method_3_code
def yX14_price : MethodName := ⟨RX14, "price", "()I"⟩
def dkwX14_price_0 : List UInt8 := [42, 180, 0, 1, 180, 0, 23, 172]
abbrev dktX14_price_0 : List UInt8 := dkwX14_price_0 ++ []
theorem dksX14_price_0 : cX14_price.data.toList.drop 0 = dktX14_price_0 := by decide +kernel
theorem dX14_price_0 : decode cX14_price 0 = .ok (.aload_n 0, 1) := dk_42 (dk_at dksX14_price_0 0 rfl rfl)
theorem dX14_price_1 : decode cX14_price 1 = .ok (.getfield 1, 3) := dk_180 0 1 (dk_at dksX14_price_0 1 rfl rfl)
theorem dX14_price_4 : decode cX14_price 4 = .ok (.getfield 23, 3) := dk_180 0 23 (dk_at dksX14_price_0 4 rfl rfl)
theorem dX14_price_7 : decode cX14_price 7 = .ok (.ireturn, 1) := dk_172 (dk_at dksX14_price_0 7 rfl rfl)
theorem q80 : (Jvm.Cond.initialized "MendReader$Turned") ∈ lw_all := lw_g (lw_at lw_m1 24 rfl) rfl
theorem q179 : (Jvm.Cond.fieldLinkNest "MendReader$Turned" (23 : Nat) "MendReader" "turnedPrice" "I" "MendReader") ∈ lw_tbl := lw_at lw_m1 123 rfl
theorem q376 : (Jvm.Cond.selects "MendReader$Turned" ({ cls := "java/lang/Object", name := "getClass", desc := "()Ljava/lang/Class;" } : Jvm.MethodName) ({ cls := "java/lang/Object", name := "getClass", desc := "()Ljava/lang/Class;" } : Jvm.MethodName)) ∈ lw_all := lw_g (lw_at lw_m2 80 rfl) rfl
theorem q636 : (Jvm.Cond.selects "MendReader$Turned" ({ cls := "MendReader$Step", name := "kind", desc := "()I" } : Jvm.MethodName) ({ cls := "MendReader$Turned", name := "kind", desc := "()I" } : Jvm.MethodName)) ∈ lw_all := lw_g (lw_at lw_m3 100 rfl) rfl
theorem q637 : (Jvm.Cond.instanceMethod ({ cls := "MendReader$Turned", name := "kind", desc := "()I" } : Jvm.MethodName)) ∈ lw_all := lw_g (lw_at lw_m3 101 rfl) rfl
theorem q638 : (Jvm.Cond.code ({ cls := "MendReader$Turned", name := "kind", desc := "()I" } : Jvm.MethodName) prog_15_method_2_code (1 : Nat) (Option.some Jvm.ClassFile.FieldType.int)) ∈ lw_all := lw_g (lw_at lw_m3 102 rfl) rfl
theorem q639 : (Jvm.Cond.methodLink "MendReader$Turned" (19 : Nat) ({ cls := "MendReader$Other", name := "kind", desc := "()I" } : Jvm.MethodName)) ∈ lw_all := lw_g (lw_at lw_m3 103 rfl) rfl
theorem q640 : (Jvm.Cond.superclass "MendReader$Turned" "MendReader$Other") ∈ lw_all := lw_g (lw_at lw_m3 104 rfl) rfl
theorem q673 : (Jvm.Cond.selects "MendReader$Turned" ({ cls := "MendReader$Step", name := "touchesFence", desc := "()Z" } : Jvm.MethodName) ({ cls := "MendReader$Other", name := "touchesFence", desc := "()Z" } : Jvm.MethodName)) ∈ lw_all := lw_g (lw_at lw_m3 137 rfl) rfl
theorem q698 : (Jvm.Cond.selects "MendReader$Turned" ({ cls := "MendReader$Step", name := "told", desc := "()I" } : Jvm.MethodName) ({ cls := "MendReader$Turned", name := "told", desc := "()I" } : Jvm.MethodName)) ∈ lw_all := lw_g (lw_at lw_m3 162 rfl) rfl
theorem q699 : (Jvm.Cond.instanceMethod ({ cls := "MendReader$Turned", name := "told", desc := "()I" } : Jvm.MethodName)) ∈ lw_all := lw_g (lw_at lw_m3 163 rfl) rfl
theorem q700 : (Jvm.Cond.code ({ cls := "MendReader$Turned", name := "told", desc := "()I" } : Jvm.MethodName) prog_15_method_5_code (1 : Nat) (Option.some Jvm.ClassFile.FieldType.int)) ∈ lw_all := lw_g (lw_at lw_m3 164 rfl) rfl
theorem q712 : (Jvm.Cond.selects "MendReader$Turned" ({ cls := "MendReader$Step", name := "first", desc := "()I" } : Jvm.MethodName) ({ cls := "MendReader$Step", name := "first", desc := "()I" } : Jvm.MethodName)) ∈ lw_all := lw_g (lw_at lw_m3 176 rfl) rfl
theorem q735 : (Jvm.Cond.selects "MendReader$Turned" ({ cls := "MendReader$Step", name := "behind", desc := "()I" } : Jvm.MethodName) ({ cls := "MendReader$Turned", name := "behind", desc := "()I" } : Jvm.MethodName)) ∈ lw_all := lw_g (lw_at lw_m3 199 rfl) rfl
theorem q736 : (Jvm.Cond.instanceMethod ({ cls := "MendReader$Turned", name := "behind", desc := "()I" } : Jvm.MethodName)) ∈ lw_all := lw_g (lw_at lw_m3 200 rfl) rfl
theorem q737 : (Jvm.Cond.code ({ cls := "MendReader$Turned", name := "behind", desc := "()I" } : Jvm.MethodName) prog_15_method_4_code (1 : Nat) (Option.some Jvm.ClassFile.FieldType.int)) ∈ lw_all := lw_g (lw_at lw_m3 201 rfl) rfl
theorem q738 : (Jvm.Cond.methodLink "MendReader$Turned" (29 : Nat) ({ cls := "MendReader$Other", name := "behind", desc := "()I" } : Jvm.MethodName)) ∈ lw_all := lw_g (lw_at lw_m3 202 rfl) rfl
theorem q836 : (Jvm.Cond.instantiable "MendReader$Turned" (9 : Nat)) ∈ lw_all := lw_g (lw_at lw_m4 60 rfl) rfl
theorem q838 : (Jvm.Cond.instanceMethod ({ cls := "MendReader$Turned", name := "<init>", desc := "(LMendReader;LMendReader$Chart;III)V" } : Jvm.MethodName)) ∈ lw_all := lw_g (lw_at lw_m4 62 rfl) rfl
theorem q839 : (Jvm.Cond.code ({ cls := "MendReader$Turned", name := "<init>", desc := "(LMendReader;LMendReader$Chart;III)V" } : Jvm.MethodName) prog_15_method_1_code (6 : Nat) (Option.none : Option Jvm.ClassFile.FieldType)) ∈ lw_all := lw_g (lw_at lw_m4 63 rfl) rfl
theorem q840 : (Jvm.Cond.methodLink "MendReader$Turned" (13 : Nat) ({ cls := "MendReader$Other", name := "<init>", desc := "(LMendReader;LMendReader$Chart;IIII)V" } : Jvm.MethodName)) ∈ lw_all := lw_g (lw_at lw_m4 64 rfl) rfl
theorem q841 : (Jvm.Cond.fieldLink "MendReader$Turned" (1 : Nat) "MendReader$Turned" "this$0" "LMendReader;") ∈ lw_all := lw_g (lw_at lw_m4 65 rfl) rfl
theorem q842 : (Jvm.Cond.laysFinal "MendReader$Turned" "MendReader$Turned" "this$0" "LMendReader;") ∈ lw_all := lw_g (lw_at lw_m4 66 rfl) rfl
theorem q843 : (Jvm.Cond.soleField "MendReader$Turned" "this$0") ∈ lw_all := lw_g (lw_at lw_m4 67 rfl) rfl
theorem q844 : (Jvm.Cond.laysFinal "MendReader$Turned" "MendReader$Other" "this$0" "LMendReader;") ∈ lw_all := lw_g (lw_at lw_m4 68 rfl) rfl
theorem q845 : (Jvm.Cond.laysFinal "MendReader$Turned" "MendReader$Lost" "this$0" "LMendReader;") ∈ lw_all := lw_g (lw_at lw_m4 69 rfl) rfl
theorem q846 : (Jvm.Cond.laysFinal "MendReader$Turned" "MendReader$Step" "chart" "LMendReader$Chart;") ∈ lw_all := lw_g (lw_at lw_m4 70 rfl) rfl
theorem q847 : (Jvm.Cond.laysFinal "MendReader$Turned" "MendReader$Step" "place" "I") ∈ lw_all := lw_g (lw_at lw_m4 71 rfl) rfl
theorem q848 : (Jvm.Cond.laysFinal "MendReader$Turned" "MendReader$Step" "from" "I") ∈ lw_all := lw_g (lw_at lw_m4 72 rfl) rfl
theorem q849 : (Jvm.Cond.laysFinal "MendReader$Turned" "MendReader$Step" "to" "I") ∈ lw_all := lw_g (lw_at lw_m4 73 rfl) rfl
theorem q850 : (Jvm.Cond.laysFinal "MendReader$Turned" "MendReader$Step" "token" "I") ∈ lw_all := lw_g (lw_at lw_m4 74 rfl) rfl
theorem q851 : (Jvm.Cond.laysFinal "MendReader$Turned" "MendReader$Step" "this$0" "LMendReader;") ∈ lw_all := lw_g (lw_at lw_m4 75 rfl) rfl
theorem q897 : (Jvm.Cond.selects "MendReader$Turned" ({ cls := "MendReader$Step", name := "price", desc := "()I" } : Jvm.MethodName) ({ cls := "MendReader$Turned", name := "price", desc := "()I" } : Jvm.MethodName)) ∈ lw_all := lw_g (lw_at lw_m4 121 rfl) rfl
theorem q898 : (Jvm.Cond.instanceMethod ({ cls := "MendReader$Turned", name := "price", desc := "()I" } : Jvm.MethodName)) ∈ lw_all := lw_g (lw_at lw_m4 122 rfl) rfl
theorem q899 : (Jvm.Cond.code ({ cls := "MendReader$Turned", name := "price", desc := "()I" } : Jvm.MethodName) prog_15_method_3_code (1 : Nat) (Option.some Jvm.ClassFile.FieldType.int)) ∈ lw_all := lw_g (lw_at lw_m4 123 rfl) rfl
theorem q917 : (Jvm.Cond.fieldLinkNest "MendReader$Turned" (7 : Nat) "MendReader$Chart" "text" "[I" "MendReader") ∈ lw_tbl := lw_at lw_m4 141 rfl
theorem q1055 : (Jvm.Cond.selects "MendReader$Turned" ({ cls := "MendReader$Step", name := "form", desc := "()I" } : Jvm.MethodName) ({ cls := "MendReader$Step", name := "form", desc := "()I" } : Jvm.MethodName)) ∈ lw_all := lw_g (lw_at lw_m5 39 rfl) rfl
theorem q1770 : (Jvm.Cond.castable "MendReader$Turned" "MendReader$Step") ∈ lw_tbl := lw_at lw_m8 34 rfl
theorem q1787 : (Jvm.Cond.castable "MendReader$Turned" "java/lang/Object") ∈ lw_tbl := lw_at lw_m8 51 rfl
theorem in_X14 : ∀ w ∈ wsX140, w ∈ lw_all := lw_in wsX140 [846, 847, 848, 849, 850, 851, 845, 844, 842] (by decide +kernel) (by decide +kernel)
/-! MendReader$Parted -/
set_option maxRecDepth 100000
def RX15 : String := "MendReader$Parted"
def TX15 : u_T := fun k => match k with
  | 0 => ("MendReader$Step", "chart", "LMendReader$Chart;", true)
  | 1 => ("MendReader$Step", "place", "I", true)
  | 2 => ("MendReader$Step", "from", "I", true)
  | 3 => ("MendReader$Step", "to", "I", true)
  | 4 => ("MendReader$Step", "token", "I", true)
  | 5 => ("MendReader$Step", "this$0", "LMendReader;", true)
  | 6 => ("MendReader$Lost", "this$0", "LMendReader;", true)
  | 7 => ("MendReader$Other", "this$0", "LMendReader;", true)
  | 8 => ("MendReader$Stuck", "form", "LMendReader$Form;", true)
  | 9 => ("MendReader$Stuck", "number", "I", true)
  | 10 => ("MendReader$Stuck", "this$0", "LMendReader;", true)
  | _ => ("MendReader$Parted", "this$0", "LMendReader;", true)
def tyX15 : Nat → FieldType := fun k => match k with
  | 0 => .object "MendReader$Chart"
  | 1 => .int
  | 2 => .int
  | 3 => .int
  | 4 => .int
  | 5 => .object "MendReader"
  | 6 => .object "MendReader"
  | 7 => .object "MendReader"
  | 8 => .object "MendReader$Form"
  | 9 => .int
  | 10 => .object "MendReader"
  | _ => .object "MendReader"
abbrev wsX150 : List Cond := u_ws RX15 TX15 12
-- two fields of one name: no nmX15
theorem tyX15_ok : ∀ k, k < 12 → parseFieldDescriptor (TX15 k).2.2.1 = some (tyX15 k) := by decide +kernel
abbrev cX15_kind : ByteArray := prog_7_method_3_code
def yX15_kind : MethodName := ⟨RX15, "kind", "()I"⟩
def dkwX15_kind_0 : List UInt8 := [42, 183, 0, 32, 4, 96, 172]
abbrev dktX15_kind_0 : List UInt8 := dkwX15_kind_0 ++ []
theorem dksX15_kind_0 : cX15_kind.data.toList.drop 0 = dktX15_kind_0 := by decide +kernel
theorem dX15_kind_0 : decode cX15_kind 0 = .ok (.aload_n 0, 1) := dk_42 (dk_at dksX15_kind_0 0 rfl rfl)
theorem dX15_kind_1 : decode cX15_kind 1 = .ok (.invokespecial 32, 3) := dk_183 0 32 (dk_at dksX15_kind_0 1 rfl rfl)
theorem dX15_kind_4 : decode cX15_kind 4 = .ok (.iconst 1, 1) := dk_4 (dk_at dksX15_kind_0 4 rfl rfl)
theorem dX15_kind_5 : decode cX15_kind 5 = .ok (.iadd, 1) := dk_96 (dk_at dksX15_kind_0 5 rfl rfl)
theorem dX15_kind_6 : decode cX15_kind 6 = .ok (.ireturn, 1) := dk_172 (dk_at dksX15_kind_0 6 rfl rfl)
abbrev cX15_second : ByteArray := prog_7_method_2_code
def yX15_second : MethodName := ⟨RX15, "second", "()I"⟩
def dkwX15_second_0 : List UInt8 := [42, 180, 0, 19, 180, 0, 23, 42, 180, 0, 29, 4, 96, 46, 172]
abbrev dktX15_second_0 : List UInt8 := dkwX15_second_0 ++ []
theorem dksX15_second_0 : cX15_second.data.toList.drop 0 = dktX15_second_0 := by decide +kernel
theorem dX15_second_0 : decode cX15_second 0 = .ok (.aload_n 0, 1) := dk_42 (dk_at dksX15_second_0 0 rfl rfl)
theorem dX15_second_1 : decode cX15_second 1 = .ok (.getfield 19, 3) := dk_180 0 19 (dk_at dksX15_second_0 1 rfl rfl)
theorem dX15_second_4 : decode cX15_second 4 = .ok (.getfield 23, 3) := dk_180 0 23 (dk_at dksX15_second_0 4 rfl rfl)
theorem dX15_second_7 : decode cX15_second 7 = .ok (.aload_n 0, 1) := dk_42 (dk_at dksX15_second_0 7 rfl rfl)
theorem dX15_second_8 : decode cX15_second 8 = .ok (.getfield 29, 3) := dk_180 0 29 (dk_at dksX15_second_0 8 rfl rfl)
theorem dX15_second_11 : decode cX15_second 11 = .ok (.iconst 1, 1) := dk_4 (dk_at dksX15_second_0 11 rfl rfl)
theorem dX15_second_12 : decode cX15_second 12 = .ok (.iadd, 1) := dk_96 (dk_at dksX15_second_0 12 rfl rfl)
theorem dX15_second_13 : decode cX15_second 13 = .ok (.iaload, 1) := dk_46 (dk_at dksX15_second_0 13 rfl rfl)
theorem dX15_second_14 : decode cX15_second 14 = .ok (.ireturn, 1) := dk_172 (dk_at dksX15_second_0 14 rfl rfl)
abbrev cX15_behind : ByteArray := prog_7_method_4_code
def yX15_behind : MethodName := ⟨RX15, "behind", "()I"⟩
def dkwX15_behind_0 : List UInt8 := [42, 183, 0, 36, 4, 96, 172]
abbrev dktX15_behind_0 : List UInt8 := dkwX15_behind_0 ++ []
theorem dksX15_behind_0 : cX15_behind.data.toList.drop 0 = dktX15_behind_0 := by decide +kernel
theorem dX15_behind_0 : decode cX15_behind 0 = .ok (.aload_n 0, 1) := dk_42 (dk_at dksX15_behind_0 0 rfl rfl)
theorem dX15_behind_1 : decode cX15_behind 1 = .ok (.invokespecial 36, 3) := dk_183 0 36 (dk_at dksX15_behind_0 1 rfl rfl)
theorem dX15_behind_4 : decode cX15_behind 4 = .ok (.iconst 1, 1) := dk_4 (dk_at dksX15_behind_0 4 rfl rfl)
theorem dX15_behind_5 : decode cX15_behind 5 = .ok (.iadd, 1) := dk_96 (dk_at dksX15_behind_0 5 rfl rfl)
theorem dX15_behind_6 : decode cX15_behind 6 = .ok (.ireturn, 1) := dk_172 (dk_at dksX15_behind_0 6 rfl rfl)
abbrev cX15_init : ByteArray := prog_7_method_1_code
def yX15_init : MethodName := ⟨RX15, "<init>", "(LMendReader;LMendReader$Chart;IIILMendReader$Form;I)V"⟩
def dkwX15_init_1 : List UInt8 := [183, 0, 13, 177]
abbrev dktX15_init_1 : List UInt8 := dkwX15_init_1 ++ []
def dkwX15_init_0 : List UInt8 := [42, 43, 181, 0, 1, 42, 43, 44, 29, 21, 4, 21, 5, 25, 6, 180, 0, 7, 25, 6, 21, 7]
abbrev dktX15_init_0 : List UInt8 := dkwX15_init_0 ++ dktX15_init_1
theorem dksX15_init_0 : cX15_init.data.toList.drop 0 = dktX15_init_0 := by decide +kernel
theorem dksX15_init_1 : cX15_init.data.toList.drop 22 = dktX15_init_1 := dk_seg dksX15_init_0 22 rfl rfl
theorem dX15_init_0 : decode cX15_init 0 = .ok (.aload_n 0, 1) := dk_42 (dk_at dksX15_init_0 0 rfl rfl)
theorem dX15_init_1 : decode cX15_init 1 = .ok (.aload_n 1, 1) := dk_43 (dk_at dksX15_init_0 1 rfl rfl)
theorem dX15_init_2 : decode cX15_init 2 = .ok (.putfield 1, 3) := dk_181 0 1 (dk_at dksX15_init_0 2 rfl rfl)
theorem dX15_init_5 : decode cX15_init 5 = .ok (.aload_n 0, 1) := dk_42 (dk_at dksX15_init_0 5 rfl rfl)
theorem dX15_init_6 : decode cX15_init 6 = .ok (.aload_n 1, 1) := dk_43 (dk_at dksX15_init_0 6 rfl rfl)
theorem dX15_init_7 : decode cX15_init 7 = .ok (.aload_n 2, 1) := dk_44 (dk_at dksX15_init_0 7 rfl rfl)
theorem dX15_init_8 : decode cX15_init 8 = .ok (.iload_n 3, 1) := dk_29 (dk_at dksX15_init_0 8 rfl rfl)
theorem dX15_init_9 : decode cX15_init 9 = .ok (.iload 4, 2) := dk_21 4 (dk_at dksX15_init_0 9 rfl rfl)
theorem dX15_init_11 : decode cX15_init 11 = .ok (.iload 5, 2) := dk_21 5 (dk_at dksX15_init_0 11 rfl rfl)
theorem dX15_init_13 : decode cX15_init 13 = .ok (.aload 6, 2) := dk_25 6 (dk_at dksX15_init_0 13 rfl rfl)
theorem dX15_init_15 : decode cX15_init 15 = .ok (.getfield 7, 3) := dk_180 0 7 (dk_at dksX15_init_0 15 rfl rfl)
theorem dX15_init_18 : decode cX15_init 18 = .ok (.aload 6, 2) := dk_25 6 (dk_at dksX15_init_0 18 rfl rfl)
theorem dX15_init_20 : decode cX15_init 20 = .ok (.iload 7, 2) := dk_21 7 (dk_at dksX15_init_0 20 rfl rfl)
theorem dX15_init_22 : decode cX15_init 22 = .ok (.invokespecial 13, 3) := dk_183 0 13 (dk_at dksX15_init_1 0 rfl rfl)
theorem dX15_init_25 : decode cX15_init 25 = .ok (.return_, 1) := dk_177 (dk_at dksX15_init_1 3 rfl rfl)
theorem q81 : (Jvm.Cond.initialized "MendReader$Parted") ∈ lw_all := lw_g (lw_at lw_m1 25 rfl) rfl
theorem q368 : (Jvm.Cond.selects "MendReader$Parted" ({ cls := "java/lang/Object", name := "getClass", desc := "()Ljava/lang/Class;" } : Jvm.MethodName) ({ cls := "java/lang/Object", name := "getClass", desc := "()Ljava/lang/Class;" } : Jvm.MethodName)) ∈ lw_all := lw_g (lw_at lw_m2 72 rfl) rfl
theorem q452 : (Jvm.Cond.fieldLinkNest "MendReader$Parted" (7 : Nat) "MendReader$Form" "c" "I" "MendReader") ∈ lw_tbl := lw_at lw_m2 156 rfl
theorem q549 : (Jvm.Cond.fieldLink "MendReader$Parted" (19 : Nat) "MendReader$Parted" "chart" "LMendReader$Chart;") ∈ lw_all := lw_g (lw_at lw_m3 13 rfl) rfl
theorem q550 : (Jvm.Cond.sameField "MendReader$Parted" "MendReader$Step" "chart" "LMendReader$Chart;") ∈ lw_all := lw_g (lw_at lw_m3 14 rfl) rfl
theorem q556 : (Jvm.Cond.fieldLink "MendReader$Parted" (29 : Nat) "MendReader$Parted" "place" "I") ∈ lw_all := lw_g (lw_at lw_m3 20 rfl) rfl
theorem q557 : (Jvm.Cond.sameField "MendReader$Parted" "MendReader$Step" "place" "I") ∈ lw_all := lw_g (lw_at lw_m3 21 rfl) rfl
theorem q621 : (Jvm.Cond.selects "MendReader$Parted" ({ cls := "MendReader$Step", name := "kind", desc := "()I" } : Jvm.MethodName) ({ cls := "MendReader$Parted", name := "kind", desc := "()I" } : Jvm.MethodName)) ∈ lw_all := lw_g (lw_at lw_m3 85 rfl) rfl
theorem q622 : (Jvm.Cond.instanceMethod ({ cls := "MendReader$Parted", name := "kind", desc := "()I" } : Jvm.MethodName)) ∈ lw_all := lw_g (lw_at lw_m3 86 rfl) rfl
theorem q623 : (Jvm.Cond.code ({ cls := "MendReader$Parted", name := "kind", desc := "()I" } : Jvm.MethodName) prog_7_method_3_code (1 : Nat) (Option.some Jvm.ClassFile.FieldType.int)) ∈ lw_all := lw_g (lw_at lw_m3 87 rfl) rfl
theorem q624 : (Jvm.Cond.methodLink "MendReader$Parted" (32 : Nat) ({ cls := "MendReader$Stuck", name := "kind", desc := "()I" } : Jvm.MethodName)) ∈ lw_all := lw_g (lw_at lw_m3 88 rfl) rfl
theorem q625 : (Jvm.Cond.superclass "MendReader$Parted" "MendReader$Stuck") ∈ lw_all := lw_g (lw_at lw_m3 89 rfl) rfl
theorem q654 : (Jvm.Cond.selects "MendReader$Parted" ({ cls := "MendReader$Step", name := "touchesFence", desc := "()Z" } : Jvm.MethodName) ({ cls := "MendReader$Stuck", name := "touchesFence", desc := "()Z" } : Jvm.MethodName)) ∈ lw_all := lw_g (lw_at lw_m3 118 rfl) rfl
theorem q662 : (Jvm.Cond.selects "MendReader$Parted" ({ cls := "MendReader$Stuck", name := "second", desc := "()I" } : Jvm.MethodName) ({ cls := "MendReader$Parted", name := "second", desc := "()I" } : Jvm.MethodName)) ∈ lw_all := lw_g (lw_at lw_m3 126 rfl) rfl
theorem q663 : (Jvm.Cond.instanceMethod ({ cls := "MendReader$Parted", name := "second", desc := "()I" } : Jvm.MethodName)) ∈ lw_all := lw_g (lw_at lw_m3 127 rfl) rfl
theorem q664 : (Jvm.Cond.code ({ cls := "MendReader$Parted", name := "second", desc := "()I" } : Jvm.MethodName) prog_7_method_2_code (1 : Nat) (Option.some Jvm.ClassFile.FieldType.int)) ∈ lw_all := lw_g (lw_at lw_m3 128 rfl) rfl
theorem q691 : (Jvm.Cond.selects "MendReader$Parted" ({ cls := "MendReader$Step", name := "told", desc := "()I" } : Jvm.MethodName) ({ cls := "MendReader$Stuck", name := "told", desc := "()I" } : Jvm.MethodName)) ∈ lw_all := lw_g (lw_at lw_m3 155 rfl) rfl
theorem q709 : (Jvm.Cond.selects "MendReader$Parted" ({ cls := "MendReader$Step", name := "first", desc := "()I" } : Jvm.MethodName) ({ cls := "MendReader$Step", name := "first", desc := "()I" } : Jvm.MethodName)) ∈ lw_all := lw_g (lw_at lw_m3 173 rfl) rfl
theorem q725 : (Jvm.Cond.selects "MendReader$Parted" ({ cls := "MendReader$Step", name := "behind", desc := "()I" } : Jvm.MethodName) ({ cls := "MendReader$Parted", name := "behind", desc := "()I" } : Jvm.MethodName)) ∈ lw_all := lw_g (lw_at lw_m3 189 rfl) rfl
theorem q726 : (Jvm.Cond.instanceMethod ({ cls := "MendReader$Parted", name := "behind", desc := "()I" } : Jvm.MethodName)) ∈ lw_all := lw_g (lw_at lw_m3 190 rfl) rfl
theorem q727 : (Jvm.Cond.code ({ cls := "MendReader$Parted", name := "behind", desc := "()I" } : Jvm.MethodName) prog_7_method_4_code (1 : Nat) (Option.some Jvm.ClassFile.FieldType.int)) ∈ lw_all := lw_g (lw_at lw_m3 191 rfl) rfl
theorem q728 : (Jvm.Cond.methodLink "MendReader$Parted" (36 : Nat) ({ cls := "MendReader$Stuck", name := "behind", desc := "()I" } : Jvm.MethodName)) ∈ lw_all := lw_g (lw_at lw_m3 192 rfl) rfl
theorem q853 : (Jvm.Cond.instantiable "MendReader$Parted" (12 : Nat)) ∈ lw_all := lw_g (lw_at lw_m4 77 rfl) rfl
theorem q855 : (Jvm.Cond.instanceMethod ({ cls := "MendReader$Parted", name := "<init>", desc := "(LMendReader;LMendReader$Chart;IIILMendReader$Form;I)V" } : Jvm.MethodName)) ∈ lw_all := lw_g (lw_at lw_m4 79 rfl) rfl
theorem q856 : (Jvm.Cond.code ({ cls := "MendReader$Parted", name := "<init>", desc := "(LMendReader;LMendReader$Chart;IIILMendReader$Form;I)V" } : Jvm.MethodName) prog_7_method_1_code (8 : Nat) (Option.none : Option Jvm.ClassFile.FieldType)) ∈ lw_all := lw_g (lw_at lw_m4 80 rfl) rfl
theorem q857 : (Jvm.Cond.methodLink "MendReader$Parted" (13 : Nat) ({ cls := "MendReader$Stuck", name := "<init>", desc := "(LMendReader;LMendReader$Chart;IIIILMendReader$Form;I)V" } : Jvm.MethodName)) ∈ lw_all := lw_g (lw_at lw_m4 81 rfl) rfl
theorem q858 : (Jvm.Cond.fieldLink "MendReader$Parted" (1 : Nat) "MendReader$Parted" "this$0" "LMendReader;") ∈ lw_all := lw_g (lw_at lw_m4 82 rfl) rfl
theorem q859 : (Jvm.Cond.laysFinal "MendReader$Parted" "MendReader$Parted" "this$0" "LMendReader;") ∈ lw_all := lw_g (lw_at lw_m4 83 rfl) rfl
theorem q860 : (Jvm.Cond.soleField "MendReader$Parted" "this$0") ∈ lw_all := lw_g (lw_at lw_m4 84 rfl) rfl
theorem q861 : (Jvm.Cond.laysFinal "MendReader$Parted" "MendReader$Stuck" "form" "LMendReader$Form;") ∈ lw_all := lw_g (lw_at lw_m4 85 rfl) rfl
theorem q862 : (Jvm.Cond.laysFinal "MendReader$Parted" "MendReader$Stuck" "number" "I") ∈ lw_all := lw_g (lw_at lw_m4 86 rfl) rfl
theorem q863 : (Jvm.Cond.laysFinal "MendReader$Parted" "MendReader$Stuck" "this$0" "LMendReader;") ∈ lw_all := lw_g (lw_at lw_m4 87 rfl) rfl
theorem q864 : (Jvm.Cond.laysFinal "MendReader$Parted" "MendReader$Other" "this$0" "LMendReader;") ∈ lw_all := lw_g (lw_at lw_m4 88 rfl) rfl
theorem q865 : (Jvm.Cond.laysFinal "MendReader$Parted" "MendReader$Lost" "this$0" "LMendReader;") ∈ lw_all := lw_g (lw_at lw_m4 89 rfl) rfl
theorem q866 : (Jvm.Cond.laysFinal "MendReader$Parted" "MendReader$Step" "chart" "LMendReader$Chart;") ∈ lw_all := lw_g (lw_at lw_m4 90 rfl) rfl
theorem q867 : (Jvm.Cond.laysFinal "MendReader$Parted" "MendReader$Step" "place" "I") ∈ lw_all := lw_g (lw_at lw_m4 91 rfl) rfl
theorem q868 : (Jvm.Cond.laysFinal "MendReader$Parted" "MendReader$Step" "from" "I") ∈ lw_all := lw_g (lw_at lw_m4 92 rfl) rfl
theorem q869 : (Jvm.Cond.laysFinal "MendReader$Parted" "MendReader$Step" "to" "I") ∈ lw_all := lw_g (lw_at lw_m4 93 rfl) rfl
theorem q870 : (Jvm.Cond.laysFinal "MendReader$Parted" "MendReader$Step" "token" "I") ∈ lw_all := lw_g (lw_at lw_m4 94 rfl) rfl
theorem q871 : (Jvm.Cond.laysFinal "MendReader$Parted" "MendReader$Step" "this$0" "LMendReader;") ∈ lw_all := lw_g (lw_at lw_m4 95 rfl) rfl
theorem q890 : (Jvm.Cond.selects "MendReader$Parted" ({ cls := "MendReader$Step", name := "price", desc := "()I" } : Jvm.MethodName) ({ cls := "MendReader$Stuck", name := "price", desc := "()I" } : Jvm.MethodName)) ∈ lw_all := lw_g (lw_at lw_m4 114 rfl) rfl
theorem q919 : (Jvm.Cond.fieldLinkNest "MendReader$Parted" (23 : Nat) "MendReader$Chart" "text" "[I" "MendReader") ∈ lw_tbl := lw_at lw_m4 143 rfl
theorem q1050 : (Jvm.Cond.selects "MendReader$Parted" ({ cls := "MendReader$Step", name := "form", desc := "()I" } : Jvm.MethodName) ({ cls := "MendReader$Stuck", name := "form", desc := "()I" } : Jvm.MethodName)) ∈ lw_all := lw_g (lw_at lw_m5 34 rfl) rfl
theorem q1767 : (Jvm.Cond.castable "MendReader$Parted" "MendReader$Step") ∈ lw_tbl := lw_at lw_m8 31 rfl
theorem q1788 : (Jvm.Cond.castable "MendReader$Parted" "java/lang/Object") ∈ lw_tbl := lw_at lw_m8 52 rfl
theorem in_X15 : ∀ w ∈ wsX150, w ∈ lw_all := lw_in wsX150 [866, 867, 868, 869, 870, 871, 865, 864, 861, 862, 863, 859] (by decide +kernel) (by decide +kernel)
/-! MendReader$Walker -/
set_option maxRecDepth 100000
def RX16 : String := "MendReader$Walker"
def TX16 : u_T := fun k => match k with
  | 0 => ("MendReader$Walker", "chart", "LMendReader$Chart;", true)
  | _ => ("MendReader$Walker", "this$0", "LMendReader;", true)
def tyX16 : Nat → FieldType := fun k => match k with
  | 0 => .object "MendReader$Chart"
  | _ => .object "MendReader"
abbrev wsX160 : List Cond := u_ws RX16 TX16 2
theorem nmX16 : ∀ a, a < 2 → ∀ b, b < 2 → a ≠ b → (TX16 a).2.1 ≠ (TX16 b).2.1 := by decide +kernel
theorem tyX16_ok : ∀ k, k < 2 → parseFieldDescriptor (TX16 k).2.2.1 = some (tyX16 k) := by decide +kernel
abbrev cX16_init : ByteArray := prog_16_method_1_code
def yX16_init : MethodName := ⟨RX16, "<init>", "(LMendReader;LMendReader$Chart;)V"⟩
def dkwX16_init_0 : List UInt8 := [42, 43, 181, 0, 1, 42, 183, 0, 7, 42, 44, 181, 0, 13, 177]
abbrev dktX16_init_0 : List UInt8 := dkwX16_init_0 ++ []
theorem dksX16_init_0 : cX16_init.data.toList.drop 0 = dktX16_init_0 := by decide +kernel
theorem dX16_init_0 : decode cX16_init 0 = .ok (.aload_n 0, 1) := dk_42 (dk_at dksX16_init_0 0 rfl rfl)
theorem dX16_init_1 : decode cX16_init 1 = .ok (.aload_n 1, 1) := dk_43 (dk_at dksX16_init_0 1 rfl rfl)
theorem dX16_init_2 : decode cX16_init 2 = .ok (.putfield 1, 3) := dk_181 0 1 (dk_at dksX16_init_0 2 rfl rfl)
theorem dX16_init_5 : decode cX16_init 5 = .ok (.aload_n 0, 1) := dk_42 (dk_at dksX16_init_0 5 rfl rfl)
theorem dX16_init_6 : decode cX16_init 6 = .ok (.invokespecial 7, 3) := dk_183 0 7 (dk_at dksX16_init_0 6 rfl rfl)
theorem dX16_init_9 : decode cX16_init 9 = .ok (.aload_n 0, 1) := dk_42 (dk_at dksX16_init_0 9 rfl rfl)
theorem dX16_init_10 : decode cX16_init 10 = .ok (.aload_n 2, 1) := dk_44 (dk_at dksX16_init_0 10 rfl rfl)
theorem dX16_init_11 : decode cX16_init 11 = .ok (.putfield 13, 3) := dk_181 0 13 (dk_at dksX16_init_0 11 rfl rfl)
theorem dX16_init_14 : decode cX16_init 14 = .ok (.return_, 1) := dk_177 (dk_at dksX16_init_0 14 rfl rfl)
abbrev cX16_grow : ByteArray := prog_16_method_5_code
def yX16_grow : MethodName := ⟨RX16, "grow", "(IIII)V"⟩
def dkwX16_grow_16 : List UInt8 := [177]
abbrev dktX16_grow_16 : List UInt8 := dkwX16_grow_16 ++ []
def dkwX16_grow_15 : List UInt8 := [42, 180, 0, 1, 180, 0, 105, 42, 180, 0, 1, 180, 0, 123, 180, 0, 130, 6, 50, 21, 7, 46, 100, 79]
abbrev dktX16_grow_15 : List UInt8 := dkwX16_grow_15 ++ dktX16_grow_16
def dkwX16_grow_14 : List UInt8 := [21, 10, 54, 8, 132, 9, 1, 167, 255, 127, 42, 180, 0, 1, 180, 0, 123, 180, 0, 130, 7, 50, 21, 7]
abbrev dktX16_grow_14 : List UInt8 := dkwX16_grow_14 ++ dktX16_grow_15
def dkwX16_grow_13 : List UInt8 := [182, 0, 145, 167, 0, 21, 42, 25, 6, 180, 0, 142, 21, 9, 46, 21, 8, 21, 10, 21, 7, 182, 0, 148]
abbrev dktX16_grow_13 : List UInt8 := dkwX16_grow_13 ++ dktX16_grow_14
def dkwX16_grow_12 : List UInt8 := [180, 0, 139, 21, 9, 46, 154, 0, 22, 42, 25, 6, 180, 0, 142, 21, 9, 46, 21, 8, 21, 10]
abbrev dktX16_grow_12 : List UInt8 := dkwX16_grow_12 ++ dktX16_grow_13
def dkwX16_grow_11 : List UInt8 := [21, 9, 182, 0, 116, 21, 8, 50, 29, 47, 148, 153, 0, 9, 132, 10, 1, 167, 255, 199, 25, 6]
abbrev dktX16_grow_11 : List UInt8 := dkwX16_grow_11 ++ dktX16_grow_12
def dkwX16_grow_10 : List UInt8 := [180, 0, 13, 25, 6, 21, 9, 4, 96, 182, 0, 116, 21, 10, 50, 29, 47, 97, 42, 180, 0, 13, 25, 6]
abbrev dktX16_grow_10 : List UInt8 := dkwX16_grow_10 ++ dktX16_grow_11
def dkwX16_grow_9 : List UInt8 := [162, 0, 125, 21, 8, 54, 10, 42, 180, 0, 13, 25, 6, 21, 9, 21, 8, 21, 10, 182, 0, 135, 42]
abbrev dktX16_grow_9 : List UInt8 := dkwX16_grow_9 ++ dktX16_grow_10
def dkwX16_grow_8 : List UInt8 := [50, 21, 7, 42, 180, 0, 1, 180, 0, 105, 79, 28, 54, 8, 3, 54, 9, 21, 9, 25, 6, 180, 0, 134]
abbrev dktX16_grow_8 : List UInt8 := dkwX16_grow_8 ++ dktX16_grow_9
def dkwX16_grow_7 : List UInt8 := [180, 0, 123, 180, 0, 130, 5, 50, 21, 7, 21, 4, 79, 42, 180, 0, 1, 180, 0, 123, 180, 0, 130, 6]
abbrev dktX16_grow_7 : List UInt8 := dkwX16_grow_7 ++ dktX16_grow_8
def dkwX16_grow_6 : List UInt8 := [79, 42, 180, 0, 1, 180, 0, 123, 180, 0, 130, 4, 50, 21, 7, 21, 5, 79, 42, 180, 0, 1]
abbrev dktX16_grow_6 : List UInt8 := dkwX16_grow_6 ++ dktX16_grow_7
def dkwX16_grow_5 : List UInt8 := [89, 180, 0, 126, 4, 96, 181, 0, 126, 42, 180, 0, 1, 180, 0, 123, 180, 0, 130, 3, 50, 21, 7, 27]
abbrev dktX16_grow_5 : List UInt8 := dkwX16_grow_5 ++ dktX16_grow_6
def dkwX16_grow_4 : List UInt8 := [192, 0, 111, 58, 6, 42, 180, 0, 1, 180, 0, 123, 180, 0, 126, 54, 7, 42, 180, 0, 1, 180, 0, 123]
abbrev dktX16_grow_4 : List UInt8 := dkwX16_grow_4 ++ dktX16_grow_5
def dkwX16_grow_3 : List UInt8 := [153, 0, 9, 132, 5, 1, 167, 255, 181, 42, 180, 0, 1, 180, 0, 108, 21, 5, 185, 0, 61, 2, 0]
abbrev dktX16_grow_3 : List UInt8 := dkwX16_grow_3 ++ dktX16_grow_4
def dkwX16_grow_2 : List UInt8 := [3, 182, 0, 116, 28, 50, 29, 47, 10, 97, 42, 180, 0, 13, 180, 0, 120, 27, 50, 28, 50, 29, 47, 148]
abbrev dktX16_grow_2 : List UInt8 := dkwX16_grow_2 ++ dktX16_grow_3
def dkwX16_grow_1 : List UInt8 := [160, 0, 51, 42, 180, 0, 13, 42, 180, 0, 1, 180, 0, 108, 21, 5, 185, 0, 61, 2, 0, 192, 0, 111]
abbrev dktX16_grow_1 : List UInt8 := dkwX16_grow_1 ++ dktX16_grow_2
def dkwX16_grow_0 : List UInt8 := [3, 54, 5, 42, 180, 0, 1, 180, 0, 108, 21, 5, 185, 0, 61, 2, 0, 192, 0, 111, 180, 0, 113, 27]
abbrev dktX16_grow_0 : List UInt8 := dkwX16_grow_0 ++ dktX16_grow_1
theorem dksX16_grow_0 : cX16_grow.data.toList.drop 0 = dktX16_grow_0 := by decide +kernel
theorem dksX16_grow_1 : cX16_grow.data.toList.drop 24 = dktX16_grow_1 := dk_seg dksX16_grow_0 24 rfl rfl
theorem dksX16_grow_2 : cX16_grow.data.toList.drop 48 = dktX16_grow_2 := dk_seg dksX16_grow_1 24 rfl rfl
theorem dksX16_grow_3 : cX16_grow.data.toList.drop 72 = dktX16_grow_3 := dk_seg dksX16_grow_2 24 rfl rfl
theorem dksX16_grow_4 : cX16_grow.data.toList.drop 95 = dktX16_grow_4 := dk_seg dksX16_grow_3 23 rfl rfl
theorem dksX16_grow_5 : cX16_grow.data.toList.drop 119 = dktX16_grow_5 := dk_seg dksX16_grow_4 24 rfl rfl
theorem dksX16_grow_6 : cX16_grow.data.toList.drop 143 = dktX16_grow_6 := dk_seg dksX16_grow_5 24 rfl rfl
theorem dksX16_grow_7 : cX16_grow.data.toList.drop 165 = dktX16_grow_7 := dk_seg dksX16_grow_6 22 rfl rfl
theorem dksX16_grow_8 : cX16_grow.data.toList.drop 189 = dktX16_grow_8 := dk_seg dksX16_grow_7 24 rfl rfl
theorem dksX16_grow_9 : cX16_grow.data.toList.drop 213 = dktX16_grow_9 := dk_seg dksX16_grow_8 24 rfl rfl
theorem dksX16_grow_10 : cX16_grow.data.toList.drop 236 = dktX16_grow_10 := dk_seg dksX16_grow_9 23 rfl rfl
theorem dksX16_grow_11 : cX16_grow.data.toList.drop 260 = dktX16_grow_11 := dk_seg dksX16_grow_10 24 rfl rfl
theorem dksX16_grow_12 : cX16_grow.data.toList.drop 282 = dktX16_grow_12 := dk_seg dksX16_grow_11 22 rfl rfl
theorem dksX16_grow_13 : cX16_grow.data.toList.drop 304 = dktX16_grow_13 := dk_seg dksX16_grow_12 22 rfl rfl
theorem dksX16_grow_14 : cX16_grow.data.toList.drop 328 = dktX16_grow_14 := dk_seg dksX16_grow_13 24 rfl rfl
theorem dksX16_grow_15 : cX16_grow.data.toList.drop 352 = dktX16_grow_15 := dk_seg dksX16_grow_14 24 rfl rfl
theorem dksX16_grow_16 : cX16_grow.data.toList.drop 376 = dktX16_grow_16 := dk_seg dksX16_grow_15 24 rfl rfl
theorem dX16_grow_0 : decode cX16_grow 0 = .ok (.iconst 0, 1) := dk_3 (dk_at dksX16_grow_0 0 rfl rfl)
theorem dX16_grow_1 : decode cX16_grow 1 = .ok (.istore 5, 2) := dk_54 5 (dk_at dksX16_grow_0 1 rfl rfl)
theorem dX16_grow_3 : decode cX16_grow 3 = .ok (.aload_n 0, 1) := dk_42 (dk_at dksX16_grow_0 3 rfl rfl)
theorem dX16_grow_4 : decode cX16_grow 4 = .ok (.getfield 1, 3) := dk_180 0 1 (dk_at dksX16_grow_0 4 rfl rfl)
theorem dX16_grow_7 : decode cX16_grow 7 = .ok (.getfield 108, 3) := dk_180 0 108 (dk_at dksX16_grow_0 7 rfl rfl)
theorem dX16_grow_10 : decode cX16_grow 10 = .ok (.iload 5, 2) := dk_21 5 (dk_at dksX16_grow_0 10 rfl rfl)
theorem dX16_grow_12 : decode cX16_grow 12 = .ok (.invokeinterface 61 2, 5) := by decide +kernel
theorem dX16_grow_17 : decode cX16_grow 17 = .ok (.checkcast 111, 3) := dk_192 0 111 (dk_at dksX16_grow_0 17 rfl rfl)
theorem dX16_grow_20 : decode cX16_grow 20 = .ok (.getfield 113, 3) := dk_180 0 113 (dk_at dksX16_grow_0 20 rfl rfl)
theorem dX16_grow_23 : decode cX16_grow 23 = .ok (.iload_n 1, 1) := dk_27 (dk_at dksX16_grow_0 23 rfl rfl)
theorem dX16_grow_24 : decode cX16_grow 24 = .ok (.if_icmp .ne 51, 3) := dk_160 0 51 (dk_at dksX16_grow_1 0 rfl rfl)
theorem dX16_grow_27 : decode cX16_grow 27 = .ok (.aload_n 0, 1) := dk_42 (dk_at dksX16_grow_1 3 rfl rfl)
theorem dX16_grow_28 : decode cX16_grow 28 = .ok (.getfield 13, 3) := dk_180 0 13 (dk_at dksX16_grow_1 4 rfl rfl)
theorem dX16_grow_31 : decode cX16_grow 31 = .ok (.aload_n 0, 1) := dk_42 (dk_at dksX16_grow_1 7 rfl rfl)
theorem dX16_grow_32 : decode cX16_grow 32 = .ok (.getfield 1, 3) := dk_180 0 1 (dk_at dksX16_grow_1 8 rfl rfl)
theorem dX16_grow_35 : decode cX16_grow 35 = .ok (.getfield 108, 3) := dk_180 0 108 (dk_at dksX16_grow_1 11 rfl rfl)
theorem dX16_grow_38 : decode cX16_grow 38 = .ok (.iload 5, 2) := dk_21 5 (dk_at dksX16_grow_1 14 rfl rfl)
theorem dX16_grow_40 : decode cX16_grow 40 = .ok (.invokeinterface 61 2, 5) := by decide +kernel
theorem dX16_grow_45 : decode cX16_grow 45 = .ok (.checkcast 111, 3) := dk_192 0 111 (dk_at dksX16_grow_1 21 rfl rfl)
theorem dX16_grow_48 : decode cX16_grow 48 = .ok (.iconst 0, 1) := dk_3 (dk_at dksX16_grow_2 0 rfl rfl)
theorem dX16_grow_49 : decode cX16_grow 49 = .ok (.invokevirtual 116, 3) := dk_182 0 116 (dk_at dksX16_grow_2 1 rfl rfl)
theorem dX16_grow_52 : decode cX16_grow 52 = .ok (.iload_n 2, 1) := dk_28 (dk_at dksX16_grow_2 4 rfl rfl)
theorem dX16_grow_53 : decode cX16_grow 53 = .ok (.aaload, 1) := dk_50 (dk_at dksX16_grow_2 5 rfl rfl)
theorem dX16_grow_54 : decode cX16_grow 54 = .ok (.iload_n 3, 1) := dk_29 (dk_at dksX16_grow_2 6 rfl rfl)
theorem dX16_grow_55 : decode cX16_grow 55 = .ok (.laload, 1) := dk_47 (dk_at dksX16_grow_2 7 rfl rfl)
theorem dX16_grow_56 : decode cX16_grow 56 = .ok (.lconst 1, 1) := dk_10 (dk_at dksX16_grow_2 8 rfl rfl)
theorem dX16_grow_57 : decode cX16_grow 57 = .ok (.ladd, 1) := dk_97 (dk_at dksX16_grow_2 9 rfl rfl)
theorem dX16_grow_58 : decode cX16_grow 58 = .ok (.aload_n 0, 1) := dk_42 (dk_at dksX16_grow_2 10 rfl rfl)
theorem dX16_grow_59 : decode cX16_grow 59 = .ok (.getfield 13, 3) := dk_180 0 13 (dk_at dksX16_grow_2 11 rfl rfl)
theorem dX16_grow_62 : decode cX16_grow 62 = .ok (.getfield 120, 3) := dk_180 0 120 (dk_at dksX16_grow_2 14 rfl rfl)
theorem dX16_grow_65 : decode cX16_grow 65 = .ok (.iload_n 1, 1) := dk_27 (dk_at dksX16_grow_2 17 rfl rfl)
theorem dX16_grow_66 : decode cX16_grow 66 = .ok (.aaload, 1) := dk_50 (dk_at dksX16_grow_2 18 rfl rfl)
theorem dX16_grow_67 : decode cX16_grow 67 = .ok (.iload_n 2, 1) := dk_28 (dk_at dksX16_grow_2 19 rfl rfl)
theorem dX16_grow_68 : decode cX16_grow 68 = .ok (.aaload, 1) := dk_50 (dk_at dksX16_grow_2 20 rfl rfl)
theorem dX16_grow_69 : decode cX16_grow 69 = .ok (.iload_n 3, 1) := dk_29 (dk_at dksX16_grow_2 21 rfl rfl)
theorem dX16_grow_70 : decode cX16_grow 70 = .ok (.laload, 1) := dk_47 (dk_at dksX16_grow_2 22 rfl rfl)
theorem dX16_grow_71 : decode cX16_grow 71 = .ok (.lcmp, 1) := dk_148 (dk_at dksX16_grow_2 23 rfl rfl)
theorem dX16_grow_72 : decode cX16_grow 72 = .ok (.ifCond .eq 9, 3) := dk_153 0 9 (dk_at dksX16_grow_3 0 rfl rfl)
theorem dX16_grow_75 : decode cX16_grow 75 = .ok (.iinc 5 1, 3) := dk_132 5 1 (dk_at dksX16_grow_3 3 rfl rfl)
theorem dX16_grow_78 : decode cX16_grow 78 = .ok (.goto (-75), 3) := dk_167 255 181 (dk_at dksX16_grow_3 6 rfl rfl)
theorem dX16_grow_81 : decode cX16_grow 81 = .ok (.aload_n 0, 1) := dk_42 (dk_at dksX16_grow_3 9 rfl rfl)
theorem dX16_grow_82 : decode cX16_grow 82 = .ok (.getfield 1, 3) := dk_180 0 1 (dk_at dksX16_grow_3 10 rfl rfl)
theorem dX16_grow_85 : decode cX16_grow 85 = .ok (.getfield 108, 3) := dk_180 0 108 (dk_at dksX16_grow_3 13 rfl rfl)
theorem dX16_grow_88 : decode cX16_grow 88 = .ok (.iload 5, 2) := dk_21 5 (dk_at dksX16_grow_3 16 rfl rfl)
theorem dX16_grow_90 : decode cX16_grow 90 = .ok (.invokeinterface 61 2, 5) := by decide +kernel
theorem dX16_grow_95 : decode cX16_grow 95 = .ok (.checkcast 111, 3) := dk_192 0 111 (dk_at dksX16_grow_4 0 rfl rfl)
theorem dX16_grow_98 : decode cX16_grow 98 = .ok (.astore 6, 2) := dk_58 6 (dk_at dksX16_grow_4 3 rfl rfl)
theorem dX16_grow_100 : decode cX16_grow 100 = .ok (.aload_n 0, 1) := dk_42 (dk_at dksX16_grow_4 5 rfl rfl)
theorem dX16_grow_101 : decode cX16_grow 101 = .ok (.getfield 1, 3) := dk_180 0 1 (dk_at dksX16_grow_4 6 rfl rfl)
theorem dX16_grow_104 : decode cX16_grow 104 = .ok (.getfield 123, 3) := dk_180 0 123 (dk_at dksX16_grow_4 9 rfl rfl)
theorem dX16_grow_107 : decode cX16_grow 107 = .ok (.getfield 126, 3) := dk_180 0 126 (dk_at dksX16_grow_4 12 rfl rfl)
theorem dX16_grow_110 : decode cX16_grow 110 = .ok (.istore 7, 2) := dk_54 7 (dk_at dksX16_grow_4 15 rfl rfl)
theorem dX16_grow_112 : decode cX16_grow 112 = .ok (.aload_n 0, 1) := dk_42 (dk_at dksX16_grow_4 17 rfl rfl)
theorem dX16_grow_113 : decode cX16_grow 113 = .ok (.getfield 1, 3) := dk_180 0 1 (dk_at dksX16_grow_4 18 rfl rfl)
theorem dX16_grow_116 : decode cX16_grow 116 = .ok (.getfield 123, 3) := dk_180 0 123 (dk_at dksX16_grow_4 21 rfl rfl)
theorem dX16_grow_119 : decode cX16_grow 119 = .ok (.dup, 1) := dk_89 (dk_at dksX16_grow_5 0 rfl rfl)
theorem dX16_grow_120 : decode cX16_grow 120 = .ok (.getfield 126, 3) := dk_180 0 126 (dk_at dksX16_grow_5 1 rfl rfl)
theorem dX16_grow_123 : decode cX16_grow 123 = .ok (.iconst 1, 1) := dk_4 (dk_at dksX16_grow_5 4 rfl rfl)
theorem dX16_grow_124 : decode cX16_grow 124 = .ok (.iadd, 1) := dk_96 (dk_at dksX16_grow_5 5 rfl rfl)
theorem dX16_grow_125 : decode cX16_grow 125 = .ok (.putfield 126, 3) := dk_181 0 126 (dk_at dksX16_grow_5 6 rfl rfl)
theorem dX16_grow_128 : decode cX16_grow 128 = .ok (.aload_n 0, 1) := dk_42 (dk_at dksX16_grow_5 9 rfl rfl)
theorem dX16_grow_129 : decode cX16_grow 129 = .ok (.getfield 1, 3) := dk_180 0 1 (dk_at dksX16_grow_5 10 rfl rfl)
theorem dX16_grow_132 : decode cX16_grow 132 = .ok (.getfield 123, 3) := dk_180 0 123 (dk_at dksX16_grow_5 13 rfl rfl)
theorem dX16_grow_135 : decode cX16_grow 135 = .ok (.getfield 130, 3) := dk_180 0 130 (dk_at dksX16_grow_5 16 rfl rfl)
theorem dX16_grow_138 : decode cX16_grow 138 = .ok (.iconst 0, 1) := dk_3 (dk_at dksX16_grow_5 19 rfl rfl)
theorem dX16_grow_139 : decode cX16_grow 139 = .ok (.aaload, 1) := dk_50 (dk_at dksX16_grow_5 20 rfl rfl)
theorem dX16_grow_140 : decode cX16_grow 140 = .ok (.iload 7, 2) := dk_21 7 (dk_at dksX16_grow_5 21 rfl rfl)
theorem dX16_grow_142 : decode cX16_grow 142 = .ok (.iload_n 1, 1) := dk_27 (dk_at dksX16_grow_5 23 rfl rfl)
theorem dX16_grow_143 : decode cX16_grow 143 = .ok (.iastore, 1) := dk_79 (dk_at dksX16_grow_6 0 rfl rfl)
theorem dX16_grow_144 : decode cX16_grow 144 = .ok (.aload_n 0, 1) := dk_42 (dk_at dksX16_grow_6 1 rfl rfl)
theorem dX16_grow_145 : decode cX16_grow 145 = .ok (.getfield 1, 3) := dk_180 0 1 (dk_at dksX16_grow_6 2 rfl rfl)
theorem dX16_grow_148 : decode cX16_grow 148 = .ok (.getfield 123, 3) := dk_180 0 123 (dk_at dksX16_grow_6 5 rfl rfl)
theorem dX16_grow_151 : decode cX16_grow 151 = .ok (.getfield 130, 3) := dk_180 0 130 (dk_at dksX16_grow_6 8 rfl rfl)
theorem dX16_grow_154 : decode cX16_grow 154 = .ok (.iconst 1, 1) := dk_4 (dk_at dksX16_grow_6 11 rfl rfl)
theorem dX16_grow_155 : decode cX16_grow 155 = .ok (.aaload, 1) := dk_50 (dk_at dksX16_grow_6 12 rfl rfl)
theorem dX16_grow_156 : decode cX16_grow 156 = .ok (.iload 7, 2) := dk_21 7 (dk_at dksX16_grow_6 13 rfl rfl)
theorem dX16_grow_158 : decode cX16_grow 158 = .ok (.iload 5, 2) := dk_21 5 (dk_at dksX16_grow_6 15 rfl rfl)
theorem dX16_grow_160 : decode cX16_grow 160 = .ok (.iastore, 1) := dk_79 (dk_at dksX16_grow_6 17 rfl rfl)
theorem dX16_grow_161 : decode cX16_grow 161 = .ok (.aload_n 0, 1) := dk_42 (dk_at dksX16_grow_6 18 rfl rfl)
theorem dX16_grow_162 : decode cX16_grow 162 = .ok (.getfield 1, 3) := dk_180 0 1 (dk_at dksX16_grow_6 19 rfl rfl)
theorem dX16_grow_165 : decode cX16_grow 165 = .ok (.getfield 123, 3) := dk_180 0 123 (dk_at dksX16_grow_7 0 rfl rfl)
theorem dX16_grow_168 : decode cX16_grow 168 = .ok (.getfield 130, 3) := dk_180 0 130 (dk_at dksX16_grow_7 3 rfl rfl)
theorem dX16_grow_171 : decode cX16_grow 171 = .ok (.iconst 2, 1) := dk_5 (dk_at dksX16_grow_7 6 rfl rfl)
theorem dX16_grow_172 : decode cX16_grow 172 = .ok (.aaload, 1) := dk_50 (dk_at dksX16_grow_7 7 rfl rfl)
theorem dX16_grow_173 : decode cX16_grow 173 = .ok (.iload 7, 2) := dk_21 7 (dk_at dksX16_grow_7 8 rfl rfl)
theorem dX16_grow_175 : decode cX16_grow 175 = .ok (.iload 4, 2) := dk_21 4 (dk_at dksX16_grow_7 10 rfl rfl)
theorem dX16_grow_177 : decode cX16_grow 177 = .ok (.iastore, 1) := dk_79 (dk_at dksX16_grow_7 12 rfl rfl)
theorem dX16_grow_178 : decode cX16_grow 178 = .ok (.aload_n 0, 1) := dk_42 (dk_at dksX16_grow_7 13 rfl rfl)
theorem dX16_grow_179 : decode cX16_grow 179 = .ok (.getfield 1, 3) := dk_180 0 1 (dk_at dksX16_grow_7 14 rfl rfl)
theorem dX16_grow_182 : decode cX16_grow 182 = .ok (.getfield 123, 3) := dk_180 0 123 (dk_at dksX16_grow_7 17 rfl rfl)
theorem dX16_grow_185 : decode cX16_grow 185 = .ok (.getfield 130, 3) := dk_180 0 130 (dk_at dksX16_grow_7 20 rfl rfl)
theorem dX16_grow_188 : decode cX16_grow 188 = .ok (.iconst 3, 1) := dk_6 (dk_at dksX16_grow_7 23 rfl rfl)
theorem dX16_grow_189 : decode cX16_grow 189 = .ok (.aaload, 1) := dk_50 (dk_at dksX16_grow_8 0 rfl rfl)
theorem dX16_grow_190 : decode cX16_grow 190 = .ok (.iload 7, 2) := dk_21 7 (dk_at dksX16_grow_8 1 rfl rfl)
theorem dX16_grow_192 : decode cX16_grow 192 = .ok (.aload_n 0, 1) := dk_42 (dk_at dksX16_grow_8 3 rfl rfl)
theorem dX16_grow_193 : decode cX16_grow 193 = .ok (.getfield 1, 3) := dk_180 0 1 (dk_at dksX16_grow_8 4 rfl rfl)
theorem dX16_grow_196 : decode cX16_grow 196 = .ok (.getfield 105, 3) := dk_180 0 105 (dk_at dksX16_grow_8 7 rfl rfl)
theorem dX16_grow_199 : decode cX16_grow 199 = .ok (.iastore, 1) := dk_79 (dk_at dksX16_grow_8 10 rfl rfl)
theorem dX16_grow_200 : decode cX16_grow 200 = .ok (.iload_n 2, 1) := dk_28 (dk_at dksX16_grow_8 11 rfl rfl)
theorem dX16_grow_201 : decode cX16_grow 201 = .ok (.istore 8, 2) := dk_54 8 (dk_at dksX16_grow_8 12 rfl rfl)
theorem dX16_grow_203 : decode cX16_grow 203 = .ok (.iconst 0, 1) := dk_3 (dk_at dksX16_grow_8 14 rfl rfl)
theorem dX16_grow_204 : decode cX16_grow 204 = .ok (.istore 9, 2) := dk_54 9 (dk_at dksX16_grow_8 15 rfl rfl)
theorem dX16_grow_206 : decode cX16_grow 206 = .ok (.iload 9, 2) := dk_21 9 (dk_at dksX16_grow_8 17 rfl rfl)
theorem dX16_grow_208 : decode cX16_grow 208 = .ok (.aload 6, 2) := dk_25 6 (dk_at dksX16_grow_8 19 rfl rfl)
theorem dX16_grow_210 : decode cX16_grow 210 = .ok (.getfield 134, 3) := dk_180 0 134 (dk_at dksX16_grow_8 21 rfl rfl)
theorem dX16_grow_213 : decode cX16_grow 213 = .ok (.if_icmp .ge 125, 3) := dk_162 0 125 (dk_at dksX16_grow_9 0 rfl rfl)
theorem dX16_grow_216 : decode cX16_grow 216 = .ok (.iload 8, 2) := dk_21 8 (dk_at dksX16_grow_9 3 rfl rfl)
theorem dX16_grow_218 : decode cX16_grow 218 = .ok (.istore 10, 2) := dk_54 10 (dk_at dksX16_grow_9 5 rfl rfl)
theorem dX16_grow_220 : decode cX16_grow 220 = .ok (.aload_n 0, 1) := dk_42 (dk_at dksX16_grow_9 7 rfl rfl)
theorem dX16_grow_221 : decode cX16_grow 221 = .ok (.getfield 13, 3) := dk_180 0 13 (dk_at dksX16_grow_9 8 rfl rfl)
theorem dX16_grow_224 : decode cX16_grow 224 = .ok (.aload 6, 2) := dk_25 6 (dk_at dksX16_grow_9 11 rfl rfl)
theorem dX16_grow_226 : decode cX16_grow 226 = .ok (.iload 9, 2) := dk_21 9 (dk_at dksX16_grow_9 13 rfl rfl)
theorem dX16_grow_228 : decode cX16_grow 228 = .ok (.iload 8, 2) := dk_21 8 (dk_at dksX16_grow_9 15 rfl rfl)
theorem dX16_grow_230 : decode cX16_grow 230 = .ok (.iload 10, 2) := dk_21 10 (dk_at dksX16_grow_9 17 rfl rfl)
theorem dX16_grow_232 : decode cX16_grow 232 = .ok (.invokevirtual 135, 3) := dk_182 0 135 (dk_at dksX16_grow_9 19 rfl rfl)
theorem dX16_grow_235 : decode cX16_grow 235 = .ok (.aload_n 0, 1) := dk_42 (dk_at dksX16_grow_9 22 rfl rfl)
theorem dX16_grow_236 : decode cX16_grow 236 = .ok (.getfield 13, 3) := dk_180 0 13 (dk_at dksX16_grow_10 0 rfl rfl)
theorem dX16_grow_239 : decode cX16_grow 239 = .ok (.aload 6, 2) := dk_25 6 (dk_at dksX16_grow_10 3 rfl rfl)
theorem dX16_grow_241 : decode cX16_grow 241 = .ok (.iload 9, 2) := dk_21 9 (dk_at dksX16_grow_10 5 rfl rfl)
theorem dX16_grow_243 : decode cX16_grow 243 = .ok (.iconst 1, 1) := dk_4 (dk_at dksX16_grow_10 7 rfl rfl)
theorem dX16_grow_244 : decode cX16_grow 244 = .ok (.iadd, 1) := dk_96 (dk_at dksX16_grow_10 8 rfl rfl)
theorem dX16_grow_245 : decode cX16_grow 245 = .ok (.invokevirtual 116, 3) := dk_182 0 116 (dk_at dksX16_grow_10 9 rfl rfl)
theorem dX16_grow_248 : decode cX16_grow 248 = .ok (.iload 10, 2) := dk_21 10 (dk_at dksX16_grow_10 12 rfl rfl)
theorem dX16_grow_250 : decode cX16_grow 250 = .ok (.aaload, 1) := dk_50 (dk_at dksX16_grow_10 14 rfl rfl)
theorem dX16_grow_251 : decode cX16_grow 251 = .ok (.iload_n 3, 1) := dk_29 (dk_at dksX16_grow_10 15 rfl rfl)
theorem dX16_grow_252 : decode cX16_grow 252 = .ok (.laload, 1) := dk_47 (dk_at dksX16_grow_10 16 rfl rfl)
theorem dX16_grow_253 : decode cX16_grow 253 = .ok (.ladd, 1) := dk_97 (dk_at dksX16_grow_10 17 rfl rfl)
theorem dX16_grow_254 : decode cX16_grow 254 = .ok (.aload_n 0, 1) := dk_42 (dk_at dksX16_grow_10 18 rfl rfl)
theorem dX16_grow_255 : decode cX16_grow 255 = .ok (.getfield 13, 3) := dk_180 0 13 (dk_at dksX16_grow_10 19 rfl rfl)
theorem dX16_grow_258 : decode cX16_grow 258 = .ok (.aload 6, 2) := dk_25 6 (dk_at dksX16_grow_10 22 rfl rfl)
theorem dX16_grow_260 : decode cX16_grow 260 = .ok (.iload 9, 2) := dk_21 9 (dk_at dksX16_grow_11 0 rfl rfl)
theorem dX16_grow_262 : decode cX16_grow 262 = .ok (.invokevirtual 116, 3) := dk_182 0 116 (dk_at dksX16_grow_11 2 rfl rfl)
theorem dX16_grow_265 : decode cX16_grow 265 = .ok (.iload 8, 2) := dk_21 8 (dk_at dksX16_grow_11 5 rfl rfl)
theorem dX16_grow_267 : decode cX16_grow 267 = .ok (.aaload, 1) := dk_50 (dk_at dksX16_grow_11 7 rfl rfl)
theorem dX16_grow_268 : decode cX16_grow 268 = .ok (.iload_n 3, 1) := dk_29 (dk_at dksX16_grow_11 8 rfl rfl)
theorem dX16_grow_269 : decode cX16_grow 269 = .ok (.laload, 1) := dk_47 (dk_at dksX16_grow_11 9 rfl rfl)
theorem dX16_grow_270 : decode cX16_grow 270 = .ok (.lcmp, 1) := dk_148 (dk_at dksX16_grow_11 10 rfl rfl)
theorem dX16_grow_271 : decode cX16_grow 271 = .ok (.ifCond .eq 9, 3) := dk_153 0 9 (dk_at dksX16_grow_11 11 rfl rfl)
theorem dX16_grow_274 : decode cX16_grow 274 = .ok (.iinc 10 1, 3) := dk_132 10 1 (dk_at dksX16_grow_11 14 rfl rfl)
theorem dX16_grow_277 : decode cX16_grow 277 = .ok (.goto (-57), 3) := dk_167 255 199 (dk_at dksX16_grow_11 17 rfl rfl)
theorem dX16_grow_280 : decode cX16_grow 280 = .ok (.aload 6, 2) := dk_25 6 (dk_at dksX16_grow_11 20 rfl rfl)
theorem dX16_grow_282 : decode cX16_grow 282 = .ok (.getfield 139, 3) := dk_180 0 139 (dk_at dksX16_grow_12 0 rfl rfl)
theorem dX16_grow_285 : decode cX16_grow 285 = .ok (.iload 9, 2) := dk_21 9 (dk_at dksX16_grow_12 3 rfl rfl)
theorem dX16_grow_287 : decode cX16_grow 287 = .ok (.iaload, 1) := dk_46 (dk_at dksX16_grow_12 5 rfl rfl)
theorem dX16_grow_288 : decode cX16_grow 288 = .ok (.ifCond .ne 22, 3) := dk_154 0 22 (dk_at dksX16_grow_12 6 rfl rfl)
theorem dX16_grow_291 : decode cX16_grow 291 = .ok (.aload_n 0, 1) := dk_42 (dk_at dksX16_grow_12 9 rfl rfl)
theorem dX16_grow_292 : decode cX16_grow 292 = .ok (.aload 6, 2) := dk_25 6 (dk_at dksX16_grow_12 10 rfl rfl)
theorem dX16_grow_294 : decode cX16_grow 294 = .ok (.getfield 142, 3) := dk_180 0 142 (dk_at dksX16_grow_12 12 rfl rfl)
theorem dX16_grow_297 : decode cX16_grow 297 = .ok (.iload 9, 2) := dk_21 9 (dk_at dksX16_grow_12 15 rfl rfl)
theorem dX16_grow_299 : decode cX16_grow 299 = .ok (.iaload, 1) := dk_46 (dk_at dksX16_grow_12 17 rfl rfl)
theorem dX16_grow_300 : decode cX16_grow 300 = .ok (.iload 8, 2) := dk_21 8 (dk_at dksX16_grow_12 18 rfl rfl)
theorem dX16_grow_302 : decode cX16_grow 302 = .ok (.iload 10, 2) := dk_21 10 (dk_at dksX16_grow_12 20 rfl rfl)
theorem dX16_grow_304 : decode cX16_grow 304 = .ok (.invokevirtual 145, 3) := dk_182 0 145 (dk_at dksX16_grow_13 0 rfl rfl)
theorem dX16_grow_307 : decode cX16_grow 307 = .ok (.goto 21, 3) := dk_167 0 21 (dk_at dksX16_grow_13 3 rfl rfl)
theorem dX16_grow_310 : decode cX16_grow 310 = .ok (.aload_n 0, 1) := dk_42 (dk_at dksX16_grow_13 6 rfl rfl)
theorem dX16_grow_311 : decode cX16_grow 311 = .ok (.aload 6, 2) := dk_25 6 (dk_at dksX16_grow_13 7 rfl rfl)
theorem dX16_grow_313 : decode cX16_grow 313 = .ok (.getfield 142, 3) := dk_180 0 142 (dk_at dksX16_grow_13 9 rfl rfl)
theorem dX16_grow_316 : decode cX16_grow 316 = .ok (.iload 9, 2) := dk_21 9 (dk_at dksX16_grow_13 12 rfl rfl)
theorem dX16_grow_318 : decode cX16_grow 318 = .ok (.iaload, 1) := dk_46 (dk_at dksX16_grow_13 14 rfl rfl)
theorem dX16_grow_319 : decode cX16_grow 319 = .ok (.iload 8, 2) := dk_21 8 (dk_at dksX16_grow_13 15 rfl rfl)
theorem dX16_grow_321 : decode cX16_grow 321 = .ok (.iload 10, 2) := dk_21 10 (dk_at dksX16_grow_13 17 rfl rfl)
theorem dX16_grow_323 : decode cX16_grow 323 = .ok (.iload 7, 2) := dk_21 7 (dk_at dksX16_grow_13 19 rfl rfl)
theorem dX16_grow_325 : decode cX16_grow 325 = .ok (.invokevirtual 148, 3) := dk_182 0 148 (dk_at dksX16_grow_13 21 rfl rfl)
theorem dX16_grow_328 : decode cX16_grow 328 = .ok (.iload 10, 2) := dk_21 10 (dk_at dksX16_grow_14 0 rfl rfl)
theorem dX16_grow_330 : decode cX16_grow 330 = .ok (.istore 8, 2) := dk_54 8 (dk_at dksX16_grow_14 2 rfl rfl)
theorem dX16_grow_332 : decode cX16_grow 332 = .ok (.iinc 9 1, 3) := dk_132 9 1 (dk_at dksX16_grow_14 4 rfl rfl)
theorem dX16_grow_335 : decode cX16_grow 335 = .ok (.goto (-129), 3) := dk_167 255 127 (dk_at dksX16_grow_14 7 rfl rfl)
theorem dX16_grow_338 : decode cX16_grow 338 = .ok (.aload_n 0, 1) := dk_42 (dk_at dksX16_grow_14 10 rfl rfl)
theorem dX16_grow_339 : decode cX16_grow 339 = .ok (.getfield 1, 3) := dk_180 0 1 (dk_at dksX16_grow_14 11 rfl rfl)
theorem dX16_grow_342 : decode cX16_grow 342 = .ok (.getfield 123, 3) := dk_180 0 123 (dk_at dksX16_grow_14 14 rfl rfl)
theorem dX16_grow_345 : decode cX16_grow 345 = .ok (.getfield 130, 3) := dk_180 0 130 (dk_at dksX16_grow_14 17 rfl rfl)
theorem dX16_grow_348 : decode cX16_grow 348 = .ok (.iconst 4, 1) := dk_7 (dk_at dksX16_grow_14 20 rfl rfl)
theorem dX16_grow_349 : decode cX16_grow 349 = .ok (.aaload, 1) := dk_50 (dk_at dksX16_grow_14 21 rfl rfl)
theorem dX16_grow_350 : decode cX16_grow 350 = .ok (.iload 7, 2) := dk_21 7 (dk_at dksX16_grow_14 22 rfl rfl)
theorem dX16_grow_352 : decode cX16_grow 352 = .ok (.aload_n 0, 1) := dk_42 (dk_at dksX16_grow_15 0 rfl rfl)
theorem dX16_grow_353 : decode cX16_grow 353 = .ok (.getfield 1, 3) := dk_180 0 1 (dk_at dksX16_grow_15 1 rfl rfl)
theorem dX16_grow_356 : decode cX16_grow 356 = .ok (.getfield 105, 3) := dk_180 0 105 (dk_at dksX16_grow_15 4 rfl rfl)
theorem dX16_grow_359 : decode cX16_grow 359 = .ok (.aload_n 0, 1) := dk_42 (dk_at dksX16_grow_15 7 rfl rfl)
theorem dX16_grow_360 : decode cX16_grow 360 = .ok (.getfield 1, 3) := dk_180 0 1 (dk_at dksX16_grow_15 8 rfl rfl)
theorem dX16_grow_363 : decode cX16_grow 363 = .ok (.getfield 123, 3) := dk_180 0 123 (dk_at dksX16_grow_15 11 rfl rfl)
theorem dX16_grow_366 : decode cX16_grow 366 = .ok (.getfield 130, 3) := dk_180 0 130 (dk_at dksX16_grow_15 14 rfl rfl)
theorem dX16_grow_369 : decode cX16_grow 369 = .ok (.iconst 3, 1) := dk_6 (dk_at dksX16_grow_15 17 rfl rfl)
theorem dX16_grow_370 : decode cX16_grow 370 = .ok (.aaload, 1) := dk_50 (dk_at dksX16_grow_15 18 rfl rfl)
theorem dX16_grow_371 : decode cX16_grow 371 = .ok (.iload 7, 2) := dk_21 7 (dk_at dksX16_grow_15 19 rfl rfl)
theorem dX16_grow_373 : decode cX16_grow 373 = .ok (.iaload, 1) := dk_46 (dk_at dksX16_grow_15 21 rfl rfl)
theorem dX16_grow_374 : decode cX16_grow 374 = .ok (.isub, 1) := dk_100 (dk_at dksX16_grow_15 22 rfl rfl)
theorem dX16_grow_375 : decode cX16_grow 375 = .ok (.iastore, 1) := dk_79 (dk_at dksX16_grow_15 23 rfl rfl)
theorem dX16_grow_376 : decode cX16_grow 376 = .ok (.return_, 1) := dk_177 (dk_at dksX16_grow_16 0 rfl rfl)
abbrev cX16_read : ByteArray := prog_16_method_4_code
def yX16_read : MethodName := ⟨RX16, "read", "(III)V"⟩
def dkwX16_read_10 : List UInt8 := [180, 0, 1, 89, 180, 0, 105, 4, 96, 181, 0, 105, 177]
abbrev dktX16_read_10 : List UInt8 := dkwX16_read_10 ++ []
def dkwX16_read_9 : List UInt8 := [185, 0, 39, 2, 0, 87, 42, 180, 0, 1, 180, 0, 102, 42, 180, 0, 1, 180, 0, 105, 27, 79, 42]
abbrev dktX16_read_9 : List UInt8 := dkwX16_read_9 ++ dktX16_read_10
def dkwX16_read_8 : List UInt8 := [180, 0, 45, 46, 182, 0, 98, 25, 4, 182, 0, 49, 158, 0, 18, 42, 180, 0, 1, 180, 0, 33, 25, 4]
abbrev dktX16_read_8 : List UInt8 := dkwX16_read_8 ++ dktX16_read_9
def dkwX16_read_7 : List UInt8 := [159, 0, 29, 42, 42, 180, 0, 13, 180, 0, 94, 28, 46, 42, 180, 0, 13, 180, 0, 94, 25, 4]
abbrev dktX16_read_7 : List UInt8 := dkwX16_read_7 ++ dktX16_read_8
def dkwX16_read_6 : List UInt8 := [25, 4, 182, 0, 90, 153, 0, 7, 25, 6, 58, 4, 132, 5, 1, 167, 255, 110, 25, 4, 180, 0, 45, 28]
abbrev dktX16_read_6 : List UInt8 := dkwX16_read_6 ++ dktX16_read_7
def dkwX16_read_5 : List UInt8 := [154, 0, 7, 4, 167, 0, 4, 3, 54, 7, 21, 7, 153, 0, 23, 25, 4, 198, 0, 14, 42, 25, 6]
abbrev dktX16_read_5 : List UInt8 := dkwX16_read_5 ++ dktX16_read_6
def dkwX16_read_4 : List UInt8 := [180, 0, 79, 184, 0, 82, 133, 97, 42, 180, 0, 13, 180, 0, 86, 27, 50, 28, 50, 29, 47, 148]
abbrev dktX16_read_4 : List UInt8 := dkwX16_read_4 ++ dktX16_read_5
def dkwX16_read_3 : List UInt8 := [180, 0, 13, 28, 25, 6, 182, 0, 71, 42, 180, 0, 13, 180, 0, 75, 25, 6, 42, 180, 0, 13]
abbrev dktX16_read_3 : List UInt8 := dkwX16_read_3 ++ dktX16_read_4
def dkwX16_read_2 : List UInt8 := [160, 0, 73, 25, 6, 180, 0, 68, 29, 160, 0, 64, 28, 25, 6, 180, 0, 45, 163, 0, 55, 42]
abbrev dktX16_read_2 : List UInt8 := dkwX16_read_2 ++ dktX16_read_3
def dkwX16_read_1 : List UInt8 := [180, 0, 13, 180, 0, 55, 21, 5, 185, 0, 61, 2, 0, 192, 0, 24, 58, 6, 25, 6, 180, 0, 65, 27]
abbrev dktX16_read_1 : List UInt8 := dkwX16_read_1 ++ dktX16_read_2
def dkwX16_read_0 : List UInt8 := [1, 58, 4, 3, 54, 5, 21, 5, 42, 180, 0, 13, 180, 0, 55, 185, 0, 58, 1, 0, 162, 0, 135, 42]
abbrev dktX16_read_0 : List UInt8 := dkwX16_read_0 ++ dktX16_read_1
theorem dksX16_read_0 : cX16_read.data.toList.drop 0 = dktX16_read_0 := by decide +kernel
theorem dksX16_read_1 : cX16_read.data.toList.drop 24 = dktX16_read_1 := dk_seg dksX16_read_0 24 rfl rfl
theorem dksX16_read_2 : cX16_read.data.toList.drop 48 = dktX16_read_2 := dk_seg dksX16_read_1 24 rfl rfl
theorem dksX16_read_3 : cX16_read.data.toList.drop 70 = dktX16_read_3 := dk_seg dksX16_read_2 22 rfl rfl
theorem dksX16_read_4 : cX16_read.data.toList.drop 92 = dktX16_read_4 := dk_seg dksX16_read_3 22 rfl rfl
theorem dksX16_read_5 : cX16_read.data.toList.drop 114 = dktX16_read_5 := dk_seg dksX16_read_4 22 rfl rfl
theorem dksX16_read_6 : cX16_read.data.toList.drop 137 = dktX16_read_6 := dk_seg dksX16_read_5 23 rfl rfl
theorem dksX16_read_7 : cX16_read.data.toList.drop 161 = dktX16_read_7 := dk_seg dksX16_read_6 24 rfl rfl
theorem dksX16_read_8 : cX16_read.data.toList.drop 183 = dktX16_read_8 := dk_seg dksX16_read_7 22 rfl rfl
theorem dksX16_read_9 : cX16_read.data.toList.drop 207 = dktX16_read_9 := dk_seg dksX16_read_8 24 rfl rfl
theorem dksX16_read_10 : cX16_read.data.toList.drop 230 = dktX16_read_10 := dk_seg dksX16_read_9 23 rfl rfl
theorem dX16_read_0 : decode cX16_read 0 = .ok (.aconst_null, 1) := dk_1 (dk_at dksX16_read_0 0 rfl rfl)
theorem dX16_read_1 : decode cX16_read 1 = .ok (.astore 4, 2) := dk_58 4 (dk_at dksX16_read_0 1 rfl rfl)
theorem dX16_read_3 : decode cX16_read 3 = .ok (.iconst 0, 1) := dk_3 (dk_at dksX16_read_0 3 rfl rfl)
theorem dX16_read_4 : decode cX16_read 4 = .ok (.istore 5, 2) := dk_54 5 (dk_at dksX16_read_0 4 rfl rfl)
theorem dX16_read_6 : decode cX16_read 6 = .ok (.iload 5, 2) := dk_21 5 (dk_at dksX16_read_0 6 rfl rfl)
theorem dX16_read_8 : decode cX16_read 8 = .ok (.aload_n 0, 1) := dk_42 (dk_at dksX16_read_0 8 rfl rfl)
theorem dX16_read_9 : decode cX16_read 9 = .ok (.getfield 13, 3) := dk_180 0 13 (dk_at dksX16_read_0 9 rfl rfl)
theorem dX16_read_12 : decode cX16_read 12 = .ok (.getfield 55, 3) := dk_180 0 55 (dk_at dksX16_read_0 12 rfl rfl)
theorem dX16_read_15 : decode cX16_read 15 = .ok (.invokeinterface 58 1, 5) := by decide +kernel
theorem dX16_read_20 : decode cX16_read 20 = .ok (.if_icmp .ge 135, 3) := dk_162 0 135 (dk_at dksX16_read_0 20 rfl rfl)
theorem dX16_read_23 : decode cX16_read 23 = .ok (.aload_n 0, 1) := dk_42 (dk_at dksX16_read_0 23 rfl rfl)
theorem dX16_read_24 : decode cX16_read 24 = .ok (.getfield 13, 3) := dk_180 0 13 (dk_at dksX16_read_1 0 rfl rfl)
theorem dX16_read_27 : decode cX16_read 27 = .ok (.getfield 55, 3) := dk_180 0 55 (dk_at dksX16_read_1 3 rfl rfl)
theorem dX16_read_30 : decode cX16_read 30 = .ok (.iload 5, 2) := dk_21 5 (dk_at dksX16_read_1 6 rfl rfl)
theorem dX16_read_32 : decode cX16_read 32 = .ok (.invokeinterface 61 2, 5) := by decide +kernel
theorem dX16_read_37 : decode cX16_read 37 = .ok (.checkcast 24, 3) := dk_192 0 24 (dk_at dksX16_read_1 13 rfl rfl)
theorem dX16_read_40 : decode cX16_read 40 = .ok (.astore 6, 2) := dk_58 6 (dk_at dksX16_read_1 16 rfl rfl)
theorem dX16_read_42 : decode cX16_read 42 = .ok (.aload 6, 2) := dk_25 6 (dk_at dksX16_read_1 18 rfl rfl)
theorem dX16_read_44 : decode cX16_read 44 = .ok (.getfield 65, 3) := dk_180 0 65 (dk_at dksX16_read_1 20 rfl rfl)
theorem dX16_read_47 : decode cX16_read 47 = .ok (.iload_n 1, 1) := dk_27 (dk_at dksX16_read_1 23 rfl rfl)
theorem dX16_read_48 : decode cX16_read 48 = .ok (.if_icmp .ne 73, 3) := dk_160 0 73 (dk_at dksX16_read_2 0 rfl rfl)
theorem dX16_read_51 : decode cX16_read 51 = .ok (.aload 6, 2) := dk_25 6 (dk_at dksX16_read_2 3 rfl rfl)
theorem dX16_read_53 : decode cX16_read 53 = .ok (.getfield 68, 3) := dk_180 0 68 (dk_at dksX16_read_2 5 rfl rfl)
theorem dX16_read_56 : decode cX16_read 56 = .ok (.iload_n 3, 1) := dk_29 (dk_at dksX16_read_2 8 rfl rfl)
theorem dX16_read_57 : decode cX16_read 57 = .ok (.if_icmp .ne 64, 3) := dk_160 0 64 (dk_at dksX16_read_2 9 rfl rfl)
theorem dX16_read_60 : decode cX16_read 60 = .ok (.iload_n 2, 1) := dk_28 (dk_at dksX16_read_2 12 rfl rfl)
theorem dX16_read_61 : decode cX16_read 61 = .ok (.aload 6, 2) := dk_25 6 (dk_at dksX16_read_2 13 rfl rfl)
theorem dX16_read_63 : decode cX16_read 63 = .ok (.getfield 45, 3) := dk_180 0 45 (dk_at dksX16_read_2 15 rfl rfl)
theorem dX16_read_66 : decode cX16_read 66 = .ok (.if_icmp .gt 55, 3) := dk_163 0 55 (dk_at dksX16_read_2 18 rfl rfl)
theorem dX16_read_69 : decode cX16_read 69 = .ok (.aload_n 0, 1) := dk_42 (dk_at dksX16_read_2 21 rfl rfl)
theorem dX16_read_70 : decode cX16_read 70 = .ok (.getfield 13, 3) := dk_180 0 13 (dk_at dksX16_read_3 0 rfl rfl)
theorem dX16_read_73 : decode cX16_read 73 = .ok (.iload_n 2, 1) := dk_28 (dk_at dksX16_read_3 3 rfl rfl)
theorem dX16_read_74 : decode cX16_read 74 = .ok (.aload 6, 2) := dk_25 6 (dk_at dksX16_read_3 4 rfl rfl)
theorem dX16_read_76 : decode cX16_read 76 = .ok (.invokevirtual 71, 3) := dk_182 0 71 (dk_at dksX16_read_3 6 rfl rfl)
theorem dX16_read_79 : decode cX16_read 79 = .ok (.aload_n 0, 1) := dk_42 (dk_at dksX16_read_3 9 rfl rfl)
theorem dX16_read_80 : decode cX16_read 80 = .ok (.getfield 13, 3) := dk_180 0 13 (dk_at dksX16_read_3 10 rfl rfl)
theorem dX16_read_83 : decode cX16_read 83 = .ok (.getfield 75, 3) := dk_180 0 75 (dk_at dksX16_read_3 13 rfl rfl)
theorem dX16_read_86 : decode cX16_read 86 = .ok (.aload 6, 2) := dk_25 6 (dk_at dksX16_read_3 16 rfl rfl)
theorem dX16_read_88 : decode cX16_read 88 = .ok (.aload_n 0, 1) := dk_42 (dk_at dksX16_read_3 18 rfl rfl)
theorem dX16_read_89 : decode cX16_read 89 = .ok (.getfield 13, 3) := dk_180 0 13 (dk_at dksX16_read_3 19 rfl rfl)
theorem dX16_read_92 : decode cX16_read 92 = .ok (.getfield 79, 3) := dk_180 0 79 (dk_at dksX16_read_4 0 rfl rfl)
theorem dX16_read_95 : decode cX16_read 95 = .ok (.invokestatic 82, 3) := dk_184 0 82 (dk_at dksX16_read_4 3 rfl rfl)
theorem dX16_read_98 : decode cX16_read 98 = .ok (.i2l, 1) := dk_133 (dk_at dksX16_read_4 6 rfl rfl)
theorem dX16_read_99 : decode cX16_read 99 = .ok (.ladd, 1) := dk_97 (dk_at dksX16_read_4 7 rfl rfl)
theorem dX16_read_100 : decode cX16_read 100 = .ok (.aload_n 0, 1) := dk_42 (dk_at dksX16_read_4 8 rfl rfl)
theorem dX16_read_101 : decode cX16_read 101 = .ok (.getfield 13, 3) := dk_180 0 13 (dk_at dksX16_read_4 9 rfl rfl)
theorem dX16_read_104 : decode cX16_read 104 = .ok (.getfield 86, 3) := dk_180 0 86 (dk_at dksX16_read_4 12 rfl rfl)
theorem dX16_read_107 : decode cX16_read 107 = .ok (.iload_n 1, 1) := dk_27 (dk_at dksX16_read_4 15 rfl rfl)
theorem dX16_read_108 : decode cX16_read 108 = .ok (.aaload, 1) := dk_50 (dk_at dksX16_read_4 16 rfl rfl)
theorem dX16_read_109 : decode cX16_read 109 = .ok (.iload_n 2, 1) := dk_28 (dk_at dksX16_read_4 17 rfl rfl)
theorem dX16_read_110 : decode cX16_read 110 = .ok (.aaload, 1) := dk_50 (dk_at dksX16_read_4 18 rfl rfl)
theorem dX16_read_111 : decode cX16_read 111 = .ok (.iload_n 3, 1) := dk_29 (dk_at dksX16_read_4 19 rfl rfl)
theorem dX16_read_112 : decode cX16_read 112 = .ok (.laload, 1) := dk_47 (dk_at dksX16_read_4 20 rfl rfl)
theorem dX16_read_113 : decode cX16_read 113 = .ok (.lcmp, 1) := dk_148 (dk_at dksX16_read_4 21 rfl rfl)
theorem dX16_read_114 : decode cX16_read 114 = .ok (.ifCond .ne 7, 3) := dk_154 0 7 (dk_at dksX16_read_5 0 rfl rfl)
theorem dX16_read_117 : decode cX16_read 117 = .ok (.iconst 1, 1) := dk_4 (dk_at dksX16_read_5 3 rfl rfl)
theorem dX16_read_118 : decode cX16_read 118 = .ok (.goto 4, 3) := dk_167 0 4 (dk_at dksX16_read_5 4 rfl rfl)
theorem dX16_read_121 : decode cX16_read 121 = .ok (.iconst 0, 1) := dk_3 (dk_at dksX16_read_5 7 rfl rfl)
theorem dX16_read_122 : decode cX16_read 122 = .ok (.istore 7, 2) := dk_54 7 (dk_at dksX16_read_5 8 rfl rfl)
theorem dX16_read_124 : decode cX16_read 124 = .ok (.iload 7, 2) := dk_21 7 (dk_at dksX16_read_5 10 rfl rfl)
theorem dX16_read_126 : decode cX16_read 126 = .ok (.ifCond .eq 23, 3) := dk_153 0 23 (dk_at dksX16_read_5 12 rfl rfl)
theorem dX16_read_129 : decode cX16_read 129 = .ok (.aload 4, 2) := dk_25 4 (dk_at dksX16_read_5 15 rfl rfl)
theorem dX16_read_131 : decode cX16_read 131 = .ok (.ifnull 14, 3) := dk_198 0 14 (dk_at dksX16_read_5 17 rfl rfl)
theorem dX16_read_134 : decode cX16_read 134 = .ok (.aload_n 0, 1) := dk_42 (dk_at dksX16_read_5 20 rfl rfl)
theorem dX16_read_135 : decode cX16_read 135 = .ok (.aload 6, 2) := dk_25 6 (dk_at dksX16_read_5 21 rfl rfl)
theorem dX16_read_137 : decode cX16_read 137 = .ok (.aload 4, 2) := dk_25 4 (dk_at dksX16_read_6 0 rfl rfl)
theorem dX16_read_139 : decode cX16_read 139 = .ok (.invokevirtual 90, 3) := dk_182 0 90 (dk_at dksX16_read_6 2 rfl rfl)
theorem dX16_read_142 : decode cX16_read 142 = .ok (.ifCond .eq 7, 3) := dk_153 0 7 (dk_at dksX16_read_6 5 rfl rfl)
theorem dX16_read_145 : decode cX16_read 145 = .ok (.aload 6, 2) := dk_25 6 (dk_at dksX16_read_6 8 rfl rfl)
theorem dX16_read_147 : decode cX16_read 147 = .ok (.astore 4, 2) := dk_58 4 (dk_at dksX16_read_6 10 rfl rfl)
theorem dX16_read_149 : decode cX16_read 149 = .ok (.iinc 5 1, 3) := dk_132 5 1 (dk_at dksX16_read_6 12 rfl rfl)
theorem dX16_read_152 : decode cX16_read 152 = .ok (.goto (-146), 3) := dk_167 255 110 (dk_at dksX16_read_6 15 rfl rfl)
theorem dX16_read_155 : decode cX16_read 155 = .ok (.aload 4, 2) := dk_25 4 (dk_at dksX16_read_6 18 rfl rfl)
theorem dX16_read_157 : decode cX16_read 157 = .ok (.getfield 45, 3) := dk_180 0 45 (dk_at dksX16_read_6 20 rfl rfl)
theorem dX16_read_160 : decode cX16_read 160 = .ok (.iload_n 2, 1) := dk_28 (dk_at dksX16_read_6 23 rfl rfl)
theorem dX16_read_161 : decode cX16_read 161 = .ok (.if_icmp .eq 29, 3) := dk_159 0 29 (dk_at dksX16_read_7 0 rfl rfl)
theorem dX16_read_164 : decode cX16_read 164 = .ok (.aload_n 0, 1) := dk_42 (dk_at dksX16_read_7 3 rfl rfl)
theorem dX16_read_165 : decode cX16_read 165 = .ok (.aload_n 0, 1) := dk_42 (dk_at dksX16_read_7 4 rfl rfl)
theorem dX16_read_166 : decode cX16_read 166 = .ok (.getfield 13, 3) := dk_180 0 13 (dk_at dksX16_read_7 5 rfl rfl)
theorem dX16_read_169 : decode cX16_read 169 = .ok (.getfield 94, 3) := dk_180 0 94 (dk_at dksX16_read_7 8 rfl rfl)
theorem dX16_read_172 : decode cX16_read 172 = .ok (.iload_n 2, 1) := dk_28 (dk_at dksX16_read_7 11 rfl rfl)
theorem dX16_read_173 : decode cX16_read 173 = .ok (.iaload, 1) := dk_46 (dk_at dksX16_read_7 12 rfl rfl)
theorem dX16_read_174 : decode cX16_read 174 = .ok (.aload_n 0, 1) := dk_42 (dk_at dksX16_read_7 13 rfl rfl)
theorem dX16_read_175 : decode cX16_read 175 = .ok (.getfield 13, 3) := dk_180 0 13 (dk_at dksX16_read_7 14 rfl rfl)
theorem dX16_read_178 : decode cX16_read 178 = .ok (.getfield 94, 3) := dk_180 0 94 (dk_at dksX16_read_7 17 rfl rfl)
theorem dX16_read_181 : decode cX16_read 181 = .ok (.aload 4, 2) := dk_25 4 (dk_at dksX16_read_7 20 rfl rfl)
theorem dX16_read_183 : decode cX16_read 183 = .ok (.getfield 45, 3) := dk_180 0 45 (dk_at dksX16_read_8 0 rfl rfl)
theorem dX16_read_186 : decode cX16_read 186 = .ok (.iaload, 1) := dk_46 (dk_at dksX16_read_8 3 rfl rfl)
theorem dX16_read_187 : decode cX16_read 187 = .ok (.invokevirtual 98, 3) := dk_182 0 98 (dk_at dksX16_read_8 4 rfl rfl)
theorem dX16_read_190 : decode cX16_read 190 = .ok (.aload 4, 2) := dk_25 4 (dk_at dksX16_read_8 7 rfl rfl)
theorem dX16_read_192 : decode cX16_read 192 = .ok (.invokevirtual 49, 3) := dk_182 0 49 (dk_at dksX16_read_8 9 rfl rfl)
theorem dX16_read_195 : decode cX16_read 195 = .ok (.ifCond .le 18, 3) := dk_158 0 18 (dk_at dksX16_read_8 12 rfl rfl)
theorem dX16_read_198 : decode cX16_read 198 = .ok (.aload_n 0, 1) := dk_42 (dk_at dksX16_read_8 15 rfl rfl)
theorem dX16_read_199 : decode cX16_read 199 = .ok (.getfield 1, 3) := dk_180 0 1 (dk_at dksX16_read_8 16 rfl rfl)
theorem dX16_read_202 : decode cX16_read 202 = .ok (.getfield 33, 3) := dk_180 0 33 (dk_at dksX16_read_8 19 rfl rfl)
theorem dX16_read_205 : decode cX16_read 205 = .ok (.aload 4, 2) := dk_25 4 (dk_at dksX16_read_8 22 rfl rfl)
theorem dX16_read_207 : decode cX16_read 207 = .ok (.invokeinterface 39 2, 5) := by decide +kernel
theorem dX16_read_212 : decode cX16_read 212 = .ok (.pop, 1) := dk_87 (dk_at dksX16_read_9 5 rfl rfl)
theorem dX16_read_213 : decode cX16_read 213 = .ok (.aload_n 0, 1) := dk_42 (dk_at dksX16_read_9 6 rfl rfl)
theorem dX16_read_214 : decode cX16_read 214 = .ok (.getfield 1, 3) := dk_180 0 1 (dk_at dksX16_read_9 7 rfl rfl)
theorem dX16_read_217 : decode cX16_read 217 = .ok (.getfield 102, 3) := dk_180 0 102 (dk_at dksX16_read_9 10 rfl rfl)
theorem dX16_read_220 : decode cX16_read 220 = .ok (.aload_n 0, 1) := dk_42 (dk_at dksX16_read_9 13 rfl rfl)
theorem dX16_read_221 : decode cX16_read 221 = .ok (.getfield 1, 3) := dk_180 0 1 (dk_at dksX16_read_9 14 rfl rfl)
theorem dX16_read_224 : decode cX16_read 224 = .ok (.getfield 105, 3) := dk_180 0 105 (dk_at dksX16_read_9 17 rfl rfl)
theorem dX16_read_227 : decode cX16_read 227 = .ok (.iload_n 1, 1) := dk_27 (dk_at dksX16_read_9 20 rfl rfl)
theorem dX16_read_228 : decode cX16_read 228 = .ok (.iastore, 1) := dk_79 (dk_at dksX16_read_9 21 rfl rfl)
theorem dX16_read_229 : decode cX16_read 229 = .ok (.aload_n 0, 1) := dk_42 (dk_at dksX16_read_9 22 rfl rfl)
theorem dX16_read_230 : decode cX16_read 230 = .ok (.getfield 1, 3) := dk_180 0 1 (dk_at dksX16_read_10 0 rfl rfl)
theorem dX16_read_233 : decode cX16_read 233 = .ok (.dup, 1) := dk_89 (dk_at dksX16_read_10 3 rfl rfl)
theorem dX16_read_234 : decode cX16_read 234 = .ok (.getfield 105, 3) := dk_180 0 105 (dk_at dksX16_read_10 4 rfl rfl)
theorem dX16_read_237 : decode cX16_read 237 = .ok (.iconst 1, 1) := dk_4 (dk_at dksX16_read_10 7 rfl rfl)
theorem dX16_read_238 : decode cX16_read 238 = .ok (.iadd, 1) := dk_96 (dk_at dksX16_read_10 8 rfl rfl)
theorem dX16_read_239 : decode cX16_read 239 = .ok (.putfield 105, 3) := dk_181 0 105 (dk_at dksX16_read_10 9 rfl rfl)
theorem dX16_read_242 : decode cX16_read 242 = .ok (.return_, 1) := dk_177 (dk_at dksX16_read_10 12 rfl rfl)
abbrev cX16_isAhead : ByteArray := prog_16_method_3_code
def yX16_isAhead : MethodName := ⟨RX16, "isAhead", "(LMendReader$Step;LMendReader$Step;)Z"⟩
def dkwX16_isAhead_3 : List UInt8 := [162, 0, 7, 4, 167, 0, 4, 3, 172]
abbrev dktX16_isAhead_3 : List UInt8 := dkwX16_isAhead_3 ++ []
def dkwX16_isAhead_2 : List UInt8 := [182, 0, 49, 162, 0, 7, 4, 167, 0, 23, 3, 167, 0, 19, 43, 182, 0, 52, 44, 182, 0, 52]
abbrev dktX16_isAhead_2 : List UInt8 := dkwX16_isAhead_2 ++ dktX16_isAhead_3
def dkwX16_isAhead_1 : List UInt8 := [167, 0, 53, 3, 167, 0, 49, 43, 182, 0, 49, 44, 182, 0, 49, 159, 0, 22, 43, 182, 0, 49, 44]
abbrev dktX16_isAhead_1 : List UInt8 := dkwX16_isAhead_1 ++ dktX16_isAhead_2
def dkwX16_isAhead_0 : List UInt8 := [43, 180, 0, 45, 44, 180, 0, 45, 159, 0, 22, 43, 180, 0, 45, 44, 180, 0, 45, 162, 0, 7, 4]
abbrev dktX16_isAhead_0 : List UInt8 := dkwX16_isAhead_0 ++ dktX16_isAhead_1
theorem dksX16_isAhead_0 : cX16_isAhead.data.toList.drop 0 = dktX16_isAhead_0 := by decide +kernel
theorem dksX16_isAhead_1 : cX16_isAhead.data.toList.drop 23 = dktX16_isAhead_1 := dk_seg dksX16_isAhead_0 23 rfl rfl
theorem dksX16_isAhead_2 : cX16_isAhead.data.toList.drop 46 = dktX16_isAhead_2 := dk_seg dksX16_isAhead_1 23 rfl rfl
theorem dksX16_isAhead_3 : cX16_isAhead.data.toList.drop 68 = dktX16_isAhead_3 := dk_seg dksX16_isAhead_2 22 rfl rfl
theorem dX16_isAhead_0 : decode cX16_isAhead 0 = .ok (.aload_n 1, 1) := dk_43 (dk_at dksX16_isAhead_0 0 rfl rfl)
theorem dX16_isAhead_1 : decode cX16_isAhead 1 = .ok (.getfield 45, 3) := dk_180 0 45 (dk_at dksX16_isAhead_0 1 rfl rfl)
theorem dX16_isAhead_4 : decode cX16_isAhead 4 = .ok (.aload_n 2, 1) := dk_44 (dk_at dksX16_isAhead_0 4 rfl rfl)
theorem dX16_isAhead_5 : decode cX16_isAhead 5 = .ok (.getfield 45, 3) := dk_180 0 45 (dk_at dksX16_isAhead_0 5 rfl rfl)
theorem dX16_isAhead_8 : decode cX16_isAhead 8 = .ok (.if_icmp .eq 22, 3) := dk_159 0 22 (dk_at dksX16_isAhead_0 8 rfl rfl)
theorem dX16_isAhead_11 : decode cX16_isAhead 11 = .ok (.aload_n 1, 1) := dk_43 (dk_at dksX16_isAhead_0 11 rfl rfl)
theorem dX16_isAhead_12 : decode cX16_isAhead 12 = .ok (.getfield 45, 3) := dk_180 0 45 (dk_at dksX16_isAhead_0 12 rfl rfl)
theorem dX16_isAhead_15 : decode cX16_isAhead 15 = .ok (.aload_n 2, 1) := dk_44 (dk_at dksX16_isAhead_0 15 rfl rfl)
theorem dX16_isAhead_16 : decode cX16_isAhead 16 = .ok (.getfield 45, 3) := dk_180 0 45 (dk_at dksX16_isAhead_0 16 rfl rfl)
theorem dX16_isAhead_19 : decode cX16_isAhead 19 = .ok (.if_icmp .ge 7, 3) := dk_162 0 7 (dk_at dksX16_isAhead_0 19 rfl rfl)
theorem dX16_isAhead_22 : decode cX16_isAhead 22 = .ok (.iconst 1, 1) := dk_4 (dk_at dksX16_isAhead_0 22 rfl rfl)
theorem dX16_isAhead_23 : decode cX16_isAhead 23 = .ok (.goto 53, 3) := dk_167 0 53 (dk_at dksX16_isAhead_1 0 rfl rfl)
theorem dX16_isAhead_26 : decode cX16_isAhead 26 = .ok (.iconst 0, 1) := dk_3 (dk_at dksX16_isAhead_1 3 rfl rfl)
theorem dX16_isAhead_27 : decode cX16_isAhead 27 = .ok (.goto 49, 3) := dk_167 0 49 (dk_at dksX16_isAhead_1 4 rfl rfl)
theorem dX16_isAhead_30 : decode cX16_isAhead 30 = .ok (.aload_n 1, 1) := dk_43 (dk_at dksX16_isAhead_1 7 rfl rfl)
theorem dX16_isAhead_31 : decode cX16_isAhead 31 = .ok (.invokevirtual 49, 3) := dk_182 0 49 (dk_at dksX16_isAhead_1 8 rfl rfl)
theorem dX16_isAhead_34 : decode cX16_isAhead 34 = .ok (.aload_n 2, 1) := dk_44 (dk_at dksX16_isAhead_1 11 rfl rfl)
theorem dX16_isAhead_35 : decode cX16_isAhead 35 = .ok (.invokevirtual 49, 3) := dk_182 0 49 (dk_at dksX16_isAhead_1 12 rfl rfl)
theorem dX16_isAhead_38 : decode cX16_isAhead 38 = .ok (.if_icmp .eq 22, 3) := dk_159 0 22 (dk_at dksX16_isAhead_1 15 rfl rfl)
theorem dX16_isAhead_41 : decode cX16_isAhead 41 = .ok (.aload_n 1, 1) := dk_43 (dk_at dksX16_isAhead_1 18 rfl rfl)
theorem dX16_isAhead_42 : decode cX16_isAhead 42 = .ok (.invokevirtual 49, 3) := dk_182 0 49 (dk_at dksX16_isAhead_1 19 rfl rfl)
theorem dX16_isAhead_45 : decode cX16_isAhead 45 = .ok (.aload_n 2, 1) := dk_44 (dk_at dksX16_isAhead_1 22 rfl rfl)
theorem dX16_isAhead_46 : decode cX16_isAhead 46 = .ok (.invokevirtual 49, 3) := dk_182 0 49 (dk_at dksX16_isAhead_2 0 rfl rfl)
theorem dX16_isAhead_49 : decode cX16_isAhead 49 = .ok (.if_icmp .ge 7, 3) := dk_162 0 7 (dk_at dksX16_isAhead_2 3 rfl rfl)
theorem dX16_isAhead_52 : decode cX16_isAhead 52 = .ok (.iconst 1, 1) := dk_4 (dk_at dksX16_isAhead_2 6 rfl rfl)
theorem dX16_isAhead_53 : decode cX16_isAhead 53 = .ok (.goto 23, 3) := dk_167 0 23 (dk_at dksX16_isAhead_2 7 rfl rfl)
theorem dX16_isAhead_56 : decode cX16_isAhead 56 = .ok (.iconst 0, 1) := dk_3 (dk_at dksX16_isAhead_2 10 rfl rfl)
theorem dX16_isAhead_57 : decode cX16_isAhead 57 = .ok (.goto 19, 3) := dk_167 0 19 (dk_at dksX16_isAhead_2 11 rfl rfl)
theorem dX16_isAhead_60 : decode cX16_isAhead 60 = .ok (.aload_n 1, 1) := dk_43 (dk_at dksX16_isAhead_2 14 rfl rfl)
theorem dX16_isAhead_61 : decode cX16_isAhead 61 = .ok (.invokevirtual 52, 3) := dk_182 0 52 (dk_at dksX16_isAhead_2 15 rfl rfl)
theorem dX16_isAhead_64 : decode cX16_isAhead 64 = .ok (.aload_n 2, 1) := dk_44 (dk_at dksX16_isAhead_2 18 rfl rfl)
theorem dX16_isAhead_65 : decode cX16_isAhead 65 = .ok (.invokevirtual 52, 3) := dk_182 0 52 (dk_at dksX16_isAhead_2 19 rfl rfl)
theorem dX16_isAhead_68 : decode cX16_isAhead 68 = .ok (.if_icmp .ge 7, 3) := dk_162 0 7 (dk_at dksX16_isAhead_3 0 rfl rfl)
theorem dX16_isAhead_71 : decode cX16_isAhead 71 = .ok (.iconst 1, 1) := dk_4 (dk_at dksX16_isAhead_3 3 rfl rfl)
theorem dX16_isAhead_72 : decode cX16_isAhead 72 = .ok (.goto 4, 3) := dk_167 0 4 (dk_at dksX16_isAhead_3 4 rfl rfl)
theorem dX16_isAhead_75 : decode cX16_isAhead 75 = .ok (.iconst 0, 1) := dk_3 (dk_at dksX16_isAhead_3 7 rfl rfl)
theorem dX16_isAhead_76 : decode cX16_isAhead 76 = .ok (.ireturn, 1) := dk_172 (dk_at dksX16_isAhead_3 8 rfl rfl)
abbrev cX16_skip : ByteArray := prog_16_method_2_code
def yX16_skip : MethodName := ⟨RX16, "skip", "(II)V"⟩
def dkwX16_skip_4 : List UInt8 := [50, 21, 4, 50, 185, 0, 39, 2, 0, 87, 29, 21, 4, 96, 62, 167, 255, 151, 177]
abbrev dktX16_skip_4 : List UInt8 := dkwX16_skip_4 ++ []
def dkwX16_skip_3 : List UInt8 := [153, 0, 9, 132, 4, 1, 167, 255, 192, 42, 180, 0, 1, 180, 0, 33, 42, 180, 0, 13, 180, 0, 17, 29]
abbrev dktX16_skip_3 : List UInt8 := dkwX16_skip_3 ++ dktX16_skip_4
def dkwX16_skip_2 : List UInt8 := [180, 0, 29, 29, 21, 4, 96, 50, 28, 47, 97, 42, 180, 0, 13, 180, 0, 29, 29, 50, 28, 47, 148]
abbrev dktX16_skip_2 : List UInt8 := dkwX16_skip_2 ++ dktX16_skip_3
def dkwX16_skip_1 : List UInt8 := [198, 0, 49, 42, 180, 0, 13, 180, 0, 17, 29, 50, 21, 4, 50, 182, 0, 23, 133, 42, 180, 0, 13]
abbrev dktX16_skip_1 : List UInt8 := dkwX16_skip_1 ++ dktX16_skip_2
def dkwX16_skip_0 : List UInt8 := [27, 62, 29, 28, 162, 0, 106, 4, 54, 4, 42, 180, 0, 13, 180, 0, 17, 29, 50, 21, 4, 50]
abbrev dktX16_skip_0 : List UInt8 := dkwX16_skip_0 ++ dktX16_skip_1
theorem dksX16_skip_0 : cX16_skip.data.toList.drop 0 = dktX16_skip_0 := by decide +kernel
theorem dksX16_skip_1 : cX16_skip.data.toList.drop 22 = dktX16_skip_1 := dk_seg dksX16_skip_0 22 rfl rfl
theorem dksX16_skip_2 : cX16_skip.data.toList.drop 45 = dktX16_skip_2 := dk_seg dksX16_skip_1 23 rfl rfl
theorem dksX16_skip_3 : cX16_skip.data.toList.drop 68 = dktX16_skip_3 := dk_seg dksX16_skip_2 23 rfl rfl
theorem dksX16_skip_4 : cX16_skip.data.toList.drop 92 = dktX16_skip_4 := dk_seg dksX16_skip_3 24 rfl rfl
theorem dX16_skip_0 : decode cX16_skip 0 = .ok (.iload_n 1, 1) := dk_27 (dk_at dksX16_skip_0 0 rfl rfl)
theorem dX16_skip_1 : decode cX16_skip 1 = .ok (.istore_n 3, 1) := dk_62 (dk_at dksX16_skip_0 1 rfl rfl)
theorem dX16_skip_2 : decode cX16_skip 2 = .ok (.iload_n 3, 1) := dk_29 (dk_at dksX16_skip_0 2 rfl rfl)
theorem dX16_skip_3 : decode cX16_skip 3 = .ok (.iload_n 2, 1) := dk_28 (dk_at dksX16_skip_0 3 rfl rfl)
theorem dX16_skip_4 : decode cX16_skip 4 = .ok (.if_icmp .ge 106, 3) := dk_162 0 106 (dk_at dksX16_skip_0 4 rfl rfl)
theorem dX16_skip_7 : decode cX16_skip 7 = .ok (.iconst 1, 1) := dk_4 (dk_at dksX16_skip_0 7 rfl rfl)
theorem dX16_skip_8 : decode cX16_skip 8 = .ok (.istore 4, 2) := dk_54 4 (dk_at dksX16_skip_0 8 rfl rfl)
theorem dX16_skip_10 : decode cX16_skip 10 = .ok (.aload_n 0, 1) := dk_42 (dk_at dksX16_skip_0 10 rfl rfl)
theorem dX16_skip_11 : decode cX16_skip 11 = .ok (.getfield 13, 3) := dk_180 0 13 (dk_at dksX16_skip_0 11 rfl rfl)
theorem dX16_skip_14 : decode cX16_skip 14 = .ok (.getfield 17, 3) := dk_180 0 17 (dk_at dksX16_skip_0 14 rfl rfl)
theorem dX16_skip_17 : decode cX16_skip 17 = .ok (.iload_n 3, 1) := dk_29 (dk_at dksX16_skip_0 17 rfl rfl)
theorem dX16_skip_18 : decode cX16_skip 18 = .ok (.aaload, 1) := dk_50 (dk_at dksX16_skip_0 18 rfl rfl)
theorem dX16_skip_19 : decode cX16_skip 19 = .ok (.iload 4, 2) := dk_21 4 (dk_at dksX16_skip_0 19 rfl rfl)
theorem dX16_skip_21 : decode cX16_skip 21 = .ok (.aaload, 1) := dk_50 (dk_at dksX16_skip_0 21 rfl rfl)
theorem dX16_skip_22 : decode cX16_skip 22 = .ok (.ifnull 49, 3) := dk_198 0 49 (dk_at dksX16_skip_1 0 rfl rfl)
theorem dX16_skip_25 : decode cX16_skip 25 = .ok (.aload_n 0, 1) := dk_42 (dk_at dksX16_skip_1 3 rfl rfl)
theorem dX16_skip_26 : decode cX16_skip 26 = .ok (.getfield 13, 3) := dk_180 0 13 (dk_at dksX16_skip_1 4 rfl rfl)
theorem dX16_skip_29 : decode cX16_skip 29 = .ok (.getfield 17, 3) := dk_180 0 17 (dk_at dksX16_skip_1 7 rfl rfl)
theorem dX16_skip_32 : decode cX16_skip 32 = .ok (.iload_n 3, 1) := dk_29 (dk_at dksX16_skip_1 10 rfl rfl)
theorem dX16_skip_33 : decode cX16_skip 33 = .ok (.aaload, 1) := dk_50 (dk_at dksX16_skip_1 11 rfl rfl)
theorem dX16_skip_34 : decode cX16_skip 34 = .ok (.iload 4, 2) := dk_21 4 (dk_at dksX16_skip_1 12 rfl rfl)
theorem dX16_skip_36 : decode cX16_skip 36 = .ok (.aaload, 1) := dk_50 (dk_at dksX16_skip_1 14 rfl rfl)
theorem dX16_skip_37 : decode cX16_skip 37 = .ok (.invokevirtual 23, 3) := dk_182 0 23 (dk_at dksX16_skip_1 15 rfl rfl)
theorem dX16_skip_40 : decode cX16_skip 40 = .ok (.i2l, 1) := dk_133 (dk_at dksX16_skip_1 18 rfl rfl)
theorem dX16_skip_41 : decode cX16_skip 41 = .ok (.aload_n 0, 1) := dk_42 (dk_at dksX16_skip_1 19 rfl rfl)
theorem dX16_skip_42 : decode cX16_skip 42 = .ok (.getfield 13, 3) := dk_180 0 13 (dk_at dksX16_skip_1 20 rfl rfl)
theorem dX16_skip_45 : decode cX16_skip 45 = .ok (.getfield 29, 3) := dk_180 0 29 (dk_at dksX16_skip_2 0 rfl rfl)
theorem dX16_skip_48 : decode cX16_skip 48 = .ok (.iload_n 3, 1) := dk_29 (dk_at dksX16_skip_2 3 rfl rfl)
theorem dX16_skip_49 : decode cX16_skip 49 = .ok (.iload 4, 2) := dk_21 4 (dk_at dksX16_skip_2 4 rfl rfl)
theorem dX16_skip_51 : decode cX16_skip 51 = .ok (.iadd, 1) := dk_96 (dk_at dksX16_skip_2 6 rfl rfl)
theorem dX16_skip_52 : decode cX16_skip 52 = .ok (.aaload, 1) := dk_50 (dk_at dksX16_skip_2 7 rfl rfl)
theorem dX16_skip_53 : decode cX16_skip 53 = .ok (.iload_n 2, 1) := dk_28 (dk_at dksX16_skip_2 8 rfl rfl)
theorem dX16_skip_54 : decode cX16_skip 54 = .ok (.laload, 1) := dk_47 (dk_at dksX16_skip_2 9 rfl rfl)
theorem dX16_skip_55 : decode cX16_skip 55 = .ok (.ladd, 1) := dk_97 (dk_at dksX16_skip_2 10 rfl rfl)
theorem dX16_skip_56 : decode cX16_skip 56 = .ok (.aload_n 0, 1) := dk_42 (dk_at dksX16_skip_2 11 rfl rfl)
theorem dX16_skip_57 : decode cX16_skip 57 = .ok (.getfield 13, 3) := dk_180 0 13 (dk_at dksX16_skip_2 12 rfl rfl)
theorem dX16_skip_60 : decode cX16_skip 60 = .ok (.getfield 29, 3) := dk_180 0 29 (dk_at dksX16_skip_2 15 rfl rfl)
theorem dX16_skip_63 : decode cX16_skip 63 = .ok (.iload_n 3, 1) := dk_29 (dk_at dksX16_skip_2 18 rfl rfl)
theorem dX16_skip_64 : decode cX16_skip 64 = .ok (.aaload, 1) := dk_50 (dk_at dksX16_skip_2 19 rfl rfl)
theorem dX16_skip_65 : decode cX16_skip 65 = .ok (.iload_n 2, 1) := dk_28 (dk_at dksX16_skip_2 20 rfl rfl)
theorem dX16_skip_66 : decode cX16_skip 66 = .ok (.laload, 1) := dk_47 (dk_at dksX16_skip_2 21 rfl rfl)
theorem dX16_skip_67 : decode cX16_skip 67 = .ok (.lcmp, 1) := dk_148 (dk_at dksX16_skip_2 22 rfl rfl)
theorem dX16_skip_68 : decode cX16_skip 68 = .ok (.ifCond .eq 9, 3) := dk_153 0 9 (dk_at dksX16_skip_3 0 rfl rfl)
theorem dX16_skip_71 : decode cX16_skip 71 = .ok (.iinc 4 1, 3) := dk_132 4 1 (dk_at dksX16_skip_3 3 rfl rfl)
theorem dX16_skip_74 : decode cX16_skip 74 = .ok (.goto (-64), 3) := dk_167 255 192 (dk_at dksX16_skip_3 6 rfl rfl)
theorem dX16_skip_77 : decode cX16_skip 77 = .ok (.aload_n 0, 1) := dk_42 (dk_at dksX16_skip_3 9 rfl rfl)
theorem dX16_skip_78 : decode cX16_skip 78 = .ok (.getfield 1, 3) := dk_180 0 1 (dk_at dksX16_skip_3 10 rfl rfl)
theorem dX16_skip_81 : decode cX16_skip 81 = .ok (.getfield 33, 3) := dk_180 0 33 (dk_at dksX16_skip_3 13 rfl rfl)
theorem dX16_skip_84 : decode cX16_skip 84 = .ok (.aload_n 0, 1) := dk_42 (dk_at dksX16_skip_3 16 rfl rfl)
theorem dX16_skip_85 : decode cX16_skip 85 = .ok (.getfield 13, 3) := dk_180 0 13 (dk_at dksX16_skip_3 17 rfl rfl)
theorem dX16_skip_88 : decode cX16_skip 88 = .ok (.getfield 17, 3) := dk_180 0 17 (dk_at dksX16_skip_3 20 rfl rfl)
theorem dX16_skip_91 : decode cX16_skip 91 = .ok (.iload_n 3, 1) := dk_29 (dk_at dksX16_skip_3 23 rfl rfl)
theorem dX16_skip_92 : decode cX16_skip 92 = .ok (.aaload, 1) := dk_50 (dk_at dksX16_skip_4 0 rfl rfl)
theorem dX16_skip_93 : decode cX16_skip 93 = .ok (.iload 4, 2) := dk_21 4 (dk_at dksX16_skip_4 1 rfl rfl)
theorem dX16_skip_95 : decode cX16_skip 95 = .ok (.aaload, 1) := dk_50 (dk_at dksX16_skip_4 3 rfl rfl)
theorem dX16_skip_96 : decode cX16_skip 96 = .ok (.invokeinterface 39 2, 5) := by decide +kernel
theorem dX16_skip_101 : decode cX16_skip 101 = .ok (.pop, 1) := dk_87 (dk_at dksX16_skip_4 9 rfl rfl)
theorem dX16_skip_102 : decode cX16_skip 102 = .ok (.iload_n 3, 1) := dk_29 (dk_at dksX16_skip_4 10 rfl rfl)
theorem dX16_skip_103 : decode cX16_skip 103 = .ok (.iload 4, 2) := dk_21 4 (dk_at dksX16_skip_4 11 rfl rfl)
theorem dX16_skip_105 : decode cX16_skip 105 = .ok (.iadd, 1) := dk_96 (dk_at dksX16_skip_4 13 rfl rfl)
theorem dX16_skip_106 : decode cX16_skip 106 = .ok (.istore_n 3, 1) := dk_62 (dk_at dksX16_skip_4 14 rfl rfl)
theorem dX16_skip_107 : decode cX16_skip 107 = .ok (.goto (-105), 3) := dk_167 255 151 (dk_at dksX16_skip_4 15 rfl rfl)
theorem dX16_skip_110 : decode cX16_skip 110 = .ok (.return_, 1) := dk_177 (dk_at dksX16_skip_4 18 rfl rfl)
theorem q82 : (Jvm.Cond.initialized "MendReader$Walker") ∈ lw_all := lw_g (lw_at lw_m1 26 rfl) rfl
theorem q142 : (Jvm.Cond.fieldLinkNest "MendReader$Walker" (130 : Nat) "MendReader$Tree" "cells" "[[I" "MendReader") ∈ lw_tbl := lw_at lw_m1 86 rfl
theorem q145 : (Jvm.Cond.fieldLinkNest "MendReader$Walker" (126 : Nat) "MendReader$Tree" "size" "I" "MendReader") ∈ lw_tbl := lw_at lw_m1 89 rfl
theorem q187 : (Jvm.Cond.fieldLinkNest "MendReader$Walker" (108 : Nat) "MendReader" "rules" "Ljava/util/List;" "MendReader") ∈ lw_tbl := lw_at lw_m1 131 rfl
theorem q205 : (Jvm.Cond.fieldLinkNest "MendReader$Walker" (123 : Nat) "MendReader" "tree" "LMendReader$Tree;" "MendReader") ∈ lw_tbl := lw_at lw_m1 149 rfl
theorem q206 : (Jvm.Cond.fieldLinkNest "MendReader$Walker" (33 : Nat) "MendReader" "slips" "Ljava/util/List;" "MendReader") ∈ lw_tbl := lw_at lw_m1 150 rfl
theorem q210 : (Jvm.Cond.fieldLinkNest "MendReader$Walker" (102 : Nat) "MendReader" "words" "[I" "MendReader") ∈ lw_tbl := lw_at lw_m1 154 rfl
theorem q211 : (Jvm.Cond.fieldLinkNest "MendReader$Walker" (105 : Nat) "MendReader" "wordMany" "I" "MendReader") ∈ lw_tbl := lw_at lw_m1 155 rfl
theorem q301 : (Jvm.Cond.fieldLinkNest "MendReader$Walker" (113 : Nat) "MendReader$Rule" "name" "I" "MendReader") ∈ lw_tbl := lw_at lw_m2 5 rfl
theorem q304 : (Jvm.Cond.fieldLinkNest "MendReader$Walker" (139 : Nat) "MendReader$Rule" "sorts" "[I" "MendReader") ∈ lw_tbl := lw_at lw_m2 8 rfl
theorem q308 : (Jvm.Cond.fieldLinkNest "MendReader$Walker" (142 : Nat) "MendReader$Rule" "which" "[I" "MendReader") ∈ lw_tbl := lw_at lw_m2 12 rfl
theorem q311 : (Jvm.Cond.fieldLinkNest "MendReader$Walker" (134 : Nat) "MendReader$Rule" "size" "I" "MendReader") ∈ lw_tbl := lw_at lw_m2 15 rfl
theorem q377 : (Jvm.Cond.selects "MendReader$Walker" ({ cls := "java/lang/Object", name := "getClass", desc := "()Ljava/lang/Class;" } : Jvm.MethodName) ({ cls := "java/lang/Object", name := "getClass", desc := "()Ljava/lang/Class;" } : Jvm.MethodName)) ∈ lw_all := lw_g (lw_at lw_m2 81 rfl) rfl
theorem q567 : (Jvm.Cond.fieldLink "MendReader$Walker" (45 : Nat) "MendReader$Step" "from" "I") ∈ lw_all := lw_g (lw_at lw_m3 31 rfl) rfl
theorem q570 : (Jvm.Cond.fieldLink "MendReader$Walker" (68 : Nat) "MendReader$Step" "to" "I") ∈ lw_all := lw_g (lw_at lw_m3 34 rfl) rfl
theorem q577 : (Jvm.Cond.fieldLink "MendReader$Walker" (65 : Nat) "MendReader$Step" "token" "I") ∈ lw_all := lw_g (lw_at lw_m3 41 rfl) rfl
theorem q923 : (Jvm.Cond.fieldLinkNest "MendReader$Walker" (79 : Nat) "MendReader$Chart" "n" "I" "MendReader") ∈ lw_tbl := lw_at lw_m4 147 rfl
theorem q926 : (Jvm.Cond.fieldLinkNest "MendReader$Walker" (75 : Nat) "MendReader$Chart" "way" "LMendReader$Way;" "MendReader") ∈ lw_tbl := lw_at lw_m4 150 rfl
theorem q931 : (Jvm.Cond.fieldLinkNest "MendReader$Walker" (94 : Nat) "MendReader$Chart" "mainOf" "[I" "MendReader") ∈ lw_tbl := lw_at lw_m4 155 rfl
theorem q935 : (Jvm.Cond.fieldLinkNest "MendReader$Walker" (55 : Nat) "MendReader$Chart" "steps" "Ljava/util/List;" "MendReader") ∈ lw_tbl := lw_at lw_m4 159 rfl
theorem q937 : (Jvm.Cond.fieldLinkNest "MendReader$Walker" (17 : Nat) "MendReader$Chart" "skips" "[[LMendReader$Step;" "MendReader") ∈ lw_tbl := lw_at lw_m4 161 rfl
theorem q939 : (Jvm.Cond.fieldLinkNest "MendReader$Walker" (29 : Nat) "MendReader$Chart" "skipping" "[[J" "MendReader") ∈ lw_tbl := lw_at lw_m4 163 rfl
theorem q942 : (Jvm.Cond.fieldLinkNest "MendReader$Walker" (86 : Nat) "MendReader$Chart" "read" "[[[J" "MendReader") ∈ lw_tbl := lw_at lw_m4 166 rfl
theorem q944 : (Jvm.Cond.fieldLinkNest "MendReader$Walker" (120 : Nat) "MendReader$Chart" "tree" "[[[J" "MendReader") ∈ lw_tbl := lw_at lw_m4 168 rfl
theorem q1008 : (Jvm.Cond.instantiable "MendReader$Walker" (2 : Nat)) ∈ lw_all := lw_g (lw_at lw_m4 232 rfl) rfl
theorem q1010 : (Jvm.Cond.instanceMethod ({ cls := "MendReader$Walker", name := "<init>", desc := "(LMendReader;LMendReader$Chart;)V" } : Jvm.MethodName)) ∈ lw_all := lw_g (lw_at lw_m4 234 rfl) rfl
theorem q1011 : (Jvm.Cond.code ({ cls := "MendReader$Walker", name := "<init>", desc := "(LMendReader;LMendReader$Chart;)V" } : Jvm.MethodName) prog_16_method_1_code (3 : Nat) (Option.none : Option Jvm.ClassFile.FieldType)) ∈ lw_all := lw_g (lw_at lw_m4 235 rfl) rfl
theorem q1012 : (Jvm.Cond.methodLink "MendReader$Walker" (7 : Nat) ({ cls := "java/lang/Object", name := "<init>", desc := "()V" } : Jvm.MethodName)) ∈ lw_all := lw_g (lw_at lw_m4 236 rfl) rfl
theorem q1013 : (Jvm.Cond.fieldLink "MendReader$Walker" (13 : Nat) "MendReader$Walker" "chart" "LMendReader$Chart;") ∈ lw_all := lw_g (lw_at lw_m4 237 rfl) rfl
theorem q1014 : (Jvm.Cond.fieldLink "MendReader$Walker" (1 : Nat) "MendReader$Walker" "this$0" "LMendReader;") ∈ lw_all := lw_g (lw_at lw_m4 238 rfl) rfl
theorem q1015 : (Jvm.Cond.laysFinal "MendReader$Walker" "MendReader$Walker" "chart" "LMendReader$Chart;") ∈ lw_all := lw_g (lw_at lw_m4 239 rfl) rfl
theorem q1016 : (Jvm.Cond.soleField "MendReader$Walker" "chart") ∈ lw_all := lw_g (lw_at lw_m5 0 rfl) rfl
theorem q1017 : (Jvm.Cond.laysFinal "MendReader$Walker" "MendReader$Walker" "this$0" "LMendReader;") ∈ lw_all := lw_g (lw_at lw_m5 1 rfl) rfl
theorem q1018 : (Jvm.Cond.soleField "MendReader$Walker" "this$0") ∈ lw_all := lw_g (lw_at lw_m5 2 rfl) rfl
theorem q1019 : (Jvm.Cond.superclass "MendReader$Walker" "java/lang/Object") ∈ lw_all := lw_g (lw_at lw_m5 3 rfl) rfl
theorem q1021 : (Jvm.Cond.instanceMethod ({ cls := "MendReader$Walker", name := "grow", desc := "(IIII)V" } : Jvm.MethodName)) ∈ lw_all := lw_g (lw_at lw_m5 5 rfl) rfl
theorem q1022 : (Jvm.Cond.selects "MendReader$Walker" ({ cls := "MendReader$Walker", name := "grow", desc := "(IIII)V" } : Jvm.MethodName) ({ cls := "MendReader$Walker", name := "grow", desc := "(IIII)V" } : Jvm.MethodName)) ∈ lw_all := lw_g (lw_at lw_m5 6 rfl) rfl
theorem q1023 : (Jvm.Cond.code ({ cls := "MendReader$Walker", name := "grow", desc := "(IIII)V" } : Jvm.MethodName) prog_16_method_5_code (11 : Nat) (Option.none : Option Jvm.ClassFile.FieldType)) ∈ lw_all := lw_g (lw_at lw_m5 7 rfl) rfl
theorem q1024 : (Jvm.Cond.interfaceEntry "MendReader$Walker" (61 : Nat)) ∈ lw_tbl := lw_at lw_m5 8 rfl
theorem q1025 : (Jvm.Cond.methodLink "MendReader$Walker" (61 : Nat) ({ cls := "java/util/List", name := "get", desc := "(I)Ljava/lang/Object;" } : Jvm.MethodName)) ∈ lw_all := lw_g (lw_at lw_m5 9 rfl) rfl
theorem q1026 : (Jvm.Cond.classLink "MendReader$Walker" (111 : Nat) "MendReader$Rule") ∈ lw_all := lw_g (lw_at lw_m5 10 rfl) rfl
theorem q1027 : (Jvm.Cond.methodLinkNest "MendReader$Walker" (116 : Nat) ({ cls := "MendReader$Chart", name := "rest", desc := "(LMendReader$Rule;I)[[J" } : Jvm.MethodName) "MendReader") ∈ lw_tbl := lw_at lw_m5 11 rfl
theorem q1028 : (Jvm.Cond.methodLinkNest "MendReader$Walker" (135 : Nat) ({ cls := "MendReader$Chart", name := "symbol", desc := "(LMendReader$Rule;III)J" } : Jvm.MethodName) "MendReader") ∈ lw_tbl := lw_at lw_m5 12 rfl
theorem q1029 : (Jvm.Cond.methodLink "MendReader$Walker" (145 : Nat) ({ cls := "MendReader$Walker", name := "read", desc := "(III)V" } : Jvm.MethodName)) ∈ lw_all := lw_g (lw_at lw_m5 13 rfl) rfl
theorem q1030 : (Jvm.Cond.instanceMethod ({ cls := "MendReader$Walker", name := "read", desc := "(III)V" } : Jvm.MethodName)) ∈ lw_all := lw_g (lw_at lw_m5 14 rfl) rfl
theorem q1031 : (Jvm.Cond.selects "MendReader$Walker" ({ cls := "MendReader$Walker", name := "read", desc := "(III)V" } : Jvm.MethodName) ({ cls := "MendReader$Walker", name := "read", desc := "(III)V" } : Jvm.MethodName)) ∈ lw_all := lw_g (lw_at lw_m5 15 rfl) rfl
theorem q1032 : (Jvm.Cond.code ({ cls := "MendReader$Walker", name := "read", desc := "(III)V" } : Jvm.MethodName) prog_16_method_4_code (8 : Nat) (Option.none : Option Jvm.ClassFile.FieldType)) ∈ lw_all := lw_g (lw_at lw_m5 16 rfl) rfl
theorem q1033 : (Jvm.Cond.interfaceEntry "MendReader$Walker" (58 : Nat)) ∈ lw_tbl := lw_at lw_m5 17 rfl
theorem q1034 : (Jvm.Cond.methodLink "MendReader$Walker" (58 : Nat) ({ cls := "java/util/List", name := "size", desc := "()I" } : Jvm.MethodName)) ∈ lw_all := lw_g (lw_at lw_m5 18 rfl) rfl
theorem q1035 : (Jvm.Cond.classLink "MendReader$Walker" (24 : Nat) "MendReader$Step") ∈ lw_all := lw_g (lw_at lw_m5 19 rfl) rfl
theorem q1036 : (Jvm.Cond.methodLinkNest "MendReader$Walker" (71 : Nat) ({ cls := "MendReader$Chart", name := "upTo", desc := "(ILMendReader$Step;)J" } : Jvm.MethodName) "MendReader") ∈ lw_tbl := lw_at lw_m5 20 rfl
theorem q1037 : (Jvm.Cond.methodLinkNest "MendReader$Walker" (82 : Nat) ({ cls := "MendReader", name := "priceOf", desc := "(LMendReader$Way;LMendReader$Step;I)I" } : Jvm.MethodName) "MendReader") ∈ lw_tbl := lw_at lw_m5 21 rfl
theorem q1038 : (Jvm.Cond.methodLink "MendReader$Walker" (90 : Nat) ({ cls := "MendReader$Walker", name := "isAhead", desc := "(LMendReader$Step;LMendReader$Step;)Z" } : Jvm.MethodName)) ∈ lw_all := lw_g (lw_at lw_m5 22 rfl) rfl
theorem q1039 : (Jvm.Cond.privateMethod ({ cls := "MendReader$Walker", name := "isAhead", desc := "(LMendReader$Step;LMendReader$Step;)Z" } : Jvm.MethodName)) ∈ lw_tbl := lw_at lw_m5 23 rfl
theorem q1040 : (Jvm.Cond.instanceMethod ({ cls := "MendReader$Walker", name := "isAhead", desc := "(LMendReader$Step;LMendReader$Step;)Z" } : Jvm.MethodName)) ∈ lw_all := lw_g (lw_at lw_m5 24 rfl) rfl
theorem q1041 : (Jvm.Cond.code ({ cls := "MendReader$Walker", name := "isAhead", desc := "(LMendReader$Step;LMendReader$Step;)Z" } : Jvm.MethodName) prog_16_method_3_code (3 : Nat) (Option.some Jvm.ClassFile.FieldType.boolean)) ∈ lw_all := lw_g (lw_at lw_m5 25 rfl) rfl
theorem q1042 : (Jvm.Cond.methodLink "MendReader$Walker" (49 : Nat) ({ cls := "MendReader$Step", name := "kind", desc := "()I" } : Jvm.MethodName)) ∈ lw_all := lw_g (lw_at lw_m5 26 rfl) rfl
theorem q1043 : (Jvm.Cond.methodLink "MendReader$Walker" (52 : Nat) ({ cls := "MendReader$Step", name := "form", desc := "()I" } : Jvm.MethodName)) ∈ lw_all := lw_g (lw_at lw_m5 27 rfl) rfl
theorem q1057 : (Jvm.Cond.methodLink "MendReader$Walker" (98 : Nat) ({ cls := "MendReader$Walker", name := "skip", desc := "(II)V" } : Jvm.MethodName)) ∈ lw_all := lw_g (lw_at lw_m5 41 rfl) rfl
theorem q1058 : (Jvm.Cond.instanceMethod ({ cls := "MendReader$Walker", name := "skip", desc := "(II)V" } : Jvm.MethodName)) ∈ lw_all := lw_g (lw_at lw_m5 42 rfl) rfl
theorem q1059 : (Jvm.Cond.selects "MendReader$Walker" ({ cls := "MendReader$Walker", name := "skip", desc := "(II)V" } : Jvm.MethodName) ({ cls := "MendReader$Walker", name := "skip", desc := "(II)V" } : Jvm.MethodName)) ∈ lw_all := lw_g (lw_at lw_m5 43 rfl) rfl
theorem q1060 : (Jvm.Cond.code ({ cls := "MendReader$Walker", name := "skip", desc := "(II)V" } : Jvm.MethodName) prog_16_method_2_code (5 : Nat) (Option.none : Option Jvm.ClassFile.FieldType)) ∈ lw_all := lw_g (lw_at lw_m5 44 rfl) rfl
theorem q1061 : (Jvm.Cond.methodLink "MendReader$Walker" (23 : Nat) ({ cls := "MendReader$Step", name := "price", desc := "()I" } : Jvm.MethodName)) ∈ lw_all := lw_g (lw_at lw_m5 45 rfl) rfl
theorem q1062 : (Jvm.Cond.interfaceEntry "MendReader$Walker" (39 : Nat)) ∈ lw_tbl := lw_at lw_m5 46 rfl
theorem q1063 : (Jvm.Cond.methodLink "MendReader$Walker" (39 : Nat) ({ cls := "java/util/List", name := "add", desc := "(Ljava/lang/Object;)Z" } : Jvm.MethodName)) ∈ lw_all := lw_g (lw_at lw_m5 47 rfl) rfl
theorem q1064 : (Jvm.Cond.methodLink "MendReader$Walker" (148 : Nat) ({ cls := "MendReader$Walker", name := "grow", desc := "(IIII)V" } : Jvm.MethodName)) ∈ lw_all := lw_g (lw_at lw_m5 48 rfl) rfl
theorem q1789 : (Jvm.Cond.castable "MendReader$Walker" "java/lang/Object") ∈ lw_tbl := lw_at lw_m8 53 rfl
theorem in_X16 : ∀ w ∈ wsX160, w ∈ lw_all := lw_in wsX160 [1015, 1017] (by decide +kernel) (by decide +kernel)
/-! MendReader$Shelf -/
set_option maxRecDepth 100000
def RX17 : String := "MendReader$Shelf"
def TX17 : u_T := fun k => match k with
  | _ => ("MendReader$Shelf", "thing", "Ljava/lang/Object;", false)
def tyX17 : Nat → FieldType := fun k => match k with
  | _ => .object "java/lang/Object"
abbrev wsX170 : List Cond := u_ws RX17 TX17 1
theorem nmX17 : ∀ a, a < 1 → ∀ b, b < 1 → a ≠ b → (TX17 a).2.1 ≠ (TX17 b).2.1 := by decide +kernel
theorem tyX17_ok : ∀ k, k < 1 → parseFieldDescriptor (TX17 k).2.2.1 = some (tyX17 k) := by decide +kernel
abbrev cX17_init : ByteArray := prog_10_method_1_code
def yX17_init : MethodName := ⟨RX17, "<init>", "()V"⟩
theorem dX17_init_0 : decode cX17_init 0 = .ok (.aload_n 0, 1) := by decide +kernel
theorem dX17_init_1 : decode cX17_init 1 = .ok (.invokespecial 1, 3) := by decide +kernel
theorem dX17_init_4 : decode cX17_init 4 = .ok (.return_, 1) := by decide +kernel
theorem q89 : (Jvm.Cond.initialized "MendReader$Shelf") ∈ lw_all := lw_g (lw_at lw_m1 33 rfl) rfl
theorem q371 : (Jvm.Cond.selects "MendReader$Shelf" ({ cls := "java/lang/Object", name := "getClass", desc := "()Ljava/lang/Class;" } : Jvm.MethodName) ({ cls := "java/lang/Object", name := "getClass", desc := "()Ljava/lang/Class;" } : Jvm.MethodName)) ∈ lw_all := lw_g (lw_at lw_m2 75 rfl) rfl
theorem q1128 : (Jvm.Cond.instantiable "MendReader$Shelf" (1 : Nat)) ∈ lw_all := lw_g (lw_at lw_m5 112 rfl) rfl
theorem q1130 : (Jvm.Cond.instanceMethod ({ cls := "MendReader$Shelf", name := "<init>", desc := "()V" } : Jvm.MethodName)) ∈ lw_all := lw_g (lw_at lw_m5 114 rfl) rfl
theorem q1131 : (Jvm.Cond.code ({ cls := "MendReader$Shelf", name := "<init>", desc := "()V" } : Jvm.MethodName) prog_10_method_1_code (1 : Nat) (Option.none : Option Jvm.ClassFile.FieldType)) ∈ lw_all := lw_g (lw_at lw_m5 115 rfl) rfl
theorem q1132 : (Jvm.Cond.methodLink "MendReader$Shelf" (1 : Nat) ({ cls := "java/lang/Object", name := "<init>", desc := "()V" } : Jvm.MethodName)) ∈ lw_all := lw_g (lw_at lw_m5 116 rfl) rfl
theorem q1134 : (Jvm.Cond.lays "MendReader$Shelf" "MendReader$Shelf" "thing" "Ljava/lang/Object;") ∈ lw_all := lw_g (lw_at lw_m5 118 rfl) rfl
theorem q1135 : (Jvm.Cond.soleField "MendReader$Shelf" "thing") ∈ lw_all := lw_g (lw_at lw_m5 119 rfl) rfl
theorem q1136 : (Jvm.Cond.superclass "MendReader$Shelf" "java/lang/Object") ∈ lw_all := lw_g (lw_at lw_m5 120 rfl) rfl
theorem q1771 : (Jvm.Cond.castable "MendReader$Shelf" "java/lang/Object") ∈ lw_tbl := lw_at lw_m8 35 rfl
theorem in_X17 : ∀ w ∈ wsX170, w ∈ lw_all := lw_in wsX170 [1134] (by decide +kernel) (by decide +kernel)
