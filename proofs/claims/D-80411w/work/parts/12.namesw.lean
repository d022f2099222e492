/-! NumberModels$Nearest -/
set_option maxRecDepth 100000
def RX2 : String := "NumberModels$Nearest"
abbrev cX2_init : ByteArray := prog_5_method_1_code
def yX2_init : MethodName := ⟨RX2, "<init>", "()V"⟩
theorem dX2_init_0 : decode cX2_init 0 = .ok (.aload_n 0, 1) := by decide +kernel
theorem dX2_init_1 : decode cX2_init 1 = .ok (.invokespecial 1, 3) := by decide +kernel
theorem dX2_init_4 : decode cX2_init 4 = .ok (.return_, 1) := by decide +kernel
abbrev cX2_goes : ByteArray := prog_5_method_2_code
def yX2_goes : MethodName := ⟨RX2, "goes", "(ZZI)Z"⟩
def dkwX2_goes_0 : List UInt8 := [29, 157, 0, 11, 29, 154, 0, 11, 28, 153, 0, 7, 4, 167, 0, 4, 3, 172]
abbrev dktX2_goes_0 : List UInt8 := dkwX2_goes_0 ++ []
theorem dksX2_goes_0 : cX2_goes.data.toList.drop 0 = dktX2_goes_0 := by decide +kernel
theorem dX2_goes_0 : decode cX2_goes 0 = .ok (.iload_n 3, 1) := dk_29 (dk_at dksX2_goes_0 0 rfl rfl)
theorem dX2_goes_1 : decode cX2_goes 1 = .ok (.ifCond .gt 11, 3) := dk_157 0 11 (dk_at dksX2_goes_0 1 rfl rfl)
theorem dX2_goes_4 : decode cX2_goes 4 = .ok (.iload_n 3, 1) := dk_29 (dk_at dksX2_goes_0 4 rfl rfl)
theorem dX2_goes_5 : decode cX2_goes 5 = .ok (.ifCond .ne 11, 3) := dk_154 0 11 (dk_at dksX2_goes_0 5 rfl rfl)
theorem dX2_goes_8 : decode cX2_goes 8 = .ok (.iload_n 2, 1) := dk_28 (dk_at dksX2_goes_0 8 rfl rfl)
theorem dX2_goes_9 : decode cX2_goes 9 = .ok (.ifCond .eq 7, 3) := dk_153 0 7 (dk_at dksX2_goes_0 9 rfl rfl)
theorem dX2_goes_12 : decode cX2_goes 12 = .ok (.iconst 1, 1) := dk_4 (dk_at dksX2_goes_0 12 rfl rfl)
theorem dX2_goes_13 : decode cX2_goes 13 = .ok (.goto 4, 3) := dk_167 0 4 (dk_at dksX2_goes_0 13 rfl rfl)
theorem dX2_goes_16 : decode cX2_goes 16 = .ok (.iconst 0, 1) := dk_3 (dk_at dksX2_goes_0 16 rfl rfl)
theorem dX2_goes_17 : decode cX2_goes 17 = .ok (.ireturn, 1) := dk_172 (dk_at dksX2_goes_0 17 rfl rfl)
theorem q60 : (Jvm.Cond.initialized "NumberModels$Nearest") ∈ lw_all := lw_g (lw_at lw_m1 2 rfl) rfl
theorem q97 : (Jvm.Cond.instantiable "NumberModels$Nearest" (0 : Nat)) ∈ lw_all := lw_g (lw_at lw_m1 39 rfl) rfl
theorem q99 : (Jvm.Cond.instanceMethod ({ cls := "NumberModels$Nearest", name := "<init>", desc := "()V" } : Jvm.MethodName)) ∈ lw_all := lw_g (lw_at lw_m1 41 rfl) rfl
theorem q100 : (Jvm.Cond.code ({ cls := "NumberModels$Nearest", name := "<init>", desc := "()V" } : Jvm.MethodName) prog_5_method_1_code (1 : Nat) (Option.none : Option Jvm.ClassFile.FieldType)) ∈ lw_all := lw_g (lw_at lw_m1 42 rfl) rfl
theorem q101 : (Jvm.Cond.methodLink "NumberModels$Nearest" (1 : Nat) ({ cls := "java/lang/Object", name := "<init>", desc := "()V" } : Jvm.MethodName)) ∈ lw_all := lw_g (lw_at lw_m1 43 rfl) rfl
theorem q102 : (Jvm.Cond.superclass "NumberModels$Nearest" "java/lang/Object") ∈ lw_all := lw_g (lw_at lw_m1 44 rfl) rfl
theorem q755 : (Jvm.Cond.castable "NumberModels$Nearest" "NumberModels$Rounds") ∈ lw_tbl := lw_at lw_m3 217 rfl
theorem q756 : (Jvm.Cond.selects "NumberModels$Nearest" ({ cls := "NumberModels$Rounds", name := "goes", desc := "(ZZI)Z" } : Jvm.MethodName) ({ cls := "NumberModels$Nearest", name := "goes", desc := "(ZZI)Z" } : Jvm.MethodName)) ∈ lw_all := lw_g (lw_at lw_m3 218 rfl) rfl
theorem q757 : (Jvm.Cond.unhidden "NumberModels$Nearest" "goes" "(ZZI)Z") ∈ lw_tbl := lw_at lw_m3 219 rfl
theorem q758 : (Jvm.Cond.instanceMethod ({ cls := "NumberModels$Nearest", name := "goes", desc := "(ZZI)Z" } : Jvm.MethodName)) ∈ lw_all := lw_g (lw_at lw_m3 220 rfl) rfl
theorem q759 : (Jvm.Cond.publicMethod ({ cls := "NumberModels$Nearest", name := "goes", desc := "(ZZI)Z" } : Jvm.MethodName)) ∈ lw_tbl := lw_at lw_m3 221 rfl
theorem q760 : (Jvm.Cond.code ({ cls := "NumberModels$Nearest", name := "goes", desc := "(ZZI)Z" } : Jvm.MethodName) prog_5_method_2_code (4 : Nat) (Option.some Jvm.ClassFile.FieldType.boolean)) ∈ lw_all := lw_g (lw_at lw_m3 222 rfl) rfl
/-! NumberModels$Away -/
set_option maxRecDepth 100000
def RX3 : String := "NumberModels$Away"
abbrev cX3_init : ByteArray := prog_2_method_1_code
def yX3_init : MethodName := ⟨RX3, "<init>", "()V"⟩
theorem dX3_init_0 : decode cX3_init 0 = .ok (.aload_n 0, 1) := by decide +kernel
theorem dX3_init_1 : decode cX3_init 1 = .ok (.invokespecial 1, 3) := by decide +kernel
theorem dX3_init_4 : decode cX3_init 4 = .ok (.return_, 1) := by decide +kernel
abbrev cX3_goes : ByteArray := prog_2_method_3_code
def yX3_goes : MethodName := ⟨RX3, "goes", "(ZZI)Z"⟩
def dkwX3_goes_0 : List UInt8 := [42, 27, 182, 0, 7, 172]
abbrev dktX3_goes_0 : List UInt8 := dkwX3_goes_0 ++ []
theorem dksX3_goes_0 : cX3_goes.data.toList.drop 0 = dktX3_goes_0 := by decide +kernel
theorem dX3_goes_0 : decode cX3_goes 0 = .ok (.aload_n 0, 1) := dk_42 (dk_at dksX3_goes_0 0 rfl rfl)
theorem dX3_goes_1 : decode cX3_goes 1 = .ok (.iload_n 1, 1) := dk_27 (dk_at dksX3_goes_0 1 rfl rfl)
theorem dX3_goes_2 : decode cX3_goes 2 = .ok (.invokevirtual 7, 3) := dk_182 0 7 (dk_at dksX3_goes_0 2 rfl rfl)
theorem dX3_goes_5 : decode cX3_goes 5 = .ok (.ireturn, 1) := dk_172 (dk_at dksX3_goes_0 5 rfl rfl)
abbrev cX3_isFor : ByteArray := prog_2_method_2_code
def yX3_isFor : MethodName := ⟨RX3, "isFo\x72", "(Z)Z"⟩
theorem dX3_isFor_0 : decode cX3_isFor 0 = .ok (.iconst 1, 1) := by decide +kernel
theorem dX3_isFor_1 : decode cX3_isFor 1 = .ok (.ireturn, 1) := by decide +kernel
theorem q61 : (Jvm.Cond.initialized "NumberModels$Away") ∈ lw_all := lw_g (lw_at lw_m1 3 rfl) rfl
theorem q109 : (Jvm.Cond.instanceMethod ({ cls := "NumberModels$Away", name := "<init>", desc := "()V" } : Jvm.MethodName)) ∈ lw_all := lw_g (lw_at lw_m1 51 rfl) rfl
theorem q110 : (Jvm.Cond.code ({ cls := "NumberModels$Away", name := "<init>", desc := "()V" } : Jvm.MethodName) prog_2_method_1_code (1 : Nat) (Option.none : Option Jvm.ClassFile.FieldType)) ∈ lw_all := lw_g (lw_at lw_m1 52 rfl) rfl
theorem q111 : (Jvm.Cond.methodLink "NumberModels$Away" (1 : Nat) ({ cls := "java/lang/Object", name := "<init>", desc := "()V" } : Jvm.MethodName)) ∈ lw_all := lw_g (lw_at lw_m1 53 rfl) rfl
theorem q741 : (Jvm.Cond.declares ({ cls := "NumberModels$Away", name := "goes", desc := "(ZZI)Z" } : Jvm.MethodName)) ∈ lw_tbl := lw_at lw_m3 203 rfl
theorem q742 : (Jvm.Cond.instanceMethod ({ cls := "NumberModels$Away", name := "goes", desc := "(ZZI)Z" } : Jvm.MethodName)) ∈ lw_all := lw_g (lw_at lw_m3 204 rfl) rfl
theorem q743 : (Jvm.Cond.code ({ cls := "NumberModels$Away", name := "goes", desc := "(ZZI)Z" } : Jvm.MethodName) prog_2_method_3_code (4 : Nat) (Option.some Jvm.ClassFile.FieldType.boolean)) ∈ lw_all := lw_g (lw_at lw_m3 205 rfl) rfl
theorem q744 : (Jvm.Cond.methodLink "NumberModels$Away" (7 : Nat) ({ cls := "NumberModels$Away", name := "isFo\x72", desc := "(Z)Z" } : Jvm.MethodName)) ∈ lw_all := lw_g (lw_at lw_m3 206 rfl) rfl
theorem q745 : (Jvm.Cond.instanceMethod ({ cls := "NumberModels$Away", name := "isFo\x72", desc := "(Z)Z" } : Jvm.MethodName)) ∈ lw_all := lw_g (lw_at lw_m3 207 rfl) rfl
theorem q746 : (Jvm.Cond.sameMethod "NumberModels$Away" "NumberModels$Away" "isFo\x72" "(Z)Z") ∈ lw_all := lw_g (lw_at lw_m3 208 rfl) rfl
theorem q754 : (Jvm.Cond.code ({ cls := "NumberModels$Away", name := "isFo\x72", desc := "(Z)Z" } : Jvm.MethodName) prog_2_method_2_code (2 : Nat) (Option.some Jvm.ClassFile.FieldType.boolean)) ∈ lw_all := lw_g (lw_at lw_m3 216 rfl) rfl
theorem q769 : (Jvm.Cond.publicMethod ({ cls := "NumberModels$Away", name := "goes", desc := "(ZZI)Z" } : Jvm.MethodName)) ∈ lw_tbl := lw_at lw_m3 231 rfl
/-! NumberModels$Upward -/
set_option maxRecDepth 100000
def RX4 : String := "NumberModels$Upward"
abbrev cX4_init : ByteArray := prog_8_method_1_code
def yX4_init : MethodName := ⟨RX4, "<init>", "()V"⟩
theorem dX4_init_0 : decode cX4_init 0 = .ok (.aload_n 0, 1) := by decide +kernel
theorem dX4_init_1 : decode cX4_init 1 = .ok (.invokespecial 1, 3) := by decide +kernel
theorem dX4_init_4 : decode cX4_init 4 = .ok (.return_, 1) := by decide +kernel
abbrev cX4_isFor : ByteArray := prog_8_method_2_code
def yX4_isFor : MethodName := ⟨RX4, "isFo\x72", "(Z)Z"⟩
def dkwX4_isFor_0 : List UInt8 := [27, 154, 0, 7, 4, 167, 0, 4, 3, 172]
abbrev dktX4_isFor_0 : List UInt8 := dkwX4_isFor_0 ++ []
theorem dksX4_isFor_0 : cX4_isFor.data.toList.drop 0 = dktX4_isFor_0 := by decide +kernel
theorem dX4_isFor_0 : decode cX4_isFor 0 = .ok (.iload_n 1, 1) := dk_27 (dk_at dksX4_isFor_0 0 rfl rfl)
theorem dX4_isFor_1 : decode cX4_isFor 1 = .ok (.ifCond .ne 7, 3) := dk_154 0 7 (dk_at dksX4_isFor_0 1 rfl rfl)
theorem dX4_isFor_4 : decode cX4_isFor 4 = .ok (.iconst 1, 1) := dk_4 (dk_at dksX4_isFor_0 4 rfl rfl)
theorem dX4_isFor_5 : decode cX4_isFor 5 = .ok (.goto 4, 3) := dk_167 0 4 (dk_at dksX4_isFor_0 5 rfl rfl)
theorem dX4_isFor_8 : decode cX4_isFor 8 = .ok (.iconst 0, 1) := dk_3 (dk_at dksX4_isFor_0 8 rfl rfl)
theorem dX4_isFor_9 : decode cX4_isFor 9 = .ok (.ireturn, 1) := dk_172 (dk_at dksX4_isFor_0 9 rfl rfl)
theorem q62 : (Jvm.Cond.initialized "NumberModels$Upward") ∈ lw_all := lw_g (lw_at lw_m1 4 rfl) rfl
theorem q104 : (Jvm.Cond.instantiable "NumberModels$Upward" (0 : Nat)) ∈ lw_all := lw_g (lw_at lw_m1 46 rfl) rfl
theorem q106 : (Jvm.Cond.instanceMethod ({ cls := "NumberModels$Upward", name := "<init>", desc := "()V" } : Jvm.MethodName)) ∈ lw_all := lw_g (lw_at lw_m1 48 rfl) rfl
theorem q107 : (Jvm.Cond.code ({ cls := "NumberModels$Upward", name := "<init>", desc := "()V" } : Jvm.MethodName) prog_8_method_1_code (1 : Nat) (Option.none : Option Jvm.ClassFile.FieldType)) ∈ lw_all := lw_g (lw_at lw_m1 49 rfl) rfl
theorem q108 : (Jvm.Cond.methodLinkNest "NumberModels$Upward" (1 : Nat) ({ cls := "NumberModels$Away", name := "<init>", desc := "()V" } : Jvm.MethodName) "NumberModels") ∈ lw_tbl := lw_at lw_m1 50 rfl
theorem q112 : (Jvm.Cond.superclass "NumberModels$Upward" "NumberModels$Away") ∈ lw_all := lw_g (lw_at lw_m1 54 rfl) rfl
theorem q740 : (Jvm.Cond.sameMethod "NumberModels$Upward" "NumberModels$Away" "goes" "(ZZI)Z") ∈ lw_all := lw_g (lw_at lw_m3 202 rfl) rfl
theorem q751 : (Jvm.Cond.instanceMethod ({ cls := "NumberModels$Upward", name := "isFo\x72", desc := "(Z)Z" } : Jvm.MethodName)) ∈ lw_all := lw_g (lw_at lw_m3 213 rfl) rfl
theorem q752 : (Jvm.Cond.code ({ cls := "NumberModels$Upward", name := "isFo\x72", desc := "(Z)Z" } : Jvm.MethodName) prog_8_method_2_code (2 : Nat) (Option.some Jvm.ClassFile.FieldType.boolean)) ∈ lw_all := lw_g (lw_at lw_m3 214 rfl) rfl
theorem q753 : (Jvm.Cond.selects "NumberModels$Upward" ({ cls := "NumberModels$Away", name := "isFo\x72", desc := "(Z)Z" } : Jvm.MethodName) ({ cls := "NumberModels$Upward", name := "isFo\x72", desc := "(Z)Z" } : Jvm.MethodName)) ∈ lw_all := lw_g (lw_at lw_m3 215 rfl) rfl
theorem q766 : (Jvm.Cond.castable "NumberModels$Upward" "NumberModels$Rounds") ∈ lw_tbl := lw_at lw_m3 228 rfl
theorem q767 : (Jvm.Cond.selects "NumberModels$Upward" ({ cls := "NumberModels$Rounds", name := "goes", desc := "(ZZI)Z" } : Jvm.MethodName) ({ cls := "NumberModels$Away", name := "goes", desc := "(ZZI)Z" } : Jvm.MethodName)) ∈ lw_all := lw_g (lw_at lw_m3 229 rfl) rfl
theorem q768 : (Jvm.Cond.unhidden "NumberModels$Upward" "goes" "(ZZI)Z") ∈ lw_tbl := lw_at lw_m3 230 rfl
theorem q1218 : (Jvm.Cond.sameMethod "NumberModels$Upward" "NumberModels$Upward" "isFo\x72" "(Z)Z") ∈ lw_all := lw_g (lw_at lw_m5 200 rfl) rfl
/-! NumberModels$Downward -/
set_option maxRecDepth 100000
def RX5 : String := "NumberModels$Downward"
abbrev cX5_init : ByteArray := prog_3_method_1_code
def yX5_init : MethodName := ⟨RX5, "<init>", "()V"⟩
theorem dX5_init_0 : decode cX5_init 0 = .ok (.aload_n 0, 1) := by decide +kernel
theorem dX5_init_1 : decode cX5_init 1 = .ok (.invokespecial 1, 3) := by decide +kernel
theorem dX5_init_4 : decode cX5_init 4 = .ok (.return_, 1) := by decide +kernel
abbrev cX5_goes : ByteArray := prog_3_method_3_code
def yX5_goes : MethodName := ⟨RX5, "goes", "(ZZI)Z"⟩
def dkwX5_goes_0 : List UInt8 := [42, 27, 28, 29, 183, 0, 11, 172]
abbrev dktX5_goes_0 : List UInt8 := dkwX5_goes_0 ++ []
theorem dksX5_goes_0 : cX5_goes.data.toList.drop 0 = dktX5_goes_0 := by decide +kernel
theorem dX5_goes_0 : decode cX5_goes 0 = .ok (.aload_n 0, 1) := dk_42 (dk_at dksX5_goes_0 0 rfl rfl)
theorem dX5_goes_1 : decode cX5_goes 1 = .ok (.iload_n 1, 1) := dk_27 (dk_at dksX5_goes_0 1 rfl rfl)
theorem dX5_goes_2 : decode cX5_goes 2 = .ok (.iload_n 2, 1) := dk_28 (dk_at dksX5_goes_0 2 rfl rfl)
theorem dX5_goes_3 : decode cX5_goes 3 = .ok (.iload_n 3, 1) := dk_29 (dk_at dksX5_goes_0 3 rfl rfl)
theorem dX5_goes_4 : decode cX5_goes 4 = .ok (.invokespecial 11, 3) := dk_183 0 11 (dk_at dksX5_goes_0 4 rfl rfl)
theorem dX5_goes_7 : decode cX5_goes 7 = .ok (.ireturn, 1) := dk_172 (dk_at dksX5_goes_0 7 rfl rfl)
abbrev cX5_isFor : ByteArray := prog_3_method_2_code
def yX5_isFor : MethodName := ⟨RX5, "isFo\x72", "(Z)Z"⟩
def dkwX5_isFor_0 : List UInt8 := [42, 27, 183, 0, 7, 154, 0, 7, 4, 167, 0, 4, 3, 172]
abbrev dktX5_isFor_0 : List UInt8 := dkwX5_isFor_0 ++ []
theorem dksX5_isFor_0 : cX5_isFor.data.toList.drop 0 = dktX5_isFor_0 := by decide +kernel
theorem dX5_isFor_0 : decode cX5_isFor 0 = .ok (.aload_n 0, 1) := dk_42 (dk_at dksX5_isFor_0 0 rfl rfl)
theorem dX5_isFor_1 : decode cX5_isFor 1 = .ok (.iload_n 1, 1) := dk_27 (dk_at dksX5_isFor_0 1 rfl rfl)
theorem dX5_isFor_2 : decode cX5_isFor 2 = .ok (.invokespecial 7, 3) := dk_183 0 7 (dk_at dksX5_isFor_0 2 rfl rfl)
theorem dX5_isFor_5 : decode cX5_isFor 5 = .ok (.ifCond .ne 7, 3) := dk_154 0 7 (dk_at dksX5_isFor_0 5 rfl rfl)
theorem dX5_isFor_8 : decode cX5_isFor 8 = .ok (.iconst 1, 1) := dk_4 (dk_at dksX5_isFor_0 8 rfl rfl)
theorem dX5_isFor_9 : decode cX5_isFor 9 = .ok (.goto 4, 3) := dk_167 0 4 (dk_at dksX5_isFor_0 9 rfl rfl)
theorem dX5_isFor_12 : decode cX5_isFor 12 = .ok (.iconst 0, 1) := dk_3 (dk_at dksX5_isFor_0 12 rfl rfl)
theorem dX5_isFor_13 : decode cX5_isFor 13 = .ok (.ireturn, 1) := dk_172 (dk_at dksX5_isFor_0 13 rfl rfl)
theorem q63 : (Jvm.Cond.initialized "NumberModels$Downward") ∈ lw_all := lw_g (lw_at lw_m1 5 rfl) rfl
theorem q114 : (Jvm.Cond.instantiable "NumberModels$Downward" (0 : Nat)) ∈ lw_all := lw_g (lw_at lw_m1 56 rfl) rfl
theorem q116 : (Jvm.Cond.instanceMethod ({ cls := "NumberModels$Downward", name := "<init>", desc := "()V" } : Jvm.MethodName)) ∈ lw_all := lw_g (lw_at lw_m1 58 rfl) rfl
theorem q117 : (Jvm.Cond.code ({ cls := "NumberModels$Downward", name := "<init>", desc := "()V" } : Jvm.MethodName) prog_3_method_1_code (1 : Nat) (Option.none : Option Jvm.ClassFile.FieldType)) ∈ lw_all := lw_g (lw_at lw_m1 59 rfl) rfl
theorem q118 : (Jvm.Cond.methodLinkNest "NumberModels$Downward" (1 : Nat) ({ cls := "NumberModels$Upward", name := "<init>", desc := "()V" } : Jvm.MethodName) "NumberModels") ∈ lw_tbl := lw_at lw_m1 60 rfl
theorem q119 : (Jvm.Cond.superclass "NumberModels$Downward" "NumberModels$Upward") ∈ lw_all := lw_g (lw_at lw_m1 61 rfl) rfl
theorem q733 : (Jvm.Cond.castable "NumberModels$Downward" "NumberModels$Rounds") ∈ lw_tbl := lw_at lw_m3 195 rfl
theorem q734 : (Jvm.Cond.selects "NumberModels$Downward" ({ cls := "NumberModels$Rounds", name := "goes", desc := "(ZZI)Z" } : Jvm.MethodName) ({ cls := "NumberModels$Downward", name := "goes", desc := "(ZZI)Z" } : Jvm.MethodName)) ∈ lw_all := lw_g (lw_at lw_m3 196 rfl) rfl
theorem q735 : (Jvm.Cond.unhidden "NumberModels$Downward" "goes" "(ZZI)Z") ∈ lw_tbl := lw_at lw_m3 197 rfl
theorem q736 : (Jvm.Cond.instanceMethod ({ cls := "NumberModels$Downward", name := "goes", desc := "(ZZI)Z" } : Jvm.MethodName)) ∈ lw_all := lw_g (lw_at lw_m3 198 rfl) rfl
theorem q737 : (Jvm.Cond.publicMethod ({ cls := "NumberModels$Downward", name := "goes", desc := "(ZZI)Z" } : Jvm.MethodName)) ∈ lw_tbl := lw_at lw_m3 199 rfl
theorem q738 : (Jvm.Cond.code ({ cls := "NumberModels$Downward", name := "goes", desc := "(ZZI)Z" } : Jvm.MethodName) prog_3_method_3_code (4 : Nat) (Option.some Jvm.ClassFile.FieldType.boolean)) ∈ lw_all := lw_g (lw_at lw_m3 200 rfl) rfl
theorem q739 : (Jvm.Cond.methodLink "NumberModels$Downward" (11 : Nat) ({ cls := "NumberModels$Upward", name := "goes", desc := "(ZZI)Z" } : Jvm.MethodName)) ∈ lw_all := lw_g (lw_at lw_m3 201 rfl) rfl
theorem q747 : (Jvm.Cond.selects "NumberModels$Downward" ({ cls := "NumberModels$Away", name := "isFo\x72", desc := "(Z)Z" } : Jvm.MethodName) ({ cls := "NumberModels$Downward", name := "isFo\x72", desc := "(Z)Z" } : Jvm.MethodName)) ∈ lw_all := lw_g (lw_at lw_m3 209 rfl) rfl
theorem q748 : (Jvm.Cond.instanceMethod ({ cls := "NumberModels$Downward", name := "isFo\x72", desc := "(Z)Z" } : Jvm.MethodName)) ∈ lw_all := lw_g (lw_at lw_m3 210 rfl) rfl
theorem q749 : (Jvm.Cond.code ({ cls := "NumberModels$Downward", name := "isFo\x72", desc := "(Z)Z" } : Jvm.MethodName) prog_3_method_2_code (2 : Nat) (Option.some Jvm.ClassFile.FieldType.boolean)) ∈ lw_all := lw_g (lw_at lw_m3 211 rfl) rfl
theorem q750 : (Jvm.Cond.methodLink "NumberModels$Downward" (7 : Nat) ({ cls := "NumberModels$Upward", name := "isFo\x72", desc := "(Z)Z" } : Jvm.MethodName)) ∈ lw_all := lw_g (lw_at lw_m3 212 rfl) rfl
/-! NumberModels$ToZero -/
set_option maxRecDepth 100000
def RX6 : String := "NumberModels$ToZero"
abbrev cX6_init : ByteArray := prog_7_method_1_code
def yX6_init : MethodName := ⟨RX6, "<init>", "()V"⟩
theorem dX6_init_0 : decode cX6_init 0 = .ok (.aload_n 0, 1) := by decide +kernel
theorem dX6_init_1 : decode cX6_init 1 = .ok (.invokespecial 1, 3) := by decide +kernel
theorem dX6_init_4 : decode cX6_init 4 = .ok (.return_, 1) := by decide +kernel
theorem q64 : (Jvm.Cond.initialized "NumberModels$ToZero") ∈ lw_all := lw_g (lw_at lw_m1 6 rfl) rfl
theorem q121 : (Jvm.Cond.instantiable "NumberModels$ToZero" (0 : Nat)) ∈ lw_all := lw_g (lw_at lw_m1 63 rfl) rfl
theorem q123 : (Jvm.Cond.instanceMethod ({ cls := "NumberModels$ToZero", name := "<init>", desc := "()V" } : Jvm.MethodName)) ∈ lw_all := lw_g (lw_at lw_m1 65 rfl) rfl
theorem q124 : (Jvm.Cond.code ({ cls := "NumberModels$ToZero", name := "<init>", desc := "()V" } : Jvm.MethodName) prog_7_method_1_code (1 : Nat) (Option.none : Option Jvm.ClassFile.FieldType)) ∈ lw_all := lw_g (lw_at lw_m1 66 rfl) rfl
theorem q125 : (Jvm.Cond.methodLink "NumberModels$ToZero" (1 : Nat) ({ cls := "java/lang/Object", name := "<init>", desc := "()V" } : Jvm.MethodName)) ∈ lw_all := lw_g (lw_at lw_m1 67 rfl) rfl
theorem q126 : (Jvm.Cond.superclass "NumberModels$ToZero" "java/lang/Object") ∈ lw_all := lw_g (lw_at lw_m1 68 rfl) rfl
theorem q761 : (Jvm.Cond.castable "NumberModels$ToZero" "NumberModels$Rounds") ∈ lw_tbl := lw_at lw_m3 223 rfl
theorem q762 : (Jvm.Cond.unhidden "NumberModels$ToZero" "goes" "(ZZI)Z") ∈ lw_tbl := lw_at lw_m3 224 rfl
/-! NumberModels$Wide -/
set_option maxRecDepth 100000
def RX7 : String := "NumberModels$Wide"
def TX7 : u_T := fun k => match k with
  | 0 => ("NumberModels$Wide", "word", "[I", true)
  | _ => ("NumberModels$Wide", "size", "I", false)
def tyX7 : Nat → FieldType := fun k => match k with
  | 0 => .array .int
  | _ => .int
abbrev wsX70 : List Cond := u_ws RX7 TX7 2
theorem nmX7 : ∀ a, a < 2 → ∀ b, b < 2 → a ≠ b → (TX7 a).2.1 ≠ (TX7 b).2.1 := by decide +kernel
theorem tyX7_ok : ∀ k, k < 2 → parseFieldDescriptor (TX7 k).2.2.1 = some (tyX7 k) := by decide +kernel
abbrev cX7_init : ByteArray := prog_9_method_1_code
def yX7_init : MethodName := ⟨RX7, "<init>", "()V"⟩
def dkwX7_init_0 : List UInt8 := [42, 183, 0, 3, 42, 16, 36, 188, 10, 181, 0, 9, 177]
abbrev dktX7_init_0 : List UInt8 := dkwX7_init_0 ++ []
theorem dksX7_init_0 : cX7_init.data.toList.drop 0 = dktX7_init_0 := by decide +kernel
theorem dX7_init_0 : decode cX7_init 0 = .ok (.aload_n 0, 1) := dk_42 (dk_at dksX7_init_0 0 rfl rfl)
theorem dX7_init_1 : decode cX7_init 1 = .ok (.invokespecial 3, 3) := dk_183 0 3 (dk_at dksX7_init_0 1 rfl rfl)
theorem dX7_init_4 : decode cX7_init 4 = .ok (.aload_n 0, 1) := dk_42 (dk_at dksX7_init_0 4 rfl rfl)
theorem dX7_init_5 : decode cX7_init 5 = .ok (.bipush 36, 2) := dk_16 36 (dk_at dksX7_init_0 5 rfl rfl)
theorem dX7_init_7 : decode cX7_init 7 = .ok (.newarray .int, 2) := dk_188_10 (dk_at dksX7_init_0 7 rfl rfl)
theorem dX7_init_9 : decode cX7_init 9 = .ok (.putfield 9, 3) := dk_181 0 9 (dk_at dksX7_init_0 9 rfl rfl)
theorem dX7_init_12 : decode cX7_init 12 = .ok (.return_, 1) := dk_177 (dk_at dksX7_init_0 12 rfl rfl)
abbrev cX7_set : ByteArray := prog_9_method_3_code
def yX7_set : MethodName := ⟨RX7, "set", "(J)LNumberModels$Wide;"⟩
def dkwX7_set_1 : List UInt8 := [42, 182, 0, 19, 42, 176]
abbrev dktX7_set_1 : List UInt8 := dkwX7_set_1 ++ []
def dkwX7_set_0 : List UInt8 := [42, 180, 0, 9, 3, 31, 136, 79, 42, 180, 0, 9, 4, 31, 16, 32, 125, 136, 79, 42, 5, 181, 0, 15]
abbrev dktX7_set_0 : List UInt8 := dkwX7_set_0 ++ dktX7_set_1
theorem dksX7_set_0 : cX7_set.data.toList.drop 0 = dktX7_set_0 := by decide +kernel
theorem dksX7_set_1 : cX7_set.data.toList.drop 24 = dktX7_set_1 := dk_seg dksX7_set_0 24 rfl rfl
theorem dX7_set_0 : decode cX7_set 0 = .ok (.aload_n 0, 1) := dk_42 (dk_at dksX7_set_0 0 rfl rfl)
theorem dX7_set_1 : decode cX7_set 1 = .ok (.getfield 9, 3) := dk_180 0 9 (dk_at dksX7_set_0 1 rfl rfl)
theorem dX7_set_4 : decode cX7_set 4 = .ok (.iconst 0, 1) := dk_3 (dk_at dksX7_set_0 4 rfl rfl)
theorem dX7_set_5 : decode cX7_set 5 = .ok (.lload_n 1, 1) := dk_31 (dk_at dksX7_set_0 5 rfl rfl)
theorem dX7_set_6 : decode cX7_set 6 = .ok (.l2i, 1) := dk_136 (dk_at dksX7_set_0 6 rfl rfl)
theorem dX7_set_7 : decode cX7_set 7 = .ok (.iastore, 1) := dk_79 (dk_at dksX7_set_0 7 rfl rfl)
theorem dX7_set_8 : decode cX7_set 8 = .ok (.aload_n 0, 1) := dk_42 (dk_at dksX7_set_0 8 rfl rfl)
theorem dX7_set_9 : decode cX7_set 9 = .ok (.getfield 9, 3) := dk_180 0 9 (dk_at dksX7_set_0 9 rfl rfl)
theorem dX7_set_12 : decode cX7_set 12 = .ok (.iconst 1, 1) := dk_4 (dk_at dksX7_set_0 12 rfl rfl)
theorem dX7_set_13 : decode cX7_set 13 = .ok (.lload_n 1, 1) := dk_31 (dk_at dksX7_set_0 13 rfl rfl)
theorem dX7_set_14 : decode cX7_set 14 = .ok (.bipush 32, 2) := dk_16 32 (dk_at dksX7_set_0 14 rfl rfl)
theorem dX7_set_16 : decode cX7_set 16 = .ok (.lushr, 1) := dk_125 (dk_at dksX7_set_0 16 rfl rfl)
theorem dX7_set_17 : decode cX7_set 17 = .ok (.l2i, 1) := dk_136 (dk_at dksX7_set_0 17 rfl rfl)
theorem dX7_set_18 : decode cX7_set 18 = .ok (.iastore, 1) := dk_79 (dk_at dksX7_set_0 18 rfl rfl)
theorem dX7_set_19 : decode cX7_set 19 = .ok (.aload_n 0, 1) := dk_42 (dk_at dksX7_set_0 19 rfl rfl)
theorem dX7_set_20 : decode cX7_set 20 = .ok (.iconst 2, 1) := dk_5 (dk_at dksX7_set_0 20 rfl rfl)
theorem dX7_set_21 : decode cX7_set 21 = .ok (.putfield 15, 3) := dk_181 0 15 (dk_at dksX7_set_0 21 rfl rfl)
theorem dX7_set_24 : decode cX7_set 24 = .ok (.aload_n 0, 1) := dk_42 (dk_at dksX7_set_1 0 rfl rfl)
theorem dX7_set_25 : decode cX7_set 25 = .ok (.invokevirtual 19, 3) := dk_182 0 19 (dk_at dksX7_set_1 1 rfl rfl)
theorem dX7_set_28 : decode cX7_set 28 = .ok (.aload_n 0, 1) := dk_42 (dk_at dksX7_set_1 4 rfl rfl)
theorem dX7_set_29 : decode cX7_set 29 = .ok (.areturn, 1) := dk_176 (dk_at dksX7_set_1 5 rfl rfl)
abbrev cX7_trim : ByteArray := prog_9_method_2_code
def yX7_trim : MethodName := ⟨RX7, "trim", "()V"⟩
def dkwX7_trim_1 : List UInt8 := [180, 0, 15, 4, 100, 181, 0, 15, 167, 255, 225, 177]
abbrev dktX7_trim_1 : List UInt8 := dkwX7_trim_1 ++ []
def dkwX7_trim_0 : List UInt8 := [42, 180, 0, 15, 158, 0, 30, 42, 180, 0, 9, 42, 180, 0, 15, 4, 100, 46, 154, 0, 16, 42, 89]
abbrev dktX7_trim_0 : List UInt8 := dkwX7_trim_0 ++ dktX7_trim_1
theorem dksX7_trim_0 : cX7_trim.data.toList.drop 0 = dktX7_trim_0 := by decide +kernel
theorem dksX7_trim_1 : cX7_trim.data.toList.drop 23 = dktX7_trim_1 := dk_seg dksX7_trim_0 23 rfl rfl
theorem dX7_trim_0 : decode cX7_trim 0 = .ok (.aload_n 0, 1) := dk_42 (dk_at dksX7_trim_0 0 rfl rfl)
theorem dX7_trim_1 : decode cX7_trim 1 = .ok (.getfield 15, 3) := dk_180 0 15 (dk_at dksX7_trim_0 1 rfl rfl)
theorem dX7_trim_4 : decode cX7_trim 4 = .ok (.ifCond .le 30, 3) := dk_158 0 30 (dk_at dksX7_trim_0 4 rfl rfl)
theorem dX7_trim_7 : decode cX7_trim 7 = .ok (.aload_n 0, 1) := dk_42 (dk_at dksX7_trim_0 7 rfl rfl)
theorem dX7_trim_8 : decode cX7_trim 8 = .ok (.getfield 9, 3) := dk_180 0 9 (dk_at dksX7_trim_0 8 rfl rfl)
theorem dX7_trim_11 : decode cX7_trim 11 = .ok (.aload_n 0, 1) := dk_42 (dk_at dksX7_trim_0 11 rfl rfl)
theorem dX7_trim_12 : decode cX7_trim 12 = .ok (.getfield 15, 3) := dk_180 0 15 (dk_at dksX7_trim_0 12 rfl rfl)
theorem dX7_trim_15 : decode cX7_trim 15 = .ok (.iconst 1, 1) := dk_4 (dk_at dksX7_trim_0 15 rfl rfl)
theorem dX7_trim_16 : decode cX7_trim 16 = .ok (.isub, 1) := dk_100 (dk_at dksX7_trim_0 16 rfl rfl)
theorem dX7_trim_17 : decode cX7_trim 17 = .ok (.iaload, 1) := dk_46 (dk_at dksX7_trim_0 17 rfl rfl)
theorem dX7_trim_18 : decode cX7_trim 18 = .ok (.ifCond .ne 16, 3) := dk_154 0 16 (dk_at dksX7_trim_0 18 rfl rfl)
theorem dX7_trim_21 : decode cX7_trim 21 = .ok (.aload_n 0, 1) := dk_42 (dk_at dksX7_trim_0 21 rfl rfl)
theorem dX7_trim_22 : decode cX7_trim 22 = .ok (.dup, 1) := dk_89 (dk_at dksX7_trim_0 22 rfl rfl)
theorem dX7_trim_23 : decode cX7_trim 23 = .ok (.getfield 15, 3) := dk_180 0 15 (dk_at dksX7_trim_1 0 rfl rfl)
theorem dX7_trim_26 : decode cX7_trim 26 = .ok (.iconst 1, 1) := dk_4 (dk_at dksX7_trim_1 3 rfl rfl)
theorem dX7_trim_27 : decode cX7_trim 27 = .ok (.isub, 1) := dk_100 (dk_at dksX7_trim_1 4 rfl rfl)
theorem dX7_trim_28 : decode cX7_trim 28 = .ok (.putfield 15, 3) := dk_181 0 15 (dk_at dksX7_trim_1 5 rfl rfl)
theorem dX7_trim_31 : decode cX7_trim 31 = .ok (.goto (-31), 3) := dk_167 255 225 (dk_at dksX7_trim_1 8 rfl rfl)
theorem dX7_trim_34 : decode cX7_trim 34 = .ok (.return_, 1) := dk_177 (dk_at dksX7_trim_1 11 rfl rfl)
abbrev cX7_isZero : ByteArray := prog_9_method_6_code
def yX7_isZero : MethodName := ⟨RX7, "isZero", "()Z"⟩
def dkwX7_isZero_0 : List UInt8 := [42, 180, 0, 15, 154, 0, 7, 4, 167, 0, 4, 3, 172]
abbrev dktX7_isZero_0 : List UInt8 := dkwX7_isZero_0 ++ []
theorem dksX7_isZero_0 : cX7_isZero.data.toList.drop 0 = dktX7_isZero_0 := by decide +kernel
theorem dX7_isZero_0 : decode cX7_isZero 0 = .ok (.aload_n 0, 1) := dk_42 (dk_at dksX7_isZero_0 0 rfl rfl)
theorem dX7_isZero_1 : decode cX7_isZero 1 = .ok (.getfield 15, 3) := dk_180 0 15 (dk_at dksX7_isZero_0 1 rfl rfl)
theorem dX7_isZero_4 : decode cX7_isZero 4 = .ok (.ifCond .ne 7, 3) := dk_154 0 7 (dk_at dksX7_isZero_0 4 rfl rfl)
theorem dX7_isZero_7 : decode cX7_isZero 7 = .ok (.iconst 1, 1) := dk_4 (dk_at dksX7_isZero_0 7 rfl rfl)
theorem dX7_isZero_8 : decode cX7_isZero 8 = .ok (.goto 4, 3) := dk_167 0 4 (dk_at dksX7_isZero_0 8 rfl rfl)
theorem dX7_isZero_11 : decode cX7_isZero 11 = .ok (.iconst 0, 1) := dk_3 (dk_at dksX7_isZero_0 11 rfl rfl)
theorem dX7_isZero_12 : decode cX7_isZero 12 = .ok (.ireturn, 1) := dk_172 (dk_at dksX7_isZero_0 12 rfl rfl)
abbrev cX7_set_2 : ByteArray := prog_9_method_4_code
def yX7_set_2 : MethodName := ⟨RX7, "set", "(LNumberModels$Wide;)LNumberModels$Wide;"⟩
def dkwX7_set_2_1 : List UInt8 := [181, 0, 15, 42, 176]
abbrev dktX7_set_2_1 : List UInt8 := dkwX7_set_2_1 ++ []
def dkwX7_set_2_0 : List UInt8 := [43, 180, 0, 9, 3, 42, 180, 0, 9, 3, 43, 180, 0, 15, 184, 0, 22, 42, 43, 180, 0, 15]
abbrev dktX7_set_2_0 : List UInt8 := dkwX7_set_2_0 ++ dktX7_set_2_1
theorem dksX7_set_2_0 : cX7_set_2.data.toList.drop 0 = dktX7_set_2_0 := by decide +kernel
theorem dksX7_set_2_1 : cX7_set_2.data.toList.drop 22 = dktX7_set_2_1 := dk_seg dksX7_set_2_0 22 rfl rfl
theorem dX7_set_2_0 : decode cX7_set_2 0 = .ok (.aload_n 1, 1) := dk_43 (dk_at dksX7_set_2_0 0 rfl rfl)
theorem dX7_set_2_1 : decode cX7_set_2 1 = .ok (.getfield 9, 3) := dk_180 0 9 (dk_at dksX7_set_2_0 1 rfl rfl)
theorem dX7_set_2_4 : decode cX7_set_2 4 = .ok (.iconst 0, 1) := dk_3 (dk_at dksX7_set_2_0 4 rfl rfl)
theorem dX7_set_2_5 : decode cX7_set_2 5 = .ok (.aload_n 0, 1) := dk_42 (dk_at dksX7_set_2_0 5 rfl rfl)
theorem dX7_set_2_6 : decode cX7_set_2 6 = .ok (.getfield 9, 3) := dk_180 0 9 (dk_at dksX7_set_2_0 6 rfl rfl)
theorem dX7_set_2_9 : decode cX7_set_2 9 = .ok (.iconst 0, 1) := dk_3 (dk_at dksX7_set_2_0 9 rfl rfl)
theorem dX7_set_2_10 : decode cX7_set_2 10 = .ok (.aload_n 1, 1) := dk_43 (dk_at dksX7_set_2_0 10 rfl rfl)
theorem dX7_set_2_11 : decode cX7_set_2 11 = .ok (.getfield 15, 3) := dk_180 0 15 (dk_at dksX7_set_2_0 11 rfl rfl)
theorem dX7_set_2_14 : decode cX7_set_2 14 = .ok (.invokestatic 22, 3) := dk_184 0 22 (dk_at dksX7_set_2_0 14 rfl rfl)
theorem dX7_set_2_17 : decode cX7_set_2 17 = .ok (.aload_n 0, 1) := dk_42 (dk_at dksX7_set_2_0 17 rfl rfl)
theorem dX7_set_2_18 : decode cX7_set_2 18 = .ok (.aload_n 1, 1) := dk_43 (dk_at dksX7_set_2_0 18 rfl rfl)
theorem dX7_set_2_19 : decode cX7_set_2 19 = .ok (.getfield 15, 3) := dk_180 0 15 (dk_at dksX7_set_2_0 19 rfl rfl)
theorem dX7_set_2_22 : decode cX7_set_2 22 = .ok (.putfield 15, 3) := dk_181 0 15 (dk_at dksX7_set_2_1 0 rfl rfl)
theorem dX7_set_2_25 : decode cX7_set_2 25 = .ok (.aload_n 0, 1) := dk_42 (dk_at dksX7_set_2_1 3 rfl rfl)
theorem dX7_set_2_26 : decode cX7_set_2 26 = .ok (.areturn, 1) := dk_176 (dk_at dksX7_set_2_1 4 rfl rfl)
abbrev cX7_zeros : ByteArray := prog_9_method_10_code
def yX7_zeros : MethodName := ⟨RX7, "zeros", "()I"⟩
def dkwX7_zeros_2 : List UInt8 := [46, 184, 0, 34, 96, 172]
abbrev dktX7_zeros_2 : List UInt8 := dkwX7_zeros_2 ++ []
def dkwX7_zeros_1 : List UInt8 := [167, 255, 236, 27, 42, 180, 0, 15, 160, 0, 7, 3, 167, 0, 17, 16, 32, 27, 104, 42, 180, 0, 9, 27]
abbrev dktX7_zeros_1 : List UInt8 := dkwX7_zeros_1 ++ dktX7_zeros_2
def dkwX7_zeros_0 : List UInt8 := [3, 60, 27, 42, 180, 0, 15, 162, 0, 18, 42, 180, 0, 9, 27, 46, 154, 0, 9, 132, 1, 1]
abbrev dktX7_zeros_0 : List UInt8 := dkwX7_zeros_0 ++ dktX7_zeros_1
theorem dksX7_zeros_0 : cX7_zeros.data.toList.drop 0 = dktX7_zeros_0 := by decide +kernel
theorem dksX7_zeros_1 : cX7_zeros.data.toList.drop 22 = dktX7_zeros_1 := dk_seg dksX7_zeros_0 22 rfl rfl
theorem dksX7_zeros_2 : cX7_zeros.data.toList.drop 46 = dktX7_zeros_2 := dk_seg dksX7_zeros_1 24 rfl rfl
theorem dX7_zeros_0 : decode cX7_zeros 0 = .ok (.iconst 0, 1) := dk_3 (dk_at dksX7_zeros_0 0 rfl rfl)
theorem dX7_zeros_1 : decode cX7_zeros 1 = .ok (.istore_n 1, 1) := dk_60 (dk_at dksX7_zeros_0 1 rfl rfl)
theorem dX7_zeros_2 : decode cX7_zeros 2 = .ok (.iload_n 1, 1) := dk_27 (dk_at dksX7_zeros_0 2 rfl rfl)
theorem dX7_zeros_3 : decode cX7_zeros 3 = .ok (.aload_n 0, 1) := dk_42 (dk_at dksX7_zeros_0 3 rfl rfl)
theorem dX7_zeros_4 : decode cX7_zeros 4 = .ok (.getfield 15, 3) := dk_180 0 15 (dk_at dksX7_zeros_0 4 rfl rfl)
theorem dX7_zeros_7 : decode cX7_zeros 7 = .ok (.if_icmp .ge 18, 3) := dk_162 0 18 (dk_at dksX7_zeros_0 7 rfl rfl)
theorem dX7_zeros_10 : decode cX7_zeros 10 = .ok (.aload_n 0, 1) := dk_42 (dk_at dksX7_zeros_0 10 rfl rfl)
theorem dX7_zeros_11 : decode cX7_zeros 11 = .ok (.getfield 9, 3) := dk_180 0 9 (dk_at dksX7_zeros_0 11 rfl rfl)
theorem dX7_zeros_14 : decode cX7_zeros 14 = .ok (.iload_n 1, 1) := dk_27 (dk_at dksX7_zeros_0 14 rfl rfl)
theorem dX7_zeros_15 : decode cX7_zeros 15 = .ok (.iaload, 1) := dk_46 (dk_at dksX7_zeros_0 15 rfl rfl)
theorem dX7_zeros_16 : decode cX7_zeros 16 = .ok (.ifCond .ne 9, 3) := dk_154 0 9 (dk_at dksX7_zeros_0 16 rfl rfl)
theorem dX7_zeros_19 : decode cX7_zeros 19 = .ok (.iinc 1 1, 3) := dk_132 1 1 (dk_at dksX7_zeros_0 19 rfl rfl)
theorem dX7_zeros_22 : decode cX7_zeros 22 = .ok (.goto (-20), 3) := dk_167 255 236 (dk_at dksX7_zeros_1 0 rfl rfl)
theorem dX7_zeros_25 : decode cX7_zeros 25 = .ok (.iload_n 1, 1) := dk_27 (dk_at dksX7_zeros_1 3 rfl rfl)
theorem dX7_zeros_26 : decode cX7_zeros 26 = .ok (.aload_n 0, 1) := dk_42 (dk_at dksX7_zeros_1 4 rfl rfl)
theorem dX7_zeros_27 : decode cX7_zeros 27 = .ok (.getfield 15, 3) := dk_180 0 15 (dk_at dksX7_zeros_1 5 rfl rfl)
theorem dX7_zeros_30 : decode cX7_zeros 30 = .ok (.if_icmp .ne 7, 3) := dk_160 0 7 (dk_at dksX7_zeros_1 8 rfl rfl)
theorem dX7_zeros_33 : decode cX7_zeros 33 = .ok (.iconst 0, 1) := dk_3 (dk_at dksX7_zeros_1 11 rfl rfl)
theorem dX7_zeros_34 : decode cX7_zeros 34 = .ok (.goto 17, 3) := dk_167 0 17 (dk_at dksX7_zeros_1 12 rfl rfl)
theorem dX7_zeros_37 : decode cX7_zeros 37 = .ok (.bipush 32, 2) := dk_16 32 (dk_at dksX7_zeros_1 15 rfl rfl)
theorem dX7_zeros_39 : decode cX7_zeros 39 = .ok (.iload_n 1, 1) := dk_27 (dk_at dksX7_zeros_1 17 rfl rfl)
theorem dX7_zeros_40 : decode cX7_zeros 40 = .ok (.imul, 1) := dk_104 (dk_at dksX7_zeros_1 18 rfl rfl)
theorem dX7_zeros_41 : decode cX7_zeros 41 = .ok (.aload_n 0, 1) := dk_42 (dk_at dksX7_zeros_1 19 rfl rfl)
theorem dX7_zeros_42 : decode cX7_zeros 42 = .ok (.getfield 9, 3) := dk_180 0 9 (dk_at dksX7_zeros_1 20 rfl rfl)
theorem dX7_zeros_45 : decode cX7_zeros 45 = .ok (.iload_n 1, 1) := dk_27 (dk_at dksX7_zeros_1 23 rfl rfl)
theorem dX7_zeros_46 : decode cX7_zeros 46 = .ok (.iaload, 1) := dk_46 (dk_at dksX7_zeros_2 0 rfl rfl)
theorem dX7_zeros_47 : decode cX7_zeros 47 = .ok (.invokestatic 34, 3) := dk_184 0 34 (dk_at dksX7_zeros_2 1 rfl rfl)
theorem dX7_zeros_50 : decode cX7_zeros 50 = .ok (.iadd, 1) := dk_96 (dk_at dksX7_zeros_2 4 rfl rfl)
theorem dX7_zeros_51 : decode cX7_zeros 51 = .ok (.ireturn, 1) := dk_172 (dk_at dksX7_zeros_2 5 rfl rfl)
abbrev cX7_down : ByteArray := prog_9_method_17_code
def yX7_down : MethodName := ⟨RX7, "down", "(I)V"⟩
def dkwX7_down_3 : List UInt8 := [184, 0, 43, 181, 0, 15, 42, 182, 0, 19, 177]
abbrev dktX7_down_3 : List UInt8 := dkwX7_down_3 ++ []
def dkwX7_down_2 : List UInt8 := [21, 5, 28, 96, 182, 0, 48, 129, 29, 125, 136, 79, 132, 5, 1, 167, 255, 212, 42, 3, 21, 4, 28, 100]
abbrev dktX7_down_2 : List UInt8 := dkwX7_down_2 ++ dktX7_down_3
def dkwX7_down_1 : List UInt8 := [100, 162, 0, 41, 42, 180, 0, 9, 21, 5, 42, 21, 5, 28, 96, 4, 96, 182, 0, 48, 16, 32, 121, 42]
abbrev dktX7_down_1 : List UInt8 := dkwX7_down_1 ++ dktX7_down_2
def dkwX7_down_0 : List UInt8 := [27, 16, 32, 108, 61, 27, 16, 32, 112, 62, 42, 180, 0, 15, 54, 4, 3, 54, 5, 21, 5, 21, 4, 28]
abbrev dktX7_down_0 : List UInt8 := dkwX7_down_0 ++ dktX7_down_1
theorem dksX7_down_0 : cX7_down.data.toList.drop 0 = dktX7_down_0 := by decide +kernel
theorem dksX7_down_1 : cX7_down.data.toList.drop 24 = dktX7_down_1 := dk_seg dksX7_down_0 24 rfl rfl
theorem dksX7_down_2 : cX7_down.data.toList.drop 48 = dktX7_down_2 := dk_seg dksX7_down_1 24 rfl rfl
theorem dksX7_down_3 : cX7_down.data.toList.drop 72 = dktX7_down_3 := dk_seg dksX7_down_2 24 rfl rfl
theorem dX7_down_0 : decode cX7_down 0 = .ok (.iload_n 1, 1) := dk_27 (dk_at dksX7_down_0 0 rfl rfl)
theorem dX7_down_1 : decode cX7_down 1 = .ok (.bipush 32, 2) := dk_16 32 (dk_at dksX7_down_0 1 rfl rfl)
theorem dX7_down_3 : decode cX7_down 3 = .ok (.idiv, 1) := dk_108 (dk_at dksX7_down_0 3 rfl rfl)
theorem dX7_down_4 : decode cX7_down 4 = .ok (.istore_n 2, 1) := dk_61 (dk_at dksX7_down_0 4 rfl rfl)
theorem dX7_down_5 : decode cX7_down 5 = .ok (.iload_n 1, 1) := dk_27 (dk_at dksX7_down_0 5 rfl rfl)
theorem dX7_down_6 : decode cX7_down 6 = .ok (.bipush 32, 2) := dk_16 32 (dk_at dksX7_down_0 6 rfl rfl)
theorem dX7_down_8 : decode cX7_down 8 = .ok (.irem, 1) := dk_112 (dk_at dksX7_down_0 8 rfl rfl)
theorem dX7_down_9 : decode cX7_down 9 = .ok (.istore_n 3, 1) := dk_62 (dk_at dksX7_down_0 9 rfl rfl)
theorem dX7_down_10 : decode cX7_down 10 = .ok (.aload_n 0, 1) := dk_42 (dk_at dksX7_down_0 10 rfl rfl)
theorem dX7_down_11 : decode cX7_down 11 = .ok (.getfield 15, 3) := dk_180 0 15 (dk_at dksX7_down_0 11 rfl rfl)
theorem dX7_down_14 : decode cX7_down 14 = .ok (.istore 4, 2) := dk_54 4 (dk_at dksX7_down_0 14 rfl rfl)
theorem dX7_down_16 : decode cX7_down 16 = .ok (.iconst 0, 1) := dk_3 (dk_at dksX7_down_0 16 rfl rfl)
theorem dX7_down_17 : decode cX7_down 17 = .ok (.istore 5, 2) := dk_54 5 (dk_at dksX7_down_0 17 rfl rfl)
theorem dX7_down_19 : decode cX7_down 19 = .ok (.iload 5, 2) := dk_21 5 (dk_at dksX7_down_0 19 rfl rfl)
theorem dX7_down_21 : decode cX7_down 21 = .ok (.iload 4, 2) := dk_21 4 (dk_at dksX7_down_0 21 rfl rfl)
theorem dX7_down_23 : decode cX7_down 23 = .ok (.iload_n 2, 1) := dk_28 (dk_at dksX7_down_0 23 rfl rfl)
theorem dX7_down_24 : decode cX7_down 24 = .ok (.isub, 1) := dk_100 (dk_at dksX7_down_1 0 rfl rfl)
theorem dX7_down_25 : decode cX7_down 25 = .ok (.if_icmp .ge 41, 3) := dk_162 0 41 (dk_at dksX7_down_1 1 rfl rfl)
theorem dX7_down_28 : decode cX7_down 28 = .ok (.aload_n 0, 1) := dk_42 (dk_at dksX7_down_1 4 rfl rfl)
theorem dX7_down_29 : decode cX7_down 29 = .ok (.getfield 9, 3) := dk_180 0 9 (dk_at dksX7_down_1 5 rfl rfl)
theorem dX7_down_32 : decode cX7_down 32 = .ok (.iload 5, 2) := dk_21 5 (dk_at dksX7_down_1 8 rfl rfl)
theorem dX7_down_34 : decode cX7_down 34 = .ok (.aload_n 0, 1) := dk_42 (dk_at dksX7_down_1 10 rfl rfl)
theorem dX7_down_35 : decode cX7_down 35 = .ok (.iload 5, 2) := dk_21 5 (dk_at dksX7_down_1 11 rfl rfl)
theorem dX7_down_37 : decode cX7_down 37 = .ok (.iload_n 2, 1) := dk_28 (dk_at dksX7_down_1 13 rfl rfl)
theorem dX7_down_38 : decode cX7_down 38 = .ok (.iadd, 1) := dk_96 (dk_at dksX7_down_1 14 rfl rfl)
theorem dX7_down_39 : decode cX7_down 39 = .ok (.iconst 1, 1) := dk_4 (dk_at dksX7_down_1 15 rfl rfl)
theorem dX7_down_40 : decode cX7_down 40 = .ok (.iadd, 1) := dk_96 (dk_at dksX7_down_1 16 rfl rfl)
theorem dX7_down_41 : decode cX7_down 41 = .ok (.invokevirtual 48, 3) := dk_182 0 48 (dk_at dksX7_down_1 17 rfl rfl)
theorem dX7_down_44 : decode cX7_down 44 = .ok (.bipush 32, 2) := dk_16 32 (dk_at dksX7_down_1 20 rfl rfl)
theorem dX7_down_46 : decode cX7_down 46 = .ok (.lshl, 1) := dk_121 (dk_at dksX7_down_1 22 rfl rfl)
theorem dX7_down_47 : decode cX7_down 47 = .ok (.aload_n 0, 1) := dk_42 (dk_at dksX7_down_1 23 rfl rfl)
theorem dX7_down_48 : decode cX7_down 48 = .ok (.iload 5, 2) := dk_21 5 (dk_at dksX7_down_2 0 rfl rfl)
theorem dX7_down_50 : decode cX7_down 50 = .ok (.iload_n 2, 1) := dk_28 (dk_at dksX7_down_2 2 rfl rfl)
theorem dX7_down_51 : decode cX7_down 51 = .ok (.iadd, 1) := dk_96 (dk_at dksX7_down_2 3 rfl rfl)
theorem dX7_down_52 : decode cX7_down 52 = .ok (.invokevirtual 48, 3) := dk_182 0 48 (dk_at dksX7_down_2 4 rfl rfl)
theorem dX7_down_55 : decode cX7_down 55 = .ok (.lor, 1) := dk_129 (dk_at dksX7_down_2 7 rfl rfl)
theorem dX7_down_56 : decode cX7_down 56 = .ok (.iload_n 3, 1) := dk_29 (dk_at dksX7_down_2 8 rfl rfl)
theorem dX7_down_57 : decode cX7_down 57 = .ok (.lushr, 1) := dk_125 (dk_at dksX7_down_2 9 rfl rfl)
theorem dX7_down_58 : decode cX7_down 58 = .ok (.l2i, 1) := dk_136 (dk_at dksX7_down_2 10 rfl rfl)
theorem dX7_down_59 : decode cX7_down 59 = .ok (.iastore, 1) := dk_79 (dk_at dksX7_down_2 11 rfl rfl)
theorem dX7_down_60 : decode cX7_down 60 = .ok (.iinc 5 1, 3) := dk_132 5 1 (dk_at dksX7_down_2 12 rfl rfl)
theorem dX7_down_63 : decode cX7_down 63 = .ok (.goto (-44), 3) := dk_167 255 212 (dk_at dksX7_down_2 15 rfl rfl)
theorem dX7_down_66 : decode cX7_down 66 = .ok (.aload_n 0, 1) := dk_42 (dk_at dksX7_down_2 18 rfl rfl)
theorem dX7_down_67 : decode cX7_down 67 = .ok (.iconst 0, 1) := dk_3 (dk_at dksX7_down_2 19 rfl rfl)
theorem dX7_down_68 : decode cX7_down 68 = .ok (.iload 4, 2) := dk_21 4 (dk_at dksX7_down_2 20 rfl rfl)
theorem dX7_down_70 : decode cX7_down 70 = .ok (.iload_n 2, 1) := dk_28 (dk_at dksX7_down_2 22 rfl rfl)
theorem dX7_down_71 : decode cX7_down 71 = .ok (.isub, 1) := dk_100 (dk_at dksX7_down_2 23 rfl rfl)
theorem dX7_down_72 : decode cX7_down 72 = .ok (.invokestatic 43, 3) := dk_184 0 43 (dk_at dksX7_down_3 0 rfl rfl)
theorem dX7_down_75 : decode cX7_down 75 = .ok (.putfield 15, 3) := dk_181 0 15 (dk_at dksX7_down_3 3 rfl rfl)
theorem dX7_down_78 : decode cX7_down 78 = .ok (.aload_n 0, 1) := dk_42 (dk_at dksX7_down_3 6 rfl rfl)
theorem dX7_down_79 : decode cX7_down 79 = .ok (.invokevirtual 19, 3) := dk_182 0 19 (dk_at dksX7_down_3 7 rfl rfl)
theorem dX7_down_82 : decode cX7_down 82 = .ok (.return_, 1) := dk_177 (dk_at dksX7_down_3 10 rfl rfl)
abbrev cX7_at : ByteArray := prog_9_method_12_code
def yX7_at : MethodName := ⟨RX7, "at", "(I)J"⟩
def dkwX7_at_0 : List UInt8 := [27, 42, 180, 0, 15, 162, 0, 17, 42, 180, 0, 9, 27, 46, 133, 20, 0, 41, 127, 167, 0, 4, 9, 173]
abbrev dktX7_at_0 : List UInt8 := dkwX7_at_0 ++ []
theorem dksX7_at_0 : cX7_at.data.toList.drop 0 = dktX7_at_0 := by decide +kernel
theorem dX7_at_0 : decode cX7_at 0 = .ok (.iload_n 1, 1) := dk_27 (dk_at dksX7_at_0 0 rfl rfl)
theorem dX7_at_1 : decode cX7_at 1 = .ok (.aload_n 0, 1) := dk_42 (dk_at dksX7_at_0 1 rfl rfl)
theorem dX7_at_2 : decode cX7_at 2 = .ok (.getfield 15, 3) := dk_180 0 15 (dk_at dksX7_at_0 2 rfl rfl)
theorem dX7_at_5 : decode cX7_at 5 = .ok (.if_icmp .ge 17, 3) := dk_162 0 17 (dk_at dksX7_at_0 5 rfl rfl)
theorem dX7_at_8 : decode cX7_at 8 = .ok (.aload_n 0, 1) := dk_42 (dk_at dksX7_at_0 8 rfl rfl)
theorem dX7_at_9 : decode cX7_at 9 = .ok (.getfield 9, 3) := dk_180 0 9 (dk_at dksX7_at_0 9 rfl rfl)
theorem dX7_at_12 : decode cX7_at 12 = .ok (.iload_n 1, 1) := dk_27 (dk_at dksX7_at_0 12 rfl rfl)
theorem dX7_at_13 : decode cX7_at 13 = .ok (.iaload, 1) := dk_46 (dk_at dksX7_at_0 13 rfl rfl)
theorem dX7_at_14 : decode cX7_at 14 = .ok (.i2l, 1) := dk_133 (dk_at dksX7_at_0 14 rfl rfl)
theorem dX7_at_15 : decode cX7_at 15 = .ok (.ldc2_w 41, 3) := dk_20 0 41 (dk_at dksX7_at_0 15 rfl rfl)
theorem dX7_at_18 : decode cX7_at 18 = .ok (.land, 1) := dk_127 (dk_at dksX7_at_0 18 rfl rfl)
theorem dX7_at_19 : decode cX7_at 19 = .ok (.goto 4, 3) := dk_167 0 4 (dk_at dksX7_at_0 19 rfl rfl)
theorem dX7_at_22 : decode cX7_at 22 = .ok (.lconst 0, 1) := dk_9 (dk_at dksX7_at_0 22 rfl rfl)
theorem dX7_at_23 : decode cX7_at 23 = .ok (.lreturn, 1) := dk_173 (dk_at dksX7_at_0 23 rfl rfl)
abbrev cX7_compare : ByteArray := prog_9_method_11_code
def yX7_compare : MethodName := ⟨RX7, "compare", "(LNumberModels$Wide;)I"⟩
def dkwX7_compare_3 : List UInt8 := [132, 2, 255, 167, 255, 218, 3, 172]
abbrev dktX7_compare_3 : List UInt8 := dkwX7_compare_3 ++ []
def dkwX7_compare_2 : List UInt8 := [180, 0, 9, 28, 46, 159, 0, 19, 42, 180, 0, 9, 28, 46, 43, 180, 0, 9, 28, 46, 184, 0, 37, 172]
abbrev dktX7_compare_2 : List UInt8 := dkwX7_compare_2 ++ dktX7_compare_3
def dkwX7_compare_1 : List UInt8 := [167, 0, 4, 4, 172, 42, 180, 0, 15, 4, 100, 61, 28, 155, 0, 40, 42, 180, 0, 9, 28, 46, 43]
abbrev dktX7_compare_1 : List UInt8 := dkwX7_compare_1 ++ dktX7_compare_2
def dkwX7_compare_0 : List UInt8 := [42, 180, 0, 15, 43, 180, 0, 15, 159, 0, 20, 42, 180, 0, 15, 43, 180, 0, 15, 162, 0, 7, 2]
abbrev dktX7_compare_0 : List UInt8 := dkwX7_compare_0 ++ dktX7_compare_1
theorem dksX7_compare_0 : cX7_compare.data.toList.drop 0 = dktX7_compare_0 := by decide +kernel
theorem dksX7_compare_1 : cX7_compare.data.toList.drop 23 = dktX7_compare_1 := dk_seg dksX7_compare_0 23 rfl rfl
theorem dksX7_compare_2 : cX7_compare.data.toList.drop 46 = dktX7_compare_2 := dk_seg dksX7_compare_1 23 rfl rfl
theorem dksX7_compare_3 : cX7_compare.data.toList.drop 70 = dktX7_compare_3 := dk_seg dksX7_compare_2 24 rfl rfl
theorem dX7_compare_0 : decode cX7_compare 0 = .ok (.aload_n 0, 1) := dk_42 (dk_at dksX7_compare_0 0 rfl rfl)
theorem dX7_compare_1 : decode cX7_compare 1 = .ok (.getfield 15, 3) := dk_180 0 15 (dk_at dksX7_compare_0 1 rfl rfl)
theorem dX7_compare_4 : decode cX7_compare 4 = .ok (.aload_n 1, 1) := dk_43 (dk_at dksX7_compare_0 4 rfl rfl)
theorem dX7_compare_5 : decode cX7_compare 5 = .ok (.getfield 15, 3) := dk_180 0 15 (dk_at dksX7_compare_0 5 rfl rfl)
theorem dX7_compare_8 : decode cX7_compare 8 = .ok (.if_icmp .eq 20, 3) := dk_159 0 20 (dk_at dksX7_compare_0 8 rfl rfl)
theorem dX7_compare_11 : decode cX7_compare 11 = .ok (.aload_n 0, 1) := dk_42 (dk_at dksX7_compare_0 11 rfl rfl)
theorem dX7_compare_12 : decode cX7_compare 12 = .ok (.getfield 15, 3) := dk_180 0 15 (dk_at dksX7_compare_0 12 rfl rfl)
theorem dX7_compare_15 : decode cX7_compare 15 = .ok (.aload_n 1, 1) := dk_43 (dk_at dksX7_compare_0 15 rfl rfl)
theorem dX7_compare_16 : decode cX7_compare 16 = .ok (.getfield 15, 3) := dk_180 0 15 (dk_at dksX7_compare_0 16 rfl rfl)
theorem dX7_compare_19 : decode cX7_compare 19 = .ok (.if_icmp .ge 7, 3) := dk_162 0 7 (dk_at dksX7_compare_0 19 rfl rfl)
theorem dX7_compare_22 : decode cX7_compare 22 = .ok (.iconst (-1), 1) := dk_2 (dk_at dksX7_compare_0 22 rfl rfl)
theorem dX7_compare_23 : decode cX7_compare 23 = .ok (.goto 4, 3) := dk_167 0 4 (dk_at dksX7_compare_1 0 rfl rfl)
theorem dX7_compare_26 : decode cX7_compare 26 = .ok (.iconst 1, 1) := dk_4 (dk_at dksX7_compare_1 3 rfl rfl)
theorem dX7_compare_27 : decode cX7_compare 27 = .ok (.ireturn, 1) := dk_172 (dk_at dksX7_compare_1 4 rfl rfl)
theorem dX7_compare_28 : decode cX7_compare 28 = .ok (.aload_n 0, 1) := dk_42 (dk_at dksX7_compare_1 5 rfl rfl)
theorem dX7_compare_29 : decode cX7_compare 29 = .ok (.getfield 15, 3) := dk_180 0 15 (dk_at dksX7_compare_1 6 rfl rfl)
theorem dX7_compare_32 : decode cX7_compare 32 = .ok (.iconst 1, 1) := dk_4 (dk_at dksX7_compare_1 9 rfl rfl)
theorem dX7_compare_33 : decode cX7_compare 33 = .ok (.isub, 1) := dk_100 (dk_at dksX7_compare_1 10 rfl rfl)
theorem dX7_compare_34 : decode cX7_compare 34 = .ok (.istore_n 2, 1) := dk_61 (dk_at dksX7_compare_1 11 rfl rfl)
theorem dX7_compare_35 : decode cX7_compare 35 = .ok (.iload_n 2, 1) := dk_28 (dk_at dksX7_compare_1 12 rfl rfl)
theorem dX7_compare_36 : decode cX7_compare 36 = .ok (.ifCond .lt 40, 3) := dk_155 0 40 (dk_at dksX7_compare_1 13 rfl rfl)
theorem dX7_compare_39 : decode cX7_compare 39 = .ok (.aload_n 0, 1) := dk_42 (dk_at dksX7_compare_1 16 rfl rfl)
theorem dX7_compare_40 : decode cX7_compare 40 = .ok (.getfield 9, 3) := dk_180 0 9 (dk_at dksX7_compare_1 17 rfl rfl)
theorem dX7_compare_43 : decode cX7_compare 43 = .ok (.iload_n 2, 1) := dk_28 (dk_at dksX7_compare_1 20 rfl rfl)
theorem dX7_compare_44 : decode cX7_compare 44 = .ok (.iaload, 1) := dk_46 (dk_at dksX7_compare_1 21 rfl rfl)
theorem dX7_compare_45 : decode cX7_compare 45 = .ok (.aload_n 1, 1) := dk_43 (dk_at dksX7_compare_1 22 rfl rfl)
theorem dX7_compare_46 : decode cX7_compare 46 = .ok (.getfield 9, 3) := dk_180 0 9 (dk_at dksX7_compare_2 0 rfl rfl)
theorem dX7_compare_49 : decode cX7_compare 49 = .ok (.iload_n 2, 1) := dk_28 (dk_at dksX7_compare_2 3 rfl rfl)
theorem dX7_compare_50 : decode cX7_compare 50 = .ok (.iaload, 1) := dk_46 (dk_at dksX7_compare_2 4 rfl rfl)
theorem dX7_compare_51 : decode cX7_compare 51 = .ok (.if_icmp .eq 19, 3) := dk_159 0 19 (dk_at dksX7_compare_2 5 rfl rfl)
theorem dX7_compare_54 : decode cX7_compare 54 = .ok (.aload_n 0, 1) := dk_42 (dk_at dksX7_compare_2 8 rfl rfl)
theorem dX7_compare_55 : decode cX7_compare 55 = .ok (.getfield 9, 3) := dk_180 0 9 (dk_at dksX7_compare_2 9 rfl rfl)
theorem dX7_compare_58 : decode cX7_compare 58 = .ok (.iload_n 2, 1) := dk_28 (dk_at dksX7_compare_2 12 rfl rfl)
theorem dX7_compare_59 : decode cX7_compare 59 = .ok (.iaload, 1) := dk_46 (dk_at dksX7_compare_2 13 rfl rfl)
theorem dX7_compare_60 : decode cX7_compare 60 = .ok (.aload_n 1, 1) := dk_43 (dk_at dksX7_compare_2 14 rfl rfl)
theorem dX7_compare_61 : decode cX7_compare 61 = .ok (.getfield 9, 3) := dk_180 0 9 (dk_at dksX7_compare_2 15 rfl rfl)
theorem dX7_compare_64 : decode cX7_compare 64 = .ok (.iload_n 2, 1) := dk_28 (dk_at dksX7_compare_2 18 rfl rfl)
theorem dX7_compare_65 : decode cX7_compare 65 = .ok (.iaload, 1) := dk_46 (dk_at dksX7_compare_2 19 rfl rfl)
theorem dX7_compare_66 : decode cX7_compare 66 = .ok (.invokestatic 37, 3) := dk_184 0 37 (dk_at dksX7_compare_2 20 rfl rfl)
theorem dX7_compare_69 : decode cX7_compare 69 = .ok (.ireturn, 1) := dk_172 (dk_at dksX7_compare_2 23 rfl rfl)
theorem dX7_compare_70 : decode cX7_compare 70 = .ok (.iinc 2 (-1), 3) := dk_132 2 255 (dk_at dksX7_compare_3 0 rfl rfl)
theorem dX7_compare_73 : decode cX7_compare 73 = .ok (.goto (-38), 3) := dk_167 255 218 (dk_at dksX7_compare_3 3 rfl rfl)
theorem dX7_compare_76 : decode cX7_compare 76 = .ok (.iconst 0, 1) := dk_3 (dk_at dksX7_compare_3 6 rfl rfl)
theorem dX7_compare_77 : decode cX7_compare 77 = .ok (.ireturn, 1) := dk_172 (dk_at dksX7_compare_3 7 rfl rfl)
abbrev cX7_subtract : ByteArray := prog_9_method_14_code
def yX7_subtract : MethodName := ⟨RX7, "subtract", "(LNumberModels$Wide;)V"⟩
def dkwX7_subtract_2 : List UInt8 := [167, 255, 214, 42, 182, 0, 19, 177]
abbrev dktX7_subtract_2 : List UInt8 := dkwX7_subtract_2 ++ []
def dkwX7_subtract_1 : List UInt8 := [182, 0, 48, 101, 97, 65, 42, 180, 0, 9, 21, 4, 32, 136, 79, 32, 16, 32, 123, 65, 132, 4, 1]
abbrev dktX7_subtract_1 : List UInt8 := dkwX7_subtract_1 ++ dktX7_subtract_2
def dkwX7_subtract_0 : List UInt8 := [9, 65, 3, 54, 4, 21, 4, 42, 180, 0, 15, 162, 0, 39, 32, 42, 21, 4, 182, 0, 48, 43, 21, 4]
abbrev dktX7_subtract_0 : List UInt8 := dkwX7_subtract_0 ++ dktX7_subtract_1
theorem dksX7_subtract_0 : cX7_subtract.data.toList.drop 0 = dktX7_subtract_0 := by decide +kernel
theorem dksX7_subtract_1 : cX7_subtract.data.toList.drop 24 = dktX7_subtract_1 := dk_seg dksX7_subtract_0 24 rfl rfl
theorem dksX7_subtract_2 : cX7_subtract.data.toList.drop 47 = dktX7_subtract_2 := dk_seg dksX7_subtract_1 23 rfl rfl
theorem dX7_subtract_0 : decode cX7_subtract 0 = .ok (.lconst 0, 1) := dk_9 (dk_at dksX7_subtract_0 0 rfl rfl)
theorem dX7_subtract_1 : decode cX7_subtract 1 = .ok (.lstore_n 2, 1) := dk_65 (dk_at dksX7_subtract_0 1 rfl rfl)
theorem dX7_subtract_2 : decode cX7_subtract 2 = .ok (.iconst 0, 1) := dk_3 (dk_at dksX7_subtract_0 2 rfl rfl)
theorem dX7_subtract_3 : decode cX7_subtract 3 = .ok (.istore 4, 2) := dk_54 4 (dk_at dksX7_subtract_0 3 rfl rfl)
theorem dX7_subtract_5 : decode cX7_subtract 5 = .ok (.iload 4, 2) := dk_21 4 (dk_at dksX7_subtract_0 5 rfl rfl)
theorem dX7_subtract_7 : decode cX7_subtract 7 = .ok (.aload_n 0, 1) := dk_42 (dk_at dksX7_subtract_0 7 rfl rfl)
theorem dX7_subtract_8 : decode cX7_subtract 8 = .ok (.getfield 15, 3) := dk_180 0 15 (dk_at dksX7_subtract_0 8 rfl rfl)
theorem dX7_subtract_11 : decode cX7_subtract 11 = .ok (.if_icmp .ge 39, 3) := dk_162 0 39 (dk_at dksX7_subtract_0 11 rfl rfl)
theorem dX7_subtract_14 : decode cX7_subtract 14 = .ok (.lload_n 2, 1) := dk_32 (dk_at dksX7_subtract_0 14 rfl rfl)
theorem dX7_subtract_15 : decode cX7_subtract 15 = .ok (.aload_n 0, 1) := dk_42 (dk_at dksX7_subtract_0 15 rfl rfl)
theorem dX7_subtract_16 : decode cX7_subtract 16 = .ok (.iload 4, 2) := dk_21 4 (dk_at dksX7_subtract_0 16 rfl rfl)
theorem dX7_subtract_18 : decode cX7_subtract 18 = .ok (.invokevirtual 48, 3) := dk_182 0 48 (dk_at dksX7_subtract_0 18 rfl rfl)
theorem dX7_subtract_21 : decode cX7_subtract 21 = .ok (.aload_n 1, 1) := dk_43 (dk_at dksX7_subtract_0 21 rfl rfl)
theorem dX7_subtract_22 : decode cX7_subtract 22 = .ok (.iload 4, 2) := dk_21 4 (dk_at dksX7_subtract_0 22 rfl rfl)
theorem dX7_subtract_24 : decode cX7_subtract 24 = .ok (.invokevirtual 48, 3) := dk_182 0 48 (dk_at dksX7_subtract_1 0 rfl rfl)
theorem dX7_subtract_27 : decode cX7_subtract 27 = .ok (.lsub, 1) := dk_101 (dk_at dksX7_subtract_1 3 rfl rfl)
theorem dX7_subtract_28 : decode cX7_subtract 28 = .ok (.ladd, 1) := dk_97 (dk_at dksX7_subtract_1 4 rfl rfl)
theorem dX7_subtract_29 : decode cX7_subtract 29 = .ok (.lstore_n 2, 1) := dk_65 (dk_at dksX7_subtract_1 5 rfl rfl)
theorem dX7_subtract_30 : decode cX7_subtract 30 = .ok (.aload_n 0, 1) := dk_42 (dk_at dksX7_subtract_1 6 rfl rfl)
theorem dX7_subtract_31 : decode cX7_subtract 31 = .ok (.getfield 9, 3) := dk_180 0 9 (dk_at dksX7_subtract_1 7 rfl rfl)
theorem dX7_subtract_34 : decode cX7_subtract 34 = .ok (.iload 4, 2) := dk_21 4 (dk_at dksX7_subtract_1 10 rfl rfl)
theorem dX7_subtract_36 : decode cX7_subtract 36 = .ok (.lload_n 2, 1) := dk_32 (dk_at dksX7_subtract_1 12 rfl rfl)
theorem dX7_subtract_37 : decode cX7_subtract 37 = .ok (.l2i, 1) := dk_136 (dk_at dksX7_subtract_1 13 rfl rfl)
theorem dX7_subtract_38 : decode cX7_subtract 38 = .ok (.iastore, 1) := dk_79 (dk_at dksX7_subtract_1 14 rfl rfl)
theorem dX7_subtract_39 : decode cX7_subtract 39 = .ok (.lload_n 2, 1) := dk_32 (dk_at dksX7_subtract_1 15 rfl rfl)
theorem dX7_subtract_40 : decode cX7_subtract 40 = .ok (.bipush 32, 2) := dk_16 32 (dk_at dksX7_subtract_1 16 rfl rfl)
theorem dX7_subtract_42 : decode cX7_subtract 42 = .ok (.lshr, 1) := dk_123 (dk_at dksX7_subtract_1 18 rfl rfl)
theorem dX7_subtract_43 : decode cX7_subtract 43 = .ok (.lstore_n 2, 1) := dk_65 (dk_at dksX7_subtract_1 19 rfl rfl)
theorem dX7_subtract_44 : decode cX7_subtract 44 = .ok (.iinc 4 1, 3) := dk_132 4 1 (dk_at dksX7_subtract_1 20 rfl rfl)
theorem dX7_subtract_47 : decode cX7_subtract 47 = .ok (.goto (-42), 3) := dk_167 255 214 (dk_at dksX7_subtract_2 0 rfl rfl)
theorem dX7_subtract_50 : decode cX7_subtract 50 = .ok (.aload_n 0, 1) := dk_42 (dk_at dksX7_subtract_2 3 rfl rfl)
theorem dX7_subtract_51 : decode cX7_subtract 51 = .ok (.invokevirtual 19, 3) := dk_182 0 19 (dk_at dksX7_subtract_2 4 rfl rfl)
theorem dX7_subtract_54 : decode cX7_subtract 54 = .ok (.return_, 1) := dk_177 (dk_at dksX7_subtract_2 7 rfl rfl)
abbrev cX7_up : ByteArray := prog_9_method_16_code
def yX7_up : MethodName := ⟨RX7, "up", "(I)V"⟩
def dkwX7_up_5 : List UInt8 := [167, 255, 239, 42, 89, 180, 0, 15, 28, 4, 96, 96, 181, 0, 15, 42, 182, 0, 19, 177]
abbrev dktX7_up_5 : List UInt8 := dkwX7_up_5 ++ []
def dkwX7_up_4 : List UInt8 := [167, 255, 196, 3, 54, 4, 21, 4, 28, 162, 0, 17, 42, 180, 0, 9, 21, 4, 3, 79, 132, 4, 1]
abbrev dktX7_up_4 : List UInt8 := dkwX7_up_4 ++ dktX7_up_5
def dkwX7_up_3 : List UInt8 := [129, 55, 5, 42, 180, 0, 9, 21, 4, 28, 96, 22, 5, 29, 121, 16, 32, 125, 136, 79, 132, 4, 255]
abbrev dktX7_up_3 : List UInt8 := dkwX7_up_3 ++ dktX7_up_4
def dkwX7_up_2 : List UInt8 := [121, 21, 4, 158, 0, 20, 42, 180, 0, 9, 21, 4, 4, 100, 46, 133, 20, 0, 41, 127, 167, 0, 4, 9]
abbrev dktX7_up_2 : List UInt8 := dkwX7_up_2 ++ dktX7_up_3
def dkwX7_up_1 : List UInt8 := [180, 0, 15, 3, 79, 42, 180, 0, 15, 54, 4, 21, 4, 155, 0, 61, 42, 21, 4, 182, 0, 48, 16, 32]
abbrev dktX7_up_1 : List UInt8 := dkwX7_up_1 ++ dktX7_up_2
def dkwX7_up_0 : List UInt8 := [42, 180, 0, 15, 158, 0, 131, 27, 16, 32, 108, 61, 27, 16, 32, 112, 62, 42, 180, 0, 9, 42]
abbrev dktX7_up_0 : List UInt8 := dkwX7_up_0 ++ dktX7_up_1
theorem dksX7_up_0 : cX7_up.data.toList.drop 0 = dktX7_up_0 := by decide +kernel
theorem dksX7_up_1 : cX7_up.data.toList.drop 22 = dktX7_up_1 := dk_seg dksX7_up_0 22 rfl rfl
theorem dksX7_up_2 : cX7_up.data.toList.drop 46 = dktX7_up_2 := dk_seg dksX7_up_1 24 rfl rfl
theorem dksX7_up_3 : cX7_up.data.toList.drop 70 = dktX7_up_3 := dk_seg dksX7_up_2 24 rfl rfl
theorem dksX7_up_4 : cX7_up.data.toList.drop 93 = dktX7_up_4 := dk_seg dksX7_up_3 23 rfl rfl
theorem dksX7_up_5 : cX7_up.data.toList.drop 116 = dktX7_up_5 := dk_seg dksX7_up_4 23 rfl rfl
theorem dX7_up_0 : decode cX7_up 0 = .ok (.aload_n 0, 1) := dk_42 (dk_at dksX7_up_0 0 rfl rfl)
theorem dX7_up_1 : decode cX7_up 1 = .ok (.getfield 15, 3) := dk_180 0 15 (dk_at dksX7_up_0 1 rfl rfl)
theorem dX7_up_4 : decode cX7_up 4 = .ok (.ifCond .le 131, 3) := dk_158 0 131 (dk_at dksX7_up_0 4 rfl rfl)
theorem dX7_up_7 : decode cX7_up 7 = .ok (.iload_n 1, 1) := dk_27 (dk_at dksX7_up_0 7 rfl rfl)
theorem dX7_up_8 : decode cX7_up 8 = .ok (.bipush 32, 2) := dk_16 32 (dk_at dksX7_up_0 8 rfl rfl)
theorem dX7_up_10 : decode cX7_up 10 = .ok (.idiv, 1) := dk_108 (dk_at dksX7_up_0 10 rfl rfl)
theorem dX7_up_11 : decode cX7_up 11 = .ok (.istore_n 2, 1) := dk_61 (dk_at dksX7_up_0 11 rfl rfl)
theorem dX7_up_12 : decode cX7_up 12 = .ok (.iload_n 1, 1) := dk_27 (dk_at dksX7_up_0 12 rfl rfl)
theorem dX7_up_13 : decode cX7_up 13 = .ok (.bipush 32, 2) := dk_16 32 (dk_at dksX7_up_0 13 rfl rfl)
theorem dX7_up_15 : decode cX7_up 15 = .ok (.irem, 1) := dk_112 (dk_at dksX7_up_0 15 rfl rfl)
theorem dX7_up_16 : decode cX7_up 16 = .ok (.istore_n 3, 1) := dk_62 (dk_at dksX7_up_0 16 rfl rfl)
theorem dX7_up_17 : decode cX7_up 17 = .ok (.aload_n 0, 1) := dk_42 (dk_at dksX7_up_0 17 rfl rfl)
theorem dX7_up_18 : decode cX7_up 18 = .ok (.getfield 9, 3) := dk_180 0 9 (dk_at dksX7_up_0 18 rfl rfl)
theorem dX7_up_21 : decode cX7_up 21 = .ok (.aload_n 0, 1) := dk_42 (dk_at dksX7_up_0 21 rfl rfl)
theorem dX7_up_22 : decode cX7_up 22 = .ok (.getfield 15, 3) := dk_180 0 15 (dk_at dksX7_up_1 0 rfl rfl)
theorem dX7_up_25 : decode cX7_up 25 = .ok (.iconst 0, 1) := dk_3 (dk_at dksX7_up_1 3 rfl rfl)
theorem dX7_up_26 : decode cX7_up 26 = .ok (.iastore, 1) := dk_79 (dk_at dksX7_up_1 4 rfl rfl)
theorem dX7_up_27 : decode cX7_up 27 = .ok (.aload_n 0, 1) := dk_42 (dk_at dksX7_up_1 5 rfl rfl)
theorem dX7_up_28 : decode cX7_up 28 = .ok (.getfield 15, 3) := dk_180 0 15 (dk_at dksX7_up_1 6 rfl rfl)
theorem dX7_up_31 : decode cX7_up 31 = .ok (.istore 4, 2) := dk_54 4 (dk_at dksX7_up_1 9 rfl rfl)
theorem dX7_up_33 : decode cX7_up 33 = .ok (.iload 4, 2) := dk_21 4 (dk_at dksX7_up_1 11 rfl rfl)
theorem dX7_up_35 : decode cX7_up 35 = .ok (.ifCond .lt 61, 3) := dk_155 0 61 (dk_at dksX7_up_1 13 rfl rfl)
theorem dX7_up_38 : decode cX7_up 38 = .ok (.aload_n 0, 1) := dk_42 (dk_at dksX7_up_1 16 rfl rfl)
theorem dX7_up_39 : decode cX7_up 39 = .ok (.iload 4, 2) := dk_21 4 (dk_at dksX7_up_1 17 rfl rfl)
theorem dX7_up_41 : decode cX7_up 41 = .ok (.invokevirtual 48, 3) := dk_182 0 48 (dk_at dksX7_up_1 19 rfl rfl)
theorem dX7_up_44 : decode cX7_up 44 = .ok (.bipush 32, 2) := dk_16 32 (dk_at dksX7_up_1 22 rfl rfl)
theorem dX7_up_46 : decode cX7_up 46 = .ok (.lshl, 1) := dk_121 (dk_at dksX7_up_2 0 rfl rfl)
theorem dX7_up_47 : decode cX7_up 47 = .ok (.iload 4, 2) := dk_21 4 (dk_at dksX7_up_2 1 rfl rfl)
theorem dX7_up_49 : decode cX7_up 49 = .ok (.ifCond .le 20, 3) := dk_158 0 20 (dk_at dksX7_up_2 3 rfl rfl)
theorem dX7_up_52 : decode cX7_up 52 = .ok (.aload_n 0, 1) := dk_42 (dk_at dksX7_up_2 6 rfl rfl)
theorem dX7_up_53 : decode cX7_up 53 = .ok (.getfield 9, 3) := dk_180 0 9 (dk_at dksX7_up_2 7 rfl rfl)
theorem dX7_up_56 : decode cX7_up 56 = .ok (.iload 4, 2) := dk_21 4 (dk_at dksX7_up_2 10 rfl rfl)
theorem dX7_up_58 : decode cX7_up 58 = .ok (.iconst 1, 1) := dk_4 (dk_at dksX7_up_2 12 rfl rfl)
theorem dX7_up_59 : decode cX7_up 59 = .ok (.isub, 1) := dk_100 (dk_at dksX7_up_2 13 rfl rfl)
theorem dX7_up_60 : decode cX7_up 60 = .ok (.iaload, 1) := dk_46 (dk_at dksX7_up_2 14 rfl rfl)
theorem dX7_up_61 : decode cX7_up 61 = .ok (.i2l, 1) := dk_133 (dk_at dksX7_up_2 15 rfl rfl)
theorem dX7_up_62 : decode cX7_up 62 = .ok (.ldc2_w 41, 3) := dk_20 0 41 (dk_at dksX7_up_2 16 rfl rfl)
theorem dX7_up_65 : decode cX7_up 65 = .ok (.land, 1) := dk_127 (dk_at dksX7_up_2 19 rfl rfl)
theorem dX7_up_66 : decode cX7_up 66 = .ok (.goto 4, 3) := dk_167 0 4 (dk_at dksX7_up_2 20 rfl rfl)
theorem dX7_up_69 : decode cX7_up 69 = .ok (.lconst 0, 1) := dk_9 (dk_at dksX7_up_2 23 rfl rfl)
theorem dX7_up_70 : decode cX7_up 70 = .ok (.lor, 1) := dk_129 (dk_at dksX7_up_3 0 rfl rfl)
theorem dX7_up_71 : decode cX7_up 71 = .ok (.lstore 5, 2) := dk_55 5 (dk_at dksX7_up_3 1 rfl rfl)
theorem dX7_up_73 : decode cX7_up 73 = .ok (.aload_n 0, 1) := dk_42 (dk_at dksX7_up_3 3 rfl rfl)
theorem dX7_up_74 : decode cX7_up 74 = .ok (.getfield 9, 3) := dk_180 0 9 (dk_at dksX7_up_3 4 rfl rfl)
theorem dX7_up_77 : decode cX7_up 77 = .ok (.iload 4, 2) := dk_21 4 (dk_at dksX7_up_3 7 rfl rfl)
theorem dX7_up_79 : decode cX7_up 79 = .ok (.iload_n 2, 1) := dk_28 (dk_at dksX7_up_3 9 rfl rfl)
theorem dX7_up_80 : decode cX7_up 80 = .ok (.iadd, 1) := dk_96 (dk_at dksX7_up_3 10 rfl rfl)
theorem dX7_up_81 : decode cX7_up 81 = .ok (.lload 5, 2) := dk_22 5 (dk_at dksX7_up_3 11 rfl rfl)
theorem dX7_up_83 : decode cX7_up 83 = .ok (.iload_n 3, 1) := dk_29 (dk_at dksX7_up_3 13 rfl rfl)
theorem dX7_up_84 : decode cX7_up 84 = .ok (.lshl, 1) := dk_121 (dk_at dksX7_up_3 14 rfl rfl)
theorem dX7_up_85 : decode cX7_up 85 = .ok (.bipush 32, 2) := dk_16 32 (dk_at dksX7_up_3 15 rfl rfl)
theorem dX7_up_87 : decode cX7_up 87 = .ok (.lushr, 1) := dk_125 (dk_at dksX7_up_3 17 rfl rfl)
theorem dX7_up_88 : decode cX7_up 88 = .ok (.l2i, 1) := dk_136 (dk_at dksX7_up_3 18 rfl rfl)
theorem dX7_up_89 : decode cX7_up 89 = .ok (.iastore, 1) := dk_79 (dk_at dksX7_up_3 19 rfl rfl)
theorem dX7_up_90 : decode cX7_up 90 = .ok (.iinc 4 (-1), 3) := dk_132 4 255 (dk_at dksX7_up_3 20 rfl rfl)
theorem dX7_up_93 : decode cX7_up 93 = .ok (.goto (-60), 3) := dk_167 255 196 (dk_at dksX7_up_4 0 rfl rfl)
theorem dX7_up_96 : decode cX7_up 96 = .ok (.iconst 0, 1) := dk_3 (dk_at dksX7_up_4 3 rfl rfl)
theorem dX7_up_97 : decode cX7_up 97 = .ok (.istore 4, 2) := dk_54 4 (dk_at dksX7_up_4 4 rfl rfl)
theorem dX7_up_99 : decode cX7_up 99 = .ok (.iload 4, 2) := dk_21 4 (dk_at dksX7_up_4 6 rfl rfl)
theorem dX7_up_101 : decode cX7_up 101 = .ok (.iload_n 2, 1) := dk_28 (dk_at dksX7_up_4 8 rfl rfl)
theorem dX7_up_102 : decode cX7_up 102 = .ok (.if_icmp .ge 17, 3) := dk_162 0 17 (dk_at dksX7_up_4 9 rfl rfl)
theorem dX7_up_105 : decode cX7_up 105 = .ok (.aload_n 0, 1) := dk_42 (dk_at dksX7_up_4 12 rfl rfl)
theorem dX7_up_106 : decode cX7_up 106 = .ok (.getfield 9, 3) := dk_180 0 9 (dk_at dksX7_up_4 13 rfl rfl)
theorem dX7_up_109 : decode cX7_up 109 = .ok (.iload 4, 2) := dk_21 4 (dk_at dksX7_up_4 16 rfl rfl)
theorem dX7_up_111 : decode cX7_up 111 = .ok (.iconst 0, 1) := dk_3 (dk_at dksX7_up_4 18 rfl rfl)
theorem dX7_up_112 : decode cX7_up 112 = .ok (.iastore, 1) := dk_79 (dk_at dksX7_up_4 19 rfl rfl)
theorem dX7_up_113 : decode cX7_up 113 = .ok (.iinc 4 1, 3) := dk_132 4 1 (dk_at dksX7_up_4 20 rfl rfl)
theorem dX7_up_116 : decode cX7_up 116 = .ok (.goto (-17), 3) := dk_167 255 239 (dk_at dksX7_up_5 0 rfl rfl)
theorem dX7_up_119 : decode cX7_up 119 = .ok (.aload_n 0, 1) := dk_42 (dk_at dksX7_up_5 3 rfl rfl)
theorem dX7_up_120 : decode cX7_up 120 = .ok (.dup, 1) := dk_89 (dk_at dksX7_up_5 4 rfl rfl)
theorem dX7_up_121 : decode cX7_up 121 = .ok (.getfield 15, 3) := dk_180 0 15 (dk_at dksX7_up_5 5 rfl rfl)
theorem dX7_up_124 : decode cX7_up 124 = .ok (.iload_n 2, 1) := dk_28 (dk_at dksX7_up_5 8 rfl rfl)
theorem dX7_up_125 : decode cX7_up 125 = .ok (.iconst 1, 1) := dk_4 (dk_at dksX7_up_5 9 rfl rfl)
theorem dX7_up_126 : decode cX7_up 126 = .ok (.iadd, 1) := dk_96 (dk_at dksX7_up_5 10 rfl rfl)
theorem dX7_up_127 : decode cX7_up 127 = .ok (.iadd, 1) := dk_96 (dk_at dksX7_up_5 11 rfl rfl)
theorem dX7_up_128 : decode cX7_up 128 = .ok (.putfield 15, 3) := dk_181 0 15 (dk_at dksX7_up_5 12 rfl rfl)
theorem dX7_up_131 : decode cX7_up 131 = .ok (.aload_n 0, 1) := dk_42 (dk_at dksX7_up_5 15 rfl rfl)
theorem dX7_up_132 : decode cX7_up 132 = .ok (.invokevirtual 19, 3) := dk_182 0 19 (dk_at dksX7_up_5 16 rfl rfl)
theorem dX7_up_135 : decode cX7_up 135 = .ok (.return_, 1) := dk_177 (dk_at dksX7_up_5 19 rfl rfl)
abbrev cX7_divide : ByteArray := prog_9_method_18_code
def yX7_divide : MethodName := ⟨RX7, "divide", "(LNumberModels$Wide;LNumberModels$Wide;LNumberModels$Wide;)V"⟩
def dkwX7_divide_5 : List UInt8 := [167, 255, 210, 44, 182, 0, 19, 177]
abbrev dktX7_divide_5 : List UInt8 := dkwX7_divide_5 ++ []
def dkwX7_divide_4 : List UInt8 := [21, 5, 16, 32, 108, 92, 46, 4, 21, 5, 16, 32, 112, 120, 128, 79, 45, 4, 182, 0, 72, 132, 5, 255]
abbrev dktX7_divide_4 : List UInt8 := dkwX7_divide_4 ++ dktX7_divide_5
def dkwX7_divide_3 : List UInt8 := [54, 5, 21, 5, 155, 0, 47, 42, 45, 182, 0, 64, 155, 0, 28, 42, 45, 182, 0, 68, 44, 180, 0, 9]
abbrev dktX7_divide_3 : List UInt8 := dkwX7_divide_3 ++ dktX7_divide_4
def dkwX7_divide_2 : List UInt8 := [44, 180, 0, 15, 162, 0, 17, 44, 180, 0, 9, 21, 5, 3, 79, 132, 5, 1, 167, 255, 236, 21, 4]
abbrev dktX7_divide_2 : List UInt8 := dkwX7_divide_2 ++ dktX7_divide_3
def dkwX7_divide_1 : List UInt8 := [182, 0, 56, 21, 4, 182, 0, 60, 44, 21, 4, 16, 32, 108, 4, 96, 181, 0, 15, 3, 54, 5, 21, 5]
abbrev dktX7_divide_1 : List UInt8 := dkwX7_divide_1 ++ dktX7_divide_2
def dkwX7_divide_0 : List UInt8 := [42, 182, 0, 52, 43, 182, 0, 52, 100, 54, 4, 44, 3, 181, 0, 15, 21, 4, 156, 0, 4, 177, 45, 43]
abbrev dktX7_divide_0 : List UInt8 := dkwX7_divide_0 ++ dktX7_divide_1
theorem dksX7_divide_0 : cX7_divide.data.toList.drop 0 = dktX7_divide_0 := by decide +kernel
theorem dksX7_divide_1 : cX7_divide.data.toList.drop 24 = dktX7_divide_1 := dk_seg dksX7_divide_0 24 rfl rfl
theorem dksX7_divide_2 : cX7_divide.data.toList.drop 48 = dktX7_divide_2 := dk_seg dksX7_divide_1 24 rfl rfl
theorem dksX7_divide_3 : cX7_divide.data.toList.drop 71 = dktX7_divide_3 := dk_seg dksX7_divide_2 23 rfl rfl
theorem dksX7_divide_4 : cX7_divide.data.toList.drop 95 = dktX7_divide_4 := dk_seg dksX7_divide_3 24 rfl rfl
theorem dksX7_divide_5 : cX7_divide.data.toList.drop 119 = dktX7_divide_5 := dk_seg dksX7_divide_4 24 rfl rfl
theorem dX7_divide_0 : decode cX7_divide 0 = .ok (.aload_n 0, 1) := dk_42 (dk_at dksX7_divide_0 0 rfl rfl)
theorem dX7_divide_1 : decode cX7_divide 1 = .ok (.invokevirtual 52, 3) := dk_182 0 52 (dk_at dksX7_divide_0 1 rfl rfl)
theorem dX7_divide_4 : decode cX7_divide 4 = .ok (.aload_n 1, 1) := dk_43 (dk_at dksX7_divide_0 4 rfl rfl)
theorem dX7_divide_5 : decode cX7_divide 5 = .ok (.invokevirtual 52, 3) := dk_182 0 52 (dk_at dksX7_divide_0 5 rfl rfl)
theorem dX7_divide_8 : decode cX7_divide 8 = .ok (.isub, 1) := dk_100 (dk_at dksX7_divide_0 8 rfl rfl)
theorem dX7_divide_9 : decode cX7_divide 9 = .ok (.istore 4, 2) := dk_54 4 (dk_at dksX7_divide_0 9 rfl rfl)
theorem dX7_divide_11 : decode cX7_divide 11 = .ok (.aload_n 2, 1) := dk_44 (dk_at dksX7_divide_0 11 rfl rfl)
theorem dX7_divide_12 : decode cX7_divide 12 = .ok (.iconst 0, 1) := dk_3 (dk_at dksX7_divide_0 12 rfl rfl)
theorem dX7_divide_13 : decode cX7_divide 13 = .ok (.putfield 15, 3) := dk_181 0 15 (dk_at dksX7_divide_0 13 rfl rfl)
theorem dX7_divide_16 : decode cX7_divide 16 = .ok (.iload 4, 2) := dk_21 4 (dk_at dksX7_divide_0 16 rfl rfl)
theorem dX7_divide_18 : decode cX7_divide 18 = .ok (.ifCond .ge 4, 3) := dk_156 0 4 (dk_at dksX7_divide_0 18 rfl rfl)
theorem dX7_divide_21 : decode cX7_divide 21 = .ok (.return_, 1) := dk_177 (dk_at dksX7_divide_0 21 rfl rfl)
theorem dX7_divide_22 : decode cX7_divide 22 = .ok (.aload_n 3, 1) := dk_45 (dk_at dksX7_divide_0 22 rfl rfl)
theorem dX7_divide_23 : decode cX7_divide 23 = .ok (.aload_n 1, 1) := dk_43 (dk_at dksX7_divide_0 23 rfl rfl)
theorem dX7_divide_24 : decode cX7_divide 24 = .ok (.invokevirtual 56, 3) := dk_182 0 56 (dk_at dksX7_divide_1 0 rfl rfl)
theorem dX7_divide_27 : decode cX7_divide 27 = .ok (.iload 4, 2) := dk_21 4 (dk_at dksX7_divide_1 3 rfl rfl)
theorem dX7_divide_29 : decode cX7_divide 29 = .ok (.invokevirtual 60, 3) := dk_182 0 60 (dk_at dksX7_divide_1 5 rfl rfl)
theorem dX7_divide_32 : decode cX7_divide 32 = .ok (.aload_n 2, 1) := dk_44 (dk_at dksX7_divide_1 8 rfl rfl)
theorem dX7_divide_33 : decode cX7_divide 33 = .ok (.iload 4, 2) := dk_21 4 (dk_at dksX7_divide_1 9 rfl rfl)
theorem dX7_divide_35 : decode cX7_divide 35 = .ok (.bipush 32, 2) := dk_16 32 (dk_at dksX7_divide_1 11 rfl rfl)
theorem dX7_divide_37 : decode cX7_divide 37 = .ok (.idiv, 1) := dk_108 (dk_at dksX7_divide_1 13 rfl rfl)
theorem dX7_divide_38 : decode cX7_divide 38 = .ok (.iconst 1, 1) := dk_4 (dk_at dksX7_divide_1 14 rfl rfl)
theorem dX7_divide_39 : decode cX7_divide 39 = .ok (.iadd, 1) := dk_96 (dk_at dksX7_divide_1 15 rfl rfl)
theorem dX7_divide_40 : decode cX7_divide 40 = .ok (.putfield 15, 3) := dk_181 0 15 (dk_at dksX7_divide_1 16 rfl rfl)
theorem dX7_divide_43 : decode cX7_divide 43 = .ok (.iconst 0, 1) := dk_3 (dk_at dksX7_divide_1 19 rfl rfl)
theorem dX7_divide_44 : decode cX7_divide 44 = .ok (.istore 5, 2) := dk_54 5 (dk_at dksX7_divide_1 20 rfl rfl)
theorem dX7_divide_46 : decode cX7_divide 46 = .ok (.iload 5, 2) := dk_21 5 (dk_at dksX7_divide_1 22 rfl rfl)
theorem dX7_divide_48 : decode cX7_divide 48 = .ok (.aload_n 2, 1) := dk_44 (dk_at dksX7_divide_2 0 rfl rfl)
theorem dX7_divide_49 : decode cX7_divide 49 = .ok (.getfield 15, 3) := dk_180 0 15 (dk_at dksX7_divide_2 1 rfl rfl)
theorem dX7_divide_52 : decode cX7_divide 52 = .ok (.if_icmp .ge 17, 3) := dk_162 0 17 (dk_at dksX7_divide_2 4 rfl rfl)
theorem dX7_divide_55 : decode cX7_divide 55 = .ok (.aload_n 2, 1) := dk_44 (dk_at dksX7_divide_2 7 rfl rfl)
theorem dX7_divide_56 : decode cX7_divide 56 = .ok (.getfield 9, 3) := dk_180 0 9 (dk_at dksX7_divide_2 8 rfl rfl)
theorem dX7_divide_59 : decode cX7_divide 59 = .ok (.iload 5, 2) := dk_21 5 (dk_at dksX7_divide_2 11 rfl rfl)
theorem dX7_divide_61 : decode cX7_divide 61 = .ok (.iconst 0, 1) := dk_3 (dk_at dksX7_divide_2 13 rfl rfl)
theorem dX7_divide_62 : decode cX7_divide 62 = .ok (.iastore, 1) := dk_79 (dk_at dksX7_divide_2 14 rfl rfl)
theorem dX7_divide_63 : decode cX7_divide 63 = .ok (.iinc 5 1, 3) := dk_132 5 1 (dk_at dksX7_divide_2 15 rfl rfl)
theorem dX7_divide_66 : decode cX7_divide 66 = .ok (.goto (-20), 3) := dk_167 255 236 (dk_at dksX7_divide_2 18 rfl rfl)
theorem dX7_divide_69 : decode cX7_divide 69 = .ok (.iload 4, 2) := dk_21 4 (dk_at dksX7_divide_2 21 rfl rfl)
theorem dX7_divide_71 : decode cX7_divide 71 = .ok (.istore 5, 2) := dk_54 5 (dk_at dksX7_divide_3 0 rfl rfl)
theorem dX7_divide_73 : decode cX7_divide 73 = .ok (.iload 5, 2) := dk_21 5 (dk_at dksX7_divide_3 2 rfl rfl)
theorem dX7_divide_75 : decode cX7_divide 75 = .ok (.ifCond .lt 47, 3) := dk_155 0 47 (dk_at dksX7_divide_3 4 rfl rfl)
theorem dX7_divide_78 : decode cX7_divide 78 = .ok (.aload_n 0, 1) := dk_42 (dk_at dksX7_divide_3 7 rfl rfl)
theorem dX7_divide_79 : decode cX7_divide 79 = .ok (.aload_n 3, 1) := dk_45 (dk_at dksX7_divide_3 8 rfl rfl)
theorem dX7_divide_80 : decode cX7_divide 80 = .ok (.invokevirtual 64, 3) := dk_182 0 64 (dk_at dksX7_divide_3 9 rfl rfl)
theorem dX7_divide_83 : decode cX7_divide 83 = .ok (.ifCond .lt 28, 3) := dk_155 0 28 (dk_at dksX7_divide_3 12 rfl rfl)
theorem dX7_divide_86 : decode cX7_divide 86 = .ok (.aload_n 0, 1) := dk_42 (dk_at dksX7_divide_3 15 rfl rfl)
theorem dX7_divide_87 : decode cX7_divide 87 = .ok (.aload_n 3, 1) := dk_45 (dk_at dksX7_divide_3 16 rfl rfl)
theorem dX7_divide_88 : decode cX7_divide 88 = .ok (.invokevirtual 68, 3) := dk_182 0 68 (dk_at dksX7_divide_3 17 rfl rfl)
theorem dX7_divide_91 : decode cX7_divide 91 = .ok (.aload_n 2, 1) := dk_44 (dk_at dksX7_divide_3 20 rfl rfl)
theorem dX7_divide_92 : decode cX7_divide 92 = .ok (.getfield 9, 3) := dk_180 0 9 (dk_at dksX7_divide_3 21 rfl rfl)
theorem dX7_divide_95 : decode cX7_divide 95 = .ok (.iload 5, 2) := dk_21 5 (dk_at dksX7_divide_4 0 rfl rfl)
theorem dX7_divide_97 : decode cX7_divide 97 = .ok (.bipush 32, 2) := dk_16 32 (dk_at dksX7_divide_4 2 rfl rfl)
theorem dX7_divide_99 : decode cX7_divide 99 = .ok (.idiv, 1) := dk_108 (dk_at dksX7_divide_4 4 rfl rfl)
theorem dX7_divide_100 : decode cX7_divide 100 = .ok (.dup2, 1) := dk_92 (dk_at dksX7_divide_4 5 rfl rfl)
theorem dX7_divide_101 : decode cX7_divide 101 = .ok (.iaload, 1) := dk_46 (dk_at dksX7_divide_4 6 rfl rfl)
theorem dX7_divide_102 : decode cX7_divide 102 = .ok (.iconst 1, 1) := dk_4 (dk_at dksX7_divide_4 7 rfl rfl)
theorem dX7_divide_103 : decode cX7_divide 103 = .ok (.iload 5, 2) := dk_21 5 (dk_at dksX7_divide_4 8 rfl rfl)
theorem dX7_divide_105 : decode cX7_divide 105 = .ok (.bipush 32, 2) := dk_16 32 (dk_at dksX7_divide_4 10 rfl rfl)
theorem dX7_divide_107 : decode cX7_divide 107 = .ok (.irem, 1) := dk_112 (dk_at dksX7_divide_4 12 rfl rfl)
theorem dX7_divide_108 : decode cX7_divide 108 = .ok (.ishl, 1) := dk_120 (dk_at dksX7_divide_4 13 rfl rfl)
theorem dX7_divide_109 : decode cX7_divide 109 = .ok (.ior, 1) := dk_128 (dk_at dksX7_divide_4 14 rfl rfl)
theorem dX7_divide_110 : decode cX7_divide 110 = .ok (.iastore, 1) := dk_79 (dk_at dksX7_divide_4 15 rfl rfl)
theorem dX7_divide_111 : decode cX7_divide 111 = .ok (.aload_n 3, 1) := dk_45 (dk_at dksX7_divide_4 16 rfl rfl)
theorem dX7_divide_112 : decode cX7_divide 112 = .ok (.iconst 1, 1) := dk_4 (dk_at dksX7_divide_4 17 rfl rfl)
theorem dX7_divide_113 : decode cX7_divide 113 = .ok (.invokevirtual 72, 3) := dk_182 0 72 (dk_at dksX7_divide_4 18 rfl rfl)
theorem dX7_divide_116 : decode cX7_divide 116 = .ok (.iinc 5 (-1), 3) := dk_132 5 255 (dk_at dksX7_divide_4 21 rfl rfl)
theorem dX7_divide_119 : decode cX7_divide 119 = .ok (.goto (-46), 3) := dk_167 255 210 (dk_at dksX7_divide_5 0 rfl rfl)
theorem dX7_divide_122 : decode cX7_divide 122 = .ok (.aload_n 2, 1) := dk_44 (dk_at dksX7_divide_5 3 rfl rfl)
theorem dX7_divide_123 : decode cX7_divide 123 = .ok (.invokevirtual 19, 3) := dk_182 0 19 (dk_at dksX7_divide_5 4 rfl rfl)
theorem dX7_divide_126 : decode cX7_divide 126 = .ok (.return_, 1) := dk_177 (dk_at dksX7_divide_5 7 rfl rfl)
abbrev cX7_bits : ByteArray := prog_9_method_9_code
def yX7_bits : MethodName := ⟨RX7, "bits", "()I"⟩
def dkwX7_bits_1 : List UInt8 := [180, 0, 15, 4, 100, 46, 184, 0, 28, 100, 172]
abbrev dktX7_bits_1 : List UInt8 := dkwX7_bits_1 ++ []
def dkwX7_bits_0 : List UInt8 := [42, 180, 0, 15, 154, 0, 7, 3, 167, 0, 25, 16, 32, 42, 180, 0, 15, 104, 42, 180, 0, 9, 42]
abbrev dktX7_bits_0 : List UInt8 := dkwX7_bits_0 ++ dktX7_bits_1
theorem dksX7_bits_0 : cX7_bits.data.toList.drop 0 = dktX7_bits_0 := by decide +kernel
theorem dksX7_bits_1 : cX7_bits.data.toList.drop 23 = dktX7_bits_1 := dk_seg dksX7_bits_0 23 rfl rfl
theorem dX7_bits_0 : decode cX7_bits 0 = .ok (.aload_n 0, 1) := dk_42 (dk_at dksX7_bits_0 0 rfl rfl)
theorem dX7_bits_1 : decode cX7_bits 1 = .ok (.getfield 15, 3) := dk_180 0 15 (dk_at dksX7_bits_0 1 rfl rfl)
theorem dX7_bits_4 : decode cX7_bits 4 = .ok (.ifCond .ne 7, 3) := dk_154 0 7 (dk_at dksX7_bits_0 4 rfl rfl)
theorem dX7_bits_7 : decode cX7_bits 7 = .ok (.iconst 0, 1) := dk_3 (dk_at dksX7_bits_0 7 rfl rfl)
theorem dX7_bits_8 : decode cX7_bits 8 = .ok (.goto 25, 3) := dk_167 0 25 (dk_at dksX7_bits_0 8 rfl rfl)
theorem dX7_bits_11 : decode cX7_bits 11 = .ok (.bipush 32, 2) := dk_16 32 (dk_at dksX7_bits_0 11 rfl rfl)
theorem dX7_bits_13 : decode cX7_bits 13 = .ok (.aload_n 0, 1) := dk_42 (dk_at dksX7_bits_0 13 rfl rfl)
theorem dX7_bits_14 : decode cX7_bits 14 = .ok (.getfield 15, 3) := dk_180 0 15 (dk_at dksX7_bits_0 14 rfl rfl)
theorem dX7_bits_17 : decode cX7_bits 17 = .ok (.imul, 1) := dk_104 (dk_at dksX7_bits_0 17 rfl rfl)
theorem dX7_bits_18 : decode cX7_bits 18 = .ok (.aload_n 0, 1) := dk_42 (dk_at dksX7_bits_0 18 rfl rfl)
theorem dX7_bits_19 : decode cX7_bits 19 = .ok (.getfield 9, 3) := dk_180 0 9 (dk_at dksX7_bits_0 19 rfl rfl)
theorem dX7_bits_22 : decode cX7_bits 22 = .ok (.aload_n 0, 1) := dk_42 (dk_at dksX7_bits_0 22 rfl rfl)
theorem dX7_bits_23 : decode cX7_bits 23 = .ok (.getfield 15, 3) := dk_180 0 15 (dk_at dksX7_bits_1 0 rfl rfl)
theorem dX7_bits_26 : decode cX7_bits 26 = .ok (.iconst 1, 1) := dk_4 (dk_at dksX7_bits_1 3 rfl rfl)
theorem dX7_bits_27 : decode cX7_bits 27 = .ok (.isub, 1) := dk_100 (dk_at dksX7_bits_1 4 rfl rfl)
theorem dX7_bits_28 : decode cX7_bits 28 = .ok (.iaload, 1) := dk_46 (dk_at dksX7_bits_1 5 rfl rfl)
theorem dX7_bits_29 : decode cX7_bits 29 = .ok (.invokestatic 28, 3) := dk_184 0 28 (dk_at dksX7_bits_1 6 rfl rfl)
theorem dX7_bits_32 : decode cX7_bits 32 = .ok (.isub, 1) := dk_100 (dk_at dksX7_bits_1 9 rfl rfl)
theorem dX7_bits_33 : decode cX7_bits 33 = .ok (.ireturn, 1) := dk_172 (dk_at dksX7_bits_1 10 rfl rfl)
abbrev cX7_low : ByteArray := prog_9_method_19_code
def yX7_low : MethodName := ⟨RX7, "low", "()J"⟩
def dkwX7_low_0 : List UInt8 := [42, 3, 182, 0, 48, 42, 4, 182, 0, 48, 16, 32, 121, 129, 173]
abbrev dktX7_low_0 : List UInt8 := dkwX7_low_0 ++ []
theorem dksX7_low_0 : cX7_low.data.toList.drop 0 = dktX7_low_0 := by decide +kernel
theorem dX7_low_0 : decode cX7_low 0 = .ok (.aload_n 0, 1) := dk_42 (dk_at dksX7_low_0 0 rfl rfl)
theorem dX7_low_1 : decode cX7_low 1 = .ok (.iconst 0, 1) := dk_3 (dk_at dksX7_low_0 1 rfl rfl)
theorem dX7_low_2 : decode cX7_low 2 = .ok (.invokevirtual 48, 3) := dk_182 0 48 (dk_at dksX7_low_0 2 rfl rfl)
theorem dX7_low_5 : decode cX7_low 5 = .ok (.aload_n 0, 1) := dk_42 (dk_at dksX7_low_0 5 rfl rfl)
theorem dX7_low_6 : decode cX7_low 6 = .ok (.iconst 1, 1) := dk_4 (dk_at dksX7_low_0 6 rfl rfl)
theorem dX7_low_7 : decode cX7_low 7 = .ok (.invokevirtual 48, 3) := dk_182 0 48 (dk_at dksX7_low_0 7 rfl rfl)
theorem dX7_low_10 : decode cX7_low 10 = .ok (.bipush 32, 2) := dk_16 32 (dk_at dksX7_low_0 10 rfl rfl)
theorem dX7_low_12 : decode cX7_low 12 = .ok (.lshl, 1) := dk_121 (dk_at dksX7_low_0 12 rfl rfl)
theorem dX7_low_13 : decode cX7_low 13 = .ok (.lor, 1) := dk_129 (dk_at dksX7_low_0 13 rfl rfl)
theorem dX7_low_14 : decode cX7_low 14 = .ok (.lreturn, 1) := dk_173 (dk_at dksX7_low_0 14 rfl rfl)
abbrev cX7_set_3 : ByteArray := prog_9_method_5_code
def yX7_set_3 : MethodName := ⟨RX7, "set", "([I)LNumberModels$Wide;"⟩
def dkwX7_set_3_0 : List UInt8 := [43, 3, 42, 180, 0, 9, 3, 16, 8, 184, 0, 22, 42, 16, 8, 181, 0, 15, 42, 182, 0, 19, 42, 176]
abbrev dktX7_set_3_0 : List UInt8 := dkwX7_set_3_0 ++ []
theorem dksX7_set_3_0 : cX7_set_3.data.toList.drop 0 = dktX7_set_3_0 := by decide +kernel
theorem dX7_set_3_0 : decode cX7_set_3 0 = .ok (.aload_n 1, 1) := dk_43 (dk_at dksX7_set_3_0 0 rfl rfl)
theorem dX7_set_3_1 : decode cX7_set_3 1 = .ok (.iconst 0, 1) := dk_3 (dk_at dksX7_set_3_0 1 rfl rfl)
theorem dX7_set_3_2 : decode cX7_set_3 2 = .ok (.aload_n 0, 1) := dk_42 (dk_at dksX7_set_3_0 2 rfl rfl)
theorem dX7_set_3_3 : decode cX7_set_3 3 = .ok (.getfield 9, 3) := dk_180 0 9 (dk_at dksX7_set_3_0 3 rfl rfl)
theorem dX7_set_3_6 : decode cX7_set_3 6 = .ok (.iconst 0, 1) := dk_3 (dk_at dksX7_set_3_0 6 rfl rfl)
theorem dX7_set_3_7 : decode cX7_set_3 7 = .ok (.bipush 8, 2) := dk_16 8 (dk_at dksX7_set_3_0 7 rfl rfl)
theorem dX7_set_3_9 : decode cX7_set_3 9 = .ok (.invokestatic 22, 3) := dk_184 0 22 (dk_at dksX7_set_3_0 9 rfl rfl)
theorem dX7_set_3_12 : decode cX7_set_3 12 = .ok (.aload_n 0, 1) := dk_42 (dk_at dksX7_set_3_0 12 rfl rfl)
theorem dX7_set_3_13 : decode cX7_set_3 13 = .ok (.bipush 8, 2) := dk_16 8 (dk_at dksX7_set_3_0 13 rfl rfl)
theorem dX7_set_3_15 : decode cX7_set_3 15 = .ok (.putfield 15, 3) := dk_181 0 15 (dk_at dksX7_set_3_0 15 rfl rfl)
theorem dX7_set_3_18 : decode cX7_set_3 18 = .ok (.aload_n 0, 1) := dk_42 (dk_at dksX7_set_3_0 18 rfl rfl)
theorem dX7_set_3_19 : decode cX7_set_3 19 = .ok (.invokevirtual 19, 3) := dk_182 0 19 (dk_at dksX7_set_3_0 19 rfl rfl)
theorem dX7_set_3_22 : decode cX7_set_3 22 = .ok (.aload_n 0, 1) := dk_42 (dk_at dksX7_set_3_0 22 rfl rfl)
theorem dX7_set_3_23 : decode cX7_set_3 23 = .ok (.areturn, 1) := dk_176 (dk_at dksX7_set_3_0 23 rfl rfl)
abbrev cX7_multiply : ByteArray := prog_9_method_15_code
def yX7_multiply : MethodName := ⟨RX7, "multiply", "(LNumberModels$Wide;LNumberModels$Wide;)V"⟩
def dkwX7_multiply_6 : List UInt8 := [22, 4, 136, 79, 132, 3, 1, 167, 255, 147, 42, 182, 0, 19, 177]
abbrev dktX7_multiply_6 : List UInt8 := dkwX7_multiply_6 ++ []
def dkwX7_multiply_5 : List UInt8 := [22, 4, 16, 32, 125, 55, 4, 132, 6, 1, 167, 255, 181, 42, 180, 0, 9, 29, 44, 180, 0, 15, 96]
abbrev dktX7_multiply_5 : List UInt8 := dkwX7_multiply_5 ++ dktX7_multiply_6
def dkwX7_multiply_4 : List UInt8 := [96, 46, 133, 20, 0, 41, 127, 97, 97, 55, 4, 42, 180, 0, 9, 29, 21, 6, 96, 22, 4, 136, 79]
abbrev dktX7_multiply_4 : List UInt8 := dkwX7_multiply_4 ++ dktX7_multiply_5
def dkwX7_multiply_3 : List UInt8 := [20, 0, 41, 127, 44, 180, 0, 9, 21, 6, 46, 133, 20, 0, 41, 127, 105, 42, 180, 0, 9, 29, 21, 6]
abbrev dktX7_multiply_3 : List UInt8 := dkwX7_multiply_3 ++ dktX7_multiply_4
def dkwX7_multiply_2 : List UInt8 := [55, 4, 3, 54, 6, 21, 6, 44, 180, 0, 15, 162, 0, 72, 22, 4, 43, 180, 0, 9, 29, 46, 133]
abbrev dktX7_multiply_2 : List UInt8 := dkwX7_multiply_2 ++ dktX7_multiply_3
def dkwX7_multiply_1 : List UInt8 := [180, 0, 9, 29, 3, 79, 132, 3, 1, 167, 255, 238, 3, 62, 29, 43, 180, 0, 15, 162, 0, 107, 9]
abbrev dktX7_multiply_1 : List UInt8 := dkwX7_multiply_1 ++ dktX7_multiply_2
def dkwX7_multiply_0 : List UInt8 := [42, 43, 180, 0, 15, 44, 180, 0, 15, 96, 181, 0, 15, 3, 62, 29, 42, 180, 0, 15, 162, 0, 16, 42]
abbrev dktX7_multiply_0 : List UInt8 := dkwX7_multiply_0 ++ dktX7_multiply_1
theorem dksX7_multiply_0 : cX7_multiply.data.toList.drop 0 = dktX7_multiply_0 := by decide +kernel
theorem dksX7_multiply_1 : cX7_multiply.data.toList.drop 24 = dktX7_multiply_1 := dk_seg dksX7_multiply_0 24 rfl rfl
theorem dksX7_multiply_2 : cX7_multiply.data.toList.drop 47 = dktX7_multiply_2 := dk_seg dksX7_multiply_1 23 rfl rfl
theorem dksX7_multiply_3 : cX7_multiply.data.toList.drop 70 = dktX7_multiply_3 := dk_seg dksX7_multiply_2 23 rfl rfl
theorem dksX7_multiply_4 : cX7_multiply.data.toList.drop 94 = dktX7_multiply_4 := dk_seg dksX7_multiply_3 24 rfl rfl
theorem dksX7_multiply_5 : cX7_multiply.data.toList.drop 117 = dktX7_multiply_5 := dk_seg dksX7_multiply_4 23 rfl rfl
theorem dksX7_multiply_6 : cX7_multiply.data.toList.drop 140 = dktX7_multiply_6 := dk_seg dksX7_multiply_5 23 rfl rfl
theorem dX7_multiply_0 : decode cX7_multiply 0 = .ok (.aload_n 0, 1) := dk_42 (dk_at dksX7_multiply_0 0 rfl rfl)
theorem dX7_multiply_1 : decode cX7_multiply 1 = .ok (.aload_n 1, 1) := dk_43 (dk_at dksX7_multiply_0 1 rfl rfl)
theorem dX7_multiply_2 : decode cX7_multiply 2 = .ok (.getfield 15, 3) := dk_180 0 15 (dk_at dksX7_multiply_0 2 rfl rfl)
theorem dX7_multiply_5 : decode cX7_multiply 5 = .ok (.aload_n 2, 1) := dk_44 (dk_at dksX7_multiply_0 5 rfl rfl)
theorem dX7_multiply_6 : decode cX7_multiply 6 = .ok (.getfield 15, 3) := dk_180 0 15 (dk_at dksX7_multiply_0 6 rfl rfl)
theorem dX7_multiply_9 : decode cX7_multiply 9 = .ok (.iadd, 1) := dk_96 (dk_at dksX7_multiply_0 9 rfl rfl)
theorem dX7_multiply_10 : decode cX7_multiply 10 = .ok (.putfield 15, 3) := dk_181 0 15 (dk_at dksX7_multiply_0 10 rfl rfl)
theorem dX7_multiply_13 : decode cX7_multiply 13 = .ok (.iconst 0, 1) := dk_3 (dk_at dksX7_multiply_0 13 rfl rfl)
theorem dX7_multiply_14 : decode cX7_multiply 14 = .ok (.istore_n 3, 1) := dk_62 (dk_at dksX7_multiply_0 14 rfl rfl)
theorem dX7_multiply_15 : decode cX7_multiply 15 = .ok (.iload_n 3, 1) := dk_29 (dk_at dksX7_multiply_0 15 rfl rfl)
theorem dX7_multiply_16 : decode cX7_multiply 16 = .ok (.aload_n 0, 1) := dk_42 (dk_at dksX7_multiply_0 16 rfl rfl)
theorem dX7_multiply_17 : decode cX7_multiply 17 = .ok (.getfield 15, 3) := dk_180 0 15 (dk_at dksX7_multiply_0 17 rfl rfl)
theorem dX7_multiply_20 : decode cX7_multiply 20 = .ok (.if_icmp .ge 16, 3) := dk_162 0 16 (dk_at dksX7_multiply_0 20 rfl rfl)
theorem dX7_multiply_23 : decode cX7_multiply 23 = .ok (.aload_n 0, 1) := dk_42 (dk_at dksX7_multiply_0 23 rfl rfl)
theorem dX7_multiply_24 : decode cX7_multiply 24 = .ok (.getfield 9, 3) := dk_180 0 9 (dk_at dksX7_multiply_1 0 rfl rfl)
theorem dX7_multiply_27 : decode cX7_multiply 27 = .ok (.iload_n 3, 1) := dk_29 (dk_at dksX7_multiply_1 3 rfl rfl)
theorem dX7_multiply_28 : decode cX7_multiply 28 = .ok (.iconst 0, 1) := dk_3 (dk_at dksX7_multiply_1 4 rfl rfl)
theorem dX7_multiply_29 : decode cX7_multiply 29 = .ok (.iastore, 1) := dk_79 (dk_at dksX7_multiply_1 5 rfl rfl)
theorem dX7_multiply_30 : decode cX7_multiply 30 = .ok (.iinc 3 1, 3) := dk_132 3 1 (dk_at dksX7_multiply_1 6 rfl rfl)
theorem dX7_multiply_33 : decode cX7_multiply 33 = .ok (.goto (-18), 3) := dk_167 255 238 (dk_at dksX7_multiply_1 9 rfl rfl)
theorem dX7_multiply_36 : decode cX7_multiply 36 = .ok (.iconst 0, 1) := dk_3 (dk_at dksX7_multiply_1 12 rfl rfl)
theorem dX7_multiply_37 : decode cX7_multiply 37 = .ok (.istore_n 3, 1) := dk_62 (dk_at dksX7_multiply_1 13 rfl rfl)
theorem dX7_multiply_38 : decode cX7_multiply 38 = .ok (.iload_n 3, 1) := dk_29 (dk_at dksX7_multiply_1 14 rfl rfl)
theorem dX7_multiply_39 : decode cX7_multiply 39 = .ok (.aload_n 1, 1) := dk_43 (dk_at dksX7_multiply_1 15 rfl rfl)
theorem dX7_multiply_40 : decode cX7_multiply 40 = .ok (.getfield 15, 3) := dk_180 0 15 (dk_at dksX7_multiply_1 16 rfl rfl)
theorem dX7_multiply_43 : decode cX7_multiply 43 = .ok (.if_icmp .ge 107, 3) := dk_162 0 107 (dk_at dksX7_multiply_1 19 rfl rfl)
theorem dX7_multiply_46 : decode cX7_multiply 46 = .ok (.lconst 0, 1) := dk_9 (dk_at dksX7_multiply_1 22 rfl rfl)
theorem dX7_multiply_47 : decode cX7_multiply 47 = .ok (.lstore 4, 2) := dk_55 4 (dk_at dksX7_multiply_2 0 rfl rfl)
theorem dX7_multiply_49 : decode cX7_multiply 49 = .ok (.iconst 0, 1) := dk_3 (dk_at dksX7_multiply_2 2 rfl rfl)
theorem dX7_multiply_50 : decode cX7_multiply 50 = .ok (.istore 6, 2) := dk_54 6 (dk_at dksX7_multiply_2 3 rfl rfl)
theorem dX7_multiply_52 : decode cX7_multiply 52 = .ok (.iload 6, 2) := dk_21 6 (dk_at dksX7_multiply_2 5 rfl rfl)
theorem dX7_multiply_54 : decode cX7_multiply 54 = .ok (.aload_n 2, 1) := dk_44 (dk_at dksX7_multiply_2 7 rfl rfl)
theorem dX7_multiply_55 : decode cX7_multiply 55 = .ok (.getfield 15, 3) := dk_180 0 15 (dk_at dksX7_multiply_2 8 rfl rfl)
theorem dX7_multiply_58 : decode cX7_multiply 58 = .ok (.if_icmp .ge 72, 3) := dk_162 0 72 (dk_at dksX7_multiply_2 11 rfl rfl)
theorem dX7_multiply_61 : decode cX7_multiply 61 = .ok (.lload 4, 2) := dk_22 4 (dk_at dksX7_multiply_2 14 rfl rfl)
theorem dX7_multiply_63 : decode cX7_multiply 63 = .ok (.aload_n 1, 1) := dk_43 (dk_at dksX7_multiply_2 16 rfl rfl)
theorem dX7_multiply_64 : decode cX7_multiply 64 = .ok (.getfield 9, 3) := dk_180 0 9 (dk_at dksX7_multiply_2 17 rfl rfl)
theorem dX7_multiply_67 : decode cX7_multiply 67 = .ok (.iload_n 3, 1) := dk_29 (dk_at dksX7_multiply_2 20 rfl rfl)
theorem dX7_multiply_68 : decode cX7_multiply 68 = .ok (.iaload, 1) := dk_46 (dk_at dksX7_multiply_2 21 rfl rfl)
theorem dX7_multiply_69 : decode cX7_multiply 69 = .ok (.i2l, 1) := dk_133 (dk_at dksX7_multiply_2 22 rfl rfl)
theorem dX7_multiply_70 : decode cX7_multiply 70 = .ok (.ldc2_w 41, 3) := dk_20 0 41 (dk_at dksX7_multiply_3 0 rfl rfl)
theorem dX7_multiply_73 : decode cX7_multiply 73 = .ok (.land, 1) := dk_127 (dk_at dksX7_multiply_3 3 rfl rfl)
theorem dX7_multiply_74 : decode cX7_multiply 74 = .ok (.aload_n 2, 1) := dk_44 (dk_at dksX7_multiply_3 4 rfl rfl)
theorem dX7_multiply_75 : decode cX7_multiply 75 = .ok (.getfield 9, 3) := dk_180 0 9 (dk_at dksX7_multiply_3 5 rfl rfl)
theorem dX7_multiply_78 : decode cX7_multiply 78 = .ok (.iload 6, 2) := dk_21 6 (dk_at dksX7_multiply_3 8 rfl rfl)
theorem dX7_multiply_80 : decode cX7_multiply 80 = .ok (.iaload, 1) := dk_46 (dk_at dksX7_multiply_3 10 rfl rfl)
theorem dX7_multiply_81 : decode cX7_multiply 81 = .ok (.i2l, 1) := dk_133 (dk_at dksX7_multiply_3 11 rfl rfl)
theorem dX7_multiply_82 : decode cX7_multiply 82 = .ok (.ldc2_w 41, 3) := dk_20 0 41 (dk_at dksX7_multiply_3 12 rfl rfl)
theorem dX7_multiply_85 : decode cX7_multiply 85 = .ok (.land, 1) := dk_127 (dk_at dksX7_multiply_3 15 rfl rfl)
theorem dX7_multiply_86 : decode cX7_multiply 86 = .ok (.lmul, 1) := dk_105 (dk_at dksX7_multiply_3 16 rfl rfl)
theorem dX7_multiply_87 : decode cX7_multiply 87 = .ok (.aload_n 0, 1) := dk_42 (dk_at dksX7_multiply_3 17 rfl rfl)
theorem dX7_multiply_88 : decode cX7_multiply 88 = .ok (.getfield 9, 3) := dk_180 0 9 (dk_at dksX7_multiply_3 18 rfl rfl)
theorem dX7_multiply_91 : decode cX7_multiply 91 = .ok (.iload_n 3, 1) := dk_29 (dk_at dksX7_multiply_3 21 rfl rfl)
theorem dX7_multiply_92 : decode cX7_multiply 92 = .ok (.iload 6, 2) := dk_21 6 (dk_at dksX7_multiply_3 22 rfl rfl)
theorem dX7_multiply_94 : decode cX7_multiply 94 = .ok (.iadd, 1) := dk_96 (dk_at dksX7_multiply_4 0 rfl rfl)
theorem dX7_multiply_95 : decode cX7_multiply 95 = .ok (.iaload, 1) := dk_46 (dk_at dksX7_multiply_4 1 rfl rfl)
theorem dX7_multiply_96 : decode cX7_multiply 96 = .ok (.i2l, 1) := dk_133 (dk_at dksX7_multiply_4 2 rfl rfl)
theorem dX7_multiply_97 : decode cX7_multiply 97 = .ok (.ldc2_w 41, 3) := dk_20 0 41 (dk_at dksX7_multiply_4 3 rfl rfl)
theorem dX7_multiply_100 : decode cX7_multiply 100 = .ok (.land, 1) := dk_127 (dk_at dksX7_multiply_4 6 rfl rfl)
theorem dX7_multiply_101 : decode cX7_multiply 101 = .ok (.ladd, 1) := dk_97 (dk_at dksX7_multiply_4 7 rfl rfl)
theorem dX7_multiply_102 : decode cX7_multiply 102 = .ok (.ladd, 1) := dk_97 (dk_at dksX7_multiply_4 8 rfl rfl)
theorem dX7_multiply_103 : decode cX7_multiply 103 = .ok (.lstore 4, 2) := dk_55 4 (dk_at dksX7_multiply_4 9 rfl rfl)
theorem dX7_multiply_105 : decode cX7_multiply 105 = .ok (.aload_n 0, 1) := dk_42 (dk_at dksX7_multiply_4 11 rfl rfl)
theorem dX7_multiply_106 : decode cX7_multiply 106 = .ok (.getfield 9, 3) := dk_180 0 9 (dk_at dksX7_multiply_4 12 rfl rfl)
theorem dX7_multiply_109 : decode cX7_multiply 109 = .ok (.iload_n 3, 1) := dk_29 (dk_at dksX7_multiply_4 15 rfl rfl)
theorem dX7_multiply_110 : decode cX7_multiply 110 = .ok (.iload 6, 2) := dk_21 6 (dk_at dksX7_multiply_4 16 rfl rfl)
theorem dX7_multiply_112 : decode cX7_multiply 112 = .ok (.iadd, 1) := dk_96 (dk_at dksX7_multiply_4 18 rfl rfl)
theorem dX7_multiply_113 : decode cX7_multiply 113 = .ok (.lload 4, 2) := dk_22 4 (dk_at dksX7_multiply_4 19 rfl rfl)
theorem dX7_multiply_115 : decode cX7_multiply 115 = .ok (.l2i, 1) := dk_136 (dk_at dksX7_multiply_4 21 rfl rfl)
theorem dX7_multiply_116 : decode cX7_multiply 116 = .ok (.iastore, 1) := dk_79 (dk_at dksX7_multiply_4 22 rfl rfl)
theorem dX7_multiply_117 : decode cX7_multiply 117 = .ok (.lload 4, 2) := dk_22 4 (dk_at dksX7_multiply_5 0 rfl rfl)
theorem dX7_multiply_119 : decode cX7_multiply 119 = .ok (.bipush 32, 2) := dk_16 32 (dk_at dksX7_multiply_5 2 rfl rfl)
theorem dX7_multiply_121 : decode cX7_multiply 121 = .ok (.lushr, 1) := dk_125 (dk_at dksX7_multiply_5 4 rfl rfl)
theorem dX7_multiply_122 : decode cX7_multiply 122 = .ok (.lstore 4, 2) := dk_55 4 (dk_at dksX7_multiply_5 5 rfl rfl)
theorem dX7_multiply_124 : decode cX7_multiply 124 = .ok (.iinc 6 1, 3) := dk_132 6 1 (dk_at dksX7_multiply_5 7 rfl rfl)
theorem dX7_multiply_127 : decode cX7_multiply 127 = .ok (.goto (-75), 3) := dk_167 255 181 (dk_at dksX7_multiply_5 10 rfl rfl)
theorem dX7_multiply_130 : decode cX7_multiply 130 = .ok (.aload_n 0, 1) := dk_42 (dk_at dksX7_multiply_5 13 rfl rfl)
theorem dX7_multiply_131 : decode cX7_multiply 131 = .ok (.getfield 9, 3) := dk_180 0 9 (dk_at dksX7_multiply_5 14 rfl rfl)
theorem dX7_multiply_134 : decode cX7_multiply 134 = .ok (.iload_n 3, 1) := dk_29 (dk_at dksX7_multiply_5 17 rfl rfl)
theorem dX7_multiply_135 : decode cX7_multiply 135 = .ok (.aload_n 2, 1) := dk_44 (dk_at dksX7_multiply_5 18 rfl rfl)
theorem dX7_multiply_136 : decode cX7_multiply 136 = .ok (.getfield 15, 3) := dk_180 0 15 (dk_at dksX7_multiply_5 19 rfl rfl)
theorem dX7_multiply_139 : decode cX7_multiply 139 = .ok (.iadd, 1) := dk_96 (dk_at dksX7_multiply_5 22 rfl rfl)
theorem dX7_multiply_140 : decode cX7_multiply 140 = .ok (.lload 4, 2) := dk_22 4 (dk_at dksX7_multiply_6 0 rfl rfl)
theorem dX7_multiply_142 : decode cX7_multiply 142 = .ok (.l2i, 1) := dk_136 (dk_at dksX7_multiply_6 2 rfl rfl)
theorem dX7_multiply_143 : decode cX7_multiply 143 = .ok (.iastore, 1) := dk_79 (dk_at dksX7_multiply_6 3 rfl rfl)
theorem dX7_multiply_144 : decode cX7_multiply 144 = .ok (.iinc 3 1, 3) := dk_132 3 1 (dk_at dksX7_multiply_6 4 rfl rfl)
theorem dX7_multiply_147 : decode cX7_multiply 147 = .ok (.goto (-109), 3) := dk_167 255 147 (dk_at dksX7_multiply_6 7 rfl rfl)
theorem dX7_multiply_150 : decode cX7_multiply 150 = .ok (.aload_n 0, 1) := dk_42 (dk_at dksX7_multiply_6 10 rfl rfl)
theorem dX7_multiply_151 : decode cX7_multiply 151 = .ok (.invokevirtual 19, 3) := dk_182 0 19 (dk_at dksX7_multiply_6 11 rfl rfl)
theorem dX7_multiply_154 : decode cX7_multiply 154 = .ok (.return_, 1) := dk_177 (dk_at dksX7_multiply_6 14 rfl rfl)
abbrev cX7_add : ByteArray := prog_9_method_13_code
def yX7_add : MethodName := ⟨RX7, "add", "(LNumberModels$Wide;)V"⟩
def dkwX7_add_3 : List UInt8 := [66, 132, 5, 1, 167, 255, 202, 42, 182, 0, 19, 177]
abbrev dktX7_add_3 : List UInt8 := dkwX7_add_3 ++ []
def dkwX7_add_2 : List UInt8 := [21, 5, 33, 136, 79, 42, 42, 180, 0, 15, 21, 5, 4, 96, 184, 0, 43, 181, 0, 15, 33, 16, 32, 125]
abbrev dktX7_add_2 : List UInt8 := dkwX7_add_2 ++ dktX7_add_3
def dkwX7_add_1 : List UInt8 := [162, 0, 54, 33, 42, 21, 5, 182, 0, 48, 43, 21, 5, 182, 0, 48, 97, 97, 66, 42, 180, 0, 9]
abbrev dktX7_add_1 : List UInt8 := dkwX7_add_1 ++ dktX7_add_2
def dkwX7_add_0 : List UInt8 := [42, 180, 0, 15, 43, 180, 0, 15, 184, 0, 43, 4, 96, 61, 9, 66, 3, 54, 5, 21, 5, 28]
abbrev dktX7_add_0 : List UInt8 := dkwX7_add_0 ++ dktX7_add_1
theorem dksX7_add_0 : cX7_add.data.toList.drop 0 = dktX7_add_0 := by decide +kernel
theorem dksX7_add_1 : cX7_add.data.toList.drop 22 = dktX7_add_1 := dk_seg dksX7_add_0 22 rfl rfl
theorem dksX7_add_2 : cX7_add.data.toList.drop 45 = dktX7_add_2 := dk_seg dksX7_add_1 23 rfl rfl
theorem dksX7_add_3 : cX7_add.data.toList.drop 69 = dktX7_add_3 := dk_seg dksX7_add_2 24 rfl rfl
theorem dX7_add_0 : decode cX7_add 0 = .ok (.aload_n 0, 1) := dk_42 (dk_at dksX7_add_0 0 rfl rfl)
theorem dX7_add_1 : decode cX7_add 1 = .ok (.getfield 15, 3) := dk_180 0 15 (dk_at dksX7_add_0 1 rfl rfl)
theorem dX7_add_4 : decode cX7_add 4 = .ok (.aload_n 1, 1) := dk_43 (dk_at dksX7_add_0 4 rfl rfl)
theorem dX7_add_5 : decode cX7_add 5 = .ok (.getfield 15, 3) := dk_180 0 15 (dk_at dksX7_add_0 5 rfl rfl)
theorem dX7_add_8 : decode cX7_add 8 = .ok (.invokestatic 43, 3) := dk_184 0 43 (dk_at dksX7_add_0 8 rfl rfl)
theorem dX7_add_11 : decode cX7_add 11 = .ok (.iconst 1, 1) := dk_4 (dk_at dksX7_add_0 11 rfl rfl)
theorem dX7_add_12 : decode cX7_add 12 = .ok (.iadd, 1) := dk_96 (dk_at dksX7_add_0 12 rfl rfl)
theorem dX7_add_13 : decode cX7_add 13 = .ok (.istore_n 2, 1) := dk_61 (dk_at dksX7_add_0 13 rfl rfl)
theorem dX7_add_14 : decode cX7_add 14 = .ok (.lconst 0, 1) := dk_9 (dk_at dksX7_add_0 14 rfl rfl)
theorem dX7_add_15 : decode cX7_add 15 = .ok (.lstore_n 3, 1) := dk_66 (dk_at dksX7_add_0 15 rfl rfl)
theorem dX7_add_16 : decode cX7_add 16 = .ok (.iconst 0, 1) := dk_3 (dk_at dksX7_add_0 16 rfl rfl)
theorem dX7_add_17 : decode cX7_add 17 = .ok (.istore 5, 2) := dk_54 5 (dk_at dksX7_add_0 17 rfl rfl)
theorem dX7_add_19 : decode cX7_add 19 = .ok (.iload 5, 2) := dk_21 5 (dk_at dksX7_add_0 19 rfl rfl)
theorem dX7_add_21 : decode cX7_add 21 = .ok (.iload_n 2, 1) := dk_28 (dk_at dksX7_add_0 21 rfl rfl)
theorem dX7_add_22 : decode cX7_add 22 = .ok (.if_icmp .ge 54, 3) := dk_162 0 54 (dk_at dksX7_add_1 0 rfl rfl)
theorem dX7_add_25 : decode cX7_add 25 = .ok (.lload_n 3, 1) := dk_33 (dk_at dksX7_add_1 3 rfl rfl)
theorem dX7_add_26 : decode cX7_add 26 = .ok (.aload_n 0, 1) := dk_42 (dk_at dksX7_add_1 4 rfl rfl)
theorem dX7_add_27 : decode cX7_add 27 = .ok (.iload 5, 2) := dk_21 5 (dk_at dksX7_add_1 5 rfl rfl)
theorem dX7_add_29 : decode cX7_add 29 = .ok (.invokevirtual 48, 3) := dk_182 0 48 (dk_at dksX7_add_1 7 rfl rfl)
theorem dX7_add_32 : decode cX7_add 32 = .ok (.aload_n 1, 1) := dk_43 (dk_at dksX7_add_1 10 rfl rfl)
theorem dX7_add_33 : decode cX7_add 33 = .ok (.iload 5, 2) := dk_21 5 (dk_at dksX7_add_1 11 rfl rfl)
theorem dX7_add_35 : decode cX7_add 35 = .ok (.invokevirtual 48, 3) := dk_182 0 48 (dk_at dksX7_add_1 13 rfl rfl)
theorem dX7_add_38 : decode cX7_add 38 = .ok (.ladd, 1) := dk_97 (dk_at dksX7_add_1 16 rfl rfl)
theorem dX7_add_39 : decode cX7_add 39 = .ok (.ladd, 1) := dk_97 (dk_at dksX7_add_1 17 rfl rfl)
theorem dX7_add_40 : decode cX7_add 40 = .ok (.lstore_n 3, 1) := dk_66 (dk_at dksX7_add_1 18 rfl rfl)
theorem dX7_add_41 : decode cX7_add 41 = .ok (.aload_n 0, 1) := dk_42 (dk_at dksX7_add_1 19 rfl rfl)
theorem dX7_add_42 : decode cX7_add 42 = .ok (.getfield 9, 3) := dk_180 0 9 (dk_at dksX7_add_1 20 rfl rfl)
theorem dX7_add_45 : decode cX7_add 45 = .ok (.iload 5, 2) := dk_21 5 (dk_at dksX7_add_2 0 rfl rfl)
theorem dX7_add_47 : decode cX7_add 47 = .ok (.lload_n 3, 1) := dk_33 (dk_at dksX7_add_2 2 rfl rfl)
theorem dX7_add_48 : decode cX7_add 48 = .ok (.l2i, 1) := dk_136 (dk_at dksX7_add_2 3 rfl rfl)
theorem dX7_add_49 : decode cX7_add 49 = .ok (.iastore, 1) := dk_79 (dk_at dksX7_add_2 4 rfl rfl)
theorem dX7_add_50 : decode cX7_add 50 = .ok (.aload_n 0, 1) := dk_42 (dk_at dksX7_add_2 5 rfl rfl)
theorem dX7_add_51 : decode cX7_add 51 = .ok (.aload_n 0, 1) := dk_42 (dk_at dksX7_add_2 6 rfl rfl)
theorem dX7_add_52 : decode cX7_add 52 = .ok (.getfield 15, 3) := dk_180 0 15 (dk_at dksX7_add_2 7 rfl rfl)
theorem dX7_add_55 : decode cX7_add 55 = .ok (.iload 5, 2) := dk_21 5 (dk_at dksX7_add_2 10 rfl rfl)
theorem dX7_add_57 : decode cX7_add 57 = .ok (.iconst 1, 1) := dk_4 (dk_at dksX7_add_2 12 rfl rfl)
theorem dX7_add_58 : decode cX7_add 58 = .ok (.iadd, 1) := dk_96 (dk_at dksX7_add_2 13 rfl rfl)
theorem dX7_add_59 : decode cX7_add 59 = .ok (.invokestatic 43, 3) := dk_184 0 43 (dk_at dksX7_add_2 14 rfl rfl)
theorem dX7_add_62 : decode cX7_add 62 = .ok (.putfield 15, 3) := dk_181 0 15 (dk_at dksX7_add_2 17 rfl rfl)
theorem dX7_add_65 : decode cX7_add 65 = .ok (.lload_n 3, 1) := dk_33 (dk_at dksX7_add_2 20 rfl rfl)
theorem dX7_add_66 : decode cX7_add 66 = .ok (.bipush 32, 2) := dk_16 32 (dk_at dksX7_add_2 21 rfl rfl)
theorem dX7_add_68 : decode cX7_add 68 = .ok (.lushr, 1) := dk_125 (dk_at dksX7_add_2 23 rfl rfl)
theorem dX7_add_69 : decode cX7_add 69 = .ok (.lstore_n 3, 1) := dk_66 (dk_at dksX7_add_3 0 rfl rfl)
theorem dX7_add_70 : decode cX7_add 70 = .ok (.iinc 5 1, 3) := dk_132 5 1 (dk_at dksX7_add_3 1 rfl rfl)
theorem dX7_add_73 : decode cX7_add 73 = .ok (.goto (-54), 3) := dk_167 255 202 (dk_at dksX7_add_3 4 rfl rfl)
theorem dX7_add_76 : decode cX7_add 76 = .ok (.aload_n 0, 1) := dk_42 (dk_at dksX7_add_3 7 rfl rfl)
theorem dX7_add_77 : decode cX7_add 77 = .ok (.invokevirtual 19, 3) := dk_182 0 19 (dk_at dksX7_add_3 8 rfl rfl)
theorem dX7_add_80 : decode cX7_add 80 = .ok (.return_, 1) := dk_177 (dk_at dksX7_add_3 11 rfl rfl)
abbrev cX7_isOne : ByteArray := prog_9_method_8_code
def yX7_isOne : MethodName := ⟨RX7, "isOne", "()Z"⟩
def dkwX7_isOne_0 : List UInt8 := [42, 180, 0, 15, 4, 160, 0, 17, 42, 180, 0, 9, 3, 46, 4, 160, 0, 7, 4, 167, 0, 4, 3, 172]
abbrev dktX7_isOne_0 : List UInt8 := dkwX7_isOne_0 ++ []
theorem dksX7_isOne_0 : cX7_isOne.data.toList.drop 0 = dktX7_isOne_0 := by decide +kernel
theorem dX7_isOne_0 : decode cX7_isOne 0 = .ok (.aload_n 0, 1) := dk_42 (dk_at dksX7_isOne_0 0 rfl rfl)
theorem dX7_isOne_1 : decode cX7_isOne 1 = .ok (.getfield 15, 3) := dk_180 0 15 (dk_at dksX7_isOne_0 1 rfl rfl)
theorem dX7_isOne_4 : decode cX7_isOne 4 = .ok (.iconst 1, 1) := dk_4 (dk_at dksX7_isOne_0 4 rfl rfl)
theorem dX7_isOne_5 : decode cX7_isOne 5 = .ok (.if_icmp .ne 17, 3) := dk_160 0 17 (dk_at dksX7_isOne_0 5 rfl rfl)
theorem dX7_isOne_8 : decode cX7_isOne 8 = .ok (.aload_n 0, 1) := dk_42 (dk_at dksX7_isOne_0 8 rfl rfl)
theorem dX7_isOne_9 : decode cX7_isOne 9 = .ok (.getfield 9, 3) := dk_180 0 9 (dk_at dksX7_isOne_0 9 rfl rfl)
theorem dX7_isOne_12 : decode cX7_isOne 12 = .ok (.iconst 0, 1) := dk_3 (dk_at dksX7_isOne_0 12 rfl rfl)
theorem dX7_isOne_13 : decode cX7_isOne 13 = .ok (.iaload, 1) := dk_46 (dk_at dksX7_isOne_0 13 rfl rfl)
theorem dX7_isOne_14 : decode cX7_isOne 14 = .ok (.iconst 1, 1) := dk_4 (dk_at dksX7_isOne_0 14 rfl rfl)
theorem dX7_isOne_15 : decode cX7_isOne 15 = .ok (.if_icmp .ne 7, 3) := dk_160 0 7 (dk_at dksX7_isOne_0 15 rfl rfl)
theorem dX7_isOne_18 : decode cX7_isOne 18 = .ok (.iconst 1, 1) := dk_4 (dk_at dksX7_isOne_0 18 rfl rfl)
theorem dX7_isOne_19 : decode cX7_isOne 19 = .ok (.goto 4, 3) := dk_167 0 4 (dk_at dksX7_isOne_0 19 rfl rfl)
theorem dX7_isOne_22 : decode cX7_isOne 22 = .ok (.iconst 0, 1) := dk_3 (dk_at dksX7_isOne_0 22 rfl rfl)
theorem dX7_isOne_23 : decode cX7_isOne 23 = .ok (.ireturn, 1) := dk_172 (dk_at dksX7_isOne_0 23 rfl rfl)
theorem q65 : (Jvm.Cond.initialized "NumberModels$Wide") ∈ lw_all := lw_g (lw_at lw_m1 7 rfl) rfl
theorem q130 : (Jvm.Cond.instantiable "NumberModels$Wide" (2 : Nat)) ∈ lw_all := lw_g (lw_at lw_m1 72 rfl) rfl
theorem q132 : (Jvm.Cond.instanceMethod ({ cls := "NumberModels$Wide", name := "<init>", desc := "()V" } : Jvm.MethodName)) ∈ lw_all := lw_g (lw_at lw_m1 74 rfl) rfl
theorem q133 : (Jvm.Cond.code ({ cls := "NumberModels$Wide", name := "<init>", desc := "()V" } : Jvm.MethodName) prog_9_method_1_code (1 : Nat) (Option.none : Option Jvm.ClassFile.FieldType)) ∈ lw_all := lw_g (lw_at lw_m1 75 rfl) rfl
theorem q134 : (Jvm.Cond.methodLink "NumberModels$Wide" (3 : Nat) ({ cls := "java/lang/Object", name := "<init>", desc := "()V" } : Jvm.MethodName)) ∈ lw_all := lw_g (lw_at lw_m1 76 rfl) rfl
theorem q135 : (Jvm.Cond.fieldLink "NumberModels$Wide" (9 : Nat) "NumberModels$Wide" "word" "[I") ∈ lw_all := lw_g (lw_at lw_m1 77 rfl) rfl
theorem q137 : (Jvm.Cond.fieldLink "NumberModels$Wide" (15 : Nat) "NumberModels$Wide" "size" "I") ∈ lw_all := lw_g (lw_at lw_m1 79 rfl) rfl
theorem q139 : (Jvm.Cond.laysFinal "NumberModels$Wide" "NumberModels$Wide" "word" "[I") ∈ lw_all := lw_g (lw_at lw_m1 81 rfl) rfl
theorem q140 : (Jvm.Cond.soleField "NumberModels$Wide" "word") ∈ lw_all := lw_g (lw_at lw_m1 82 rfl) rfl
theorem q141 : (Jvm.Cond.lays "NumberModels$Wide" "NumberModels$Wide" "size" "I") ∈ lw_all := lw_g (lw_at lw_m1 83 rfl) rfl
theorem q142 : (Jvm.Cond.soleField "NumberModels$Wide" "size") ∈ lw_all := lw_g (lw_at lw_m1 84 rfl) rfl
theorem q143 : (Jvm.Cond.superclass "NumberModels$Wide" "java/lang/Object") ∈ lw_all := lw_g (lw_at lw_m1 85 rfl) rfl
theorem q218 : (Jvm.Cond.instanceMethod ({ cls := "NumberModels$Wide", name := "set", desc := "(J)LNumberModels$Wide;" } : Jvm.MethodName)) ∈ lw_all := lw_g (lw_at lw_m1 160 rfl) rfl
theorem q219 : (Jvm.Cond.selects "NumberModels$Wide" ({ cls := "NumberModels$Wide", name := "set", desc := "(J)LNumberModels$Wide;" } : Jvm.MethodName) ({ cls := "NumberModels$Wide", name := "set", desc := "(J)LNumberModels$Wide;" } : Jvm.MethodName)) ∈ lw_all := lw_g (lw_at lw_m1 161 rfl) rfl
theorem q220 : (Jvm.Cond.code ({ cls := "NumberModels$Wide", name := "set", desc := "(J)LNumberModels$Wide;" } : Jvm.MethodName) prog_9_method_3_code (3 : Nat) (Option.some (Jvm.ClassFile.FieldType.object "NumberModels$Wide"))) ∈ lw_all := lw_g (lw_at lw_m1 162 rfl) rfl
theorem q221 : (Jvm.Cond.methodLink "NumberModels$Wide" (19 : Nat) ({ cls := "NumberModels$Wide", name := "trim", desc := "()V" } : Jvm.MethodName)) ∈ lw_all := lw_g (lw_at lw_m1 163 rfl) rfl
theorem q222 : (Jvm.Cond.instanceMethod ({ cls := "NumberModels$Wide", name := "trim", desc := "()V" } : Jvm.MethodName)) ∈ lw_all := lw_g (lw_at lw_m1 164 rfl) rfl
theorem q223 : (Jvm.Cond.selects "NumberModels$Wide" ({ cls := "NumberModels$Wide", name := "trim", desc := "()V" } : Jvm.MethodName) ({ cls := "NumberModels$Wide", name := "trim", desc := "()V" } : Jvm.MethodName)) ∈ lw_all := lw_g (lw_at lw_m1 165 rfl) rfl
theorem q224 : (Jvm.Cond.code ({ cls := "NumberModels$Wide", name := "trim", desc := "()V" } : Jvm.MethodName) prog_9_method_2_code (1 : Nat) (Option.none : Option Jvm.ClassFile.FieldType)) ∈ lw_all := lw_g (lw_at lw_m1 166 rfl) rfl
theorem q327 : (Jvm.Cond.instanceMethod ({ cls := "NumberModels$Wide", name := "isZero", desc := "()Z" } : Jvm.MethodName)) ∈ lw_all := lw_g (lw_at lw_m2 29 rfl) rfl
theorem q328 : (Jvm.Cond.selects "NumberModels$Wide" ({ cls := "NumberModels$Wide", name := "isZero", desc := "()Z" } : Jvm.MethodName) ({ cls := "NumberModels$Wide", name := "isZero", desc := "()Z" } : Jvm.MethodName)) ∈ lw_all := lw_g (lw_at lw_m2 30 rfl) rfl
theorem q329 : (Jvm.Cond.code ({ cls := "NumberModels$Wide", name := "isZero", desc := "()Z" } : Jvm.MethodName) prog_9_method_6_code (1 : Nat) (Option.some Jvm.ClassFile.FieldType.boolean)) ∈ lw_all := lw_g (lw_at lw_m2 31 rfl) rfl
theorem q335 : (Jvm.Cond.instanceMethod ({ cls := "NumberModels$Wide", name := "set", desc := "(LNumberModels$Wide;)LNumberModels$Wide;" } : Jvm.MethodName)) ∈ lw_all := lw_g (lw_at lw_m2 37 rfl) rfl
theorem q336 : (Jvm.Cond.selects "NumberModels$Wide" ({ cls := "NumberModels$Wide", name := "set", desc := "(LNumberModels$Wide;)LNumberModels$Wide;" } : Jvm.MethodName) ({ cls := "NumberModels$Wide", name := "set", desc := "(LNumberModels$Wide;)LNumberModels$Wide;" } : Jvm.MethodName)) ∈ lw_all := lw_g (lw_at lw_m2 38 rfl) rfl
theorem q337 : (Jvm.Cond.code ({ cls := "NumberModels$Wide", name := "set", desc := "(LNumberModels$Wide;)LNumberModels$Wide;" } : Jvm.MethodName) prog_9_method_4_code (2 : Nat) (Option.some (Jvm.ClassFile.FieldType.object "NumberModels$Wide"))) ∈ lw_all := lw_g (lw_at lw_m2 39 rfl) rfl
theorem q338 : (Jvm.Cond.methodLink "NumberModels$Wide" (22 : Nat) ({ cls := "java/lang/System", name := "arraycopy", desc := "(Ljava/lang/Object;ILjava/lang/Object;II)V" } : Jvm.MethodName)) ∈ lw_all := lw_g (lw_at lw_m2 40 rfl) rfl
theorem q342 : (Jvm.Cond.instanceMethod ({ cls := "NumberModels$Wide", name := "zeros", desc := "()I" } : Jvm.MethodName)) ∈ lw_all := lw_g (lw_at lw_m2 44 rfl) rfl
theorem q343 : (Jvm.Cond.selects "NumberModels$Wide" ({ cls := "NumberModels$Wide", name := "zeros", desc := "()I" } : Jvm.MethodName) ({ cls := "NumberModels$Wide", name := "zeros", desc := "()I" } : Jvm.MethodName)) ∈ lw_all := lw_g (lw_at lw_m2 45 rfl) rfl
theorem q344 : (Jvm.Cond.code ({ cls := "NumberModels$Wide", name := "zeros", desc := "()I" } : Jvm.MethodName) prog_9_method_10_code (2 : Nat) (Option.some Jvm.ClassFile.FieldType.int)) ∈ lw_all := lw_g (lw_at lw_m2 46 rfl) rfl
theorem q345 : (Jvm.Cond.methodLink "NumberModels$Wide" (34 : Nat) ({ cls := "java/lang/Intege\x72", name := "numberOfTrailingZeros", desc := "(I)I" } : Jvm.MethodName)) ∈ lw_all := lw_g (lw_at lw_m2 47 rfl) rfl
theorem q353 : (Jvm.Cond.instanceMethod ({ cls := "NumberModels$Wide", name := "down", desc := "(I)V" } : Jvm.MethodName)) ∈ lw_all := lw_g (lw_at lw_m2 55 rfl) rfl
theorem q354 : (Jvm.Cond.selects "NumberModels$Wide" ({ cls := "NumberModels$Wide", name := "down", desc := "(I)V" } : Jvm.MethodName) ({ cls := "NumberModels$Wide", name := "down", desc := "(I)V" } : Jvm.MethodName)) ∈ lw_all := lw_g (lw_at lw_m2 56 rfl) rfl
theorem q355 : (Jvm.Cond.code ({ cls := "NumberModels$Wide", name := "down", desc := "(I)V" } : Jvm.MethodName) prog_9_method_17_code (6 : Nat) (Option.none : Option Jvm.ClassFile.FieldType)) ∈ lw_all := lw_g (lw_at lw_m2 57 rfl) rfl
theorem q356 : (Jvm.Cond.methodLink "NumberModels$Wide" (48 : Nat) ({ cls := "NumberModels$Wide", name := "at", desc := "(I)J" } : Jvm.MethodName)) ∈ lw_all := lw_g (lw_at lw_m2 58 rfl) rfl
theorem q357 : (Jvm.Cond.privateMethod ({ cls := "NumberModels$Wide", name := "at", desc := "(I)J" } : Jvm.MethodName)) ∈ lw_tbl := lw_at lw_m2 59 rfl
theorem q358 : (Jvm.Cond.instanceMethod ({ cls := "NumberModels$Wide", name := "at", desc := "(I)J" } : Jvm.MethodName)) ∈ lw_all := lw_g (lw_at lw_m2 60 rfl) rfl
theorem q359 : (Jvm.Cond.code ({ cls := "NumberModels$Wide", name := "at", desc := "(I)J" } : Jvm.MethodName) prog_9_method_12_code (2 : Nat) (Option.some Jvm.ClassFile.FieldType.long)) ∈ lw_all := lw_g (lw_at lw_m2 61 rfl) rfl
theorem q360 : (Jvm.Cond.constantLong "NumberModels$Wide" (41 : Nat) (4294967295 : Int64)) ∈ lw_all := lw_g (lw_at lw_m2 62 rfl) rfl
theorem q361 : (Jvm.Cond.methodLink "NumberModels$Wide" (43 : Nat) ({ cls := "java/lang/Math", name := "max", desc := "(II)I" } : Jvm.MethodName)) ∈ lw_all := lw_g (lw_at lw_m2 63 rfl) rfl
theorem q365 : (Jvm.Cond.instanceMethod ({ cls := "NumberModels$Wide", name := "compare", desc := "(LNumberModels$Wide;)I" } : Jvm.MethodName)) ∈ lw_all := lw_g (lw_at lw_m2 67 rfl) rfl
theorem q366 : (Jvm.Cond.selects "NumberModels$Wide" ({ cls := "NumberModels$Wide", name := "compare", desc := "(LNumberModels$Wide;)I" } : Jvm.MethodName) ({ cls := "NumberModels$Wide", name := "compare", desc := "(LNumberModels$Wide;)I" } : Jvm.MethodName)) ∈ lw_all := lw_g (lw_at lw_m2 68 rfl) rfl
theorem q367 : (Jvm.Cond.code ({ cls := "NumberModels$Wide", name := "compare", desc := "(LNumberModels$Wide;)I" } : Jvm.MethodName) prog_9_method_11_code (3 : Nat) (Option.some Jvm.ClassFile.FieldType.int)) ∈ lw_all := lw_g (lw_at lw_m2 69 rfl) rfl
theorem q368 : (Jvm.Cond.methodLink "NumberModels$Wide" (37 : Nat) ({ cls := "java/lang/Intege\x72", name := "compareUnsigned", desc := "(II)I" } : Jvm.MethodName)) ∈ lw_all := lw_g (lw_at lw_m2 70 rfl) rfl
theorem q376 : (Jvm.Cond.instanceMethod ({ cls := "NumberModels$Wide", name := "subtract", desc := "(LNumberModels$Wide;)V" } : Jvm.MethodName)) ∈ lw_all := lw_g (lw_at lw_m2 78 rfl) rfl
theorem q377 : (Jvm.Cond.selects "NumberModels$Wide" ({ cls := "NumberModels$Wide", name := "subtract", desc := "(LNumberModels$Wide;)V" } : Jvm.MethodName) ({ cls := "NumberModels$Wide", name := "subtract", desc := "(LNumberModels$Wide;)V" } : Jvm.MethodName)) ∈ lw_all := lw_g (lw_at lw_m2 79 rfl) rfl
theorem q378 : (Jvm.Cond.code ({ cls := "NumberModels$Wide", name := "subtract", desc := "(LNumberModels$Wide;)V" } : Jvm.MethodName) prog_9_method_14_code (5 : Nat) (Option.none : Option Jvm.ClassFile.FieldType)) ∈ lw_all := lw_g (lw_at lw_m2 80 rfl) rfl
theorem q380 : (Jvm.Cond.instanceMethod ({ cls := "NumberModels$Wide", name := "up", desc := "(I)V" } : Jvm.MethodName)) ∈ lw_all := lw_g (lw_at lw_m2 82 rfl) rfl
theorem q381 : (Jvm.Cond.selects "NumberModels$Wide" ({ cls := "NumberModels$Wide", name := "up", desc := "(I)V" } : Jvm.MethodName) ({ cls := "NumberModels$Wide", name := "up", desc := "(I)V" } : Jvm.MethodName)) ∈ lw_all := lw_g (lw_at lw_m2 83 rfl) rfl
theorem q382 : (Jvm.Cond.code ({ cls := "NumberModels$Wide", name := "up", desc := "(I)V" } : Jvm.MethodName) prog_9_method_16_code (7 : Nat) (Option.none : Option Jvm.ClassFile.FieldType)) ∈ lw_all := lw_g (lw_at lw_m2 84 rfl) rfl
theorem q384 : (Jvm.Cond.instanceMethod ({ cls := "NumberModels$Wide", name := "divide", desc := "(LNumberModels$Wide;LNumberModels$Wide;LNumberModels$Wide;)V" } : Jvm.MethodName)) ∈ lw_all := lw_g (lw_at lw_m2 86 rfl) rfl
theorem q385 : (Jvm.Cond.selects "NumberModels$Wide" ({ cls := "NumberModels$Wide", name := "divide", desc := "(LNumberModels$Wide;LNumberModels$Wide;LNumberModels$Wide;)V" } : Jvm.MethodName) ({ cls := "NumberModels$Wide", name := "divide", desc := "(LNumberModels$Wide;LNumberModels$Wide;LNumberModels$Wide;)V" } : Jvm.MethodName)) ∈ lw_all := lw_g (lw_at lw_m2 87 rfl) rfl
theorem q386 : (Jvm.Cond.code ({ cls := "NumberModels$Wide", name := "divide", desc := "(LNumberModels$Wide;LNumberModels$Wide;LNumberModels$Wide;)V" } : Jvm.MethodName) prog_9_method_18_code (6 : Nat) (Option.none : Option Jvm.ClassFile.FieldType)) ∈ lw_all := lw_g (lw_at lw_m2 88 rfl) rfl
theorem q387 : (Jvm.Cond.methodLink "NumberModels$Wide" (52 : Nat) ({ cls := "NumberModels$Wide", name := "bits", desc := "()I" } : Jvm.MethodName)) ∈ lw_all := lw_g (lw_at lw_m2 89 rfl) rfl
theorem q388 : (Jvm.Cond.instanceMethod ({ cls := "NumberModels$Wide", name := "bits", desc := "()I" } : Jvm.MethodName)) ∈ lw_all := lw_g (lw_at lw_m2 90 rfl) rfl
theorem q389 : (Jvm.Cond.selects "NumberModels$Wide" ({ cls := "NumberModels$Wide", name := "bits", desc := "()I" } : Jvm.MethodName) ({ cls := "NumberModels$Wide", name := "bits", desc := "()I" } : Jvm.MethodName)) ∈ lw_all := lw_g (lw_at lw_m2 91 rfl) rfl
theorem q390 : (Jvm.Cond.code ({ cls := "NumberModels$Wide", name := "bits", desc := "()I" } : Jvm.MethodName) prog_9_method_9_code (1 : Nat) (Option.some Jvm.ClassFile.FieldType.int)) ∈ lw_all := lw_g (lw_at lw_m2 92 rfl) rfl
theorem q391 : (Jvm.Cond.methodLink "NumberModels$Wide" (28 : Nat) ({ cls := "java/lang/Intege\x72", name := "numberOfLeadingZeros", desc := "(I)I" } : Jvm.MethodName)) ∈ lw_all := lw_g (lw_at lw_m2 93 rfl) rfl
theorem q394 : (Jvm.Cond.methodLink "NumberModels$Wide" (56 : Nat) ({ cls := "NumberModels$Wide", name := "set", desc := "(LNumberModels$Wide;)LNumberModels$Wide;" } : Jvm.MethodName)) ∈ lw_all := lw_g (lw_at lw_m2 96 rfl) rfl
theorem q395 : (Jvm.Cond.methodLink "NumberModels$Wide" (60 : Nat) ({ cls := "NumberModels$Wide", name := "up", desc := "(I)V" } : Jvm.MethodName)) ∈ lw_all := lw_g (lw_at lw_m2 97 rfl) rfl
theorem q396 : (Jvm.Cond.methodLink "NumberModels$Wide" (64 : Nat) ({ cls := "NumberModels$Wide", name := "compare", desc := "(LNumberModels$Wide;)I" } : Jvm.MethodName)) ∈ lw_all := lw_g (lw_at lw_m2 98 rfl) rfl
theorem q397 : (Jvm.Cond.methodLink "NumberModels$Wide" (68 : Nat) ({ cls := "NumberModels$Wide", name := "subtract", desc := "(LNumberModels$Wide;)V" } : Jvm.MethodName)) ∈ lw_all := lw_g (lw_at lw_m2 99 rfl) rfl
theorem q398 : (Jvm.Cond.methodLink "NumberModels$Wide" (72 : Nat) ({ cls := "NumberModels$Wide", name := "down", desc := "(I)V" } : Jvm.MethodName)) ∈ lw_all := lw_g (lw_at lw_m2 100 rfl) rfl
theorem q406 : (Jvm.Cond.instanceMethod ({ cls := "NumberModels$Wide", name := "low", desc := "()J" } : Jvm.MethodName)) ∈ lw_all := lw_g (lw_at lw_m2 108 rfl) rfl
theorem q407 : (Jvm.Cond.selects "NumberModels$Wide" ({ cls := "NumberModels$Wide", name := "low", desc := "()J" } : Jvm.MethodName) ({ cls := "NumberModels$Wide", name := "low", desc := "()J" } : Jvm.MethodName)) ∈ lw_all := lw_g (lw_at lw_m2 109 rfl) rfl
theorem q408 : (Jvm.Cond.code ({ cls := "NumberModels$Wide", name := "low", desc := "()J" } : Jvm.MethodName) prog_9_method_19_code (1 : Nat) (Option.some Jvm.ClassFile.FieldType.long)) ∈ lw_all := lw_g (lw_at lw_m2 110 rfl) rfl
theorem q616 : (Jvm.Cond.instanceMethod ({ cls := "NumberModels$Wide", name := "set", desc := "([I)LNumberModels$Wide;" } : Jvm.MethodName)) ∈ lw_all := lw_g (lw_at lw_m3 78 rfl) rfl
theorem q617 : (Jvm.Cond.selects "NumberModels$Wide" ({ cls := "NumberModels$Wide", name := "set", desc := "([I)LNumberModels$Wide;" } : Jvm.MethodName) ({ cls := "NumberModels$Wide", name := "set", desc := "([I)LNumberModels$Wide;" } : Jvm.MethodName)) ∈ lw_all := lw_g (lw_at lw_m3 79 rfl) rfl
theorem q618 : (Jvm.Cond.code ({ cls := "NumberModels$Wide", name := "set", desc := "([I)LNumberModels$Wide;" } : Jvm.MethodName) prog_9_method_5_code (2 : Nat) (Option.some (Jvm.ClassFile.FieldType.object "NumberModels$Wide"))) ∈ lw_all := lw_g (lw_at lw_m3 80 rfl) rfl
theorem q624 : (Jvm.Cond.instanceMethod ({ cls := "NumberModels$Wide", name := "multiply", desc := "(LNumberModels$Wide;LNumberModels$Wide;)V" } : Jvm.MethodName)) ∈ lw_all := lw_g (lw_at lw_m3 86 rfl) rfl
theorem q625 : (Jvm.Cond.selects "NumberModels$Wide" ({ cls := "NumberModels$Wide", name := "multiply", desc := "(LNumberModels$Wide;LNumberModels$Wide;)V" } : Jvm.MethodName) ({ cls := "NumberModels$Wide", name := "multiply", desc := "(LNumberModels$Wide;LNumberModels$Wide;)V" } : Jvm.MethodName)) ∈ lw_all := lw_g (lw_at lw_m3 87 rfl) rfl
theorem q626 : (Jvm.Cond.code ({ cls := "NumberModels$Wide", name := "multiply", desc := "(LNumberModels$Wide;LNumberModels$Wide;)V" } : Jvm.MethodName) prog_9_method_15_code (7 : Nat) (Option.none : Option Jvm.ClassFile.FieldType)) ∈ lw_all := lw_g (lw_at lw_m3 88 rfl) rfl
theorem q628 : (Jvm.Cond.instanceMethod ({ cls := "NumberModels$Wide", name := "add", desc := "(LNumberModels$Wide;)V" } : Jvm.MethodName)) ∈ lw_all := lw_g (lw_at lw_m3 90 rfl) rfl
theorem q629 : (Jvm.Cond.selects "NumberModels$Wide" ({ cls := "NumberModels$Wide", name := "add", desc := "(LNumberModels$Wide;)V" } : Jvm.MethodName) ({ cls := "NumberModels$Wide", name := "add", desc := "(LNumberModels$Wide;)V" } : Jvm.MethodName)) ∈ lw_all := lw_g (lw_at lw_m3 91 rfl) rfl
theorem q630 : (Jvm.Cond.code ({ cls := "NumberModels$Wide", name := "add", desc := "(LNumberModels$Wide;)V" } : Jvm.MethodName) prog_9_method_13_code (6 : Nat) (Option.none : Option Jvm.ClassFile.FieldType)) ∈ lw_all := lw_g (lw_at lw_m3 92 rfl) rfl
theorem q649 : (Jvm.Cond.instanceMethod ({ cls := "NumberModels$Wide", name := "isOne", desc := "()Z" } : Jvm.MethodName)) ∈ lw_all := lw_g (lw_at lw_m3 111 rfl) rfl
theorem q650 : (Jvm.Cond.selects "NumberModels$Wide" ({ cls := "NumberModels$Wide", name := "isOne", desc := "()Z" } : Jvm.MethodName) ({ cls := "NumberModels$Wide", name := "isOne", desc := "()Z" } : Jvm.MethodName)) ∈ lw_all := lw_g (lw_at lw_m3 112 rfl) rfl
theorem q651 : (Jvm.Cond.code ({ cls := "NumberModels$Wide", name := "isOne", desc := "()Z" } : Jvm.MethodName) prog_9_method_8_code (1 : Nat) (Option.some Jvm.ClassFile.FieldType.boolean)) ∈ lw_all := lw_g (lw_at lw_m3 113 rfl) rfl
theorem in_X7 : ∀ w ∈ wsX70, w ∈ lw_all := lw_in wsX70 [139, 141] (by decide +kernel) (by decide +kernel)
/-! NumberModels$Item -/
set_option maxRecDepth 100000
def RX9 : String := "NumberModels$Item"
def TX9 : u_T := fun k => match k with
  | 0 => ("NumberModels$Item", "sign", "I", true)
  | _ => ("NumberModels$Item", "form", "Ljava/lang/Object;", true)
def tyX9 : Nat → FieldType := fun k => match k with
  | 0 => .int
  | _ => .object "java/lang/Object"
abbrev wsX90 : List Cond := u_ws RX9 TX9 2
theorem nmX9 : ∀ a, a < 2 → ∀ b, b < 2 → a ≠ b → (TX9 a).2.1 ≠ (TX9 b).2.1 := by decide +kernel
theorem tyX9_ok : ∀ k, k < 2 → parseFieldDescriptor (TX9 k).2.2.1 = some (tyX9 k) := by decide +kernel
abbrev cX9_init : ByteArray := prog_4_method_1_code
def yX9_init : MethodName := ⟨RX9, "<init>", "(ILjava/lang/Object;)V"⟩
def dkwX9_init_0 : List UInt8 := [42, 183, 0, 3, 42, 27, 181, 0, 9, 42, 44, 181, 0, 15, 177]
abbrev dktX9_init_0 : List UInt8 := dkwX9_init_0 ++ []
theorem dksX9_init_0 : cX9_init.data.toList.drop 0 = dktX9_init_0 := by decide +kernel
theorem dX9_init_0 : decode cX9_init 0 = .ok (.aload_n 0, 1) := dk_42 (dk_at dksX9_init_0 0 rfl rfl)
theorem dX9_init_1 : decode cX9_init 1 = .ok (.invokespecial 3, 3) := dk_183 0 3 (dk_at dksX9_init_0 1 rfl rfl)
theorem dX9_init_4 : decode cX9_init 4 = .ok (.aload_n 0, 1) := dk_42 (dk_at dksX9_init_0 4 rfl rfl)
theorem dX9_init_5 : decode cX9_init 5 = .ok (.iload_n 1, 1) := dk_27 (dk_at dksX9_init_0 5 rfl rfl)
theorem dX9_init_6 : decode cX9_init 6 = .ok (.putfield 9, 3) := dk_181 0 9 (dk_at dksX9_init_0 6 rfl rfl)
theorem dX9_init_9 : decode cX9_init 9 = .ok (.aload_n 0, 1) := dk_42 (dk_at dksX9_init_0 9 rfl rfl)
theorem dX9_init_10 : decode cX9_init 10 = .ok (.aload_n 2, 1) := dk_44 (dk_at dksX9_init_0 10 rfl rfl)
theorem dX9_init_11 : decode cX9_init 11 = .ok (.putfield 15, 3) := dk_181 0 15 (dk_at dksX9_init_0 11 rfl rfl)
theorem dX9_init_14 : decode cX9_init 14 = .ok (.return_, 1) := dk_177 (dk_at dksX9_init_0 14 rfl rfl)
abbrev cX9_isWhole : ByteArray := prog_4_method_3_code
def yX9_isWhole : MethodName := ⟨RX9, "isWhole", "()Z"⟩
def dkwX9_isWhole_3 : List UInt8 := [167, 0, 4, 3, 61, 132, 3, 1, 167, 255, 231, 28, 172]
abbrev dktX9_isWhole_3 : List UInt8 := dkwX9_isWhole_3 ++ []
def dkwX9_isWhole_2 : List UInt8 := [167, 0, 4, 3, 61, 4, 62, 29, 16, 8, 162, 0, 25, 28, 153, 0, 13, 43, 29, 46, 154, 0, 7, 4]
abbrev dktX9_isWhole_2 : List UInt8 := dkwX9_isWhole_2 ++ dktX9_isWhole_3
def dkwX9_isWhole_1 : List UInt8 := [4, 167, 0, 4, 3, 172, 42, 180, 0, 15, 192, 0, 29, 4, 50, 76, 43, 3, 46, 4, 160, 0, 7, 4]
abbrev dktX9_isWhole_1 : List UInt8 := dkwX9_isWhole_1 ++ dktX9_isWhole_2
def dkwX9_isWhole_0 : List UInt8 := [42, 180, 0, 15, 193, 0, 19, 153, 0, 23, 42, 180, 0, 15, 192, 0, 19, 4, 47, 10, 148, 154, 0, 7]
abbrev dktX9_isWhole_0 : List UInt8 := dkwX9_isWhole_0 ++ dktX9_isWhole_1
theorem dksX9_isWhole_0 : cX9_isWhole.data.toList.drop 0 = dktX9_isWhole_0 := by decide +kernel
theorem dksX9_isWhole_1 : cX9_isWhole.data.toList.drop 24 = dktX9_isWhole_1 := dk_seg dksX9_isWhole_0 24 rfl rfl
theorem dksX9_isWhole_2 : cX9_isWhole.data.toList.drop 48 = dktX9_isWhole_2 := dk_seg dksX9_isWhole_1 24 rfl rfl
theorem dksX9_isWhole_3 : cX9_isWhole.data.toList.drop 72 = dktX9_isWhole_3 := dk_seg dksX9_isWhole_2 24 rfl rfl
theorem dX9_isWhole_0 : decode cX9_isWhole 0 = .ok (.aload_n 0, 1) := dk_42 (dk_at dksX9_isWhole_0 0 rfl rfl)
theorem dX9_isWhole_1 : decode cX9_isWhole 1 = .ok (.getfield 15, 3) := dk_180 0 15 (dk_at dksX9_isWhole_0 1 rfl rfl)
theorem dX9_isWhole_4 : decode cX9_isWhole 4 = .ok (.instanceof 19, 3) := dk_193 0 19 (dk_at dksX9_isWhole_0 4 rfl rfl)
theorem dX9_isWhole_7 : decode cX9_isWhole 7 = .ok (.ifCond .eq 23, 3) := dk_153 0 23 (dk_at dksX9_isWhole_0 7 rfl rfl)
theorem dX9_isWhole_10 : decode cX9_isWhole 10 = .ok (.aload_n 0, 1) := dk_42 (dk_at dksX9_isWhole_0 10 rfl rfl)
theorem dX9_isWhole_11 : decode cX9_isWhole 11 = .ok (.getfield 15, 3) := dk_180 0 15 (dk_at dksX9_isWhole_0 11 rfl rfl)
theorem dX9_isWhole_14 : decode cX9_isWhole 14 = .ok (.checkcast 19, 3) := dk_192 0 19 (dk_at dksX9_isWhole_0 14 rfl rfl)
theorem dX9_isWhole_17 : decode cX9_isWhole 17 = .ok (.iconst 1, 1) := dk_4 (dk_at dksX9_isWhole_0 17 rfl rfl)
theorem dX9_isWhole_18 : decode cX9_isWhole 18 = .ok (.laload, 1) := dk_47 (dk_at dksX9_isWhole_0 18 rfl rfl)
theorem dX9_isWhole_19 : decode cX9_isWhole 19 = .ok (.lconst 1, 1) := dk_10 (dk_at dksX9_isWhole_0 19 rfl rfl)
theorem dX9_isWhole_20 : decode cX9_isWhole 20 = .ok (.lcmp, 1) := dk_148 (dk_at dksX9_isWhole_0 20 rfl rfl)
theorem dX9_isWhole_21 : decode cX9_isWhole 21 = .ok (.ifCond .ne 7, 3) := dk_154 0 7 (dk_at dksX9_isWhole_0 21 rfl rfl)
theorem dX9_isWhole_24 : decode cX9_isWhole 24 = .ok (.iconst 1, 1) := dk_4 (dk_at dksX9_isWhole_1 0 rfl rfl)
theorem dX9_isWhole_25 : decode cX9_isWhole 25 = .ok (.goto 4, 3) := dk_167 0 4 (dk_at dksX9_isWhole_1 1 rfl rfl)
theorem dX9_isWhole_28 : decode cX9_isWhole 28 = .ok (.iconst 0, 1) := dk_3 (dk_at dksX9_isWhole_1 4 rfl rfl)
theorem dX9_isWhole_29 : decode cX9_isWhole 29 = .ok (.ireturn, 1) := dk_172 (dk_at dksX9_isWhole_1 5 rfl rfl)
theorem dX9_isWhole_30 : decode cX9_isWhole 30 = .ok (.aload_n 0, 1) := dk_42 (dk_at dksX9_isWhole_1 6 rfl rfl)
theorem dX9_isWhole_31 : decode cX9_isWhole 31 = .ok (.getfield 15, 3) := dk_180 0 15 (dk_at dksX9_isWhole_1 7 rfl rfl)
theorem dX9_isWhole_34 : decode cX9_isWhole 34 = .ok (.checkcast 29, 3) := dk_192 0 29 (dk_at dksX9_isWhole_1 10 rfl rfl)
theorem dX9_isWhole_37 : decode cX9_isWhole 37 = .ok (.iconst 1, 1) := dk_4 (dk_at dksX9_isWhole_1 13 rfl rfl)
theorem dX9_isWhole_38 : decode cX9_isWhole 38 = .ok (.aaload, 1) := dk_50 (dk_at dksX9_isWhole_1 14 rfl rfl)
theorem dX9_isWhole_39 : decode cX9_isWhole 39 = .ok (.astore_n 1, 1) := dk_76 (dk_at dksX9_isWhole_1 15 rfl rfl)
theorem dX9_isWhole_40 : decode cX9_isWhole 40 = .ok (.aload_n 1, 1) := dk_43 (dk_at dksX9_isWhole_1 16 rfl rfl)
theorem dX9_isWhole_41 : decode cX9_isWhole 41 = .ok (.iconst 0, 1) := dk_3 (dk_at dksX9_isWhole_1 17 rfl rfl)
theorem dX9_isWhole_42 : decode cX9_isWhole 42 = .ok (.iaload, 1) := dk_46 (dk_at dksX9_isWhole_1 18 rfl rfl)
theorem dX9_isWhole_43 : decode cX9_isWhole 43 = .ok (.iconst 1, 1) := dk_4 (dk_at dksX9_isWhole_1 19 rfl rfl)
theorem dX9_isWhole_44 : decode cX9_isWhole 44 = .ok (.if_icmp .ne 7, 3) := dk_160 0 7 (dk_at dksX9_isWhole_1 20 rfl rfl)
theorem dX9_isWhole_47 : decode cX9_isWhole 47 = .ok (.iconst 1, 1) := dk_4 (dk_at dksX9_isWhole_1 23 rfl rfl)
theorem dX9_isWhole_48 : decode cX9_isWhole 48 = .ok (.goto 4, 3) := dk_167 0 4 (dk_at dksX9_isWhole_2 0 rfl rfl)
theorem dX9_isWhole_51 : decode cX9_isWhole 51 = .ok (.iconst 0, 1) := dk_3 (dk_at dksX9_isWhole_2 3 rfl rfl)
theorem dX9_isWhole_52 : decode cX9_isWhole 52 = .ok (.istore_n 2, 1) := dk_61 (dk_at dksX9_isWhole_2 4 rfl rfl)
theorem dX9_isWhole_53 : decode cX9_isWhole 53 = .ok (.iconst 1, 1) := dk_4 (dk_at dksX9_isWhole_2 5 rfl rfl)
theorem dX9_isWhole_54 : decode cX9_isWhole 54 = .ok (.istore_n 3, 1) := dk_62 (dk_at dksX9_isWhole_2 6 rfl rfl)
theorem dX9_isWhole_55 : decode cX9_isWhole 55 = .ok (.iload_n 3, 1) := dk_29 (dk_at dksX9_isWhole_2 7 rfl rfl)
theorem dX9_isWhole_56 : decode cX9_isWhole 56 = .ok (.bipush 8, 2) := dk_16 8 (dk_at dksX9_isWhole_2 8 rfl rfl)
theorem dX9_isWhole_58 : decode cX9_isWhole 58 = .ok (.if_icmp .ge 25, 3) := dk_162 0 25 (dk_at dksX9_isWhole_2 10 rfl rfl)
theorem dX9_isWhole_61 : decode cX9_isWhole 61 = .ok (.iload_n 2, 1) := dk_28 (dk_at dksX9_isWhole_2 13 rfl rfl)
theorem dX9_isWhole_62 : decode cX9_isWhole 62 = .ok (.ifCond .eq 13, 3) := dk_153 0 13 (dk_at dksX9_isWhole_2 14 rfl rfl)
theorem dX9_isWhole_65 : decode cX9_isWhole 65 = .ok (.aload_n 1, 1) := dk_43 (dk_at dksX9_isWhole_2 17 rfl rfl)
theorem dX9_isWhole_66 : decode cX9_isWhole 66 = .ok (.iload_n 3, 1) := dk_29 (dk_at dksX9_isWhole_2 18 rfl rfl)
theorem dX9_isWhole_67 : decode cX9_isWhole 67 = .ok (.iaload, 1) := dk_46 (dk_at dksX9_isWhole_2 19 rfl rfl)
theorem dX9_isWhole_68 : decode cX9_isWhole 68 = .ok (.ifCond .ne 7, 3) := dk_154 0 7 (dk_at dksX9_isWhole_2 20 rfl rfl)
theorem dX9_isWhole_71 : decode cX9_isWhole 71 = .ok (.iconst 1, 1) := dk_4 (dk_at dksX9_isWhole_2 23 rfl rfl)
theorem dX9_isWhole_72 : decode cX9_isWhole 72 = .ok (.goto 4, 3) := dk_167 0 4 (dk_at dksX9_isWhole_3 0 rfl rfl)
theorem dX9_isWhole_75 : decode cX9_isWhole 75 = .ok (.iconst 0, 1) := dk_3 (dk_at dksX9_isWhole_3 3 rfl rfl)
theorem dX9_isWhole_76 : decode cX9_isWhole 76 = .ok (.istore_n 2, 1) := dk_61 (dk_at dksX9_isWhole_3 4 rfl rfl)
theorem dX9_isWhole_77 : decode cX9_isWhole 77 = .ok (.iinc 3 1, 3) := dk_132 3 1 (dk_at dksX9_isWhole_3 5 rfl rfl)
theorem dX9_isWhole_80 : decode cX9_isWhole 80 = .ok (.goto (-25), 3) := dk_167 255 231 (dk_at dksX9_isWhole_3 8 rfl rfl)
theorem dX9_isWhole_83 : decode cX9_isWhole 83 = .ok (.iload_n 2, 1) := dk_28 (dk_at dksX9_isWhole_3 11 rfl rfl)
theorem dX9_isWhole_84 : decode cX9_isWhole 84 = .ok (.ireturn, 1) := dk_172 (dk_at dksX9_isWhole_3 12 rfl rfl)
abbrev cX9_take : ByteArray := prog_4_method_2_code
def yX9_take : MethodName := ⟨RX9, "take", "(LNumberModels$Wide;LNumberModels$Wide;)V"⟩
def dkwX9_take_2 : List UInt8 := [25, 4, 4, 50, 182, 0, 31, 87, 177]
abbrev dktX9_take_2 : List UInt8 := dkwX9_take_2 ++ []
def dkwX9_take_1 : List UInt8 := [167, 0, 31, 78, 42, 180, 0, 15, 192, 0, 29, 58, 4, 43, 25, 4, 3, 50, 182, 0, 31, 87, 44]
abbrev dktX9_take_1 : List UInt8 := dkwX9_take_1 ++ dktX9_take_2
def dkwX9_take_0 : List UInt8 := [42, 180, 0, 15, 192, 0, 19, 78, 43, 45, 3, 47, 182, 0, 21, 87, 44, 45, 4, 47, 182, 0, 21, 87]
abbrev dktX9_take_0 : List UInt8 := dkwX9_take_0 ++ dktX9_take_1
theorem dksX9_take_0 : cX9_take.data.toList.drop 0 = dktX9_take_0 := by decide +kernel
theorem dksX9_take_1 : cX9_take.data.toList.drop 24 = dktX9_take_1 := dk_seg dksX9_take_0 24 rfl rfl
theorem dksX9_take_2 : cX9_take.data.toList.drop 47 = dktX9_take_2 := dk_seg dksX9_take_1 23 rfl rfl
theorem dX9_take_0 : decode cX9_take 0 = .ok (.aload_n 0, 1) := dk_42 (dk_at dksX9_take_0 0 rfl rfl)
theorem dX9_take_1 : decode cX9_take 1 = .ok (.getfield 15, 3) := dk_180 0 15 (dk_at dksX9_take_0 1 rfl rfl)
theorem dX9_take_4 : decode cX9_take 4 = .ok (.checkcast 19, 3) := dk_192 0 19 (dk_at dksX9_take_0 4 rfl rfl)
theorem dX9_take_7 : decode cX9_take 7 = .ok (.astore_n 3, 1) := dk_78 (dk_at dksX9_take_0 7 rfl rfl)
theorem dX9_take_8 : decode cX9_take 8 = .ok (.aload_n 1, 1) := dk_43 (dk_at dksX9_take_0 8 rfl rfl)
theorem dX9_take_9 : decode cX9_take 9 = .ok (.aload_n 3, 1) := dk_45 (dk_at dksX9_take_0 9 rfl rfl)
theorem dX9_take_10 : decode cX9_take 10 = .ok (.iconst 0, 1) := dk_3 (dk_at dksX9_take_0 10 rfl rfl)
theorem dX9_take_11 : decode cX9_take 11 = .ok (.laload, 1) := dk_47 (dk_at dksX9_take_0 11 rfl rfl)
theorem dX9_take_12 : decode cX9_take 12 = .ok (.invokevirtual 21, 3) := dk_182 0 21 (dk_at dksX9_take_0 12 rfl rfl)
theorem dX9_take_15 : decode cX9_take 15 = .ok (.pop, 1) := dk_87 (dk_at dksX9_take_0 15 rfl rfl)
theorem dX9_take_16 : decode cX9_take 16 = .ok (.aload_n 2, 1) := dk_44 (dk_at dksX9_take_0 16 rfl rfl)
theorem dX9_take_17 : decode cX9_take 17 = .ok (.aload_n 3, 1) := dk_45 (dk_at dksX9_take_0 17 rfl rfl)
theorem dX9_take_18 : decode cX9_take 18 = .ok (.iconst 1, 1) := dk_4 (dk_at dksX9_take_0 18 rfl rfl)
theorem dX9_take_19 : decode cX9_take 19 = .ok (.laload, 1) := dk_47 (dk_at dksX9_take_0 19 rfl rfl)
theorem dX9_take_20 : decode cX9_take 20 = .ok (.invokevirtual 21, 3) := dk_182 0 21 (dk_at dksX9_take_0 20 rfl rfl)
theorem dX9_take_23 : decode cX9_take 23 = .ok (.pop, 1) := dk_87 (dk_at dksX9_take_0 23 rfl rfl)
theorem dX9_take_24 : decode cX9_take 24 = .ok (.goto 31, 3) := dk_167 0 31 (dk_at dksX9_take_1 0 rfl rfl)
theorem dX9_take_27 : decode cX9_take 27 = .ok (.astore_n 3, 1) := dk_78 (dk_at dksX9_take_1 3 rfl rfl)
theorem dX9_take_28 : decode cX9_take 28 = .ok (.aload_n 0, 1) := dk_42 (dk_at dksX9_take_1 4 rfl rfl)
theorem dX9_take_29 : decode cX9_take 29 = .ok (.getfield 15, 3) := dk_180 0 15 (dk_at dksX9_take_1 5 rfl rfl)
theorem dX9_take_32 : decode cX9_take 32 = .ok (.checkcast 29, 3) := dk_192 0 29 (dk_at dksX9_take_1 8 rfl rfl)
theorem dX9_take_35 : decode cX9_take 35 = .ok (.astore 4, 2) := dk_58 4 (dk_at dksX9_take_1 11 rfl rfl)
theorem dX9_take_37 : decode cX9_take 37 = .ok (.aload_n 1, 1) := dk_43 (dk_at dksX9_take_1 13 rfl rfl)
theorem dX9_take_38 : decode cX9_take 38 = .ok (.aload 4, 2) := dk_25 4 (dk_at dksX9_take_1 14 rfl rfl)
theorem dX9_take_40 : decode cX9_take 40 = .ok (.iconst 0, 1) := dk_3 (dk_at dksX9_take_1 16 rfl rfl)
theorem dX9_take_41 : decode cX9_take 41 = .ok (.aaload, 1) := dk_50 (dk_at dksX9_take_1 17 rfl rfl)
theorem dX9_take_42 : decode cX9_take 42 = .ok (.invokevirtual 31, 3) := dk_182 0 31 (dk_at dksX9_take_1 18 rfl rfl)
theorem dX9_take_45 : decode cX9_take 45 = .ok (.pop, 1) := dk_87 (dk_at dksX9_take_1 21 rfl rfl)
theorem dX9_take_46 : decode cX9_take 46 = .ok (.aload_n 2, 1) := dk_44 (dk_at dksX9_take_1 22 rfl rfl)
theorem dX9_take_47 : decode cX9_take 47 = .ok (.aload 4, 2) := dk_25 4 (dk_at dksX9_take_2 0 rfl rfl)
theorem dX9_take_49 : decode cX9_take 49 = .ok (.iconst 1, 1) := dk_4 (dk_at dksX9_take_2 2 rfl rfl)
theorem dX9_take_50 : decode cX9_take 50 = .ok (.aaload, 1) := dk_50 (dk_at dksX9_take_2 3 rfl rfl)
theorem dX9_take_51 : decode cX9_take 51 = .ok (.invokevirtual 31, 3) := dk_182 0 31 (dk_at dksX9_take_2 4 rfl rfl)
theorem dX9_take_54 : decode cX9_take 54 = .ok (.pop, 1) := dk_87 (dk_at dksX9_take_2 7 rfl rfl)
theorem dX9_take_55 : decode cX9_take 55 = .ok (.return_, 1) := dk_177 (dk_at dksX9_take_2 8 rfl rfl)
theorem q77 : (Jvm.Cond.initialized "NumberModels$Item") ∈ lw_all := lw_g (lw_at lw_m1 19 rfl) rfl
theorem q399 : (Jvm.Cond.instantiable "NumberModels$Item" (2 : Nat)) ∈ lw_all := lw_g (lw_at lw_m2 101 rfl) rfl
theorem q413 : (Jvm.Cond.instanceMethod ({ cls := "NumberModels$Item", name := "<init>", desc := "(ILjava/lang/Object;)V" } : Jvm.MethodName)) ∈ lw_all := lw_g (lw_at lw_m2 115 rfl) rfl
theorem q414 : (Jvm.Cond.code ({ cls := "NumberModels$Item", name := "<init>", desc := "(ILjava/lang/Object;)V" } : Jvm.MethodName) prog_4_method_1_code (3 : Nat) (Option.none : Option Jvm.ClassFile.FieldType)) ∈ lw_all := lw_g (lw_at lw_m2 116 rfl) rfl
theorem q415 : (Jvm.Cond.methodLink "NumberModels$Item" (3 : Nat) ({ cls := "java/lang/Object", name := "<init>", desc := "()V" } : Jvm.MethodName)) ∈ lw_all := lw_g (lw_at lw_m2 117 rfl) rfl
theorem q416 : (Jvm.Cond.fieldLink "NumberModels$Item" (9 : Nat) "NumberModels$Item" "sign" "I") ∈ lw_all := lw_g (lw_at lw_m2 118 rfl) rfl
theorem q418 : (Jvm.Cond.fieldLink "NumberModels$Item" (15 : Nat) "NumberModels$Item" "form" "Ljava/lang/Object;") ∈ lw_all := lw_g (lw_at lw_m2 120 rfl) rfl
theorem q419 : (Jvm.Cond.laysFinal "NumberModels$Item" "NumberModels$Item" "sign" "I") ∈ lw_all := lw_g (lw_at lw_m2 121 rfl) rfl
theorem q420 : (Jvm.Cond.soleField "NumberModels$Item" "sign") ∈ lw_all := lw_g (lw_at lw_m2 122 rfl) rfl
theorem q421 : (Jvm.Cond.laysFinal "NumberModels$Item" "NumberModels$Item" "form" "Ljava/lang/Object;") ∈ lw_all := lw_g (lw_at lw_m2 123 rfl) rfl
theorem q422 : (Jvm.Cond.soleField "NumberModels$Item" "form") ∈ lw_all := lw_g (lw_at lw_m2 124 rfl) rfl
theorem q423 : (Jvm.Cond.superclass "NumberModels$Item" "java/lang/Object") ∈ lw_all := lw_g (lw_at lw_m2 125 rfl) rfl
theorem q573 : (Jvm.Cond.instanceMethod ({ cls := "NumberModels$Item", name := "isWhole", desc := "()Z" } : Jvm.MethodName)) ∈ lw_all := lw_g (lw_at lw_m3 35 rfl) rfl
theorem q574 : (Jvm.Cond.selects "NumberModels$Item" ({ cls := "NumberModels$Item", name := "isWhole", desc := "()Z" } : Jvm.MethodName) ({ cls := "NumberModels$Item", name := "isWhole", desc := "()Z" } : Jvm.MethodName)) ∈ lw_all := lw_g (lw_at lw_m3 36 rfl) rfl
theorem q575 : (Jvm.Cond.code ({ cls := "NumberModels$Item", name := "isWhole", desc := "()Z" } : Jvm.MethodName) prog_4_method_3_code (4 : Nat) (Option.some Jvm.ClassFile.FieldType.boolean)) ∈ lw_all := lw_g (lw_at lw_m3 37 rfl) rfl
theorem q576 : (Jvm.Cond.classLink "NumberModels$Item" (19 : Nat) "[J") ∈ lw_all := lw_g (lw_at lw_m3 38 rfl) rfl
theorem q577 : (Jvm.Cond.classLink "NumberModels$Item" (29 : Nat) "[[I") ∈ lw_all := lw_g (lw_at lw_m3 39 rfl) rfl
theorem q597 : (Jvm.Cond.instanceMethod ({ cls := "NumberModels$Item", name := "take", desc := "(LNumberModels$Wide;LNumberModels$Wide;)V" } : Jvm.MethodName)) ∈ lw_all := lw_g (lw_at lw_m3 59 rfl) rfl
theorem q598 : (Jvm.Cond.selects "NumberModels$Item" ({ cls := "NumberModels$Item", name := "take", desc := "(LNumberModels$Wide;LNumberModels$Wide;)V" } : Jvm.MethodName) ({ cls := "NumberModels$Item", name := "take", desc := "(LNumberModels$Wide;LNumberModels$Wide;)V" } : Jvm.MethodName)) ∈ lw_all := lw_g (lw_at lw_m3 60 rfl) rfl
theorem q599 : (Jvm.Cond.codeWith ({ cls := "NumberModels$Item", name := "take", desc := "(LNumberModels$Wide;LNumberModels$Wide;)V" } : Jvm.MethodName) prog_4_method_2_code (5 : Nat) (Option.none : Option Jvm.ClassFile.FieldType) [((0 : Nat), (24 : Nat), (27 : Nat), (27 : Nat))]) ∈ lw_all := lw_g (lw_at lw_m3 61 rfl) rfl
theorem q600 : (Jvm.Cond.classLink "NumberModels$Item" (27 : Nat) "java/lang/ClassCastException") ∈ lw_all := lw_g (lw_at lw_m3 62 rfl) rfl
theorem q614 : (Jvm.Cond.methodLink "NumberModels$Item" (21 : Nat) ({ cls := "NumberModels$Wide", name := "set", desc := "(J)LNumberModels$Wide;" } : Jvm.MethodName)) ∈ lw_all := lw_g (lw_at lw_m3 76 rfl) rfl
theorem q615 : (Jvm.Cond.methodLink "NumberModels$Item" (31 : Nat) ({ cls := "NumberModels$Wide", name := "set", desc := "([I)LNumberModels$Wide;" } : Jvm.MethodName)) ∈ lw_all := lw_g (lw_at lw_m3 77 rfl) rfl
theorem in_X9 : ∀ w ∈ wsX90, w ∈ lw_all := lw_in wsX90 [419, 421] (by decide +kernel) (by decide +kernel)
/-! NumberModels$Rounds -/
set_option maxRecDepth 100000
def RX10 : String := "NumberModels$Rounds"
abbrev cX10_goes : ByteArray := prog_6_method_1_code
def yX10_goes : MethodName := ⟨RX10, "goes", "(ZZI)Z"⟩
theorem dX10_goes_0 : decode cX10_goes 0 = .ok (.iconst 0, 1) := by decide +kernel
theorem dX10_goes_1 : decode cX10_goes 1 = .ok (.ireturn, 1) := by decide +kernel
theorem q731 : (Jvm.Cond.interfaceMethod "NumberModels$Rounds" "NumberModels$Rounds" "goes" "(ZZI)Z") ∈ lw_tbl := lw_at lw_m3 193 rfl
theorem q732 : (Jvm.Cond.declares ({ cls := "NumberModels$Rounds", name := "goes", desc := "(ZZI)Z" } : Jvm.MethodName)) ∈ lw_tbl := lw_at lw_m3 194 rfl
theorem q763 : (Jvm.Cond.instanceMethod ({ cls := "NumberModels$Rounds", name := "goes", desc := "(ZZI)Z" } : Jvm.MethodName)) ∈ lw_all := lw_g (lw_at lw_m3 225 rfl) rfl
theorem q764 : (Jvm.Cond.publicMethod ({ cls := "NumberModels$Rounds", name := "goes", desc := "(ZZI)Z" } : Jvm.MethodName)) ∈ lw_tbl := lw_at lw_m3 226 rfl
theorem q765 : (Jvm.Cond.code ({ cls := "NumberModels$Rounds", name := "goes", desc := "(ZZI)Z" } : Jvm.MethodName) prog_6_method_1_code (4 : Nat) (Option.some Jvm.ClassFile.FieldType.boolean)) ∈ lw_all := lw_g (lw_at lw_m3 227 rfl) rfl
theorem q1219 : (Jvm.Cond.initialized "NumberModels$Rounds") ∈ lw_all := lw_g (lw_at lw_m5 201 rfl) rfl
