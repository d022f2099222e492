/-! NumberModelsModel -/
set_option maxRecDepth 100000
def RX8 : String := "NumberModelsModel"
def TX8 : u_T := fun k => match k with
  | 0 => ("NumberModelsModel", "thrown", "I", false)
  | 1 => ("NumberModelsModel", "many", "I", false)
  | 2 => ("NumberModelsModel", "sign", "[I", true)
  | 3 => ("NumberModelsModel", "value", "[J", true)
  | 4 => ("NumberModelsModel", "w", "[J", true)
  | 5 => ("NumberModelsModel", "small", "I", false)
  | 6 => ("NumberModelsModel", "wide", "I", false)
  | 7 => ("NumberModelsModel", "leastPlace", "I", false)
  | 8 => ("NumberModelsModel", "mostPlace", "I", false)
  | _ => ("NumberModelsModel", "rest", "I", false)
def tyX8 : Nat → FieldType := fun k => match k with
  | 0 => .int
  | 1 => .int
  | 2 => .array .int
  | 3 => .array .long
  | 4 => .array .long
  | 5 => .int
  | 6 => .int
  | 7 => .int
  | 8 => .int
  | _ => .int
abbrev wsX80 : List Cond := u_ws RX8 TX8 10
theorem nmX8 : ∀ a, a < 10 → ∀ b, b < 10 → a ≠ b → (TX8 a).2.1 ≠ (TX8 b).2.1 := by decide +kernel
theorem tyX8_ok : ∀ k, k < 10 → parseFieldDescriptor (TX8 k).2.2.1 = some (tyX8 k) := by decide +kernel
abbrev cX8_init : ByteArray := prog_11_method_1_code
def yX8_init : MethodName := ⟨RX8, "<init>", "()V"⟩
def dkwX8_init_1 : List UInt8 := [17, 4, 0, 188, 11, 181, 0, 17, 177]
abbrev dktX8_init_1 : List UInt8 := dkwX8_init_1 ++ []
def dkwX8_init_0 : List UInt8 := [42, 183, 0, 1, 42, 16, 60, 188, 10, 181, 0, 7, 42, 17, 3, 192, 188, 11, 181, 0, 13, 42]
abbrev dktX8_init_0 : List UInt8 := dkwX8_init_0 ++ dktX8_init_1
theorem dksX8_init_0 : cX8_init.data.toList.drop 0 = dktX8_init_0 := by decide +kernel
theorem dksX8_init_1 : cX8_init.data.toList.drop 22 = dktX8_init_1 := dk_seg dksX8_init_0 22 rfl rfl
theorem dX8_init_0 : decode cX8_init 0 = .ok (.aload_n 0, 1) := dk_42 (dk_at dksX8_init_0 0 rfl rfl)
theorem dX8_init_1 : decode cX8_init 1 = .ok (.invokespecial 1, 3) := dk_183 0 1 (dk_at dksX8_init_0 1 rfl rfl)
theorem dX8_init_4 : decode cX8_init 4 = .ok (.aload_n 0, 1) := dk_42 (dk_at dksX8_init_0 4 rfl rfl)
theorem dX8_init_5 : decode cX8_init 5 = .ok (.bipush 60, 2) := dk_16 60 (dk_at dksX8_init_0 5 rfl rfl)
theorem dX8_init_7 : decode cX8_init 7 = .ok (.newarray .int, 2) := dk_188_10 (dk_at dksX8_init_0 7 rfl rfl)
theorem dX8_init_9 : decode cX8_init 9 = .ok (.putfield 7, 3) := dk_181 0 7 (dk_at dksX8_init_0 9 rfl rfl)
theorem dX8_init_12 : decode cX8_init 12 = .ok (.aload_n 0, 1) := dk_42 (dk_at dksX8_init_0 12 rfl rfl)
theorem dX8_init_13 : decode cX8_init 13 = .ok (.sipush 960, 3) := dk_17 3 192 (dk_at dksX8_init_0 13 rfl rfl)
theorem dX8_init_16 : decode cX8_init 16 = .ok (.newarray .long, 2) := dk_188_11 (dk_at dksX8_init_0 16 rfl rfl)
theorem dX8_init_18 : decode cX8_init 18 = .ok (.putfield 13, 3) := dk_181 0 13 (dk_at dksX8_init_0 18 rfl rfl)
theorem dX8_init_21 : decode cX8_init 21 = .ok (.aload_n 0, 1) := dk_42 (dk_at dksX8_init_0 21 rfl rfl)
theorem dX8_init_22 : decode cX8_init 22 = .ok (.sipush 1024, 3) := dk_17 4 0 (dk_at dksX8_init_1 0 rfl rfl)
theorem dX8_init_25 : decode cX8_init 25 = .ok (.newarray .long, 2) := dk_188_11 (dk_at dksX8_init_1 3 rfl rfl)
theorem dX8_init_27 : decode cX8_init 27 = .ok (.putfield 17, 3) := dk_181 0 17 (dk_at dksX8_init_1 5 rfl rfl)
theorem dX8_init_30 : decode cX8_init 30 = .ok (.return_, 1) := dk_177 (dk_at dksX8_init_1 8 rfl rfl)
abbrev cX8_thrown : ByteArray := prog_11_method_2_code
def yX8_thrown : MethodName := ⟨RX8, "thrown", "()I"⟩
theorem dX8_thrown_0 : decode cX8_thrown 0 = .ok (.aload_n 0, 1) := by decide +kernel
theorem dX8_thrown_1 : decode cX8_thrown 1 = .ok (.getfield 20, 3) := by decide +kernel
theorem dX8_thrown_4 : decode cX8_thrown 4 = .ok (.ireturn, 1) := by decide +kernel
abbrev cX8_whole : ByteArray := prog_11_method_25_code
def yX8_whole : MethodName := ⟨RX8, "whole", "(J)I"⟩
def dkwX8_whole_1 : List UInt8 := [167, 0, 4, 4, 4, 182, 0, 86, 172]
abbrev dktX8_whole_1 : List UInt8 := dkwX8_whole_1 ++ []
def dkwX8_whole_0 : List UInt8 := [42, 3, 31, 184, 0, 82, 182, 0, 68, 42, 4, 10, 182, 0, 68, 42, 31, 9, 148, 156, 0, 7, 2]
abbrev dktX8_whole_0 : List UInt8 := dkwX8_whole_0 ++ dktX8_whole_1
theorem dksX8_whole_0 : cX8_whole.data.toList.drop 0 = dktX8_whole_0 := by decide +kernel
theorem dksX8_whole_1 : cX8_whole.data.toList.drop 23 = dktX8_whole_1 := dk_seg dksX8_whole_0 23 rfl rfl
theorem dX8_whole_0 : decode cX8_whole 0 = .ok (.aload_n 0, 1) := dk_42 (dk_at dksX8_whole_0 0 rfl rfl)
theorem dX8_whole_1 : decode cX8_whole 1 = .ok (.iconst 0, 1) := dk_3 (dk_at dksX8_whole_0 1 rfl rfl)
theorem dX8_whole_2 : decode cX8_whole 2 = .ok (.lload_n 1, 1) := dk_31 (dk_at dksX8_whole_0 2 rfl rfl)
theorem dX8_whole_3 : decode cX8_whole 3 = .ok (.invokestatic 82, 3) := dk_184 0 82 (dk_at dksX8_whole_0 3 rfl rfl)
theorem dX8_whole_6 : decode cX8_whole 6 = .ok (.invokevirtual 68, 3) := dk_182 0 68 (dk_at dksX8_whole_0 6 rfl rfl)
theorem dX8_whole_9 : decode cX8_whole 9 = .ok (.aload_n 0, 1) := dk_42 (dk_at dksX8_whole_0 9 rfl rfl)
theorem dX8_whole_10 : decode cX8_whole 10 = .ok (.iconst 1, 1) := dk_4 (dk_at dksX8_whole_0 10 rfl rfl)
theorem dX8_whole_11 : decode cX8_whole 11 = .ok (.lconst 1, 1) := dk_10 (dk_at dksX8_whole_0 11 rfl rfl)
theorem dX8_whole_12 : decode cX8_whole 12 = .ok (.invokevirtual 68, 3) := dk_182 0 68 (dk_at dksX8_whole_0 12 rfl rfl)
theorem dX8_whole_15 : decode cX8_whole 15 = .ok (.aload_n 0, 1) := dk_42 (dk_at dksX8_whole_0 15 rfl rfl)
theorem dX8_whole_16 : decode cX8_whole 16 = .ok (.lload_n 1, 1) := dk_31 (dk_at dksX8_whole_0 16 rfl rfl)
theorem dX8_whole_17 : decode cX8_whole 17 = .ok (.lconst 0, 1) := dk_9 (dk_at dksX8_whole_0 17 rfl rfl)
theorem dX8_whole_18 : decode cX8_whole 18 = .ok (.lcmp, 1) := dk_148 (dk_at dksX8_whole_0 18 rfl rfl)
theorem dX8_whole_19 : decode cX8_whole 19 = .ok (.ifCond .ge 7, 3) := dk_156 0 7 (dk_at dksX8_whole_0 19 rfl rfl)
theorem dX8_whole_22 : decode cX8_whole 22 = .ok (.iconst (-1), 1) := dk_2 (dk_at dksX8_whole_0 22 rfl rfl)
theorem dX8_whole_23 : decode cX8_whole 23 = .ok (.goto 4, 3) := dk_167 0 4 (dk_at dksX8_whole_1 0 rfl rfl)
theorem dX8_whole_26 : decode cX8_whole 26 = .ok (.iconst 1, 1) := dk_4 (dk_at dksX8_whole_1 3 rfl rfl)
theorem dX8_whole_27 : decode cX8_whole 27 = .ok (.iconst 1, 1) := dk_4 (dk_at dksX8_whole_1 4 rfl rfl)
theorem dX8_whole_28 : decode cX8_whole 28 = .ok (.invokevirtual 86, 3) := dk_182 0 86 (dk_at dksX8_whole_1 5 rfl rfl)
theorem dX8_whole_31 : decode cX8_whole 31 = .ok (.ireturn, 1) := dk_172 (dk_at dksX8_whole_1 8 rfl rfl)
abbrev cX8_size : ByteArray := prog_11_method_24_code
def yX8_size : MethodName := ⟨RX8, "size", "(J)J"⟩
def dkwX8_size_0 : List UInt8 := [30, 9, 148, 156, 0, 8, 30, 117, 167, 0, 4, 30, 173]
abbrev dktX8_size_0 : List UInt8 := dkwX8_size_0 ++ []
theorem dksX8_size_0 : cX8_size.data.toList.drop 0 = dktX8_size_0 := by decide +kernel
theorem dX8_size_0 : decode cX8_size 0 = .ok (.lload_n 0, 1) := dk_30 (dk_at dksX8_size_0 0 rfl rfl)
theorem dX8_size_1 : decode cX8_size 1 = .ok (.lconst 0, 1) := dk_9 (dk_at dksX8_size_0 1 rfl rfl)
theorem dX8_size_2 : decode cX8_size 2 = .ok (.lcmp, 1) := dk_148 (dk_at dksX8_size_0 2 rfl rfl)
theorem dX8_size_3 : decode cX8_size 3 = .ok (.ifCond .ge 8, 3) := dk_156 0 8 (dk_at dksX8_size_0 3 rfl rfl)
theorem dX8_size_6 : decode cX8_size 6 = .ok (.lload_n 0, 1) := dk_30 (dk_at dksX8_size_0 6 rfl rfl)
theorem dX8_size_7 : decode cX8_size 7 = .ok (.lneg, 1) := dk_117 (dk_at dksX8_size_0 7 rfl rfl)
theorem dX8_size_8 : decode cX8_size 8 = .ok (.goto 4, 3) := dk_167 0 4 (dk_at dksX8_size_0 8 rfl rfl)
theorem dX8_size_11 : decode cX8_size 11 = .ok (.lload_n 0, 1) := dk_30 (dk_at dksX8_size_0 11 rfl rfl)
theorem dX8_size_12 : decode cX8_size 12 = .ok (.lreturn, 1) := dk_173 (dk_at dksX8_size_0 12 rfl rfl)
abbrev cX8_set : ByteArray := prog_11_method_5_code
def yX8_set : MethodName := ⟨RX8, "set", "(IJ)V"⟩
def dkwX8_set_1 : List UInt8 := [16, 64, 27, 104, 4, 96, 32, 16, 32, 125, 80, 177]
abbrev dktX8_set_1 : List UInt8 := dkwX8_set_1 ++ []
def dkwX8_set_0 : List UInt8 := [42, 27, 182, 0, 24, 42, 180, 0, 17, 16, 64, 27, 104, 32, 20, 0, 28, 127, 80, 42, 180, 0, 17]
abbrev dktX8_set_0 : List UInt8 := dkwX8_set_0 ++ dktX8_set_1
theorem dksX8_set_0 : cX8_set.data.toList.drop 0 = dktX8_set_0 := by decide +kernel
theorem dksX8_set_1 : cX8_set.data.toList.drop 23 = dktX8_set_1 := dk_seg dksX8_set_0 23 rfl rfl
theorem dX8_set_0 : decode cX8_set 0 = .ok (.aload_n 0, 1) := dk_42 (dk_at dksX8_set_0 0 rfl rfl)
theorem dX8_set_1 : decode cX8_set 1 = .ok (.iload_n 1, 1) := dk_27 (dk_at dksX8_set_0 1 rfl rfl)
theorem dX8_set_2 : decode cX8_set 2 = .ok (.invokevirtual 24, 3) := dk_182 0 24 (dk_at dksX8_set_0 2 rfl rfl)
theorem dX8_set_5 : decode cX8_set 5 = .ok (.aload_n 0, 1) := dk_42 (dk_at dksX8_set_0 5 rfl rfl)
theorem dX8_set_6 : decode cX8_set 6 = .ok (.getfield 17, 3) := dk_180 0 17 (dk_at dksX8_set_0 6 rfl rfl)
theorem dX8_set_9 : decode cX8_set 9 = .ok (.bipush 64, 2) := dk_16 64 (dk_at dksX8_set_0 9 rfl rfl)
theorem dX8_set_11 : decode cX8_set 11 = .ok (.iload_n 1, 1) := dk_27 (dk_at dksX8_set_0 11 rfl rfl)
theorem dX8_set_12 : decode cX8_set 12 = .ok (.imul, 1) := dk_104 (dk_at dksX8_set_0 12 rfl rfl)
theorem dX8_set_13 : decode cX8_set 13 = .ok (.lload_n 2, 1) := dk_32 (dk_at dksX8_set_0 13 rfl rfl)
theorem dX8_set_14 : decode cX8_set 14 = .ok (.ldc2_w 28, 3) := dk_20 0 28 (dk_at dksX8_set_0 14 rfl rfl)
theorem dX8_set_17 : decode cX8_set 17 = .ok (.land, 1) := dk_127 (dk_at dksX8_set_0 17 rfl rfl)
theorem dX8_set_18 : decode cX8_set 18 = .ok (.lastore, 1) := dk_80 (dk_at dksX8_set_0 18 rfl rfl)
theorem dX8_set_19 : decode cX8_set 19 = .ok (.aload_n 0, 1) := dk_42 (dk_at dksX8_set_0 19 rfl rfl)
theorem dX8_set_20 : decode cX8_set 20 = .ok (.getfield 17, 3) := dk_180 0 17 (dk_at dksX8_set_0 20 rfl rfl)
theorem dX8_set_23 : decode cX8_set 23 = .ok (.bipush 64, 2) := dk_16 64 (dk_at dksX8_set_1 0 rfl rfl)
theorem dX8_set_25 : decode cX8_set 25 = .ok (.iload_n 1, 1) := dk_27 (dk_at dksX8_set_1 2 rfl rfl)
theorem dX8_set_26 : decode cX8_set 26 = .ok (.imul, 1) := dk_104 (dk_at dksX8_set_1 3 rfl rfl)
theorem dX8_set_27 : decode cX8_set 27 = .ok (.iconst 1, 1) := dk_4 (dk_at dksX8_set_1 4 rfl rfl)
theorem dX8_set_28 : decode cX8_set 28 = .ok (.iadd, 1) := dk_96 (dk_at dksX8_set_1 5 rfl rfl)
theorem dX8_set_29 : decode cX8_set 29 = .ok (.lload_n 2, 1) := dk_32 (dk_at dksX8_set_1 6 rfl rfl)
theorem dX8_set_30 : decode cX8_set 30 = .ok (.bipush 32, 2) := dk_16 32 (dk_at dksX8_set_1 7 rfl rfl)
theorem dX8_set_32 : decode cX8_set 32 = .ok (.lushr, 1) := dk_125 (dk_at dksX8_set_1 9 rfl rfl)
theorem dX8_set_33 : decode cX8_set 33 = .ok (.lastore, 1) := dk_80 (dk_at dksX8_set_1 10 rfl rfl)
theorem dX8_set_34 : decode cX8_set 34 = .ok (.return_, 1) := dk_177 (dk_at dksX8_set_1 11 rfl rfl)
abbrev cX8_zero : ByteArray := prog_11_method_4_code
def yX8_zero : MethodName := ⟨RX8, "zero", "(I)V"⟩
def dkwX8_zero_1 : List UInt8 := [167, 255, 235, 177]
abbrev dktX8_zero_1 : List UInt8 := dkwX8_zero_1 ++ []
def dkwX8_zero_0 : List UInt8 := [3, 61, 28, 16, 64, 162, 0, 21, 42, 180, 0, 17, 16, 64, 27, 104, 28, 96, 9, 80, 132, 2, 1]
abbrev dktX8_zero_0 : List UInt8 := dkwX8_zero_0 ++ dktX8_zero_1
theorem dksX8_zero_0 : cX8_zero.data.toList.drop 0 = dktX8_zero_0 := by decide +kernel
theorem dksX8_zero_1 : cX8_zero.data.toList.drop 23 = dktX8_zero_1 := dk_seg dksX8_zero_0 23 rfl rfl
theorem dX8_zero_0 : decode cX8_zero 0 = .ok (.iconst 0, 1) := dk_3 (dk_at dksX8_zero_0 0 rfl rfl)
theorem dX8_zero_1 : decode cX8_zero 1 = .ok (.istore_n 2, 1) := dk_61 (dk_at dksX8_zero_0 1 rfl rfl)
theorem dX8_zero_2 : decode cX8_zero 2 = .ok (.iload_n 2, 1) := dk_28 (dk_at dksX8_zero_0 2 rfl rfl)
theorem dX8_zero_3 : decode cX8_zero 3 = .ok (.bipush 64, 2) := dk_16 64 (dk_at dksX8_zero_0 3 rfl rfl)
theorem dX8_zero_5 : decode cX8_zero 5 = .ok (.if_icmp .ge 21, 3) := dk_162 0 21 (dk_at dksX8_zero_0 5 rfl rfl)
theorem dX8_zero_8 : decode cX8_zero 8 = .ok (.aload_n 0, 1) := dk_42 (dk_at dksX8_zero_0 8 rfl rfl)
theorem dX8_zero_9 : decode cX8_zero 9 = .ok (.getfield 17, 3) := dk_180 0 17 (dk_at dksX8_zero_0 9 rfl rfl)
theorem dX8_zero_12 : decode cX8_zero 12 = .ok (.bipush 64, 2) := dk_16 64 (dk_at dksX8_zero_0 12 rfl rfl)
theorem dX8_zero_14 : decode cX8_zero 14 = .ok (.iload_n 1, 1) := dk_27 (dk_at dksX8_zero_0 14 rfl rfl)
theorem dX8_zero_15 : decode cX8_zero 15 = .ok (.imul, 1) := dk_104 (dk_at dksX8_zero_0 15 rfl rfl)
theorem dX8_zero_16 : decode cX8_zero 16 = .ok (.iload_n 2, 1) := dk_28 (dk_at dksX8_zero_0 16 rfl rfl)
theorem dX8_zero_17 : decode cX8_zero 17 = .ok (.iadd, 1) := dk_96 (dk_at dksX8_zero_0 17 rfl rfl)
theorem dX8_zero_18 : decode cX8_zero 18 = .ok (.lconst 0, 1) := dk_9 (dk_at dksX8_zero_0 18 rfl rfl)
theorem dX8_zero_19 : decode cX8_zero 19 = .ok (.lastore, 1) := dk_80 (dk_at dksX8_zero_0 19 rfl rfl)
theorem dX8_zero_20 : decode cX8_zero 20 = .ok (.iinc 2 1, 3) := dk_132 2 1 (dk_at dksX8_zero_0 20 rfl rfl)
theorem dX8_zero_23 : decode cX8_zero 23 = .ok (.goto (-21), 3) := dk_167 255 235 (dk_at dksX8_zero_1 0 rfl rfl)
theorem dX8_zero_26 : decode cX8_zero 26 = .ok (.return_, 1) := dk_177 (dk_at dksX8_zero_1 3 rfl rfl)
abbrev cX8_make : ByteArray := prog_11_method_23_code
def yX8_make : MethodName := ⟨RX8, "make", "(II)I"⟩
def dkwX8_make_8 : List UInt8 := [167, 255, 201, 42, 89, 180, 0, 65, 4, 96, 181, 0, 65, 42, 180, 0, 65, 4, 100, 172]
abbrev dktX8_make_8 : List UInt8 := dkwX8_make_8 ++ []
def dkwX8_make_7 : List UInt8 := [180, 0, 65, 104, 16, 8, 96, 29, 96, 42, 180, 0, 17, 16, 64, 29, 96, 47, 80, 132, 3, 1]
abbrev dktX8_make_7 : List UInt8 := dkwX8_make_7 ++ dktX8_make_8
def dkwX8_make_6 : List UInt8 := [16, 16, 42, 180, 0, 65, 104, 29, 96, 42, 180, 0, 17, 29, 47, 80, 42, 180, 0, 13, 16, 16, 42]
abbrev dktX8_make_6 : List UInt8 := dkwX8_make_6 ++ dktX8_make_7
def dkwX8_make_5 : List UInt8 := [182, 0, 52, 153, 0, 7, 3, 167, 0, 4, 27, 79, 3, 62, 29, 16, 8, 162, 0, 55, 42, 180, 0, 13]
abbrev dktX8_make_5 : List UInt8 := dkwX8_make_5 ++ dktX8_make_6
def dkwX8_make_4 : List UInt8 := [164, 0, 9, 42, 28, 182, 0, 79, 172, 42, 3, 181, 0, 20, 42, 180, 0, 7, 42, 180, 0, 65, 42, 3]
abbrev dktX8_make_4 : List UInt8 := dkwX8_make_4 ++ dktX8_make_5
def dkwX8_make_3 : List UInt8 := [159, 0, 25, 42, 3, 182, 0, 30, 17, 1, 0, 163, 0, 14, 42, 4, 182, 0, 30, 17, 1, 0]
abbrev dktX8_make_3 : List UInt8 := dkwX8_make_3 ++ dktX8_make_4
def dkwX8_make_2 : List UInt8 := [4, 16, 13, 16, 12, 16, 11, 182, 0, 75, 42, 16, 12, 4, 182, 0, 49, 42, 180, 0, 65, 16, 60]
abbrev dktX8_make_2 : List UInt8 := dkwX8_make_2 ++ dktX8_make_3
def dkwX8_make_1 : List UInt8 := [16, 13, 182, 0, 49, 42, 3, 16, 13, 16, 12, 16, 11, 182, 0, 75, 42, 16, 12, 3, 182, 0, 49, 42]
abbrev dktX8_make_1 : List UInt8 := dkwX8_make_1 ++ dktX8_make_2
def dkwX8_make_0 : List UInt8 := [42, 3, 182, 0, 52, 153, 0, 9, 42, 4, 10, 182, 0, 68, 42, 3, 4, 182, 0, 72, 42, 16, 14]
abbrev dktX8_make_0 : List UInt8 := dkwX8_make_0 ++ dktX8_make_1
theorem dksX8_make_0 : cX8_make.data.toList.drop 0 = dktX8_make_0 := by decide +kernel
theorem dksX8_make_1 : cX8_make.data.toList.drop 23 = dktX8_make_1 := dk_seg dksX8_make_0 23 rfl rfl
theorem dksX8_make_2 : cX8_make.data.toList.drop 47 = dktX8_make_2 := dk_seg dksX8_make_1 24 rfl rfl
theorem dksX8_make_3 : cX8_make.data.toList.drop 70 = dktX8_make_3 := dk_seg dksX8_make_2 23 rfl rfl
theorem dksX8_make_4 : cX8_make.data.toList.drop 92 = dktX8_make_4 := dk_seg dksX8_make_3 22 rfl rfl
theorem dksX8_make_5 : cX8_make.data.toList.drop 116 = dktX8_make_5 := dk_seg dksX8_make_4 24 rfl rfl
theorem dksX8_make_6 : cX8_make.data.toList.drop 140 = dktX8_make_6 := dk_seg dksX8_make_5 24 rfl rfl
theorem dksX8_make_7 : cX8_make.data.toList.drop 163 = dktX8_make_7 := dk_seg dksX8_make_6 23 rfl rfl
theorem dksX8_make_8 : cX8_make.data.toList.drop 185 = dktX8_make_8 := dk_seg dksX8_make_7 22 rfl rfl
theorem dX8_make_0 : decode cX8_make 0 = .ok (.aload_n 0, 1) := dk_42 (dk_at dksX8_make_0 0 rfl rfl)
theorem dX8_make_1 : decode cX8_make 1 = .ok (.iconst 0, 1) := dk_3 (dk_at dksX8_make_0 1 rfl rfl)
theorem dX8_make_2 : decode cX8_make 2 = .ok (.invokevirtual 52, 3) := dk_182 0 52 (dk_at dksX8_make_0 2 rfl rfl)
theorem dX8_make_5 : decode cX8_make 5 = .ok (.ifCond .eq 9, 3) := dk_153 0 9 (dk_at dksX8_make_0 5 rfl rfl)
theorem dX8_make_8 : decode cX8_make 8 = .ok (.aload_n 0, 1) := dk_42 (dk_at dksX8_make_0 8 rfl rfl)
theorem dX8_make_9 : decode cX8_make 9 = .ok (.iconst 1, 1) := dk_4 (dk_at dksX8_make_0 9 rfl rfl)
theorem dX8_make_10 : decode cX8_make 10 = .ok (.lconst 1, 1) := dk_10 (dk_at dksX8_make_0 10 rfl rfl)
theorem dX8_make_11 : decode cX8_make 11 = .ok (.invokevirtual 68, 3) := dk_182 0 68 (dk_at dksX8_make_0 11 rfl rfl)
theorem dX8_make_14 : decode cX8_make 14 = .ok (.aload_n 0, 1) := dk_42 (dk_at dksX8_make_0 14 rfl rfl)
theorem dX8_make_15 : decode cX8_make 15 = .ok (.iconst 0, 1) := dk_3 (dk_at dksX8_make_0 15 rfl rfl)
theorem dX8_make_16 : decode cX8_make 16 = .ok (.iconst 1, 1) := dk_4 (dk_at dksX8_make_0 16 rfl rfl)
theorem dX8_make_17 : decode cX8_make 17 = .ok (.invokevirtual 72, 3) := dk_182 0 72 (dk_at dksX8_make_0 17 rfl rfl)
theorem dX8_make_20 : decode cX8_make 20 = .ok (.aload_n 0, 1) := dk_42 (dk_at dksX8_make_0 20 rfl rfl)
theorem dX8_make_21 : decode cX8_make 21 = .ok (.bipush 14, 2) := dk_16 14 (dk_at dksX8_make_0 21 rfl rfl)
theorem dX8_make_23 : decode cX8_make 23 = .ok (.bipush 13, 2) := dk_16 13 (dk_at dksX8_make_1 0 rfl rfl)
theorem dX8_make_25 : decode cX8_make 25 = .ok (.invokevirtual 49, 3) := dk_182 0 49 (dk_at dksX8_make_1 2 rfl rfl)
theorem dX8_make_28 : decode cX8_make 28 = .ok (.aload_n 0, 1) := dk_42 (dk_at dksX8_make_1 5 rfl rfl)
theorem dX8_make_29 : decode cX8_make 29 = .ok (.iconst 0, 1) := dk_3 (dk_at dksX8_make_1 6 rfl rfl)
theorem dX8_make_30 : decode cX8_make 30 = .ok (.bipush 13, 2) := dk_16 13 (dk_at dksX8_make_1 7 rfl rfl)
theorem dX8_make_32 : decode cX8_make 32 = .ok (.bipush 12, 2) := dk_16 12 (dk_at dksX8_make_1 9 rfl rfl)
theorem dX8_make_34 : decode cX8_make 34 = .ok (.bipush 11, 2) := dk_16 11 (dk_at dksX8_make_1 11 rfl rfl)
theorem dX8_make_36 : decode cX8_make 36 = .ok (.invokevirtual 75, 3) := dk_182 0 75 (dk_at dksX8_make_1 13 rfl rfl)
theorem dX8_make_39 : decode cX8_make 39 = .ok (.aload_n 0, 1) := dk_42 (dk_at dksX8_make_1 16 rfl rfl)
theorem dX8_make_40 : decode cX8_make 40 = .ok (.bipush 12, 2) := dk_16 12 (dk_at dksX8_make_1 17 rfl rfl)
theorem dX8_make_42 : decode cX8_make 42 = .ok (.iconst 0, 1) := dk_3 (dk_at dksX8_make_1 19 rfl rfl)
theorem dX8_make_43 : decode cX8_make 43 = .ok (.invokevirtual 49, 3) := dk_182 0 49 (dk_at dksX8_make_1 20 rfl rfl)
theorem dX8_make_46 : decode cX8_make 46 = .ok (.aload_n 0, 1) := dk_42 (dk_at dksX8_make_1 23 rfl rfl)
theorem dX8_make_47 : decode cX8_make 47 = .ok (.iconst 1, 1) := dk_4 (dk_at dksX8_make_2 0 rfl rfl)
theorem dX8_make_48 : decode cX8_make 48 = .ok (.bipush 13, 2) := dk_16 13 (dk_at dksX8_make_2 1 rfl rfl)
theorem dX8_make_50 : decode cX8_make 50 = .ok (.bipush 12, 2) := dk_16 12 (dk_at dksX8_make_2 3 rfl rfl)
theorem dX8_make_52 : decode cX8_make 52 = .ok (.bipush 11, 2) := dk_16 11 (dk_at dksX8_make_2 5 rfl rfl)
theorem dX8_make_54 : decode cX8_make 54 = .ok (.invokevirtual 75, 3) := dk_182 0 75 (dk_at dksX8_make_2 7 rfl rfl)
theorem dX8_make_57 : decode cX8_make 57 = .ok (.aload_n 0, 1) := dk_42 (dk_at dksX8_make_2 10 rfl rfl)
theorem dX8_make_58 : decode cX8_make 58 = .ok (.bipush 12, 2) := dk_16 12 (dk_at dksX8_make_2 11 rfl rfl)
theorem dX8_make_60 : decode cX8_make 60 = .ok (.iconst 1, 1) := dk_4 (dk_at dksX8_make_2 13 rfl rfl)
theorem dX8_make_61 : decode cX8_make 61 = .ok (.invokevirtual 49, 3) := dk_182 0 49 (dk_at dksX8_make_2 14 rfl rfl)
theorem dX8_make_64 : decode cX8_make 64 = .ok (.aload_n 0, 1) := dk_42 (dk_at dksX8_make_2 17 rfl rfl)
theorem dX8_make_65 : decode cX8_make 65 = .ok (.getfield 65, 3) := dk_180 0 65 (dk_at dksX8_make_2 18 rfl rfl)
theorem dX8_make_68 : decode cX8_make 68 = .ok (.bipush 60, 2) := dk_16 60 (dk_at dksX8_make_2 21 rfl rfl)
theorem dX8_make_70 : decode cX8_make 70 = .ok (.if_icmp .eq 25, 3) := dk_159 0 25 (dk_at dksX8_make_3 0 rfl rfl)
theorem dX8_make_73 : decode cX8_make 73 = .ok (.aload_n 0, 1) := dk_42 (dk_at dksX8_make_3 3 rfl rfl)
theorem dX8_make_74 : decode cX8_make 74 = .ok (.iconst 0, 1) := dk_3 (dk_at dksX8_make_3 4 rfl rfl)
theorem dX8_make_75 : decode cX8_make 75 = .ok (.invokevirtual 30, 3) := dk_182 0 30 (dk_at dksX8_make_3 5 rfl rfl)
theorem dX8_make_78 : decode cX8_make 78 = .ok (.sipush 256, 3) := dk_17 1 0 (dk_at dksX8_make_3 8 rfl rfl)
theorem dX8_make_81 : decode cX8_make 81 = .ok (.if_icmp .gt 14, 3) := dk_163 0 14 (dk_at dksX8_make_3 11 rfl rfl)
theorem dX8_make_84 : decode cX8_make 84 = .ok (.aload_n 0, 1) := dk_42 (dk_at dksX8_make_3 14 rfl rfl)
theorem dX8_make_85 : decode cX8_make 85 = .ok (.iconst 1, 1) := dk_4 (dk_at dksX8_make_3 15 rfl rfl)
theorem dX8_make_86 : decode cX8_make 86 = .ok (.invokevirtual 30, 3) := dk_182 0 30 (dk_at dksX8_make_3 16 rfl rfl)
theorem dX8_make_89 : decode cX8_make 89 = .ok (.sipush 256, 3) := dk_17 1 0 (dk_at dksX8_make_3 19 rfl rfl)
theorem dX8_make_92 : decode cX8_make 92 = .ok (.if_icmp .le 9, 3) := dk_164 0 9 (dk_at dksX8_make_4 0 rfl rfl)
theorem dX8_make_95 : decode cX8_make 95 = .ok (.aload_n 0, 1) := dk_42 (dk_at dksX8_make_4 3 rfl rfl)
theorem dX8_make_96 : decode cX8_make 96 = .ok (.iload_n 2, 1) := dk_28 (dk_at dksX8_make_4 4 rfl rfl)
theorem dX8_make_97 : decode cX8_make 97 = .ok (.invokevirtual 79, 3) := dk_182 0 79 (dk_at dksX8_make_4 5 rfl rfl)
theorem dX8_make_100 : decode cX8_make 100 = .ok (.ireturn, 1) := dk_172 (dk_at dksX8_make_4 8 rfl rfl)
theorem dX8_make_101 : decode cX8_make 101 = .ok (.aload_n 0, 1) := dk_42 (dk_at dksX8_make_4 9 rfl rfl)
theorem dX8_make_102 : decode cX8_make 102 = .ok (.iconst 0, 1) := dk_3 (dk_at dksX8_make_4 10 rfl rfl)
theorem dX8_make_103 : decode cX8_make 103 = .ok (.putfield 20, 3) := dk_181 0 20 (dk_at dksX8_make_4 11 rfl rfl)
theorem dX8_make_106 : decode cX8_make 106 = .ok (.aload_n 0, 1) := dk_42 (dk_at dksX8_make_4 14 rfl rfl)
theorem dX8_make_107 : decode cX8_make 107 = .ok (.getfield 7, 3) := dk_180 0 7 (dk_at dksX8_make_4 15 rfl rfl)
theorem dX8_make_110 : decode cX8_make 110 = .ok (.aload_n 0, 1) := dk_42 (dk_at dksX8_make_4 18 rfl rfl)
theorem dX8_make_111 : decode cX8_make 111 = .ok (.getfield 65, 3) := dk_180 0 65 (dk_at dksX8_make_4 19 rfl rfl)
theorem dX8_make_114 : decode cX8_make 114 = .ok (.aload_n 0, 1) := dk_42 (dk_at dksX8_make_4 22 rfl rfl)
theorem dX8_make_115 : decode cX8_make 115 = .ok (.iconst 0, 1) := dk_3 (dk_at dksX8_make_4 23 rfl rfl)
theorem dX8_make_116 : decode cX8_make 116 = .ok (.invokevirtual 52, 3) := dk_182 0 52 (dk_at dksX8_make_5 0 rfl rfl)
theorem dX8_make_119 : decode cX8_make 119 = .ok (.ifCond .eq 7, 3) := dk_153 0 7 (dk_at dksX8_make_5 3 rfl rfl)
theorem dX8_make_122 : decode cX8_make 122 = .ok (.iconst 0, 1) := dk_3 (dk_at dksX8_make_5 6 rfl rfl)
theorem dX8_make_123 : decode cX8_make 123 = .ok (.goto 4, 3) := dk_167 0 4 (dk_at dksX8_make_5 7 rfl rfl)
theorem dX8_make_126 : decode cX8_make 126 = .ok (.iload_n 1, 1) := dk_27 (dk_at dksX8_make_5 10 rfl rfl)
theorem dX8_make_127 : decode cX8_make 127 = .ok (.iastore, 1) := dk_79 (dk_at dksX8_make_5 11 rfl rfl)
theorem dX8_make_128 : decode cX8_make 128 = .ok (.iconst 0, 1) := dk_3 (dk_at dksX8_make_5 12 rfl rfl)
theorem dX8_make_129 : decode cX8_make 129 = .ok (.istore_n 3, 1) := dk_62 (dk_at dksX8_make_5 13 rfl rfl)
theorem dX8_make_130 : decode cX8_make 130 = .ok (.iload_n 3, 1) := dk_29 (dk_at dksX8_make_5 14 rfl rfl)
theorem dX8_make_131 : decode cX8_make 131 = .ok (.bipush 8, 2) := dk_16 8 (dk_at dksX8_make_5 15 rfl rfl)
theorem dX8_make_133 : decode cX8_make 133 = .ok (.if_icmp .ge 55, 3) := dk_162 0 55 (dk_at dksX8_make_5 17 rfl rfl)
theorem dX8_make_136 : decode cX8_make 136 = .ok (.aload_n 0, 1) := dk_42 (dk_at dksX8_make_5 20 rfl rfl)
theorem dX8_make_137 : decode cX8_make 137 = .ok (.getfield 13, 3) := dk_180 0 13 (dk_at dksX8_make_5 21 rfl rfl)
theorem dX8_make_140 : decode cX8_make 140 = .ok (.bipush 16, 2) := dk_16 16 (dk_at dksX8_make_6 0 rfl rfl)
theorem dX8_make_142 : decode cX8_make 142 = .ok (.aload_n 0, 1) := dk_42 (dk_at dksX8_make_6 2 rfl rfl)
theorem dX8_make_143 : decode cX8_make 143 = .ok (.getfield 65, 3) := dk_180 0 65 (dk_at dksX8_make_6 3 rfl rfl)
theorem dX8_make_146 : decode cX8_make 146 = .ok (.imul, 1) := dk_104 (dk_at dksX8_make_6 6 rfl rfl)
theorem dX8_make_147 : decode cX8_make 147 = .ok (.iload_n 3, 1) := dk_29 (dk_at dksX8_make_6 7 rfl rfl)
theorem dX8_make_148 : decode cX8_make 148 = .ok (.iadd, 1) := dk_96 (dk_at dksX8_make_6 8 rfl rfl)
theorem dX8_make_149 : decode cX8_make 149 = .ok (.aload_n 0, 1) := dk_42 (dk_at dksX8_make_6 9 rfl rfl)
theorem dX8_make_150 : decode cX8_make 150 = .ok (.getfield 17, 3) := dk_180 0 17 (dk_at dksX8_make_6 10 rfl rfl)
theorem dX8_make_153 : decode cX8_make 153 = .ok (.iload_n 3, 1) := dk_29 (dk_at dksX8_make_6 13 rfl rfl)
theorem dX8_make_154 : decode cX8_make 154 = .ok (.laload, 1) := dk_47 (dk_at dksX8_make_6 14 rfl rfl)
theorem dX8_make_155 : decode cX8_make 155 = .ok (.lastore, 1) := dk_80 (dk_at dksX8_make_6 15 rfl rfl)
theorem dX8_make_156 : decode cX8_make 156 = .ok (.aload_n 0, 1) := dk_42 (dk_at dksX8_make_6 16 rfl rfl)
theorem dX8_make_157 : decode cX8_make 157 = .ok (.getfield 13, 3) := dk_180 0 13 (dk_at dksX8_make_6 17 rfl rfl)
theorem dX8_make_160 : decode cX8_make 160 = .ok (.bipush 16, 2) := dk_16 16 (dk_at dksX8_make_6 20 rfl rfl)
theorem dX8_make_162 : decode cX8_make 162 = .ok (.aload_n 0, 1) := dk_42 (dk_at dksX8_make_6 22 rfl rfl)
theorem dX8_make_163 : decode cX8_make 163 = .ok (.getfield 65, 3) := dk_180 0 65 (dk_at dksX8_make_7 0 rfl rfl)
theorem dX8_make_166 : decode cX8_make 166 = .ok (.imul, 1) := dk_104 (dk_at dksX8_make_7 3 rfl rfl)
theorem dX8_make_167 : decode cX8_make 167 = .ok (.bipush 8, 2) := dk_16 8 (dk_at dksX8_make_7 4 rfl rfl)
theorem dX8_make_169 : decode cX8_make 169 = .ok (.iadd, 1) := dk_96 (dk_at dksX8_make_7 6 rfl rfl)
theorem dX8_make_170 : decode cX8_make 170 = .ok (.iload_n 3, 1) := dk_29 (dk_at dksX8_make_7 7 rfl rfl)
theorem dX8_make_171 : decode cX8_make 171 = .ok (.iadd, 1) := dk_96 (dk_at dksX8_make_7 8 rfl rfl)
theorem dX8_make_172 : decode cX8_make 172 = .ok (.aload_n 0, 1) := dk_42 (dk_at dksX8_make_7 9 rfl rfl)
theorem dX8_make_173 : decode cX8_make 173 = .ok (.getfield 17, 3) := dk_180 0 17 (dk_at dksX8_make_7 10 rfl rfl)
theorem dX8_make_176 : decode cX8_make 176 = .ok (.bipush 64, 2) := dk_16 64 (dk_at dksX8_make_7 13 rfl rfl)
theorem dX8_make_178 : decode cX8_make 178 = .ok (.iload_n 3, 1) := dk_29 (dk_at dksX8_make_7 15 rfl rfl)
theorem dX8_make_179 : decode cX8_make 179 = .ok (.iadd, 1) := dk_96 (dk_at dksX8_make_7 16 rfl rfl)
theorem dX8_make_180 : decode cX8_make 180 = .ok (.laload, 1) := dk_47 (dk_at dksX8_make_7 17 rfl rfl)
theorem dX8_make_181 : decode cX8_make 181 = .ok (.lastore, 1) := dk_80 (dk_at dksX8_make_7 18 rfl rfl)
theorem dX8_make_182 : decode cX8_make 182 = .ok (.iinc 3 1, 3) := dk_132 3 1 (dk_at dksX8_make_7 19 rfl rfl)
theorem dX8_make_185 : decode cX8_make 185 = .ok (.goto (-55), 3) := dk_167 255 201 (dk_at dksX8_make_8 0 rfl rfl)
theorem dX8_make_188 : decode cX8_make 188 = .ok (.aload_n 0, 1) := dk_42 (dk_at dksX8_make_8 3 rfl rfl)
theorem dX8_make_189 : decode cX8_make 189 = .ok (.dup, 1) := dk_89 (dk_at dksX8_make_8 4 rfl rfl)
theorem dX8_make_190 : decode cX8_make 190 = .ok (.getfield 65, 3) := dk_180 0 65 (dk_at dksX8_make_8 5 rfl rfl)
theorem dX8_make_193 : decode cX8_make 193 = .ok (.iconst 1, 1) := dk_4 (dk_at dksX8_make_8 8 rfl rfl)
theorem dX8_make_194 : decode cX8_make 194 = .ok (.iadd, 1) := dk_96 (dk_at dksX8_make_8 9 rfl rfl)
theorem dX8_make_195 : decode cX8_make 195 = .ok (.putfield 65, 3) := dk_181 0 65 (dk_at dksX8_make_8 10 rfl rfl)
theorem dX8_make_198 : decode cX8_make 198 = .ok (.aload_n 0, 1) := dk_42 (dk_at dksX8_make_8 13 rfl rfl)
theorem dX8_make_199 : decode cX8_make 199 = .ok (.getfield 65, 3) := dk_180 0 65 (dk_at dksX8_make_8 14 rfl rfl)
theorem dX8_make_202 : decode cX8_make 202 = .ok (.iconst 1, 1) := dk_4 (dk_at dksX8_make_8 17 rfl rfl)
theorem dX8_make_203 : decode cX8_make 203 = .ok (.isub, 1) := dk_100 (dk_at dksX8_make_8 18 rfl rfl)
theorem dX8_make_204 : decode cX8_make 204 = .ok (.ireturn, 1) := dk_172 (dk_at dksX8_make_8 19 rfl rfl)
abbrev cX8_isZero : ByteArray := prog_11_method_7_code
def yX8_isZero : MethodName := ⟨RX8, "isZero", "(I)Z"⟩
def dkwX8_isZero_1 : List UInt8 := [3, 172, 132, 2, 1, 167, 255, 229, 4, 172]
abbrev dktX8_isZero_1 : List UInt8 := dkwX8_isZero_1 ++ []
def dkwX8_isZero_0 : List UInt8 := [3, 61, 28, 16, 64, 162, 0, 27, 42, 180, 0, 17, 16, 64, 27, 104, 28, 96, 47, 9, 148, 153, 0, 5]
abbrev dktX8_isZero_0 : List UInt8 := dkwX8_isZero_0 ++ dktX8_isZero_1
theorem dksX8_isZero_0 : cX8_isZero.data.toList.drop 0 = dktX8_isZero_0 := by decide +kernel
theorem dksX8_isZero_1 : cX8_isZero.data.toList.drop 24 = dktX8_isZero_1 := dk_seg dksX8_isZero_0 24 rfl rfl
theorem dX8_isZero_0 : decode cX8_isZero 0 = .ok (.iconst 0, 1) := dk_3 (dk_at dksX8_isZero_0 0 rfl rfl)
theorem dX8_isZero_1 : decode cX8_isZero 1 = .ok (.istore_n 2, 1) := dk_61 (dk_at dksX8_isZero_0 1 rfl rfl)
theorem dX8_isZero_2 : decode cX8_isZero 2 = .ok (.iload_n 2, 1) := dk_28 (dk_at dksX8_isZero_0 2 rfl rfl)
theorem dX8_isZero_3 : decode cX8_isZero 3 = .ok (.bipush 64, 2) := dk_16 64 (dk_at dksX8_isZero_0 3 rfl rfl)
theorem dX8_isZero_5 : decode cX8_isZero 5 = .ok (.if_icmp .ge 27, 3) := dk_162 0 27 (dk_at dksX8_isZero_0 5 rfl rfl)
theorem dX8_isZero_8 : decode cX8_isZero 8 = .ok (.aload_n 0, 1) := dk_42 (dk_at dksX8_isZero_0 8 rfl rfl)
theorem dX8_isZero_9 : decode cX8_isZero 9 = .ok (.getfield 17, 3) := dk_180 0 17 (dk_at dksX8_isZero_0 9 rfl rfl)
theorem dX8_isZero_12 : decode cX8_isZero 12 = .ok (.bipush 64, 2) := dk_16 64 (dk_at dksX8_isZero_0 12 rfl rfl)
theorem dX8_isZero_14 : decode cX8_isZero 14 = .ok (.iload_n 1, 1) := dk_27 (dk_at dksX8_isZero_0 14 rfl rfl)
theorem dX8_isZero_15 : decode cX8_isZero 15 = .ok (.imul, 1) := dk_104 (dk_at dksX8_isZero_0 15 rfl rfl)
theorem dX8_isZero_16 : decode cX8_isZero 16 = .ok (.iload_n 2, 1) := dk_28 (dk_at dksX8_isZero_0 16 rfl rfl)
theorem dX8_isZero_17 : decode cX8_isZero 17 = .ok (.iadd, 1) := dk_96 (dk_at dksX8_isZero_0 17 rfl rfl)
theorem dX8_isZero_18 : decode cX8_isZero 18 = .ok (.laload, 1) := dk_47 (dk_at dksX8_isZero_0 18 rfl rfl)
theorem dX8_isZero_19 : decode cX8_isZero 19 = .ok (.lconst 0, 1) := dk_9 (dk_at dksX8_isZero_0 19 rfl rfl)
theorem dX8_isZero_20 : decode cX8_isZero 20 = .ok (.lcmp, 1) := dk_148 (dk_at dksX8_isZero_0 20 rfl rfl)
theorem dX8_isZero_21 : decode cX8_isZero 21 = .ok (.ifCond .eq 5, 3) := dk_153 0 5 (dk_at dksX8_isZero_0 21 rfl rfl)
theorem dX8_isZero_24 : decode cX8_isZero 24 = .ok (.iconst 0, 1) := dk_3 (dk_at dksX8_isZero_1 0 rfl rfl)
theorem dX8_isZero_25 : decode cX8_isZero 25 = .ok (.ireturn, 1) := dk_172 (dk_at dksX8_isZero_1 1 rfl rfl)
theorem dX8_isZero_26 : decode cX8_isZero 26 = .ok (.iinc 2 1, 3) := dk_132 2 1 (dk_at dksX8_isZero_1 2 rfl rfl)
theorem dX8_isZero_29 : decode cX8_isZero 29 = .ok (.goto (-27), 3) := dk_167 255 229 (dk_at dksX8_isZero_1 5 rfl rfl)
theorem dX8_isZero_32 : decode cX8_isZero 32 = .ok (.iconst 1, 1) := dk_4 (dk_at dksX8_isZero_1 8 rfl rfl)
theorem dX8_isZero_33 : decode cX8_isZero 33 = .ok (.ireturn, 1) := dk_172 (dk_at dksX8_isZero_1 9 rfl rfl)
abbrev cX8_greatest : ByteArray := prog_11_method_18_code
def yX8_greatest : MethodName := ⟨RX8, "greatest", "(II)V"⟩
def dkwX8_greatest_7 : List UInt8 := [16, 14, 29, 182, 0, 34, 177]
abbrev dktX8_greatest_7 : List UInt8 := dkwX8_greatest_7 ++ []
def dkwX8_greatest_6 : List UInt8 := [158, 0, 11, 42, 16, 14, 16, 15, 182, 0, 62, 42, 16, 15, 16, 14, 182, 0, 46, 167, 255, 184, 42]
abbrev dktX8_greatest_6 : List UInt8 := dkwX8_greatest_6 ++ dktX8_greatest_7
def dkwX8_greatest_5 : List UInt8 := [182, 0, 56, 153, 0, 12, 42, 16, 15, 182, 0, 59, 167, 255, 241, 42, 16, 14, 16, 15, 182, 0, 42]
abbrev dktX8_greatest_5 : List UInt8 := dkwX8_greatest_5 ++ dktX8_greatest_6
def dkwX8_greatest_4 : List UInt8 := [154, 0, 69, 42, 16, 14, 182, 0, 56, 153, 0, 12, 42, 16, 14, 182, 0, 59, 167, 255, 241, 42, 16, 15]
abbrev dktX8_greatest_4 : List UInt8 := dkwX8_greatest_4 ++ dktX8_greatest_5
def dkwX8_greatest_3 : List UInt8 := [42, 16, 14, 182, 0, 59, 42, 16, 15, 182, 0, 59, 132, 3, 1, 167, 255, 223, 42, 16, 15, 182, 0, 52]
abbrev dktX8_greatest_3 : List UInt8 := dkwX8_greatest_3 ++ dktX8_greatest_4
def dkwX8_greatest_2 : List UInt8 := [182, 0, 49, 177, 3, 62, 42, 16, 14, 182, 0, 56, 153, 0, 30, 42, 16, 15, 182, 0, 56, 153, 0, 21]
abbrev dktX8_greatest_2 : List UInt8 := dkwX8_greatest_2 ++ dktX8_greatest_3
def dkwX8_greatest_1 : List UInt8 := [16, 15, 182, 0, 52, 153, 0, 21, 42, 16, 14, 182, 0, 52, 153, 0, 11, 42, 16, 15, 16, 14]
abbrev dktX8_greatest_1 : List UInt8 := dkwX8_greatest_1 ++ dktX8_greatest_2
def dkwX8_greatest_0 : List UInt8 := [42, 27, 16, 14, 182, 0, 49, 42, 28, 16, 15, 182, 0, 49, 42, 16, 14, 182, 0, 52, 154, 0, 12, 42]
abbrev dktX8_greatest_0 : List UInt8 := dkwX8_greatest_0 ++ dktX8_greatest_1
theorem dksX8_greatest_0 : cX8_greatest.data.toList.drop 0 = dktX8_greatest_0 := by decide +kernel
theorem dksX8_greatest_1 : cX8_greatest.data.toList.drop 24 = dktX8_greatest_1 := dk_seg dksX8_greatest_0 24 rfl rfl
theorem dksX8_greatest_2 : cX8_greatest.data.toList.drop 46 = dktX8_greatest_2 := dk_seg dksX8_greatest_1 22 rfl rfl
theorem dksX8_greatest_3 : cX8_greatest.data.toList.drop 70 = dktX8_greatest_3 := dk_seg dksX8_greatest_2 24 rfl rfl
theorem dksX8_greatest_4 : cX8_greatest.data.toList.drop 94 = dktX8_greatest_4 := dk_seg dksX8_greatest_3 24 rfl rfl
theorem dksX8_greatest_5 : cX8_greatest.data.toList.drop 118 = dktX8_greatest_5 := dk_seg dksX8_greatest_4 24 rfl rfl
theorem dksX8_greatest_6 : cX8_greatest.data.toList.drop 141 = dktX8_greatest_6 := dk_seg dksX8_greatest_5 23 rfl rfl
theorem dksX8_greatest_7 : cX8_greatest.data.toList.drop 164 = dktX8_greatest_7 := dk_seg dksX8_greatest_6 23 rfl rfl
theorem dX8_greatest_0 : decode cX8_greatest 0 = .ok (.aload_n 0, 1) := dk_42 (dk_at dksX8_greatest_0 0 rfl rfl)
theorem dX8_greatest_1 : decode cX8_greatest 1 = .ok (.iload_n 1, 1) := dk_27 (dk_at dksX8_greatest_0 1 rfl rfl)
theorem dX8_greatest_2 : decode cX8_greatest 2 = .ok (.bipush 14, 2) := dk_16 14 (dk_at dksX8_greatest_0 2 rfl rfl)
theorem dX8_greatest_4 : decode cX8_greatest 4 = .ok (.invokevirtual 49, 3) := dk_182 0 49 (dk_at dksX8_greatest_0 4 rfl rfl)
theorem dX8_greatest_7 : decode cX8_greatest 7 = .ok (.aload_n 0, 1) := dk_42 (dk_at dksX8_greatest_0 7 rfl rfl)
theorem dX8_greatest_8 : decode cX8_greatest 8 = .ok (.iload_n 2, 1) := dk_28 (dk_at dksX8_greatest_0 8 rfl rfl)
theorem dX8_greatest_9 : decode cX8_greatest 9 = .ok (.bipush 15, 2) := dk_16 15 (dk_at dksX8_greatest_0 9 rfl rfl)
theorem dX8_greatest_11 : decode cX8_greatest 11 = .ok (.invokevirtual 49, 3) := dk_182 0 49 (dk_at dksX8_greatest_0 11 rfl rfl)
theorem dX8_greatest_14 : decode cX8_greatest 14 = .ok (.aload_n 0, 1) := dk_42 (dk_at dksX8_greatest_0 14 rfl rfl)
theorem dX8_greatest_15 : decode cX8_greatest 15 = .ok (.bipush 14, 2) := dk_16 14 (dk_at dksX8_greatest_0 15 rfl rfl)
theorem dX8_greatest_17 : decode cX8_greatest 17 = .ok (.invokevirtual 52, 3) := dk_182 0 52 (dk_at dksX8_greatest_0 17 rfl rfl)
theorem dX8_greatest_20 : decode cX8_greatest 20 = .ok (.ifCond .ne 12, 3) := dk_154 0 12 (dk_at dksX8_greatest_0 20 rfl rfl)
theorem dX8_greatest_23 : decode cX8_greatest 23 = .ok (.aload_n 0, 1) := dk_42 (dk_at dksX8_greatest_0 23 rfl rfl)
theorem dX8_greatest_24 : decode cX8_greatest 24 = .ok (.bipush 15, 2) := dk_16 15 (dk_at dksX8_greatest_1 0 rfl rfl)
theorem dX8_greatest_26 : decode cX8_greatest 26 = .ok (.invokevirtual 52, 3) := dk_182 0 52 (dk_at dksX8_greatest_1 2 rfl rfl)
theorem dX8_greatest_29 : decode cX8_greatest 29 = .ok (.ifCond .eq 21, 3) := dk_153 0 21 (dk_at dksX8_greatest_1 5 rfl rfl)
theorem dX8_greatest_32 : decode cX8_greatest 32 = .ok (.aload_n 0, 1) := dk_42 (dk_at dksX8_greatest_1 8 rfl rfl)
theorem dX8_greatest_33 : decode cX8_greatest 33 = .ok (.bipush 14, 2) := dk_16 14 (dk_at dksX8_greatest_1 9 rfl rfl)
theorem dX8_greatest_35 : decode cX8_greatest 35 = .ok (.invokevirtual 52, 3) := dk_182 0 52 (dk_at dksX8_greatest_1 11 rfl rfl)
theorem dX8_greatest_38 : decode cX8_greatest 38 = .ok (.ifCond .eq 11, 3) := dk_153 0 11 (dk_at dksX8_greatest_1 14 rfl rfl)
theorem dX8_greatest_41 : decode cX8_greatest 41 = .ok (.aload_n 0, 1) := dk_42 (dk_at dksX8_greatest_1 17 rfl rfl)
theorem dX8_greatest_42 : decode cX8_greatest 42 = .ok (.bipush 15, 2) := dk_16 15 (dk_at dksX8_greatest_1 18 rfl rfl)
theorem dX8_greatest_44 : decode cX8_greatest 44 = .ok (.bipush 14, 2) := dk_16 14 (dk_at dksX8_greatest_1 20 rfl rfl)
theorem dX8_greatest_46 : decode cX8_greatest 46 = .ok (.invokevirtual 49, 3) := dk_182 0 49 (dk_at dksX8_greatest_2 0 rfl rfl)
theorem dX8_greatest_49 : decode cX8_greatest 49 = .ok (.return_, 1) := dk_177 (dk_at dksX8_greatest_2 3 rfl rfl)
theorem dX8_greatest_50 : decode cX8_greatest 50 = .ok (.iconst 0, 1) := dk_3 (dk_at dksX8_greatest_2 4 rfl rfl)
theorem dX8_greatest_51 : decode cX8_greatest 51 = .ok (.istore_n 3, 1) := dk_62 (dk_at dksX8_greatest_2 5 rfl rfl)
theorem dX8_greatest_52 : decode cX8_greatest 52 = .ok (.aload_n 0, 1) := dk_42 (dk_at dksX8_greatest_2 6 rfl rfl)
theorem dX8_greatest_53 : decode cX8_greatest 53 = .ok (.bipush 14, 2) := dk_16 14 (dk_at dksX8_greatest_2 7 rfl rfl)
theorem dX8_greatest_55 : decode cX8_greatest 55 = .ok (.invokevirtual 56, 3) := dk_182 0 56 (dk_at dksX8_greatest_2 9 rfl rfl)
theorem dX8_greatest_58 : decode cX8_greatest 58 = .ok (.ifCond .eq 30, 3) := dk_153 0 30 (dk_at dksX8_greatest_2 12 rfl rfl)
theorem dX8_greatest_61 : decode cX8_greatest 61 = .ok (.aload_n 0, 1) := dk_42 (dk_at dksX8_greatest_2 15 rfl rfl)
theorem dX8_greatest_62 : decode cX8_greatest 62 = .ok (.bipush 15, 2) := dk_16 15 (dk_at dksX8_greatest_2 16 rfl rfl)
theorem dX8_greatest_64 : decode cX8_greatest 64 = .ok (.invokevirtual 56, 3) := dk_182 0 56 (dk_at dksX8_greatest_2 18 rfl rfl)
theorem dX8_greatest_67 : decode cX8_greatest 67 = .ok (.ifCond .eq 21, 3) := dk_153 0 21 (dk_at dksX8_greatest_2 21 rfl rfl)
theorem dX8_greatest_70 : decode cX8_greatest 70 = .ok (.aload_n 0, 1) := dk_42 (dk_at dksX8_greatest_3 0 rfl rfl)
theorem dX8_greatest_71 : decode cX8_greatest 71 = .ok (.bipush 14, 2) := dk_16 14 (dk_at dksX8_greatest_3 1 rfl rfl)
theorem dX8_greatest_73 : decode cX8_greatest 73 = .ok (.invokevirtual 59, 3) := dk_182 0 59 (dk_at dksX8_greatest_3 3 rfl rfl)
theorem dX8_greatest_76 : decode cX8_greatest 76 = .ok (.aload_n 0, 1) := dk_42 (dk_at dksX8_greatest_3 6 rfl rfl)
theorem dX8_greatest_77 : decode cX8_greatest 77 = .ok (.bipush 15, 2) := dk_16 15 (dk_at dksX8_greatest_3 7 rfl rfl)
theorem dX8_greatest_79 : decode cX8_greatest 79 = .ok (.invokevirtual 59, 3) := dk_182 0 59 (dk_at dksX8_greatest_3 9 rfl rfl)
theorem dX8_greatest_82 : decode cX8_greatest 82 = .ok (.iinc 3 1, 3) := dk_132 3 1 (dk_at dksX8_greatest_3 12 rfl rfl)
theorem dX8_greatest_85 : decode cX8_greatest 85 = .ok (.goto (-33), 3) := dk_167 255 223 (dk_at dksX8_greatest_3 15 rfl rfl)
theorem dX8_greatest_88 : decode cX8_greatest 88 = .ok (.aload_n 0, 1) := dk_42 (dk_at dksX8_greatest_3 18 rfl rfl)
theorem dX8_greatest_89 : decode cX8_greatest 89 = .ok (.bipush 15, 2) := dk_16 15 (dk_at dksX8_greatest_3 19 rfl rfl)
theorem dX8_greatest_91 : decode cX8_greatest 91 = .ok (.invokevirtual 52, 3) := dk_182 0 52 (dk_at dksX8_greatest_3 21 rfl rfl)
theorem dX8_greatest_94 : decode cX8_greatest 94 = .ok (.ifCond .ne 69, 3) := dk_154 0 69 (dk_at dksX8_greatest_4 0 rfl rfl)
theorem dX8_greatest_97 : decode cX8_greatest 97 = .ok (.aload_n 0, 1) := dk_42 (dk_at dksX8_greatest_4 3 rfl rfl)
theorem dX8_greatest_98 : decode cX8_greatest 98 = .ok (.bipush 14, 2) := dk_16 14 (dk_at dksX8_greatest_4 4 rfl rfl)
theorem dX8_greatest_100 : decode cX8_greatest 100 = .ok (.invokevirtual 56, 3) := dk_182 0 56 (dk_at dksX8_greatest_4 6 rfl rfl)
theorem dX8_greatest_103 : decode cX8_greatest 103 = .ok (.ifCond .eq 12, 3) := dk_153 0 12 (dk_at dksX8_greatest_4 9 rfl rfl)
theorem dX8_greatest_106 : decode cX8_greatest 106 = .ok (.aload_n 0, 1) := dk_42 (dk_at dksX8_greatest_4 12 rfl rfl)
theorem dX8_greatest_107 : decode cX8_greatest 107 = .ok (.bipush 14, 2) := dk_16 14 (dk_at dksX8_greatest_4 13 rfl rfl)
theorem dX8_greatest_109 : decode cX8_greatest 109 = .ok (.invokevirtual 59, 3) := dk_182 0 59 (dk_at dksX8_greatest_4 15 rfl rfl)
theorem dX8_greatest_112 : decode cX8_greatest 112 = .ok (.goto (-15), 3) := dk_167 255 241 (dk_at dksX8_greatest_4 18 rfl rfl)
theorem dX8_greatest_115 : decode cX8_greatest 115 = .ok (.aload_n 0, 1) := dk_42 (dk_at dksX8_greatest_4 21 rfl rfl)
theorem dX8_greatest_116 : decode cX8_greatest 116 = .ok (.bipush 15, 2) := dk_16 15 (dk_at dksX8_greatest_4 22 rfl rfl)
theorem dX8_greatest_118 : decode cX8_greatest 118 = .ok (.invokevirtual 56, 3) := dk_182 0 56 (dk_at dksX8_greatest_5 0 rfl rfl)
theorem dX8_greatest_121 : decode cX8_greatest 121 = .ok (.ifCond .eq 12, 3) := dk_153 0 12 (dk_at dksX8_greatest_5 3 rfl rfl)
theorem dX8_greatest_124 : decode cX8_greatest 124 = .ok (.aload_n 0, 1) := dk_42 (dk_at dksX8_greatest_5 6 rfl rfl)
theorem dX8_greatest_125 : decode cX8_greatest 125 = .ok (.bipush 15, 2) := dk_16 15 (dk_at dksX8_greatest_5 7 rfl rfl)
theorem dX8_greatest_127 : decode cX8_greatest 127 = .ok (.invokevirtual 59, 3) := dk_182 0 59 (dk_at dksX8_greatest_5 9 rfl rfl)
theorem dX8_greatest_130 : decode cX8_greatest 130 = .ok (.goto (-15), 3) := dk_167 255 241 (dk_at dksX8_greatest_5 12 rfl rfl)
theorem dX8_greatest_133 : decode cX8_greatest 133 = .ok (.aload_n 0, 1) := dk_42 (dk_at dksX8_greatest_5 15 rfl rfl)
theorem dX8_greatest_134 : decode cX8_greatest 134 = .ok (.bipush 14, 2) := dk_16 14 (dk_at dksX8_greatest_5 16 rfl rfl)
theorem dX8_greatest_136 : decode cX8_greatest 136 = .ok (.bipush 15, 2) := dk_16 15 (dk_at dksX8_greatest_5 18 rfl rfl)
theorem dX8_greatest_138 : decode cX8_greatest 138 = .ok (.invokevirtual 42, 3) := dk_182 0 42 (dk_at dksX8_greatest_5 20 rfl rfl)
theorem dX8_greatest_141 : decode cX8_greatest 141 = .ok (.ifCond .le 11, 3) := dk_158 0 11 (dk_at dksX8_greatest_6 0 rfl rfl)
theorem dX8_greatest_144 : decode cX8_greatest 144 = .ok (.aload_n 0, 1) := dk_42 (dk_at dksX8_greatest_6 3 rfl rfl)
theorem dX8_greatest_145 : decode cX8_greatest 145 = .ok (.bipush 14, 2) := dk_16 14 (dk_at dksX8_greatest_6 4 rfl rfl)
theorem dX8_greatest_147 : decode cX8_greatest 147 = .ok (.bipush 15, 2) := dk_16 15 (dk_at dksX8_greatest_6 6 rfl rfl)
theorem dX8_greatest_149 : decode cX8_greatest 149 = .ok (.invokevirtual 62, 3) := dk_182 0 62 (dk_at dksX8_greatest_6 8 rfl rfl)
theorem dX8_greatest_152 : decode cX8_greatest 152 = .ok (.aload_n 0, 1) := dk_42 (dk_at dksX8_greatest_6 11 rfl rfl)
theorem dX8_greatest_153 : decode cX8_greatest 153 = .ok (.bipush 15, 2) := dk_16 15 (dk_at dksX8_greatest_6 12 rfl rfl)
theorem dX8_greatest_155 : decode cX8_greatest 155 = .ok (.bipush 14, 2) := dk_16 14 (dk_at dksX8_greatest_6 14 rfl rfl)
theorem dX8_greatest_157 : decode cX8_greatest 157 = .ok (.invokevirtual 46, 3) := dk_182 0 46 (dk_at dksX8_greatest_6 16 rfl rfl)
theorem dX8_greatest_160 : decode cX8_greatest 160 = .ok (.goto (-72), 3) := dk_167 255 184 (dk_at dksX8_greatest_6 19 rfl rfl)
theorem dX8_greatest_163 : decode cX8_greatest 163 = .ok (.aload_n 0, 1) := dk_42 (dk_at dksX8_greatest_6 22 rfl rfl)
theorem dX8_greatest_164 : decode cX8_greatest 164 = .ok (.bipush 14, 2) := dk_16 14 (dk_at dksX8_greatest_7 0 rfl rfl)
theorem dX8_greatest_166 : decode cX8_greatest 166 = .ok (.iload_n 3, 1) := dk_29 (dk_at dksX8_greatest_7 2 rfl rfl)
theorem dX8_greatest_167 : decode cX8_greatest 167 = .ok (.invokevirtual 34, 3) := dk_182 0 34 (dk_at dksX8_greatest_7 3 rfl rfl)
theorem dX8_greatest_170 : decode cX8_greatest 170 = .ok (.return_, 1) := dk_177 (dk_at dksX8_greatest_7 6 rfl rfl)
abbrev cX8_copy : ByteArray := prog_11_method_6_code
def yX8_copy : MethodName := ⟨RX8, "copy", "(II)V"⟩
def dkwX8_copy_1 : List UInt8 := [27, 104, 29, 96, 47, 80, 132, 3, 1, 167, 255, 225, 177]
abbrev dktX8_copy_1 : List UInt8 := dkwX8_copy_1 ++ []
def dkwX8_copy_0 : List UInt8 := [3, 62, 29, 16, 64, 162, 0, 31, 42, 180, 0, 17, 16, 64, 28, 104, 29, 96, 42, 180, 0, 17, 16, 64]
abbrev dktX8_copy_0 : List UInt8 := dkwX8_copy_0 ++ dktX8_copy_1
theorem dksX8_copy_0 : cX8_copy.data.toList.drop 0 = dktX8_copy_0 := by decide +kernel
theorem dksX8_copy_1 : cX8_copy.data.toList.drop 24 = dktX8_copy_1 := dk_seg dksX8_copy_0 24 rfl rfl
theorem dX8_copy_0 : decode cX8_copy 0 = .ok (.iconst 0, 1) := dk_3 (dk_at dksX8_copy_0 0 rfl rfl)
theorem dX8_copy_1 : decode cX8_copy 1 = .ok (.istore_n 3, 1) := dk_62 (dk_at dksX8_copy_0 1 rfl rfl)
theorem dX8_copy_2 : decode cX8_copy 2 = .ok (.iload_n 3, 1) := dk_29 (dk_at dksX8_copy_0 2 rfl rfl)
theorem dX8_copy_3 : decode cX8_copy 3 = .ok (.bipush 64, 2) := dk_16 64 (dk_at dksX8_copy_0 3 rfl rfl)
theorem dX8_copy_5 : decode cX8_copy 5 = .ok (.if_icmp .ge 31, 3) := dk_162 0 31 (dk_at dksX8_copy_0 5 rfl rfl)
theorem dX8_copy_8 : decode cX8_copy 8 = .ok (.aload_n 0, 1) := dk_42 (dk_at dksX8_copy_0 8 rfl rfl)
theorem dX8_copy_9 : decode cX8_copy 9 = .ok (.getfield 17, 3) := dk_180 0 17 (dk_at dksX8_copy_0 9 rfl rfl)
theorem dX8_copy_12 : decode cX8_copy 12 = .ok (.bipush 64, 2) := dk_16 64 (dk_at dksX8_copy_0 12 rfl rfl)
theorem dX8_copy_14 : decode cX8_copy 14 = .ok (.iload_n 2, 1) := dk_28 (dk_at dksX8_copy_0 14 rfl rfl)
theorem dX8_copy_15 : decode cX8_copy 15 = .ok (.imul, 1) := dk_104 (dk_at dksX8_copy_0 15 rfl rfl)
theorem dX8_copy_16 : decode cX8_copy 16 = .ok (.iload_n 3, 1) := dk_29 (dk_at dksX8_copy_0 16 rfl rfl)
theorem dX8_copy_17 : decode cX8_copy 17 = .ok (.iadd, 1) := dk_96 (dk_at dksX8_copy_0 17 rfl rfl)
theorem dX8_copy_18 : decode cX8_copy 18 = .ok (.aload_n 0, 1) := dk_42 (dk_at dksX8_copy_0 18 rfl rfl)
theorem dX8_copy_19 : decode cX8_copy 19 = .ok (.getfield 17, 3) := dk_180 0 17 (dk_at dksX8_copy_0 19 rfl rfl)
theorem dX8_copy_22 : decode cX8_copy 22 = .ok (.bipush 64, 2) := dk_16 64 (dk_at dksX8_copy_0 22 rfl rfl)
theorem dX8_copy_24 : decode cX8_copy 24 = .ok (.iload_n 1, 1) := dk_27 (dk_at dksX8_copy_1 0 rfl rfl)
theorem dX8_copy_25 : decode cX8_copy 25 = .ok (.imul, 1) := dk_104 (dk_at dksX8_copy_1 1 rfl rfl)
theorem dX8_copy_26 : decode cX8_copy 26 = .ok (.iload_n 3, 1) := dk_29 (dk_at dksX8_copy_1 2 rfl rfl)
theorem dX8_copy_27 : decode cX8_copy 27 = .ok (.iadd, 1) := dk_96 (dk_at dksX8_copy_1 3 rfl rfl)
theorem dX8_copy_28 : decode cX8_copy 28 = .ok (.laload, 1) := dk_47 (dk_at dksX8_copy_1 4 rfl rfl)
theorem dX8_copy_29 : decode cX8_copy 29 = .ok (.lastore, 1) := dk_80 (dk_at dksX8_copy_1 5 rfl rfl)
theorem dX8_copy_30 : decode cX8_copy 30 = .ok (.iinc 3 1, 3) := dk_132 3 1 (dk_at dksX8_copy_1 6 rfl rfl)
theorem dX8_copy_33 : decode cX8_copy 33 = .ok (.goto (-31), 3) := dk_167 255 225 (dk_at dksX8_copy_1 9 rfl rfl)
theorem dX8_copy_36 : decode cX8_copy 36 = .ok (.return_, 1) := dk_177 (dk_at dksX8_copy_1 12 rfl rfl)
abbrev cX8_isEven : ByteArray := prog_11_method_16_code
def yX8_isEven : MethodName := ⟨RX8, "isEven", "(I)Z"⟩
def dkwX8_isEven_0 : List UInt8 := [42, 180, 0, 17, 16, 64, 27, 104, 47, 10, 127, 9, 148, 154, 0, 7, 4, 167, 0, 4, 3, 172]
abbrev dktX8_isEven_0 : List UInt8 := dkwX8_isEven_0 ++ []
theorem dksX8_isEven_0 : cX8_isEven.data.toList.drop 0 = dktX8_isEven_0 := by decide +kernel
theorem dX8_isEven_0 : decode cX8_isEven 0 = .ok (.aload_n 0, 1) := dk_42 (dk_at dksX8_isEven_0 0 rfl rfl)
theorem dX8_isEven_1 : decode cX8_isEven 1 = .ok (.getfield 17, 3) := dk_180 0 17 (dk_at dksX8_isEven_0 1 rfl rfl)
theorem dX8_isEven_4 : decode cX8_isEven 4 = .ok (.bipush 64, 2) := dk_16 64 (dk_at dksX8_isEven_0 4 rfl rfl)
theorem dX8_isEven_6 : decode cX8_isEven 6 = .ok (.iload_n 1, 1) := dk_27 (dk_at dksX8_isEven_0 6 rfl rfl)
theorem dX8_isEven_7 : decode cX8_isEven 7 = .ok (.imul, 1) := dk_104 (dk_at dksX8_isEven_0 7 rfl rfl)
theorem dX8_isEven_8 : decode cX8_isEven 8 = .ok (.laload, 1) := dk_47 (dk_at dksX8_isEven_0 8 rfl rfl)
theorem dX8_isEven_9 : decode cX8_isEven 9 = .ok (.lconst 1, 1) := dk_10 (dk_at dksX8_isEven_0 9 rfl rfl)
theorem dX8_isEven_10 : decode cX8_isEven 10 = .ok (.land, 1) := dk_127 (dk_at dksX8_isEven_0 10 rfl rfl)
theorem dX8_isEven_11 : decode cX8_isEven 11 = .ok (.lconst 0, 1) := dk_9 (dk_at dksX8_isEven_0 11 rfl rfl)
theorem dX8_isEven_12 : decode cX8_isEven 12 = .ok (.lcmp, 1) := dk_148 (dk_at dksX8_isEven_0 12 rfl rfl)
theorem dX8_isEven_13 : decode cX8_isEven 13 = .ok (.ifCond .ne 7, 3) := dk_154 0 7 (dk_at dksX8_isEven_0 13 rfl rfl)
theorem dX8_isEven_16 : decode cX8_isEven 16 = .ok (.iconst 1, 1) := dk_4 (dk_at dksX8_isEven_0 16 rfl rfl)
theorem dX8_isEven_17 : decode cX8_isEven 17 = .ok (.goto 4, 3) := dk_167 0 4 (dk_at dksX8_isEven_0 17 rfl rfl)
theorem dX8_isEven_20 : decode cX8_isEven 20 = .ok (.iconst 0, 1) := dk_3 (dk_at dksX8_isEven_0 20 rfl rfl)
theorem dX8_isEven_21 : decode cX8_isEven 21 = .ok (.ireturn, 1) := dk_172 (dk_at dksX8_isEven_0 21 rfl rfl)
abbrev cX8_halve : ByteArray := prog_11_method_15_code
def yX8_halve : MethodName := ⟨RX8, "halve", "(I)V"⟩
def dkwX8_halve_2 : List UInt8 := [22, 5, 10, 127, 65, 132, 4, 255, 167, 255, 208, 177]
abbrev dktX8_halve_2 : List UInt8 := dkwX8_halve_2 ++ []
def dkwX8_halve_1 : List UInt8 := [55, 5, 42, 180, 0, 17, 16, 64, 27, 104, 21, 4, 96, 22, 5, 4, 123, 32, 16, 31, 121, 129, 80]
abbrev dktX8_halve_1 : List UInt8 := dkwX8_halve_1 ++ dktX8_halve_2
def dkwX8_halve_0 : List UInt8 := [9, 65, 16, 63, 54, 4, 21, 4, 155, 0, 49, 42, 180, 0, 17, 16, 64, 27, 104, 21, 4, 96, 47]
abbrev dktX8_halve_0 : List UInt8 := dkwX8_halve_0 ++ dktX8_halve_1
theorem dksX8_halve_0 : cX8_halve.data.toList.drop 0 = dktX8_halve_0 := by decide +kernel
theorem dksX8_halve_1 : cX8_halve.data.toList.drop 23 = dktX8_halve_1 := dk_seg dksX8_halve_0 23 rfl rfl
theorem dksX8_halve_2 : cX8_halve.data.toList.drop 46 = dktX8_halve_2 := dk_seg dksX8_halve_1 23 rfl rfl
theorem dX8_halve_0 : decode cX8_halve 0 = .ok (.lconst 0, 1) := dk_9 (dk_at dksX8_halve_0 0 rfl rfl)
theorem dX8_halve_1 : decode cX8_halve 1 = .ok (.lstore_n 2, 1) := dk_65 (dk_at dksX8_halve_0 1 rfl rfl)
theorem dX8_halve_2 : decode cX8_halve 2 = .ok (.bipush 63, 2) := dk_16 63 (dk_at dksX8_halve_0 2 rfl rfl)
theorem dX8_halve_4 : decode cX8_halve 4 = .ok (.istore 4, 2) := dk_54 4 (dk_at dksX8_halve_0 4 rfl rfl)
theorem dX8_halve_6 : decode cX8_halve 6 = .ok (.iload 4, 2) := dk_21 4 (dk_at dksX8_halve_0 6 rfl rfl)
theorem dX8_halve_8 : decode cX8_halve 8 = .ok (.ifCond .lt 49, 3) := dk_155 0 49 (dk_at dksX8_halve_0 8 rfl rfl)
theorem dX8_halve_11 : decode cX8_halve 11 = .ok (.aload_n 0, 1) := dk_42 (dk_at dksX8_halve_0 11 rfl rfl)
theorem dX8_halve_12 : decode cX8_halve 12 = .ok (.getfield 17, 3) := dk_180 0 17 (dk_at dksX8_halve_0 12 rfl rfl)
theorem dX8_halve_15 : decode cX8_halve 15 = .ok (.bipush 64, 2) := dk_16 64 (dk_at dksX8_halve_0 15 rfl rfl)
theorem dX8_halve_17 : decode cX8_halve 17 = .ok (.iload_n 1, 1) := dk_27 (dk_at dksX8_halve_0 17 rfl rfl)
theorem dX8_halve_18 : decode cX8_halve 18 = .ok (.imul, 1) := dk_104 (dk_at dksX8_halve_0 18 rfl rfl)
theorem dX8_halve_19 : decode cX8_halve 19 = .ok (.iload 4, 2) := dk_21 4 (dk_at dksX8_halve_0 19 rfl rfl)
theorem dX8_halve_21 : decode cX8_halve 21 = .ok (.iadd, 1) := dk_96 (dk_at dksX8_halve_0 21 rfl rfl)
theorem dX8_halve_22 : decode cX8_halve 22 = .ok (.laload, 1) := dk_47 (dk_at dksX8_halve_0 22 rfl rfl)
theorem dX8_halve_23 : decode cX8_halve 23 = .ok (.lstore 5, 2) := dk_55 5 (dk_at dksX8_halve_1 0 rfl rfl)
theorem dX8_halve_25 : decode cX8_halve 25 = .ok (.aload_n 0, 1) := dk_42 (dk_at dksX8_halve_1 2 rfl rfl)
theorem dX8_halve_26 : decode cX8_halve 26 = .ok (.getfield 17, 3) := dk_180 0 17 (dk_at dksX8_halve_1 3 rfl rfl)
theorem dX8_halve_29 : decode cX8_halve 29 = .ok (.bipush 64, 2) := dk_16 64 (dk_at dksX8_halve_1 6 rfl rfl)
theorem dX8_halve_31 : decode cX8_halve 31 = .ok (.iload_n 1, 1) := dk_27 (dk_at dksX8_halve_1 8 rfl rfl)
theorem dX8_halve_32 : decode cX8_halve 32 = .ok (.imul, 1) := dk_104 (dk_at dksX8_halve_1 9 rfl rfl)
theorem dX8_halve_33 : decode cX8_halve 33 = .ok (.iload 4, 2) := dk_21 4 (dk_at dksX8_halve_1 10 rfl rfl)
theorem dX8_halve_35 : decode cX8_halve 35 = .ok (.iadd, 1) := dk_96 (dk_at dksX8_halve_1 12 rfl rfl)
theorem dX8_halve_36 : decode cX8_halve 36 = .ok (.lload 5, 2) := dk_22 5 (dk_at dksX8_halve_1 13 rfl rfl)
theorem dX8_halve_38 : decode cX8_halve 38 = .ok (.iconst 1, 1) := dk_4 (dk_at dksX8_halve_1 15 rfl rfl)
theorem dX8_halve_39 : decode cX8_halve 39 = .ok (.lshr, 1) := dk_123 (dk_at dksX8_halve_1 16 rfl rfl)
theorem dX8_halve_40 : decode cX8_halve 40 = .ok (.lload_n 2, 1) := dk_32 (dk_at dksX8_halve_1 17 rfl rfl)
theorem dX8_halve_41 : decode cX8_halve 41 = .ok (.bipush 31, 2) := dk_16 31 (dk_at dksX8_halve_1 18 rfl rfl)
theorem dX8_halve_43 : decode cX8_halve 43 = .ok (.lshl, 1) := dk_121 (dk_at dksX8_halve_1 20 rfl rfl)
theorem dX8_halve_44 : decode cX8_halve 44 = .ok (.lor, 1) := dk_129 (dk_at dksX8_halve_1 21 rfl rfl)
theorem dX8_halve_45 : decode cX8_halve 45 = .ok (.lastore, 1) := dk_80 (dk_at dksX8_halve_1 22 rfl rfl)
theorem dX8_halve_46 : decode cX8_halve 46 = .ok (.lload 5, 2) := dk_22 5 (dk_at dksX8_halve_2 0 rfl rfl)
theorem dX8_halve_48 : decode cX8_halve 48 = .ok (.lconst 1, 1) := dk_10 (dk_at dksX8_halve_2 2 rfl rfl)
theorem dX8_halve_49 : decode cX8_halve 49 = .ok (.land, 1) := dk_127 (dk_at dksX8_halve_2 3 rfl rfl)
theorem dX8_halve_50 : decode cX8_halve 50 = .ok (.lstore_n 2, 1) := dk_65 (dk_at dksX8_halve_2 4 rfl rfl)
theorem dX8_halve_51 : decode cX8_halve 51 = .ok (.iinc 4 (-1), 3) := dk_132 4 255 (dk_at dksX8_halve_2 5 rfl rfl)
theorem dX8_halve_54 : decode cX8_halve 54 = .ok (.goto (-48), 3) := dk_167 255 208 (dk_at dksX8_halve_2 8 rfl rfl)
theorem dX8_halve_57 : decode cX8_halve 57 = .ok (.return_, 1) := dk_177 (dk_at dksX8_halve_2 11 rfl rfl)
abbrev cX8_compare : ByteArray := prog_11_method_8_code
def yX8_compare : MethodName := ⟨RX8, "compare", "(II)I"⟩
def dkwX8_compare_3 : List UInt8 := [172]
abbrev dktX8_compare_3 : List UInt8 := dkwX8_compare_3 ++ []
def dkwX8_compare_2 : List UInt8 := [16, 64, 28, 104, 29, 96, 47, 148, 156, 0, 7, 2, 167, 0, 4, 4, 172, 132, 3, 255, 167, 255, 191, 3]
abbrev dktX8_compare_2 : List UInt8 := dkwX8_compare_2 ++ dktX8_compare_3
def dkwX8_compare_1 : List UInt8 := [28, 104, 29, 96, 47, 148, 153, 0, 35, 42, 180, 0, 17, 16, 64, 27, 104, 29, 96, 47, 42, 180, 0, 17]
abbrev dktX8_compare_1 : List UInt8 := dkwX8_compare_1 ++ dktX8_compare_2
def dkwX8_compare_0 : List UInt8 := [16, 63, 62, 29, 155, 0, 67, 42, 180, 0, 17, 16, 64, 27, 104, 29, 96, 47, 42, 180, 0, 17, 16, 64]
abbrev dktX8_compare_0 : List UInt8 := dkwX8_compare_0 ++ dktX8_compare_1
theorem dksX8_compare_0 : cX8_compare.data.toList.drop 0 = dktX8_compare_0 := by decide +kernel
theorem dksX8_compare_1 : cX8_compare.data.toList.drop 24 = dktX8_compare_1 := dk_seg dksX8_compare_0 24 rfl rfl
theorem dksX8_compare_2 : cX8_compare.data.toList.drop 48 = dktX8_compare_2 := dk_seg dksX8_compare_1 24 rfl rfl
theorem dksX8_compare_3 : cX8_compare.data.toList.drop 72 = dktX8_compare_3 := dk_seg dksX8_compare_2 24 rfl rfl
theorem dX8_compare_0 : decode cX8_compare 0 = .ok (.bipush 63, 2) := dk_16 63 (dk_at dksX8_compare_0 0 rfl rfl)
theorem dX8_compare_2 : decode cX8_compare 2 = .ok (.istore_n 3, 1) := dk_62 (dk_at dksX8_compare_0 2 rfl rfl)
theorem dX8_compare_3 : decode cX8_compare 3 = .ok (.iload_n 3, 1) := dk_29 (dk_at dksX8_compare_0 3 rfl rfl)
theorem dX8_compare_4 : decode cX8_compare 4 = .ok (.ifCond .lt 67, 3) := dk_155 0 67 (dk_at dksX8_compare_0 4 rfl rfl)
theorem dX8_compare_7 : decode cX8_compare 7 = .ok (.aload_n 0, 1) := dk_42 (dk_at dksX8_compare_0 7 rfl rfl)
theorem dX8_compare_8 : decode cX8_compare 8 = .ok (.getfield 17, 3) := dk_180 0 17 (dk_at dksX8_compare_0 8 rfl rfl)
theorem dX8_compare_11 : decode cX8_compare 11 = .ok (.bipush 64, 2) := dk_16 64 (dk_at dksX8_compare_0 11 rfl rfl)
theorem dX8_compare_13 : decode cX8_compare 13 = .ok (.iload_n 1, 1) := dk_27 (dk_at dksX8_compare_0 13 rfl rfl)
theorem dX8_compare_14 : decode cX8_compare 14 = .ok (.imul, 1) := dk_104 (dk_at dksX8_compare_0 14 rfl rfl)
theorem dX8_compare_15 : decode cX8_compare 15 = .ok (.iload_n 3, 1) := dk_29 (dk_at dksX8_compare_0 15 rfl rfl)
theorem dX8_compare_16 : decode cX8_compare 16 = .ok (.iadd, 1) := dk_96 (dk_at dksX8_compare_0 16 rfl rfl)
theorem dX8_compare_17 : decode cX8_compare 17 = .ok (.laload, 1) := dk_47 (dk_at dksX8_compare_0 17 rfl rfl)
theorem dX8_compare_18 : decode cX8_compare 18 = .ok (.aload_n 0, 1) := dk_42 (dk_at dksX8_compare_0 18 rfl rfl)
theorem dX8_compare_19 : decode cX8_compare 19 = .ok (.getfield 17, 3) := dk_180 0 17 (dk_at dksX8_compare_0 19 rfl rfl)
theorem dX8_compare_22 : decode cX8_compare 22 = .ok (.bipush 64, 2) := dk_16 64 (dk_at dksX8_compare_0 22 rfl rfl)
theorem dX8_compare_24 : decode cX8_compare 24 = .ok (.iload_n 2, 1) := dk_28 (dk_at dksX8_compare_1 0 rfl rfl)
theorem dX8_compare_25 : decode cX8_compare 25 = .ok (.imul, 1) := dk_104 (dk_at dksX8_compare_1 1 rfl rfl)
theorem dX8_compare_26 : decode cX8_compare 26 = .ok (.iload_n 3, 1) := dk_29 (dk_at dksX8_compare_1 2 rfl rfl)
theorem dX8_compare_27 : decode cX8_compare 27 = .ok (.iadd, 1) := dk_96 (dk_at dksX8_compare_1 3 rfl rfl)
theorem dX8_compare_28 : decode cX8_compare 28 = .ok (.laload, 1) := dk_47 (dk_at dksX8_compare_1 4 rfl rfl)
theorem dX8_compare_29 : decode cX8_compare 29 = .ok (.lcmp, 1) := dk_148 (dk_at dksX8_compare_1 5 rfl rfl)
theorem dX8_compare_30 : decode cX8_compare 30 = .ok (.ifCond .eq 35, 3) := dk_153 0 35 (dk_at dksX8_compare_1 6 rfl rfl)
theorem dX8_compare_33 : decode cX8_compare 33 = .ok (.aload_n 0, 1) := dk_42 (dk_at dksX8_compare_1 9 rfl rfl)
theorem dX8_compare_34 : decode cX8_compare 34 = .ok (.getfield 17, 3) := dk_180 0 17 (dk_at dksX8_compare_1 10 rfl rfl)
theorem dX8_compare_37 : decode cX8_compare 37 = .ok (.bipush 64, 2) := dk_16 64 (dk_at dksX8_compare_1 13 rfl rfl)
theorem dX8_compare_39 : decode cX8_compare 39 = .ok (.iload_n 1, 1) := dk_27 (dk_at dksX8_compare_1 15 rfl rfl)
theorem dX8_compare_40 : decode cX8_compare 40 = .ok (.imul, 1) := dk_104 (dk_at dksX8_compare_1 16 rfl rfl)
theorem dX8_compare_41 : decode cX8_compare 41 = .ok (.iload_n 3, 1) := dk_29 (dk_at dksX8_compare_1 17 rfl rfl)
theorem dX8_compare_42 : decode cX8_compare 42 = .ok (.iadd, 1) := dk_96 (dk_at dksX8_compare_1 18 rfl rfl)
theorem dX8_compare_43 : decode cX8_compare 43 = .ok (.laload, 1) := dk_47 (dk_at dksX8_compare_1 19 rfl rfl)
theorem dX8_compare_44 : decode cX8_compare 44 = .ok (.aload_n 0, 1) := dk_42 (dk_at dksX8_compare_1 20 rfl rfl)
theorem dX8_compare_45 : decode cX8_compare 45 = .ok (.getfield 17, 3) := dk_180 0 17 (dk_at dksX8_compare_1 21 rfl rfl)
theorem dX8_compare_48 : decode cX8_compare 48 = .ok (.bipush 64, 2) := dk_16 64 (dk_at dksX8_compare_2 0 rfl rfl)
theorem dX8_compare_50 : decode cX8_compare 50 = .ok (.iload_n 2, 1) := dk_28 (dk_at dksX8_compare_2 2 rfl rfl)
theorem dX8_compare_51 : decode cX8_compare 51 = .ok (.imul, 1) := dk_104 (dk_at dksX8_compare_2 3 rfl rfl)
theorem dX8_compare_52 : decode cX8_compare 52 = .ok (.iload_n 3, 1) := dk_29 (dk_at dksX8_compare_2 4 rfl rfl)
theorem dX8_compare_53 : decode cX8_compare 53 = .ok (.iadd, 1) := dk_96 (dk_at dksX8_compare_2 5 rfl rfl)
theorem dX8_compare_54 : decode cX8_compare 54 = .ok (.laload, 1) := dk_47 (dk_at dksX8_compare_2 6 rfl rfl)
theorem dX8_compare_55 : decode cX8_compare 55 = .ok (.lcmp, 1) := dk_148 (dk_at dksX8_compare_2 7 rfl rfl)
theorem dX8_compare_56 : decode cX8_compare 56 = .ok (.ifCond .ge 7, 3) := dk_156 0 7 (dk_at dksX8_compare_2 8 rfl rfl)
theorem dX8_compare_59 : decode cX8_compare 59 = .ok (.iconst (-1), 1) := dk_2 (dk_at dksX8_compare_2 11 rfl rfl)
theorem dX8_compare_60 : decode cX8_compare 60 = .ok (.goto 4, 3) := dk_167 0 4 (dk_at dksX8_compare_2 12 rfl rfl)
theorem dX8_compare_63 : decode cX8_compare 63 = .ok (.iconst 1, 1) := dk_4 (dk_at dksX8_compare_2 15 rfl rfl)
theorem dX8_compare_64 : decode cX8_compare 64 = .ok (.ireturn, 1) := dk_172 (dk_at dksX8_compare_2 16 rfl rfl)
theorem dX8_compare_65 : decode cX8_compare 65 = .ok (.iinc 3 (-1), 3) := dk_132 3 255 (dk_at dksX8_compare_2 17 rfl rfl)
theorem dX8_compare_68 : decode cX8_compare 68 = .ok (.goto (-65), 3) := dk_167 255 191 (dk_at dksX8_compare_2 20 rfl rfl)
theorem dX8_compare_71 : decode cX8_compare 71 = .ok (.iconst 0, 1) := dk_3 (dk_at dksX8_compare_2 23 rfl rfl)
theorem dX8_compare_72 : decode cX8_compare 72 = .ok (.ireturn, 1) := dk_172 (dk_at dksX8_compare_3 0 rfl rfl)
abbrev cX8_swap : ByteArray := prog_11_method_19_code
def yX8_swap : MethodName := ⟨RX8, "swap", "(II)V"⟩
def dkwX8_swap_2 : List UInt8 := [180, 0, 17, 16, 64, 28, 104, 29, 96, 22, 4, 80, 132, 3, 1, 167, 255, 199, 177]
abbrev dktX8_swap_2 : List UInt8 := dkwX8_swap_2 ++ []
def dkwX8_swap_1 : List UInt8 := [180, 0, 17, 16, 64, 27, 104, 29, 96, 42, 180, 0, 17, 16, 64, 28, 104, 29, 96, 47, 80, 42]
abbrev dktX8_swap_1 : List UInt8 := dkwX8_swap_1 ++ dktX8_swap_2
def dkwX8_swap_0 : List UInt8 := [3, 62, 29, 16, 64, 162, 0, 57, 42, 180, 0, 17, 16, 64, 27, 104, 29, 96, 47, 55, 4, 42]
abbrev dktX8_swap_0 : List UInt8 := dkwX8_swap_0 ++ dktX8_swap_1
theorem dksX8_swap_0 : cX8_swap.data.toList.drop 0 = dktX8_swap_0 := by decide +kernel
theorem dksX8_swap_1 : cX8_swap.data.toList.drop 22 = dktX8_swap_1 := dk_seg dksX8_swap_0 22 rfl rfl
theorem dksX8_swap_2 : cX8_swap.data.toList.drop 44 = dktX8_swap_2 := dk_seg dksX8_swap_1 22 rfl rfl
theorem dX8_swap_0 : decode cX8_swap 0 = .ok (.iconst 0, 1) := dk_3 (dk_at dksX8_swap_0 0 rfl rfl)
theorem dX8_swap_1 : decode cX8_swap 1 = .ok (.istore_n 3, 1) := dk_62 (dk_at dksX8_swap_0 1 rfl rfl)
theorem dX8_swap_2 : decode cX8_swap 2 = .ok (.iload_n 3, 1) := dk_29 (dk_at dksX8_swap_0 2 rfl rfl)
theorem dX8_swap_3 : decode cX8_swap 3 = .ok (.bipush 64, 2) := dk_16 64 (dk_at dksX8_swap_0 3 rfl rfl)
theorem dX8_swap_5 : decode cX8_swap 5 = .ok (.if_icmp .ge 57, 3) := dk_162 0 57 (dk_at dksX8_swap_0 5 rfl rfl)
theorem dX8_swap_8 : decode cX8_swap 8 = .ok (.aload_n 0, 1) := dk_42 (dk_at dksX8_swap_0 8 rfl rfl)
theorem dX8_swap_9 : decode cX8_swap 9 = .ok (.getfield 17, 3) := dk_180 0 17 (dk_at dksX8_swap_0 9 rfl rfl)
theorem dX8_swap_12 : decode cX8_swap 12 = .ok (.bipush 64, 2) := dk_16 64 (dk_at dksX8_swap_0 12 rfl rfl)
theorem dX8_swap_14 : decode cX8_swap 14 = .ok (.iload_n 1, 1) := dk_27 (dk_at dksX8_swap_0 14 rfl rfl)
theorem dX8_swap_15 : decode cX8_swap 15 = .ok (.imul, 1) := dk_104 (dk_at dksX8_swap_0 15 rfl rfl)
theorem dX8_swap_16 : decode cX8_swap 16 = .ok (.iload_n 3, 1) := dk_29 (dk_at dksX8_swap_0 16 rfl rfl)
theorem dX8_swap_17 : decode cX8_swap 17 = .ok (.iadd, 1) := dk_96 (dk_at dksX8_swap_0 17 rfl rfl)
theorem dX8_swap_18 : decode cX8_swap 18 = .ok (.laload, 1) := dk_47 (dk_at dksX8_swap_0 18 rfl rfl)
theorem dX8_swap_19 : decode cX8_swap 19 = .ok (.lstore 4, 2) := dk_55 4 (dk_at dksX8_swap_0 19 rfl rfl)
theorem dX8_swap_21 : decode cX8_swap 21 = .ok (.aload_n 0, 1) := dk_42 (dk_at dksX8_swap_0 21 rfl rfl)
theorem dX8_swap_22 : decode cX8_swap 22 = .ok (.getfield 17, 3) := dk_180 0 17 (dk_at dksX8_swap_1 0 rfl rfl)
theorem dX8_swap_25 : decode cX8_swap 25 = .ok (.bipush 64, 2) := dk_16 64 (dk_at dksX8_swap_1 3 rfl rfl)
theorem dX8_swap_27 : decode cX8_swap 27 = .ok (.iload_n 1, 1) := dk_27 (dk_at dksX8_swap_1 5 rfl rfl)
theorem dX8_swap_28 : decode cX8_swap 28 = .ok (.imul, 1) := dk_104 (dk_at dksX8_swap_1 6 rfl rfl)
theorem dX8_swap_29 : decode cX8_swap 29 = .ok (.iload_n 3, 1) := dk_29 (dk_at dksX8_swap_1 7 rfl rfl)
theorem dX8_swap_30 : decode cX8_swap 30 = .ok (.iadd, 1) := dk_96 (dk_at dksX8_swap_1 8 rfl rfl)
theorem dX8_swap_31 : decode cX8_swap 31 = .ok (.aload_n 0, 1) := dk_42 (dk_at dksX8_swap_1 9 rfl rfl)
theorem dX8_swap_32 : decode cX8_swap 32 = .ok (.getfield 17, 3) := dk_180 0 17 (dk_at dksX8_swap_1 10 rfl rfl)
theorem dX8_swap_35 : decode cX8_swap 35 = .ok (.bipush 64, 2) := dk_16 64 (dk_at dksX8_swap_1 13 rfl rfl)
theorem dX8_swap_37 : decode cX8_swap 37 = .ok (.iload_n 2, 1) := dk_28 (dk_at dksX8_swap_1 15 rfl rfl)
theorem dX8_swap_38 : decode cX8_swap 38 = .ok (.imul, 1) := dk_104 (dk_at dksX8_swap_1 16 rfl rfl)
theorem dX8_swap_39 : decode cX8_swap 39 = .ok (.iload_n 3, 1) := dk_29 (dk_at dksX8_swap_1 17 rfl rfl)
theorem dX8_swap_40 : decode cX8_swap 40 = .ok (.iadd, 1) := dk_96 (dk_at dksX8_swap_1 18 rfl rfl)
theorem dX8_swap_41 : decode cX8_swap 41 = .ok (.laload, 1) := dk_47 (dk_at dksX8_swap_1 19 rfl rfl)
theorem dX8_swap_42 : decode cX8_swap 42 = .ok (.lastore, 1) := dk_80 (dk_at dksX8_swap_1 20 rfl rfl)
theorem dX8_swap_43 : decode cX8_swap 43 = .ok (.aload_n 0, 1) := dk_42 (dk_at dksX8_swap_1 21 rfl rfl)
theorem dX8_swap_44 : decode cX8_swap 44 = .ok (.getfield 17, 3) := dk_180 0 17 (dk_at dksX8_swap_2 0 rfl rfl)
theorem dX8_swap_47 : decode cX8_swap 47 = .ok (.bipush 64, 2) := dk_16 64 (dk_at dksX8_swap_2 3 rfl rfl)
theorem dX8_swap_49 : decode cX8_swap 49 = .ok (.iload_n 2, 1) := dk_28 (dk_at dksX8_swap_2 5 rfl rfl)
theorem dX8_swap_50 : decode cX8_swap 50 = .ok (.imul, 1) := dk_104 (dk_at dksX8_swap_2 6 rfl rfl)
theorem dX8_swap_51 : decode cX8_swap 51 = .ok (.iload_n 3, 1) := dk_29 (dk_at dksX8_swap_2 7 rfl rfl)
theorem dX8_swap_52 : decode cX8_swap 52 = .ok (.iadd, 1) := dk_96 (dk_at dksX8_swap_2 8 rfl rfl)
theorem dX8_swap_53 : decode cX8_swap 53 = .ok (.lload 4, 2) := dk_22 4 (dk_at dksX8_swap_2 9 rfl rfl)
theorem dX8_swap_55 : decode cX8_swap 55 = .ok (.lastore, 1) := dk_80 (dk_at dksX8_swap_2 11 rfl rfl)
theorem dX8_swap_56 : decode cX8_swap 56 = .ok (.iinc 3 1, 3) := dk_132 3 1 (dk_at dksX8_swap_2 12 rfl rfl)
theorem dX8_swap_59 : decode cX8_swap 59 = .ok (.goto (-57), 3) := dk_167 255 199 (dk_at dksX8_swap_2 15 rfl rfl)
theorem dX8_swap_62 : decode cX8_swap 62 = .ok (.return_, 1) := dk_177 (dk_at dksX8_swap_2 18 rfl rfl)
abbrev cX8_take : ByteArray := prog_11_method_10_code
def yX8_take : MethodName := ⟨RX8, "take", "(II)V"⟩
def dkwX8_take_3 : List UInt8 := [132, 5, 1, 167, 255, 186, 177]
abbrev dktX8_take_3 : List UInt8 := dkwX8_take_3 ++ []
def dkwX8_take_2 : List UInt8 := [104, 21, 5, 96, 22, 6, 20, 0, 28, 127, 80, 22, 6, 9, 148, 156, 0, 7, 10, 167, 0, 4, 9, 66]
abbrev dktX8_take_2 : List UInt8 := dkwX8_take_2 ++ dktX8_take_3
def dkwX8_take_1 : List UInt8 := [42, 180, 0, 17, 16, 64, 28, 104, 21, 5, 96, 47, 101, 33, 101, 55, 6, 42, 180, 0, 17, 16, 64, 27]
abbrev dktX8_take_1 : List UInt8 := dkwX8_take_1 ++ dktX8_take_2
def dkwX8_take_0 : List UInt8 := [9, 66, 3, 54, 5, 21, 5, 16, 64, 162, 0, 69, 42, 180, 0, 17, 16, 64, 27, 104, 21, 5, 96, 47]
abbrev dktX8_take_0 : List UInt8 := dkwX8_take_0 ++ dktX8_take_1
theorem dksX8_take_0 : cX8_take.data.toList.drop 0 = dktX8_take_0 := by decide +kernel
theorem dksX8_take_1 : cX8_take.data.toList.drop 24 = dktX8_take_1 := dk_seg dksX8_take_0 24 rfl rfl
theorem dksX8_take_2 : cX8_take.data.toList.drop 48 = dktX8_take_2 := dk_seg dksX8_take_1 24 rfl rfl
theorem dksX8_take_3 : cX8_take.data.toList.drop 72 = dktX8_take_3 := dk_seg dksX8_take_2 24 rfl rfl
theorem dX8_take_0 : decode cX8_take 0 = .ok (.lconst 0, 1) := dk_9 (dk_at dksX8_take_0 0 rfl rfl)
theorem dX8_take_1 : decode cX8_take 1 = .ok (.lstore_n 3, 1) := dk_66 (dk_at dksX8_take_0 1 rfl rfl)
theorem dX8_take_2 : decode cX8_take 2 = .ok (.iconst 0, 1) := dk_3 (dk_at dksX8_take_0 2 rfl rfl)
theorem dX8_take_3 : decode cX8_take 3 = .ok (.istore 5, 2) := dk_54 5 (dk_at dksX8_take_0 3 rfl rfl)
theorem dX8_take_5 : decode cX8_take 5 = .ok (.iload 5, 2) := dk_21 5 (dk_at dksX8_take_0 5 rfl rfl)
theorem dX8_take_7 : decode cX8_take 7 = .ok (.bipush 64, 2) := dk_16 64 (dk_at dksX8_take_0 7 rfl rfl)
theorem dX8_take_9 : decode cX8_take 9 = .ok (.if_icmp .ge 69, 3) := dk_162 0 69 (dk_at dksX8_take_0 9 rfl rfl)
theorem dX8_take_12 : decode cX8_take 12 = .ok (.aload_n 0, 1) := dk_42 (dk_at dksX8_take_0 12 rfl rfl)
theorem dX8_take_13 : decode cX8_take 13 = .ok (.getfield 17, 3) := dk_180 0 17 (dk_at dksX8_take_0 13 rfl rfl)
theorem dX8_take_16 : decode cX8_take 16 = .ok (.bipush 64, 2) := dk_16 64 (dk_at dksX8_take_0 16 rfl rfl)
theorem dX8_take_18 : decode cX8_take 18 = .ok (.iload_n 1, 1) := dk_27 (dk_at dksX8_take_0 18 rfl rfl)
theorem dX8_take_19 : decode cX8_take 19 = .ok (.imul, 1) := dk_104 (dk_at dksX8_take_0 19 rfl rfl)
theorem dX8_take_20 : decode cX8_take 20 = .ok (.iload 5, 2) := dk_21 5 (dk_at dksX8_take_0 20 rfl rfl)
theorem dX8_take_22 : decode cX8_take 22 = .ok (.iadd, 1) := dk_96 (dk_at dksX8_take_0 22 rfl rfl)
theorem dX8_take_23 : decode cX8_take 23 = .ok (.laload, 1) := dk_47 (dk_at dksX8_take_0 23 rfl rfl)
theorem dX8_take_24 : decode cX8_take 24 = .ok (.aload_n 0, 1) := dk_42 (dk_at dksX8_take_1 0 rfl rfl)
theorem dX8_take_25 : decode cX8_take 25 = .ok (.getfield 17, 3) := dk_180 0 17 (dk_at dksX8_take_1 1 rfl rfl)
theorem dX8_take_28 : decode cX8_take 28 = .ok (.bipush 64, 2) := dk_16 64 (dk_at dksX8_take_1 4 rfl rfl)
theorem dX8_take_30 : decode cX8_take 30 = .ok (.iload_n 2, 1) := dk_28 (dk_at dksX8_take_1 6 rfl rfl)
theorem dX8_take_31 : decode cX8_take 31 = .ok (.imul, 1) := dk_104 (dk_at dksX8_take_1 7 rfl rfl)
theorem dX8_take_32 : decode cX8_take 32 = .ok (.iload 5, 2) := dk_21 5 (dk_at dksX8_take_1 8 rfl rfl)
theorem dX8_take_34 : decode cX8_take 34 = .ok (.iadd, 1) := dk_96 (dk_at dksX8_take_1 10 rfl rfl)
theorem dX8_take_35 : decode cX8_take 35 = .ok (.laload, 1) := dk_47 (dk_at dksX8_take_1 11 rfl rfl)
theorem dX8_take_36 : decode cX8_take 36 = .ok (.lsub, 1) := dk_101 (dk_at dksX8_take_1 12 rfl rfl)
theorem dX8_take_37 : decode cX8_take 37 = .ok (.lload_n 3, 1) := dk_33 (dk_at dksX8_take_1 13 rfl rfl)
theorem dX8_take_38 : decode cX8_take 38 = .ok (.lsub, 1) := dk_101 (dk_at dksX8_take_1 14 rfl rfl)
theorem dX8_take_39 : decode cX8_take 39 = .ok (.lstore 6, 2) := dk_55 6 (dk_at dksX8_take_1 15 rfl rfl)
theorem dX8_take_41 : decode cX8_take 41 = .ok (.aload_n 0, 1) := dk_42 (dk_at dksX8_take_1 17 rfl rfl)
theorem dX8_take_42 : decode cX8_take 42 = .ok (.getfield 17, 3) := dk_180 0 17 (dk_at dksX8_take_1 18 rfl rfl)
theorem dX8_take_45 : decode cX8_take 45 = .ok (.bipush 64, 2) := dk_16 64 (dk_at dksX8_take_1 21 rfl rfl)
theorem dX8_take_47 : decode cX8_take 47 = .ok (.iload_n 1, 1) := dk_27 (dk_at dksX8_take_1 23 rfl rfl)
theorem dX8_take_48 : decode cX8_take 48 = .ok (.imul, 1) := dk_104 (dk_at dksX8_take_2 0 rfl rfl)
theorem dX8_take_49 : decode cX8_take 49 = .ok (.iload 5, 2) := dk_21 5 (dk_at dksX8_take_2 1 rfl rfl)
theorem dX8_take_51 : decode cX8_take 51 = .ok (.iadd, 1) := dk_96 (dk_at dksX8_take_2 3 rfl rfl)
theorem dX8_take_52 : decode cX8_take 52 = .ok (.lload 6, 2) := dk_22 6 (dk_at dksX8_take_2 4 rfl rfl)
theorem dX8_take_54 : decode cX8_take 54 = .ok (.ldc2_w 28, 3) := dk_20 0 28 (dk_at dksX8_take_2 6 rfl rfl)
theorem dX8_take_57 : decode cX8_take 57 = .ok (.land, 1) := dk_127 (dk_at dksX8_take_2 9 rfl rfl)
theorem dX8_take_58 : decode cX8_take 58 = .ok (.lastore, 1) := dk_80 (dk_at dksX8_take_2 10 rfl rfl)
theorem dX8_take_59 : decode cX8_take 59 = .ok (.lload 6, 2) := dk_22 6 (dk_at dksX8_take_2 11 rfl rfl)
theorem dX8_take_61 : decode cX8_take 61 = .ok (.lconst 0, 1) := dk_9 (dk_at dksX8_take_2 13 rfl rfl)
theorem dX8_take_62 : decode cX8_take 62 = .ok (.lcmp, 1) := dk_148 (dk_at dksX8_take_2 14 rfl rfl)
theorem dX8_take_63 : decode cX8_take 63 = .ok (.ifCond .ge 7, 3) := dk_156 0 7 (dk_at dksX8_take_2 15 rfl rfl)
theorem dX8_take_66 : decode cX8_take 66 = .ok (.lconst 1, 1) := dk_10 (dk_at dksX8_take_2 18 rfl rfl)
theorem dX8_take_67 : decode cX8_take 67 = .ok (.goto 4, 3) := dk_167 0 4 (dk_at dksX8_take_2 19 rfl rfl)
theorem dX8_take_70 : decode cX8_take 70 = .ok (.lconst 0, 1) := dk_9 (dk_at dksX8_take_2 22 rfl rfl)
theorem dX8_take_71 : decode cX8_take 71 = .ok (.lstore_n 3, 1) := dk_66 (dk_at dksX8_take_2 23 rfl rfl)
theorem dX8_take_72 : decode cX8_take 72 = .ok (.iinc 5 1, 3) := dk_132 5 1 (dk_at dksX8_take_3 0 rfl rfl)
theorem dX8_take_75 : decode cX8_take 75 = .ok (.goto (-70), 3) := dk_167 255 186 (dk_at dksX8_take_3 3 rfl rfl)
theorem dX8_take_78 : decode cX8_take 78 = .ok (.return_, 1) := dk_177 (dk_at dksX8_take_3 6 rfl rfl)
abbrev cX8_up : ByteArray := prog_11_method_14_code
def yX8_up : MethodName := ⟨RX8, "up", "(II)V"⟩
def dkwX8_up_4 : List UInt8 := [22, 8, 16, 32, 21, 4, 100, 123, 129, 20, 0, 28, 127, 80, 132, 5, 255, 167, 255, 160, 177]
abbrev dktX8_up_4 : List UInt8 := dkwX8_up_4 ++ []
def dkwX8_up_3 : List UInt8 := [47, 167, 0, 4, 9, 55, 8, 42, 180, 0, 17, 16, 64, 27, 104, 21, 5, 96, 22, 6, 21, 4, 121]
abbrev dktX8_up_3 : List UInt8 := dkwX8_up_3 ++ dktX8_up_4
def dkwX8_up_2 : List UInt8 := [21, 5, 29, 100, 4, 100, 155, 0, 22, 42, 180, 0, 17, 16, 64, 27, 104, 21, 5, 96, 29, 100, 4, 100]
abbrev dktX8_up_2 : List UInt8 := dkwX8_up_2 ++ dktX8_up_3
def dkwX8_up_1 : List UInt8 := [155, 0, 20, 42, 180, 0, 17, 16, 64, 27, 104, 21, 5, 96, 29, 100, 47, 167, 0, 4, 9, 55, 6]
abbrev dktX8_up_1 : List UInt8 := dkwX8_up_1 ++ dktX8_up_2
def dkwX8_up_0 : List UInt8 := [28, 16, 32, 108, 62, 28, 16, 32, 112, 54, 4, 16, 63, 54, 5, 21, 5, 155, 0, 97, 21, 5, 29, 100]
abbrev dktX8_up_0 : List UInt8 := dkwX8_up_0 ++ dktX8_up_1
theorem dksX8_up_0 : cX8_up.data.toList.drop 0 = dktX8_up_0 := by decide +kernel
theorem dksX8_up_1 : cX8_up.data.toList.drop 24 = dktX8_up_1 := dk_seg dksX8_up_0 24 rfl rfl
theorem dksX8_up_2 : cX8_up.data.toList.drop 47 = dktX8_up_2 := dk_seg dksX8_up_1 23 rfl rfl
theorem dksX8_up_3 : cX8_up.data.toList.drop 71 = dktX8_up_3 := dk_seg dksX8_up_2 24 rfl rfl
theorem dksX8_up_4 : cX8_up.data.toList.drop 94 = dktX8_up_4 := dk_seg dksX8_up_3 23 rfl rfl
theorem dX8_up_0 : decode cX8_up 0 = .ok (.iload_n 2, 1) := dk_28 (dk_at dksX8_up_0 0 rfl rfl)
theorem dX8_up_1 : decode cX8_up 1 = .ok (.bipush 32, 2) := dk_16 32 (dk_at dksX8_up_0 1 rfl rfl)
theorem dX8_up_3 : decode cX8_up 3 = .ok (.idiv, 1) := dk_108 (dk_at dksX8_up_0 3 rfl rfl)
theorem dX8_up_4 : decode cX8_up 4 = .ok (.istore_n 3, 1) := dk_62 (dk_at dksX8_up_0 4 rfl rfl)
theorem dX8_up_5 : decode cX8_up 5 = .ok (.iload_n 2, 1) := dk_28 (dk_at dksX8_up_0 5 rfl rfl)
theorem dX8_up_6 : decode cX8_up 6 = .ok (.bipush 32, 2) := dk_16 32 (dk_at dksX8_up_0 6 rfl rfl)
theorem dX8_up_8 : decode cX8_up 8 = .ok (.irem, 1) := dk_112 (dk_at dksX8_up_0 8 rfl rfl)
theorem dX8_up_9 : decode cX8_up 9 = .ok (.istore 4, 2) := dk_54 4 (dk_at dksX8_up_0 9 rfl rfl)
theorem dX8_up_11 : decode cX8_up 11 = .ok (.bipush 63, 2) := dk_16 63 (dk_at dksX8_up_0 11 rfl rfl)
theorem dX8_up_13 : decode cX8_up 13 = .ok (.istore 5, 2) := dk_54 5 (dk_at dksX8_up_0 13 rfl rfl)
theorem dX8_up_15 : decode cX8_up 15 = .ok (.iload 5, 2) := dk_21 5 (dk_at dksX8_up_0 15 rfl rfl)
theorem dX8_up_17 : decode cX8_up 17 = .ok (.ifCond .lt 97, 3) := dk_155 0 97 (dk_at dksX8_up_0 17 rfl rfl)
theorem dX8_up_20 : decode cX8_up 20 = .ok (.iload 5, 2) := dk_21 5 (dk_at dksX8_up_0 20 rfl rfl)
theorem dX8_up_22 : decode cX8_up 22 = .ok (.iload_n 3, 1) := dk_29 (dk_at dksX8_up_0 22 rfl rfl)
theorem dX8_up_23 : decode cX8_up 23 = .ok (.isub, 1) := dk_100 (dk_at dksX8_up_0 23 rfl rfl)
theorem dX8_up_24 : decode cX8_up 24 = .ok (.ifCond .lt 20, 3) := dk_155 0 20 (dk_at dksX8_up_1 0 rfl rfl)
theorem dX8_up_27 : decode cX8_up 27 = .ok (.aload_n 0, 1) := dk_42 (dk_at dksX8_up_1 3 rfl rfl)
theorem dX8_up_28 : decode cX8_up 28 = .ok (.getfield 17, 3) := dk_180 0 17 (dk_at dksX8_up_1 4 rfl rfl)
theorem dX8_up_31 : decode cX8_up 31 = .ok (.bipush 64, 2) := dk_16 64 (dk_at dksX8_up_1 7 rfl rfl)
theorem dX8_up_33 : decode cX8_up 33 = .ok (.iload_n 1, 1) := dk_27 (dk_at dksX8_up_1 9 rfl rfl)
theorem dX8_up_34 : decode cX8_up 34 = .ok (.imul, 1) := dk_104 (dk_at dksX8_up_1 10 rfl rfl)
theorem dX8_up_35 : decode cX8_up 35 = .ok (.iload 5, 2) := dk_21 5 (dk_at dksX8_up_1 11 rfl rfl)
theorem dX8_up_37 : decode cX8_up 37 = .ok (.iadd, 1) := dk_96 (dk_at dksX8_up_1 13 rfl rfl)
theorem dX8_up_38 : decode cX8_up 38 = .ok (.iload_n 3, 1) := dk_29 (dk_at dksX8_up_1 14 rfl rfl)
theorem dX8_up_39 : decode cX8_up 39 = .ok (.isub, 1) := dk_100 (dk_at dksX8_up_1 15 rfl rfl)
theorem dX8_up_40 : decode cX8_up 40 = .ok (.laload, 1) := dk_47 (dk_at dksX8_up_1 16 rfl rfl)
theorem dX8_up_41 : decode cX8_up 41 = .ok (.goto 4, 3) := dk_167 0 4 (dk_at dksX8_up_1 17 rfl rfl)
theorem dX8_up_44 : decode cX8_up 44 = .ok (.lconst 0, 1) := dk_9 (dk_at dksX8_up_1 20 rfl rfl)
theorem dX8_up_45 : decode cX8_up 45 = .ok (.lstore 6, 2) := dk_55 6 (dk_at dksX8_up_1 21 rfl rfl)
theorem dX8_up_47 : decode cX8_up 47 = .ok (.iload 5, 2) := dk_21 5 (dk_at dksX8_up_2 0 rfl rfl)
theorem dX8_up_49 : decode cX8_up 49 = .ok (.iload_n 3, 1) := dk_29 (dk_at dksX8_up_2 2 rfl rfl)
theorem dX8_up_50 : decode cX8_up 50 = .ok (.isub, 1) := dk_100 (dk_at dksX8_up_2 3 rfl rfl)
theorem dX8_up_51 : decode cX8_up 51 = .ok (.iconst 1, 1) := dk_4 (dk_at dksX8_up_2 4 rfl rfl)
theorem dX8_up_52 : decode cX8_up 52 = .ok (.isub, 1) := dk_100 (dk_at dksX8_up_2 5 rfl rfl)
theorem dX8_up_53 : decode cX8_up 53 = .ok (.ifCond .lt 22, 3) := dk_155 0 22 (dk_at dksX8_up_2 6 rfl rfl)
theorem dX8_up_56 : decode cX8_up 56 = .ok (.aload_n 0, 1) := dk_42 (dk_at dksX8_up_2 9 rfl rfl)
theorem dX8_up_57 : decode cX8_up 57 = .ok (.getfield 17, 3) := dk_180 0 17 (dk_at dksX8_up_2 10 rfl rfl)
theorem dX8_up_60 : decode cX8_up 60 = .ok (.bipush 64, 2) := dk_16 64 (dk_at dksX8_up_2 13 rfl rfl)
theorem dX8_up_62 : decode cX8_up 62 = .ok (.iload_n 1, 1) := dk_27 (dk_at dksX8_up_2 15 rfl rfl)
theorem dX8_up_63 : decode cX8_up 63 = .ok (.imul, 1) := dk_104 (dk_at dksX8_up_2 16 rfl rfl)
theorem dX8_up_64 : decode cX8_up 64 = .ok (.iload 5, 2) := dk_21 5 (dk_at dksX8_up_2 17 rfl rfl)
theorem dX8_up_66 : decode cX8_up 66 = .ok (.iadd, 1) := dk_96 (dk_at dksX8_up_2 19 rfl rfl)
theorem dX8_up_67 : decode cX8_up 67 = .ok (.iload_n 3, 1) := dk_29 (dk_at dksX8_up_2 20 rfl rfl)
theorem dX8_up_68 : decode cX8_up 68 = .ok (.isub, 1) := dk_100 (dk_at dksX8_up_2 21 rfl rfl)
theorem dX8_up_69 : decode cX8_up 69 = .ok (.iconst 1, 1) := dk_4 (dk_at dksX8_up_2 22 rfl rfl)
theorem dX8_up_70 : decode cX8_up 70 = .ok (.isub, 1) := dk_100 (dk_at dksX8_up_2 23 rfl rfl)
theorem dX8_up_71 : decode cX8_up 71 = .ok (.laload, 1) := dk_47 (dk_at dksX8_up_3 0 rfl rfl)
theorem dX8_up_72 : decode cX8_up 72 = .ok (.goto 4, 3) := dk_167 0 4 (dk_at dksX8_up_3 1 rfl rfl)
theorem dX8_up_75 : decode cX8_up 75 = .ok (.lconst 0, 1) := dk_9 (dk_at dksX8_up_3 4 rfl rfl)
theorem dX8_up_76 : decode cX8_up 76 = .ok (.lstore 8, 2) := dk_55 8 (dk_at dksX8_up_3 5 rfl rfl)
theorem dX8_up_78 : decode cX8_up 78 = .ok (.aload_n 0, 1) := dk_42 (dk_at dksX8_up_3 7 rfl rfl)
theorem dX8_up_79 : decode cX8_up 79 = .ok (.getfield 17, 3) := dk_180 0 17 (dk_at dksX8_up_3 8 rfl rfl)
theorem dX8_up_82 : decode cX8_up 82 = .ok (.bipush 64, 2) := dk_16 64 (dk_at dksX8_up_3 11 rfl rfl)
theorem dX8_up_84 : decode cX8_up 84 = .ok (.iload_n 1, 1) := dk_27 (dk_at dksX8_up_3 13 rfl rfl)
theorem dX8_up_85 : decode cX8_up 85 = .ok (.imul, 1) := dk_104 (dk_at dksX8_up_3 14 rfl rfl)
theorem dX8_up_86 : decode cX8_up 86 = .ok (.iload 5, 2) := dk_21 5 (dk_at dksX8_up_3 15 rfl rfl)
theorem dX8_up_88 : decode cX8_up 88 = .ok (.iadd, 1) := dk_96 (dk_at dksX8_up_3 17 rfl rfl)
theorem dX8_up_89 : decode cX8_up 89 = .ok (.lload 6, 2) := dk_22 6 (dk_at dksX8_up_3 18 rfl rfl)
theorem dX8_up_91 : decode cX8_up 91 = .ok (.iload 4, 2) := dk_21 4 (dk_at dksX8_up_3 20 rfl rfl)
theorem dX8_up_93 : decode cX8_up 93 = .ok (.lshl, 1) := dk_121 (dk_at dksX8_up_3 22 rfl rfl)
theorem dX8_up_94 : decode cX8_up 94 = .ok (.lload 8, 2) := dk_22 8 (dk_at dksX8_up_4 0 rfl rfl)
theorem dX8_up_96 : decode cX8_up 96 = .ok (.bipush 32, 2) := dk_16 32 (dk_at dksX8_up_4 2 rfl rfl)
theorem dX8_up_98 : decode cX8_up 98 = .ok (.iload 4, 2) := dk_21 4 (dk_at dksX8_up_4 4 rfl rfl)
theorem dX8_up_100 : decode cX8_up 100 = .ok (.isub, 1) := dk_100 (dk_at dksX8_up_4 6 rfl rfl)
theorem dX8_up_101 : decode cX8_up 101 = .ok (.lshr, 1) := dk_123 (dk_at dksX8_up_4 7 rfl rfl)
theorem dX8_up_102 : decode cX8_up 102 = .ok (.lor, 1) := dk_129 (dk_at dksX8_up_4 8 rfl rfl)
theorem dX8_up_103 : decode cX8_up 103 = .ok (.ldc2_w 28, 3) := dk_20 0 28 (dk_at dksX8_up_4 9 rfl rfl)
theorem dX8_up_106 : decode cX8_up 106 = .ok (.land, 1) := dk_127 (dk_at dksX8_up_4 12 rfl rfl)
theorem dX8_up_107 : decode cX8_up 107 = .ok (.lastore, 1) := dk_80 (dk_at dksX8_up_4 13 rfl rfl)
theorem dX8_up_108 : decode cX8_up 108 = .ok (.iinc 5 (-1), 3) := dk_132 5 255 (dk_at dksX8_up_4 14 rfl rfl)
theorem dX8_up_111 : decode cX8_up 111 = .ok (.goto (-96), 3) := dk_167 255 160 (dk_at dksX8_up_4 17 rfl rfl)
theorem dX8_up_114 : decode cX8_up 114 = .ok (.return_, 1) := dk_177 (dk_at dksX8_up_4 20 rfl rfl)
abbrev cX8_divide : ByteArray := prog_11_method_17_code
def yX8_divide : MethodName := ⟨RX8, "divide", "(IIII)V"⟩
def dkwX8_divide_4 : List UInt8 := [80, 132, 5, 255, 167, 255, 179, 177]
abbrev dktX8_divide_4 : List UInt8 := dkwX8_divide_4 ++ []
def dkwX8_divide_3 : List UInt8 := [42, 180, 0, 17, 16, 64, 29, 104, 21, 5, 16, 32, 108, 96, 92, 47, 10, 21, 5, 16, 32, 112, 121, 129]
abbrev dktX8_divide_3 : List UInt8 := dkwX8_divide_3 ++ dktX8_divide_4
def dkwX8_divide_2 : List UInt8 := [21, 5, 182, 0, 38, 129, 80, 42, 21, 4, 28, 182, 0, 42, 155, 0, 35, 42, 21, 4, 28, 182, 0, 46]
abbrev dktX8_divide_2 : List UInt8 := dkwX8_divide_2 ++ dktX8_divide_3
def dkwX8_divide_1 : List UInt8 := [155, 0, 78, 42, 21, 4, 4, 182, 0, 34, 42, 180, 0, 17, 16, 64, 21, 4, 104, 92, 47, 42, 27]
abbrev dktX8_divide_1 : List UInt8 := dkwX8_divide_1 ++ dktX8_divide_2
def dkwX8_divide_0 : List UInt8 := [42, 29, 182, 0, 24, 42, 21, 4, 182, 0, 24, 42, 27, 182, 0, 30, 4, 100, 54, 5, 21, 5]
abbrev dktX8_divide_0 : List UInt8 := dkwX8_divide_0 ++ dktX8_divide_1
theorem dksX8_divide_0 : cX8_divide.data.toList.drop 0 = dktX8_divide_0 := by decide +kernel
theorem dksX8_divide_1 : cX8_divide.data.toList.drop 22 = dktX8_divide_1 := dk_seg dksX8_divide_0 22 rfl rfl
theorem dksX8_divide_2 : cX8_divide.data.toList.drop 45 = dktX8_divide_2 := dk_seg dksX8_divide_1 23 rfl rfl
theorem dksX8_divide_3 : cX8_divide.data.toList.drop 69 = dktX8_divide_3 := dk_seg dksX8_divide_2 24 rfl rfl
theorem dksX8_divide_4 : cX8_divide.data.toList.drop 93 = dktX8_divide_4 := dk_seg dksX8_divide_3 24 rfl rfl
theorem dX8_divide_0 : decode cX8_divide 0 = .ok (.aload_n 0, 1) := dk_42 (dk_at dksX8_divide_0 0 rfl rfl)
theorem dX8_divide_1 : decode cX8_divide 1 = .ok (.iload_n 3, 1) := dk_29 (dk_at dksX8_divide_0 1 rfl rfl)
theorem dX8_divide_2 : decode cX8_divide 2 = .ok (.invokevirtual 24, 3) := dk_182 0 24 (dk_at dksX8_divide_0 2 rfl rfl)
theorem dX8_divide_5 : decode cX8_divide 5 = .ok (.aload_n 0, 1) := dk_42 (dk_at dksX8_divide_0 5 rfl rfl)
theorem dX8_divide_6 : decode cX8_divide 6 = .ok (.iload 4, 2) := dk_21 4 (dk_at dksX8_divide_0 6 rfl rfl)
theorem dX8_divide_8 : decode cX8_divide 8 = .ok (.invokevirtual 24, 3) := dk_182 0 24 (dk_at dksX8_divide_0 8 rfl rfl)
theorem dX8_divide_11 : decode cX8_divide 11 = .ok (.aload_n 0, 1) := dk_42 (dk_at dksX8_divide_0 11 rfl rfl)
theorem dX8_divide_12 : decode cX8_divide 12 = .ok (.iload_n 1, 1) := dk_27 (dk_at dksX8_divide_0 12 rfl rfl)
theorem dX8_divide_13 : decode cX8_divide 13 = .ok (.invokevirtual 30, 3) := dk_182 0 30 (dk_at dksX8_divide_0 13 rfl rfl)
theorem dX8_divide_16 : decode cX8_divide 16 = .ok (.iconst 1, 1) := dk_4 (dk_at dksX8_divide_0 16 rfl rfl)
theorem dX8_divide_17 : decode cX8_divide 17 = .ok (.isub, 1) := dk_100 (dk_at dksX8_divide_0 17 rfl rfl)
theorem dX8_divide_18 : decode cX8_divide 18 = .ok (.istore 5, 2) := dk_54 5 (dk_at dksX8_divide_0 18 rfl rfl)
theorem dX8_divide_20 : decode cX8_divide 20 = .ok (.iload 5, 2) := dk_21 5 (dk_at dksX8_divide_0 20 rfl rfl)
theorem dX8_divide_22 : decode cX8_divide 22 = .ok (.ifCond .lt 78, 3) := dk_155 0 78 (dk_at dksX8_divide_1 0 rfl rfl)
theorem dX8_divide_25 : decode cX8_divide 25 = .ok (.aload_n 0, 1) := dk_42 (dk_at dksX8_divide_1 3 rfl rfl)
theorem dX8_divide_26 : decode cX8_divide 26 = .ok (.iload 4, 2) := dk_21 4 (dk_at dksX8_divide_1 4 rfl rfl)
theorem dX8_divide_28 : decode cX8_divide 28 = .ok (.iconst 1, 1) := dk_4 (dk_at dksX8_divide_1 6 rfl rfl)
theorem dX8_divide_29 : decode cX8_divide 29 = .ok (.invokevirtual 34, 3) := dk_182 0 34 (dk_at dksX8_divide_1 7 rfl rfl)
theorem dX8_divide_32 : decode cX8_divide 32 = .ok (.aload_n 0, 1) := dk_42 (dk_at dksX8_divide_1 10 rfl rfl)
theorem dX8_divide_33 : decode cX8_divide 33 = .ok (.getfield 17, 3) := dk_180 0 17 (dk_at dksX8_divide_1 11 rfl rfl)
theorem dX8_divide_36 : decode cX8_divide 36 = .ok (.bipush 64, 2) := dk_16 64 (dk_at dksX8_divide_1 14 rfl rfl)
theorem dX8_divide_38 : decode cX8_divide 38 = .ok (.iload 4, 2) := dk_21 4 (dk_at dksX8_divide_1 16 rfl rfl)
theorem dX8_divide_40 : decode cX8_divide 40 = .ok (.imul, 1) := dk_104 (dk_at dksX8_divide_1 18 rfl rfl)
theorem dX8_divide_41 : decode cX8_divide 41 = .ok (.dup2, 1) := dk_92 (dk_at dksX8_divide_1 19 rfl rfl)
theorem dX8_divide_42 : decode cX8_divide 42 = .ok (.laload, 1) := dk_47 (dk_at dksX8_divide_1 20 rfl rfl)
theorem dX8_divide_43 : decode cX8_divide 43 = .ok (.aload_n 0, 1) := dk_42 (dk_at dksX8_divide_1 21 rfl rfl)
theorem dX8_divide_44 : decode cX8_divide 44 = .ok (.iload_n 1, 1) := dk_27 (dk_at dksX8_divide_1 22 rfl rfl)
theorem dX8_divide_45 : decode cX8_divide 45 = .ok (.iload 5, 2) := dk_21 5 (dk_at dksX8_divide_2 0 rfl rfl)
theorem dX8_divide_47 : decode cX8_divide 47 = .ok (.invokevirtual 38, 3) := dk_182 0 38 (dk_at dksX8_divide_2 2 rfl rfl)
theorem dX8_divide_50 : decode cX8_divide 50 = .ok (.lor, 1) := dk_129 (dk_at dksX8_divide_2 5 rfl rfl)
theorem dX8_divide_51 : decode cX8_divide 51 = .ok (.lastore, 1) := dk_80 (dk_at dksX8_divide_2 6 rfl rfl)
theorem dX8_divide_52 : decode cX8_divide 52 = .ok (.aload_n 0, 1) := dk_42 (dk_at dksX8_divide_2 7 rfl rfl)
theorem dX8_divide_53 : decode cX8_divide 53 = .ok (.iload 4, 2) := dk_21 4 (dk_at dksX8_divide_2 8 rfl rfl)
theorem dX8_divide_55 : decode cX8_divide 55 = .ok (.iload_n 2, 1) := dk_28 (dk_at dksX8_divide_2 10 rfl rfl)
theorem dX8_divide_56 : decode cX8_divide 56 = .ok (.invokevirtual 42, 3) := dk_182 0 42 (dk_at dksX8_divide_2 11 rfl rfl)
theorem dX8_divide_59 : decode cX8_divide 59 = .ok (.ifCond .lt 35, 3) := dk_155 0 35 (dk_at dksX8_divide_2 14 rfl rfl)
theorem dX8_divide_62 : decode cX8_divide 62 = .ok (.aload_n 0, 1) := dk_42 (dk_at dksX8_divide_2 17 rfl rfl)
theorem dX8_divide_63 : decode cX8_divide 63 = .ok (.iload 4, 2) := dk_21 4 (dk_at dksX8_divide_2 18 rfl rfl)
theorem dX8_divide_65 : decode cX8_divide 65 = .ok (.iload_n 2, 1) := dk_28 (dk_at dksX8_divide_2 20 rfl rfl)
theorem dX8_divide_66 : decode cX8_divide 66 = .ok (.invokevirtual 46, 3) := dk_182 0 46 (dk_at dksX8_divide_2 21 rfl rfl)
theorem dX8_divide_69 : decode cX8_divide 69 = .ok (.aload_n 0, 1) := dk_42 (dk_at dksX8_divide_3 0 rfl rfl)
theorem dX8_divide_70 : decode cX8_divide 70 = .ok (.getfield 17, 3) := dk_180 0 17 (dk_at dksX8_divide_3 1 rfl rfl)
theorem dX8_divide_73 : decode cX8_divide 73 = .ok (.bipush 64, 2) := dk_16 64 (dk_at dksX8_divide_3 4 rfl rfl)
theorem dX8_divide_75 : decode cX8_divide 75 = .ok (.iload_n 3, 1) := dk_29 (dk_at dksX8_divide_3 6 rfl rfl)
theorem dX8_divide_76 : decode cX8_divide 76 = .ok (.imul, 1) := dk_104 (dk_at dksX8_divide_3 7 rfl rfl)
theorem dX8_divide_77 : decode cX8_divide 77 = .ok (.iload 5, 2) := dk_21 5 (dk_at dksX8_divide_3 8 rfl rfl)
theorem dX8_divide_79 : decode cX8_divide 79 = .ok (.bipush 32, 2) := dk_16 32 (dk_at dksX8_divide_3 10 rfl rfl)
theorem dX8_divide_81 : decode cX8_divide 81 = .ok (.idiv, 1) := dk_108 (dk_at dksX8_divide_3 12 rfl rfl)
theorem dX8_divide_82 : decode cX8_divide 82 = .ok (.iadd, 1) := dk_96 (dk_at dksX8_divide_3 13 rfl rfl)
theorem dX8_divide_83 : decode cX8_divide 83 = .ok (.dup2, 1) := dk_92 (dk_at dksX8_divide_3 14 rfl rfl)
theorem dX8_divide_84 : decode cX8_divide 84 = .ok (.laload, 1) := dk_47 (dk_at dksX8_divide_3 15 rfl rfl)
theorem dX8_divide_85 : decode cX8_divide 85 = .ok (.lconst 1, 1) := dk_10 (dk_at dksX8_divide_3 16 rfl rfl)
theorem dX8_divide_86 : decode cX8_divide 86 = .ok (.iload 5, 2) := dk_21 5 (dk_at dksX8_divide_3 17 rfl rfl)
theorem dX8_divide_88 : decode cX8_divide 88 = .ok (.bipush 32, 2) := dk_16 32 (dk_at dksX8_divide_3 19 rfl rfl)
theorem dX8_divide_90 : decode cX8_divide 90 = .ok (.irem, 1) := dk_112 (dk_at dksX8_divide_3 21 rfl rfl)
theorem dX8_divide_91 : decode cX8_divide 91 = .ok (.lshl, 1) := dk_121 (dk_at dksX8_divide_3 22 rfl rfl)
theorem dX8_divide_92 : decode cX8_divide 92 = .ok (.lor, 1) := dk_129 (dk_at dksX8_divide_3 23 rfl rfl)
theorem dX8_divide_93 : decode cX8_divide 93 = .ok (.lastore, 1) := dk_80 (dk_at dksX8_divide_4 0 rfl rfl)
theorem dX8_divide_94 : decode cX8_divide 94 = .ok (.iinc 5 (-1), 3) := dk_132 5 255 (dk_at dksX8_divide_4 1 rfl rfl)
theorem dX8_divide_97 : decode cX8_divide 97 = .ok (.goto (-77), 3) := dk_167 255 179 (dk_at dksX8_divide_4 4 rfl rfl)
theorem dX8_divide_100 : decode cX8_divide 100 = .ok (.return_, 1) := dk_177 (dk_at dksX8_divide_4 7 rfl rfl)
abbrev cX8_length : ByteArray := prog_11_method_12_code
def yX8_length : MethodName := ⟨RX8, "length", "(I)I"⟩
def dkwX8_length_2 : List UInt8 := [154, 0, 9, 132, 3, 255, 167, 255, 231, 16, 32, 28, 104, 29, 96, 172, 132, 2, 255, 167, 255, 195, 3, 172]
abbrev dktX8_length_2 : List UInt8 := dkwX8_length_2 ++ []
def dkwX8_length_1 : List UInt8 := [16, 32, 62, 42, 180, 0, 17, 16, 64, 27, 104, 28, 96, 47, 29, 4, 100, 123, 10, 127, 9, 148]
abbrev dktX8_length_1 : List UInt8 := dkwX8_length_1 ++ dktX8_length_2
def dkwX8_length_0 : List UInt8 := [16, 63, 61, 28, 155, 0, 63, 42, 180, 0, 17, 16, 64, 27, 104, 28, 96, 47, 9, 148, 153, 0, 41]
abbrev dktX8_length_0 : List UInt8 := dkwX8_length_0 ++ dktX8_length_1
theorem dksX8_length_0 : cX8_length.data.toList.drop 0 = dktX8_length_0 := by decide +kernel
theorem dksX8_length_1 : cX8_length.data.toList.drop 23 = dktX8_length_1 := dk_seg dksX8_length_0 23 rfl rfl
theorem dksX8_length_2 : cX8_length.data.toList.drop 45 = dktX8_length_2 := dk_seg dksX8_length_1 22 rfl rfl
theorem dX8_length_0 : decode cX8_length 0 = .ok (.bipush 63, 2) := dk_16 63 (dk_at dksX8_length_0 0 rfl rfl)
theorem dX8_length_2 : decode cX8_length 2 = .ok (.istore_n 2, 1) := dk_61 (dk_at dksX8_length_0 2 rfl rfl)
theorem dX8_length_3 : decode cX8_length 3 = .ok (.iload_n 2, 1) := dk_28 (dk_at dksX8_length_0 3 rfl rfl)
theorem dX8_length_4 : decode cX8_length 4 = .ok (.ifCond .lt 63, 3) := dk_155 0 63 (dk_at dksX8_length_0 4 rfl rfl)
theorem dX8_length_7 : decode cX8_length 7 = .ok (.aload_n 0, 1) := dk_42 (dk_at dksX8_length_0 7 rfl rfl)
theorem dX8_length_8 : decode cX8_length 8 = .ok (.getfield 17, 3) := dk_180 0 17 (dk_at dksX8_length_0 8 rfl rfl)
theorem dX8_length_11 : decode cX8_length 11 = .ok (.bipush 64, 2) := dk_16 64 (dk_at dksX8_length_0 11 rfl rfl)
theorem dX8_length_13 : decode cX8_length 13 = .ok (.iload_n 1, 1) := dk_27 (dk_at dksX8_length_0 13 rfl rfl)
theorem dX8_length_14 : decode cX8_length 14 = .ok (.imul, 1) := dk_104 (dk_at dksX8_length_0 14 rfl rfl)
theorem dX8_length_15 : decode cX8_length 15 = .ok (.iload_n 2, 1) := dk_28 (dk_at dksX8_length_0 15 rfl rfl)
theorem dX8_length_16 : decode cX8_length 16 = .ok (.iadd, 1) := dk_96 (dk_at dksX8_length_0 16 rfl rfl)
theorem dX8_length_17 : decode cX8_length 17 = .ok (.laload, 1) := dk_47 (dk_at dksX8_length_0 17 rfl rfl)
theorem dX8_length_18 : decode cX8_length 18 = .ok (.lconst 0, 1) := dk_9 (dk_at dksX8_length_0 18 rfl rfl)
theorem dX8_length_19 : decode cX8_length 19 = .ok (.lcmp, 1) := dk_148 (dk_at dksX8_length_0 19 rfl rfl)
theorem dX8_length_20 : decode cX8_length 20 = .ok (.ifCond .eq 41, 3) := dk_153 0 41 (dk_at dksX8_length_0 20 rfl rfl)
theorem dX8_length_23 : decode cX8_length 23 = .ok (.bipush 32, 2) := dk_16 32 (dk_at dksX8_length_1 0 rfl rfl)
theorem dX8_length_25 : decode cX8_length 25 = .ok (.istore_n 3, 1) := dk_62 (dk_at dksX8_length_1 2 rfl rfl)
theorem dX8_length_26 : decode cX8_length 26 = .ok (.aload_n 0, 1) := dk_42 (dk_at dksX8_length_1 3 rfl rfl)
theorem dX8_length_27 : decode cX8_length 27 = .ok (.getfield 17, 3) := dk_180 0 17 (dk_at dksX8_length_1 4 rfl rfl)
theorem dX8_length_30 : decode cX8_length 30 = .ok (.bipush 64, 2) := dk_16 64 (dk_at dksX8_length_1 7 rfl rfl)
theorem dX8_length_32 : decode cX8_length 32 = .ok (.iload_n 1, 1) := dk_27 (dk_at dksX8_length_1 9 rfl rfl)
theorem dX8_length_33 : decode cX8_length 33 = .ok (.imul, 1) := dk_104 (dk_at dksX8_length_1 10 rfl rfl)
theorem dX8_length_34 : decode cX8_length 34 = .ok (.iload_n 2, 1) := dk_28 (dk_at dksX8_length_1 11 rfl rfl)
theorem dX8_length_35 : decode cX8_length 35 = .ok (.iadd, 1) := dk_96 (dk_at dksX8_length_1 12 rfl rfl)
theorem dX8_length_36 : decode cX8_length 36 = .ok (.laload, 1) := dk_47 (dk_at dksX8_length_1 13 rfl rfl)
theorem dX8_length_37 : decode cX8_length 37 = .ok (.iload_n 3, 1) := dk_29 (dk_at dksX8_length_1 14 rfl rfl)
theorem dX8_length_38 : decode cX8_length 38 = .ok (.iconst 1, 1) := dk_4 (dk_at dksX8_length_1 15 rfl rfl)
theorem dX8_length_39 : decode cX8_length 39 = .ok (.isub, 1) := dk_100 (dk_at dksX8_length_1 16 rfl rfl)
theorem dX8_length_40 : decode cX8_length 40 = .ok (.lshr, 1) := dk_123 (dk_at dksX8_length_1 17 rfl rfl)
theorem dX8_length_41 : decode cX8_length 41 = .ok (.lconst 1, 1) := dk_10 (dk_at dksX8_length_1 18 rfl rfl)
theorem dX8_length_42 : decode cX8_length 42 = .ok (.land, 1) := dk_127 (dk_at dksX8_length_1 19 rfl rfl)
theorem dX8_length_43 : decode cX8_length 43 = .ok (.lconst 0, 1) := dk_9 (dk_at dksX8_length_1 20 rfl rfl)
theorem dX8_length_44 : decode cX8_length 44 = .ok (.lcmp, 1) := dk_148 (dk_at dksX8_length_1 21 rfl rfl)
theorem dX8_length_45 : decode cX8_length 45 = .ok (.ifCond .ne 9, 3) := dk_154 0 9 (dk_at dksX8_length_2 0 rfl rfl)
theorem dX8_length_48 : decode cX8_length 48 = .ok (.iinc 3 (-1), 3) := dk_132 3 255 (dk_at dksX8_length_2 3 rfl rfl)
theorem dX8_length_51 : decode cX8_length 51 = .ok (.goto (-25), 3) := dk_167 255 231 (dk_at dksX8_length_2 6 rfl rfl)
theorem dX8_length_54 : decode cX8_length 54 = .ok (.bipush 32, 2) := dk_16 32 (dk_at dksX8_length_2 9 rfl rfl)
theorem dX8_length_56 : decode cX8_length 56 = .ok (.iload_n 2, 1) := dk_28 (dk_at dksX8_length_2 11 rfl rfl)
theorem dX8_length_57 : decode cX8_length 57 = .ok (.imul, 1) := dk_104 (dk_at dksX8_length_2 12 rfl rfl)
theorem dX8_length_58 : decode cX8_length 58 = .ok (.iload_n 3, 1) := dk_29 (dk_at dksX8_length_2 13 rfl rfl)
theorem dX8_length_59 : decode cX8_length 59 = .ok (.iadd, 1) := dk_96 (dk_at dksX8_length_2 14 rfl rfl)
theorem dX8_length_60 : decode cX8_length 60 = .ok (.ireturn, 1) := dk_172 (dk_at dksX8_length_2 15 rfl rfl)
theorem dX8_length_61 : decode cX8_length 61 = .ok (.iinc 2 (-1), 3) := dk_132 2 255 (dk_at dksX8_length_2 16 rfl rfl)
theorem dX8_length_64 : decode cX8_length 64 = .ok (.goto (-61), 3) := dk_167 255 195 (dk_at dksX8_length_2 19 rfl rfl)
theorem dX8_length_67 : decode cX8_length 67 = .ok (.iconst 0, 1) := dk_3 (dk_at dksX8_length_2 22 rfl rfl)
theorem dX8_length_68 : decode cX8_length 68 = .ok (.ireturn, 1) := dk_172 (dk_at dksX8_length_2 23 rfl rfl)
abbrev cX8_bit : ByteArray := prog_11_method_13_code
def yX8_bit : MethodName := ⟨RX8, "bit", "(II)J"⟩
def dkwX8_bit_0 : List UInt8 := [42, 180, 0, 17, 16, 64, 27, 104, 28, 16, 32, 108, 96, 47, 28, 16, 32, 112, 123, 10, 127, 173]
abbrev dktX8_bit_0 : List UInt8 := dkwX8_bit_0 ++ []
theorem dksX8_bit_0 : cX8_bit.data.toList.drop 0 = dktX8_bit_0 := by decide +kernel
theorem dX8_bit_0 : decode cX8_bit 0 = .ok (.aload_n 0, 1) := dk_42 (dk_at dksX8_bit_0 0 rfl rfl)
theorem dX8_bit_1 : decode cX8_bit 1 = .ok (.getfield 17, 3) := dk_180 0 17 (dk_at dksX8_bit_0 1 rfl rfl)
theorem dX8_bit_4 : decode cX8_bit 4 = .ok (.bipush 64, 2) := dk_16 64 (dk_at dksX8_bit_0 4 rfl rfl)
theorem dX8_bit_6 : decode cX8_bit 6 = .ok (.iload_n 1, 1) := dk_27 (dk_at dksX8_bit_0 6 rfl rfl)
theorem dX8_bit_7 : decode cX8_bit 7 = .ok (.imul, 1) := dk_104 (dk_at dksX8_bit_0 7 rfl rfl)
theorem dX8_bit_8 : decode cX8_bit 8 = .ok (.iload_n 2, 1) := dk_28 (dk_at dksX8_bit_0 8 rfl rfl)
theorem dX8_bit_9 : decode cX8_bit 9 = .ok (.bipush 32, 2) := dk_16 32 (dk_at dksX8_bit_0 9 rfl rfl)
theorem dX8_bit_11 : decode cX8_bit 11 = .ok (.idiv, 1) := dk_108 (dk_at dksX8_bit_0 11 rfl rfl)
theorem dX8_bit_12 : decode cX8_bit 12 = .ok (.iadd, 1) := dk_96 (dk_at dksX8_bit_0 12 rfl rfl)
theorem dX8_bit_13 : decode cX8_bit 13 = .ok (.laload, 1) := dk_47 (dk_at dksX8_bit_0 13 rfl rfl)
theorem dX8_bit_14 : decode cX8_bit 14 = .ok (.iload_n 2, 1) := dk_28 (dk_at dksX8_bit_0 14 rfl rfl)
theorem dX8_bit_15 : decode cX8_bit 15 = .ok (.bipush 32, 2) := dk_16 32 (dk_at dksX8_bit_0 15 rfl rfl)
theorem dX8_bit_17 : decode cX8_bit 17 = .ok (.irem, 1) := dk_112 (dk_at dksX8_bit_0 17 rfl rfl)
theorem dX8_bit_18 : decode cX8_bit 18 = .ok (.lshr, 1) := dk_123 (dk_at dksX8_bit_0 18 rfl rfl)
theorem dX8_bit_19 : decode cX8_bit 19 = .ok (.lconst 1, 1) := dk_10 (dk_at dksX8_bit_0 19 rfl rfl)
theorem dX8_bit_20 : decode cX8_bit 20 = .ok (.land, 1) := dk_127 (dk_at dksX8_bit_0 20 rfl rfl)
theorem dX8_bit_21 : decode cX8_bit 21 = .ok (.lreturn, 1) := dk_173 (dk_at dksX8_bit_0 21 rfl rfl)
abbrev cX8_fails : ByteArray := prog_11_method_3_code
def yX8_fails : MethodName := ⟨RX8, "fails", "(I)I"⟩
def dkwX8_fails_0 : List UInt8 := [42, 27, 181, 0, 20, 3, 172]
abbrev dktX8_fails_0 : List UInt8 := dkwX8_fails_0 ++ []
theorem dksX8_fails_0 : cX8_fails.data.toList.drop 0 = dktX8_fails_0 := by decide +kernel
theorem dX8_fails_0 : decode cX8_fails 0 = .ok (.aload_n 0, 1) := dk_42 (dk_at dksX8_fails_0 0 rfl rfl)
theorem dX8_fails_1 : decode cX8_fails 1 = .ok (.iload_n 1, 1) := dk_27 (dk_at dksX8_fails_0 1 rfl rfl)
theorem dX8_fails_2 : decode cX8_fails 2 = .ok (.putfield 20, 3) := dk_181 0 20 (dk_at dksX8_fails_0 2 rfl rfl)
theorem dX8_fails_5 : decode cX8_fails 5 = .ok (.iconst 0, 1) := dk_3 (dk_at dksX8_fails_0 5 rfl rfl)
theorem dX8_fails_6 : decode cX8_fails 6 = .ok (.ireturn, 1) := dk_172 (dk_at dksX8_fails_0 6 rfl rfl)
abbrev cX8_fraction : ByteArray := prog_11_method_26_code
def yX8_fraction : MethodName := ⟨RX8, "fraction", "(JJ)I"⟩
def dkwX8_fraction_2 : List UInt8 := [4, 167, 0, 4, 3, 159, 0, 7, 2, 167, 0, 4, 4, 5, 182, 0, 86, 172]
abbrev dktX8_fraction_2 : List UInt8 := dkwX8_fraction_2 ++ []
def dkwX8_fraction_1 : List UInt8 := [184, 0, 82, 182, 0, 68, 42, 31, 9, 148, 156, 0, 7, 4, 167, 0, 4, 3, 33, 9, 148, 156, 0, 7]
abbrev dktX8_fraction_1 : List UInt8 := dkwX8_fraction_1 ++ dktX8_fraction_2
def dkwX8_fraction_0 : List UInt8 := [33, 9, 148, 154, 0, 9, 42, 4, 182, 0, 79, 172, 42, 3, 31, 184, 0, 82, 182, 0, 68, 42, 4, 33]
abbrev dktX8_fraction_0 : List UInt8 := dkwX8_fraction_0 ++ dktX8_fraction_1
theorem dksX8_fraction_0 : cX8_fraction.data.toList.drop 0 = dktX8_fraction_0 := by decide +kernel
theorem dksX8_fraction_1 : cX8_fraction.data.toList.drop 24 = dktX8_fraction_1 := dk_seg dksX8_fraction_0 24 rfl rfl
theorem dksX8_fraction_2 : cX8_fraction.data.toList.drop 48 = dktX8_fraction_2 := dk_seg dksX8_fraction_1 24 rfl rfl
theorem dX8_fraction_0 : decode cX8_fraction 0 = .ok (.lload_n 3, 1) := dk_33 (dk_at dksX8_fraction_0 0 rfl rfl)
theorem dX8_fraction_1 : decode cX8_fraction 1 = .ok (.lconst 0, 1) := dk_9 (dk_at dksX8_fraction_0 1 rfl rfl)
theorem dX8_fraction_2 : decode cX8_fraction 2 = .ok (.lcmp, 1) := dk_148 (dk_at dksX8_fraction_0 2 rfl rfl)
theorem dX8_fraction_3 : decode cX8_fraction 3 = .ok (.ifCond .ne 9, 3) := dk_154 0 9 (dk_at dksX8_fraction_0 3 rfl rfl)
theorem dX8_fraction_6 : decode cX8_fraction 6 = .ok (.aload_n 0, 1) := dk_42 (dk_at dksX8_fraction_0 6 rfl rfl)
theorem dX8_fraction_7 : decode cX8_fraction 7 = .ok (.iconst 1, 1) := dk_4 (dk_at dksX8_fraction_0 7 rfl rfl)
theorem dX8_fraction_8 : decode cX8_fraction 8 = .ok (.invokevirtual 79, 3) := dk_182 0 79 (dk_at dksX8_fraction_0 8 rfl rfl)
theorem dX8_fraction_11 : decode cX8_fraction 11 = .ok (.ireturn, 1) := dk_172 (dk_at dksX8_fraction_0 11 rfl rfl)
theorem dX8_fraction_12 : decode cX8_fraction 12 = .ok (.aload_n 0, 1) := dk_42 (dk_at dksX8_fraction_0 12 rfl rfl)
theorem dX8_fraction_13 : decode cX8_fraction 13 = .ok (.iconst 0, 1) := dk_3 (dk_at dksX8_fraction_0 13 rfl rfl)
theorem dX8_fraction_14 : decode cX8_fraction 14 = .ok (.lload_n 1, 1) := dk_31 (dk_at dksX8_fraction_0 14 rfl rfl)
theorem dX8_fraction_15 : decode cX8_fraction 15 = .ok (.invokestatic 82, 3) := dk_184 0 82 (dk_at dksX8_fraction_0 15 rfl rfl)
theorem dX8_fraction_18 : decode cX8_fraction 18 = .ok (.invokevirtual 68, 3) := dk_182 0 68 (dk_at dksX8_fraction_0 18 rfl rfl)
theorem dX8_fraction_21 : decode cX8_fraction 21 = .ok (.aload_n 0, 1) := dk_42 (dk_at dksX8_fraction_0 21 rfl rfl)
theorem dX8_fraction_22 : decode cX8_fraction 22 = .ok (.iconst 1, 1) := dk_4 (dk_at dksX8_fraction_0 22 rfl rfl)
theorem dX8_fraction_23 : decode cX8_fraction 23 = .ok (.lload_n 3, 1) := dk_33 (dk_at dksX8_fraction_0 23 rfl rfl)
theorem dX8_fraction_24 : decode cX8_fraction 24 = .ok (.invokestatic 82, 3) := dk_184 0 82 (dk_at dksX8_fraction_1 0 rfl rfl)
theorem dX8_fraction_27 : decode cX8_fraction 27 = .ok (.invokevirtual 68, 3) := dk_182 0 68 (dk_at dksX8_fraction_1 3 rfl rfl)
theorem dX8_fraction_30 : decode cX8_fraction 30 = .ok (.aload_n 0, 1) := dk_42 (dk_at dksX8_fraction_1 6 rfl rfl)
theorem dX8_fraction_31 : decode cX8_fraction 31 = .ok (.lload_n 1, 1) := dk_31 (dk_at dksX8_fraction_1 7 rfl rfl)
theorem dX8_fraction_32 : decode cX8_fraction 32 = .ok (.lconst 0, 1) := dk_9 (dk_at dksX8_fraction_1 8 rfl rfl)
theorem dX8_fraction_33 : decode cX8_fraction 33 = .ok (.lcmp, 1) := dk_148 (dk_at dksX8_fraction_1 9 rfl rfl)
theorem dX8_fraction_34 : decode cX8_fraction 34 = .ok (.ifCond .ge 7, 3) := dk_156 0 7 (dk_at dksX8_fraction_1 10 rfl rfl)
theorem dX8_fraction_37 : decode cX8_fraction 37 = .ok (.iconst 1, 1) := dk_4 (dk_at dksX8_fraction_1 13 rfl rfl)
theorem dX8_fraction_38 : decode cX8_fraction 38 = .ok (.goto 4, 3) := dk_167 0 4 (dk_at dksX8_fraction_1 14 rfl rfl)
theorem dX8_fraction_41 : decode cX8_fraction 41 = .ok (.iconst 0, 1) := dk_3 (dk_at dksX8_fraction_1 17 rfl rfl)
theorem dX8_fraction_42 : decode cX8_fraction 42 = .ok (.lload_n 3, 1) := dk_33 (dk_at dksX8_fraction_1 18 rfl rfl)
theorem dX8_fraction_43 : decode cX8_fraction 43 = .ok (.lconst 0, 1) := dk_9 (dk_at dksX8_fraction_1 19 rfl rfl)
theorem dX8_fraction_44 : decode cX8_fraction 44 = .ok (.lcmp, 1) := dk_148 (dk_at dksX8_fraction_1 20 rfl rfl)
theorem dX8_fraction_45 : decode cX8_fraction 45 = .ok (.ifCond .ge 7, 3) := dk_156 0 7 (dk_at dksX8_fraction_1 21 rfl rfl)
theorem dX8_fraction_48 : decode cX8_fraction 48 = .ok (.iconst 1, 1) := dk_4 (dk_at dksX8_fraction_2 0 rfl rfl)
theorem dX8_fraction_49 : decode cX8_fraction 49 = .ok (.goto 4, 3) := dk_167 0 4 (dk_at dksX8_fraction_2 1 rfl rfl)
theorem dX8_fraction_52 : decode cX8_fraction 52 = .ok (.iconst 0, 1) := dk_3 (dk_at dksX8_fraction_2 4 rfl rfl)
theorem dX8_fraction_53 : decode cX8_fraction 53 = .ok (.if_icmp .eq 7, 3) := dk_159 0 7 (dk_at dksX8_fraction_2 5 rfl rfl)
theorem dX8_fraction_56 : decode cX8_fraction 56 = .ok (.iconst (-1), 1) := dk_2 (dk_at dksX8_fraction_2 8 rfl rfl)
theorem dX8_fraction_57 : decode cX8_fraction 57 = .ok (.goto 4, 3) := dk_167 0 4 (dk_at dksX8_fraction_2 9 rfl rfl)
theorem dX8_fraction_60 : decode cX8_fraction 60 = .ok (.iconst 1, 1) := dk_4 (dk_at dksX8_fraction_2 12 rfl rfl)
theorem dX8_fraction_61 : decode cX8_fraction 61 = .ok (.iconst 2, 1) := dk_5 (dk_at dksX8_fraction_2 13 rfl rfl)
theorem dX8_fraction_62 : decode cX8_fraction 62 = .ok (.invokevirtual 86, 3) := dk_182 0 86 (dk_at dksX8_fraction_2 14 rfl rfl)
theorem dX8_fraction_65 : decode cX8_fraction 65 = .ok (.ireturn, 1) := dk_172 (dk_at dksX8_fraction_2 17 rfl rfl)
abbrev cX8_real : ByteArray := prog_11_method_34_code
def yX8_real : MethodName := ⟨RX8, "real", "(J)I"⟩
def dkwX8_real_2 : List UInt8 := [167, 0, 10, 42, 4, 29, 116, 182, 0, 34, 42, 31, 184, 0, 108, 5, 182, 0, 86, 172]
abbrev dktX8_real_2 : List UInt8 := dkwX8_real_2 ++ []
def dkwX8_real_1 : List UInt8 := [182, 0, 68, 42, 4, 10, 182, 0, 68, 31, 184, 0, 105, 62, 29, 158, 0, 12, 42, 3, 29, 182, 0, 34]
abbrev dktX8_real_1 : List UInt8 := dkwX8_real_1 ++ dktX8_real_2
def dkwX8_real_0 : List UInt8 := [31, 184, 0, 93, 17, 7, 255, 160, 0, 9, 42, 4, 182, 0, 79, 172, 42, 3, 31, 184, 0, 102]
abbrev dktX8_real_0 : List UInt8 := dkwX8_real_0 ++ dktX8_real_1
theorem dksX8_real_0 : cX8_real.data.toList.drop 0 = dktX8_real_0 := by decide +kernel
theorem dksX8_real_1 : cX8_real.data.toList.drop 22 = dktX8_real_1 := dk_seg dksX8_real_0 22 rfl rfl
theorem dksX8_real_2 : cX8_real.data.toList.drop 46 = dktX8_real_2 := dk_seg dksX8_real_1 24 rfl rfl
theorem dX8_real_0 : decode cX8_real 0 = .ok (.lload_n 1, 1) := dk_31 (dk_at dksX8_real_0 0 rfl rfl)
theorem dX8_real_1 : decode cX8_real 1 = .ok (.invokestatic 93, 3) := dk_184 0 93 (dk_at dksX8_real_0 1 rfl rfl)
theorem dX8_real_4 : decode cX8_real 4 = .ok (.sipush 2047, 3) := dk_17 7 255 (dk_at dksX8_real_0 4 rfl rfl)
theorem dX8_real_7 : decode cX8_real 7 = .ok (.if_icmp .ne 9, 3) := dk_160 0 9 (dk_at dksX8_real_0 7 rfl rfl)
theorem dX8_real_10 : decode cX8_real 10 = .ok (.aload_n 0, 1) := dk_42 (dk_at dksX8_real_0 10 rfl rfl)
theorem dX8_real_11 : decode cX8_real 11 = .ok (.iconst 1, 1) := dk_4 (dk_at dksX8_real_0 11 rfl rfl)
theorem dX8_real_12 : decode cX8_real 12 = .ok (.invokevirtual 79, 3) := dk_182 0 79 (dk_at dksX8_real_0 12 rfl rfl)
theorem dX8_real_15 : decode cX8_real 15 = .ok (.ireturn, 1) := dk_172 (dk_at dksX8_real_0 15 rfl rfl)
theorem dX8_real_16 : decode cX8_real 16 = .ok (.aload_n 0, 1) := dk_42 (dk_at dksX8_real_0 16 rfl rfl)
theorem dX8_real_17 : decode cX8_real 17 = .ok (.iconst 0, 1) := dk_3 (dk_at dksX8_real_0 17 rfl rfl)
theorem dX8_real_18 : decode cX8_real 18 = .ok (.lload_n 1, 1) := dk_31 (dk_at dksX8_real_0 18 rfl rfl)
theorem dX8_real_19 : decode cX8_real 19 = .ok (.invokestatic 102, 3) := dk_184 0 102 (dk_at dksX8_real_0 19 rfl rfl)
theorem dX8_real_22 : decode cX8_real 22 = .ok (.invokevirtual 68, 3) := dk_182 0 68 (dk_at dksX8_real_1 0 rfl rfl)
theorem dX8_real_25 : decode cX8_real 25 = .ok (.aload_n 0, 1) := dk_42 (dk_at dksX8_real_1 3 rfl rfl)
theorem dX8_real_26 : decode cX8_real 26 = .ok (.iconst 1, 1) := dk_4 (dk_at dksX8_real_1 4 rfl rfl)
theorem dX8_real_27 : decode cX8_real 27 = .ok (.lconst 1, 1) := dk_10 (dk_at dksX8_real_1 5 rfl rfl)
theorem dX8_real_28 : decode cX8_real 28 = .ok (.invokevirtual 68, 3) := dk_182 0 68 (dk_at dksX8_real_1 6 rfl rfl)
theorem dX8_real_31 : decode cX8_real 31 = .ok (.lload_n 1, 1) := dk_31 (dk_at dksX8_real_1 9 rfl rfl)
theorem dX8_real_32 : decode cX8_real 32 = .ok (.invokestatic 105, 3) := dk_184 0 105 (dk_at dksX8_real_1 10 rfl rfl)
theorem dX8_real_35 : decode cX8_real 35 = .ok (.istore_n 3, 1) := dk_62 (dk_at dksX8_real_1 13 rfl rfl)
theorem dX8_real_36 : decode cX8_real 36 = .ok (.iload_n 3, 1) := dk_29 (dk_at dksX8_real_1 14 rfl rfl)
theorem dX8_real_37 : decode cX8_real 37 = .ok (.ifCond .le 12, 3) := dk_158 0 12 (dk_at dksX8_real_1 15 rfl rfl)
theorem dX8_real_40 : decode cX8_real 40 = .ok (.aload_n 0, 1) := dk_42 (dk_at dksX8_real_1 18 rfl rfl)
theorem dX8_real_41 : decode cX8_real 41 = .ok (.iconst 0, 1) := dk_3 (dk_at dksX8_real_1 19 rfl rfl)
theorem dX8_real_42 : decode cX8_real 42 = .ok (.iload_n 3, 1) := dk_29 (dk_at dksX8_real_1 20 rfl rfl)
theorem dX8_real_43 : decode cX8_real 43 = .ok (.invokevirtual 34, 3) := dk_182 0 34 (dk_at dksX8_real_1 21 rfl rfl)
theorem dX8_real_46 : decode cX8_real 46 = .ok (.goto 10, 3) := dk_167 0 10 (dk_at dksX8_real_2 0 rfl rfl)
theorem dX8_real_49 : decode cX8_real 49 = .ok (.aload_n 0, 1) := dk_42 (dk_at dksX8_real_2 3 rfl rfl)
theorem dX8_real_50 : decode cX8_real 50 = .ok (.iconst 1, 1) := dk_4 (dk_at dksX8_real_2 4 rfl rfl)
theorem dX8_real_51 : decode cX8_real 51 = .ok (.iload_n 3, 1) := dk_29 (dk_at dksX8_real_2 5 rfl rfl)
theorem dX8_real_52 : decode cX8_real 52 = .ok (.ineg, 1) := dk_116 (dk_at dksX8_real_2 6 rfl rfl)
theorem dX8_real_53 : decode cX8_real 53 = .ok (.invokevirtual 34, 3) := dk_182 0 34 (dk_at dksX8_real_2 7 rfl rfl)
theorem dX8_real_56 : decode cX8_real 56 = .ok (.aload_n 0, 1) := dk_42 (dk_at dksX8_real_2 10 rfl rfl)
theorem dX8_real_57 : decode cX8_real 57 = .ok (.lload_n 1, 1) := dk_31 (dk_at dksX8_real_2 11 rfl rfl)
theorem dX8_real_58 : decode cX8_real 58 = .ok (.invokestatic 108, 3) := dk_184 0 108 (dk_at dksX8_real_2 12 rfl rfl)
theorem dX8_real_61 : decode cX8_real 61 = .ok (.iconst 2, 1) := dk_5 (dk_at dksX8_real_2 15 rfl rfl)
theorem dX8_real_62 : decode cX8_real 62 = .ok (.invokevirtual 86, 3) := dk_182 0 86 (dk_at dksX8_real_2 16 rfl rfl)
theorem dX8_real_65 : decode cX8_real 65 = .ok (.ireturn, 1) := dk_172 (dk_at dksX8_real_2 19 rfl rfl)
abbrev cX8_exponent : ByteArray := prog_11_method_27_code
def yX8_exponent : MethodName := ⟨RX8, "exponent", "(J)I"⟩
def dkwX8_exponent_0 : List UInt8 := [30, 16, 52, 123, 20, 0, 89, 127, 136, 172]
abbrev dktX8_exponent_0 : List UInt8 := dkwX8_exponent_0 ++ []
theorem dksX8_exponent_0 : cX8_exponent.data.toList.drop 0 = dktX8_exponent_0 := by decide +kernel
theorem dX8_exponent_0 : decode cX8_exponent 0 = .ok (.lload_n 0, 1) := dk_30 (dk_at dksX8_exponent_0 0 rfl rfl)
theorem dX8_exponent_1 : decode cX8_exponent 1 = .ok (.bipush 52, 2) := dk_16 52 (dk_at dksX8_exponent_0 1 rfl rfl)
theorem dX8_exponent_3 : decode cX8_exponent 3 = .ok (.lshr, 1) := dk_123 (dk_at dksX8_exponent_0 3 rfl rfl)
theorem dX8_exponent_4 : decode cX8_exponent 4 = .ok (.ldc2_w 89, 3) := dk_20 0 89 (dk_at dksX8_exponent_0 4 rfl rfl)
theorem dX8_exponent_7 : decode cX8_exponent 7 = .ok (.land, 1) := dk_127 (dk_at dksX8_exponent_0 7 rfl rfl)
theorem dX8_exponent_8 : decode cX8_exponent 8 = .ok (.l2i, 1) := dk_136 (dk_at dksX8_exponent_0 8 rfl rfl)
theorem dX8_exponent_9 : decode cX8_exponent 9 = .ok (.ireturn, 1) := dk_172 (dk_at dksX8_exponent_0 9 rfl rfl)
abbrev cX8_factor : ByteArray := prog_11_method_31_code
def yX8_factor : MethodName := ⟨RX8, "facto\x72", "(J)J"⟩
def dkwX8_factor_0 : List UInt8 := [30, 184, 0, 93, 154, 0, 10, 30, 184, 0, 97, 167, 0, 11, 30, 184, 0, 97, 20, 0, 100, 129, 173]
abbrev dktX8_factor_0 : List UInt8 := dkwX8_factor_0 ++ []
theorem dksX8_factor_0 : cX8_factor.data.toList.drop 0 = dktX8_factor_0 := by decide +kernel
theorem dX8_factor_0 : decode cX8_factor 0 = .ok (.lload_n 0, 1) := dk_30 (dk_at dksX8_factor_0 0 rfl rfl)
theorem dX8_factor_1 : decode cX8_factor 1 = .ok (.invokestatic 93, 3) := dk_184 0 93 (dk_at dksX8_factor_0 1 rfl rfl)
theorem dX8_factor_4 : decode cX8_factor 4 = .ok (.ifCond .ne 10, 3) := dk_154 0 10 (dk_at dksX8_factor_0 4 rfl rfl)
theorem dX8_factor_7 : decode cX8_factor 7 = .ok (.lload_n 0, 1) := dk_30 (dk_at dksX8_factor_0 7 rfl rfl)
theorem dX8_factor_8 : decode cX8_factor 8 = .ok (.invokestatic 97, 3) := dk_184 0 97 (dk_at dksX8_factor_0 8 rfl rfl)
theorem dX8_factor_11 : decode cX8_factor 11 = .ok (.goto 11, 3) := dk_167 0 11 (dk_at dksX8_factor_0 11 rfl rfl)
theorem dX8_factor_14 : decode cX8_factor 14 = .ok (.lload_n 0, 1) := dk_30 (dk_at dksX8_factor_0 14 rfl rfl)
theorem dX8_factor_15 : decode cX8_factor 15 = .ok (.invokestatic 97, 3) := dk_184 0 97 (dk_at dksX8_factor_0 15 rfl rfl)
theorem dX8_factor_18 : decode cX8_factor 18 = .ok (.ldc2_w 100, 3) := dk_20 0 100 (dk_at dksX8_factor_0 18 rfl rfl)
theorem dX8_factor_21 : decode cX8_factor 21 = .ok (.lor, 1) := dk_129 (dk_at dksX8_factor_0 21 rfl rfl)
theorem dX8_factor_22 : decode cX8_factor 22 = .ok (.lreturn, 1) := dk_173 (dk_at dksX8_factor_0 22 rfl rfl)
abbrev cX8_part : ByteArray := prog_11_method_28_code
def yX8_part : MethodName := ⟨RX8, "part", "(J)J"⟩
def dkwX8_part_0 : List UInt8 := [30, 20, 0, 91, 127, 173]
abbrev dktX8_part_0 : List UInt8 := dkwX8_part_0 ++ []
theorem dksX8_part_0 : cX8_part.data.toList.drop 0 = dktX8_part_0 := by decide +kernel
theorem dX8_part_0 : decode cX8_part 0 = .ok (.lload_n 0, 1) := dk_30 (dk_at dksX8_part_0 0 rfl rfl)
theorem dX8_part_1 : decode cX8_part 1 = .ok (.ldc2_w 91, 3) := dk_20 0 91 (dk_at dksX8_part_0 1 rfl rfl)
theorem dX8_part_4 : decode cX8_part 4 = .ok (.land, 1) := dk_127 (dk_at dksX8_part_0 4 rfl rfl)
theorem dX8_part_5 : decode cX8_part 5 = .ok (.lreturn, 1) := dk_173 (dk_at dksX8_part_0 5 rfl rfl)
abbrev cX8_place : ByteArray := prog_11_method_32_code
def yX8_place : MethodName := ⟨RX8, "place", "(J)I"⟩
def dkwX8_place_0 : List UInt8 := [30, 184, 0, 93, 154, 0, 9, 17, 251, 206, 167, 0, 11, 30, 184, 0, 93, 17, 4, 51, 100, 172]
abbrev dktX8_place_0 : List UInt8 := dkwX8_place_0 ++ []
theorem dksX8_place_0 : cX8_place.data.toList.drop 0 = dktX8_place_0 := by decide +kernel
theorem dX8_place_0 : decode cX8_place 0 = .ok (.lload_n 0, 1) := dk_30 (dk_at dksX8_place_0 0 rfl rfl)
theorem dX8_place_1 : decode cX8_place 1 = .ok (.invokestatic 93, 3) := dk_184 0 93 (dk_at dksX8_place_0 1 rfl rfl)
theorem dX8_place_4 : decode cX8_place 4 = .ok (.ifCond .ne 9, 3) := dk_154 0 9 (dk_at dksX8_place_0 4 rfl rfl)
theorem dX8_place_7 : decode cX8_place 7 = .ok (.sipush (-1074), 3) := dk_17 251 206 (dk_at dksX8_place_0 7 rfl rfl)
theorem dX8_place_10 : decode cX8_place 10 = .ok (.goto 11, 3) := dk_167 0 11 (dk_at dksX8_place_0 10 rfl rfl)
theorem dX8_place_13 : decode cX8_place 13 = .ok (.lload_n 0, 1) := dk_30 (dk_at dksX8_place_0 13 rfl rfl)
theorem dX8_place_14 : decode cX8_place 14 = .ok (.invokestatic 93, 3) := dk_184 0 93 (dk_at dksX8_place_0 14 rfl rfl)
theorem dX8_place_17 : decode cX8_place 17 = .ok (.sipush 1075, 3) := dk_17 4 51 (dk_at dksX8_place_0 17 rfl rfl)
theorem dX8_place_20 : decode cX8_place 20 = .ok (.isub, 1) := dk_100 (dk_at dksX8_place_0 20 rfl rfl)
theorem dX8_place_21 : decode cX8_place 21 = .ok (.ireturn, 1) := dk_172 (dk_at dksX8_place_0 21 rfl rfl)
abbrev cX8_signOf : ByteArray := prog_11_method_33_code
def yX8_signOf : MethodName := ⟨RX8, "signOf", "(J)I"⟩
def dkwX8_signOf_0 : List UInt8 := [30, 9, 148, 156, 0, 7, 2, 167, 0, 4, 4, 172]
abbrev dktX8_signOf_0 : List UInt8 := dkwX8_signOf_0 ++ []
theorem dksX8_signOf_0 : cX8_signOf.data.toList.drop 0 = dktX8_signOf_0 := by decide +kernel
theorem dX8_signOf_0 : decode cX8_signOf 0 = .ok (.lload_n 0, 1) := dk_30 (dk_at dksX8_signOf_0 0 rfl rfl)
theorem dX8_signOf_1 : decode cX8_signOf 1 = .ok (.lconst 0, 1) := dk_9 (dk_at dksX8_signOf_0 1 rfl rfl)
theorem dX8_signOf_2 : decode cX8_signOf 2 = .ok (.lcmp, 1) := dk_148 (dk_at dksX8_signOf_0 2 rfl rfl)
theorem dX8_signOf_3 : decode cX8_signOf 3 = .ok (.ifCond .ge 7, 3) := dk_156 0 7 (dk_at dksX8_signOf_0 3 rfl rfl)
theorem dX8_signOf_6 : decode cX8_signOf 6 = .ok (.iconst (-1), 1) := dk_2 (dk_at dksX8_signOf_0 6 rfl rfl)
theorem dX8_signOf_7 : decode cX8_signOf 7 = .ok (.goto 4, 3) := dk_167 0 4 (dk_at dksX8_signOf_0 7 rfl rfl)
theorem dX8_signOf_10 : decode cX8_signOf 10 = .ok (.iconst 1, 1) := dk_4 (dk_at dksX8_signOf_0 10 rfl rfl)
theorem dX8_signOf_11 : decode cX8_signOf 11 = .ok (.ireturn, 1) := dk_172 (dk_at dksX8_signOf_0 11 rfl rfl)
abbrev cX8_act : ByteArray := prog_11_method_37_code
def yX8_act : MethodName := ⟨RX8, "act", "(III)I"⟩
def dkwX8_act_15 : List UInt8 := [180, 0, 7, 28, 46, 7, 182, 0, 86, 172, 42, 27, 28, 29, 182, 0, 136, 172]
abbrev dktX8_act_15 : List UInt8 := dkwX8_act_15 ++ []
def dkwX8_act_14 : List UInt8 := [180, 0, 114, 158, 0, 10, 42, 180, 0, 114, 167, 0, 8, 42, 180, 0, 114, 116, 182, 0, 34, 42, 42]
abbrev dktX8_act_14 : List UInt8 := dkwX8_act_14 ++ dktX8_act_15
def dkwX8_act_13 : List UInt8 := [182, 0, 130, 42, 28, 4, 182, 0, 133, 42, 42, 180, 0, 114, 158, 0, 7, 3, 167, 0, 4, 4, 42]
abbrev dktX8_act_13 : List UInt8 := dkwX8_act_13 ++ dktX8_act_14
def dkwX8_act_12 : List UInt8 := [42, 4, 10, 182, 0, 68, 42, 4, 7, 182, 0, 86, 172, 27, 16, 10, 160, 0, 62, 42, 28, 3]
abbrev dktX8_act_12 : List UInt8 := dkwX8_act_12 ++ dktX8_act_13
def dkwX8_act_11 : List UInt8 := [28, 5, 182, 0, 130, 42, 29, 6, 182, 0, 130, 42, 5, 6, 182, 0, 72, 42, 16, 14, 3, 182, 0, 49]
abbrev dktX8_act_11 : List UInt8 := dkwX8_act_11 ++ dktX8_act_12
def dkwX8_act_10 : List UInt8 := [4, 182, 0, 133, 42, 42, 180, 0, 7, 21, 5, 46, 7, 182, 0, 86, 172, 27, 16, 8, 160, 0, 41, 42]
abbrev dktX8_act_10 : List UInt8 := dkwX8_act_10 ++ dktX8_act_11
def dkwX8_act_9 : List UInt8 := [167, 0, 4, 3, 160, 0, 7, 28, 167, 0, 4, 29, 54, 5, 42, 21, 5, 3, 182, 0, 130, 42, 21, 5]
abbrev dktX8_act_9 : List UInt8 := dkwX8_act_9 ++ dktX8_act_10
def dkwX8_act_8 : List UInt8 := [161, 0, 65, 42, 28, 29, 182, 0, 127, 157, 0, 7, 4, 167, 0, 4, 3, 27, 16, 11, 160, 0, 7, 4]
abbrev dktX8_act_8 : List UInt8 := dkwX8_act_8 ++ dktX8_act_9
def dkwX8_act_7 : List UInt8 := [182, 0, 79, 172, 27, 16, 9, 160, 0, 13, 42, 28, 42, 180, 0, 114, 182, 0, 124, 172, 27, 16, 11]
abbrev dktX8_act_7 : List UInt8 := dkwX8_act_7 ++ dktX8_act_8
def dkwX8_act_6 : List UInt8 := [27, 16, 9, 160, 0, 25, 42, 180, 0, 114, 156, 0, 18, 42, 180, 0, 7, 28, 46, 154, 0, 9, 42, 6]
abbrev dktX8_act_6 : List UInt8 := dkwX8_act_6 ++ dktX8_act_7
def dkwX8_act_5 : List UInt8 := [182, 0, 79, 172, 27, 6, 161, 0, 18, 27, 16, 7, 163, 0, 12, 42, 180, 0, 7, 29, 46, 153, 0, 25]
abbrev dktX8_act_5 : List UInt8 := dkwX8_act_5 ++ dktX8_act_6
def dkwX8_act_4 : List UInt8 := [17, 2, 88, 182, 0, 120, 153, 0, 7, 4, 167, 0, 4, 3, 54, 4, 21, 4, 154, 0, 9, 42, 5]
abbrev dktX8_act_4 : List UInt8 := dkwX8_act_4 ++ dktX8_act_5
def dkwX8_act_3 : List UInt8 := [160, 0, 14, 42, 29, 17, 1, 44, 182, 0, 120, 153, 0, 24, 27, 16, 10, 160, 0, 14, 42, 29]
abbrev dktX8_act_3 : List UInt8 := dkwX8_act_3 ++ dktX8_act_4
def dkwX8_act_2 : List UInt8 := [160, 0, 19, 42, 28, 182, 0, 111, 153, 0, 49, 42, 29, 182, 0, 111, 153, 0, 41, 27, 16, 9]
abbrev dktX8_act_2 : List UInt8 := dkwX8_act_2 ++ dktX8_act_3
def dkwX8_act_1 : List UInt8 := [155, 0, 13, 27, 16, 12, 163, 0, 7, 4, 167, 0, 4, 3, 54, 4, 21, 4, 153, 0, 63, 27, 16, 8]
abbrev dktX8_act_1 : List UInt8 := dkwX8_act_1 ++ dktX8_act_2
def dkwX8_act_0 : List UInt8 := [42, 28, 182, 0, 117, 153, 0, 11, 42, 29, 182, 0, 117, 154, 0, 9, 42, 4, 182, 0, 79, 172, 27]
abbrev dktX8_act_0 : List UInt8 := dkwX8_act_0 ++ dktX8_act_1
theorem dksX8_act_0 : cX8_act.data.toList.drop 0 = dktX8_act_0 := by decide +kernel
theorem dksX8_act_1 : cX8_act.data.toList.drop 23 = dktX8_act_1 := dk_seg dksX8_act_0 23 rfl rfl
theorem dksX8_act_2 : cX8_act.data.toList.drop 47 = dktX8_act_2 := dk_seg dksX8_act_1 24 rfl rfl
theorem dksX8_act_3 : cX8_act.data.toList.drop 69 = dktX8_act_3 := dk_seg dksX8_act_2 22 rfl rfl
theorem dksX8_act_4 : cX8_act.data.toList.drop 91 = dktX8_act_4 := dk_seg dksX8_act_3 22 rfl rfl
theorem dksX8_act_5 : cX8_act.data.toList.drop 114 = dktX8_act_5 := dk_seg dksX8_act_4 23 rfl rfl
theorem dksX8_act_6 : cX8_act.data.toList.drop 138 = dktX8_act_6 := dk_seg dksX8_act_5 24 rfl rfl
theorem dksX8_act_7 : cX8_act.data.toList.drop 162 = dktX8_act_7 := dk_seg dksX8_act_6 24 rfl rfl
theorem dksX8_act_8 : cX8_act.data.toList.drop 185 = dktX8_act_8 := dk_seg dksX8_act_7 23 rfl rfl
theorem dksX8_act_9 : cX8_act.data.toList.drop 209 = dktX8_act_9 := dk_seg dksX8_act_8 24 rfl rfl
theorem dksX8_act_10 : cX8_act.data.toList.drop 233 = dktX8_act_10 := dk_seg dksX8_act_9 24 rfl rfl
theorem dksX8_act_11 : cX8_act.data.toList.drop 257 = dktX8_act_11 := dk_seg dksX8_act_10 24 rfl rfl
theorem dksX8_act_12 : cX8_act.data.toList.drop 281 = dktX8_act_12 := dk_seg dksX8_act_11 24 rfl rfl
theorem dksX8_act_13 : cX8_act.data.toList.drop 303 = dktX8_act_13 := dk_seg dksX8_act_12 22 rfl rfl
theorem dksX8_act_14 : cX8_act.data.toList.drop 326 = dktX8_act_14 := dk_seg dksX8_act_13 23 rfl rfl
theorem dksX8_act_15 : cX8_act.data.toList.drop 349 = dktX8_act_15 := dk_seg dksX8_act_14 23 rfl rfl
theorem dX8_act_0 : decode cX8_act 0 = .ok (.aload_n 0, 1) := dk_42 (dk_at dksX8_act_0 0 rfl rfl)
theorem dX8_act_1 : decode cX8_act 1 = .ok (.iload_n 2, 1) := dk_28 (dk_at dksX8_act_0 1 rfl rfl)
theorem dX8_act_2 : decode cX8_act 2 = .ok (.invokevirtual 117, 3) := dk_182 0 117 (dk_at dksX8_act_0 2 rfl rfl)
theorem dX8_act_5 : decode cX8_act 5 = .ok (.ifCond .eq 11, 3) := dk_153 0 11 (dk_at dksX8_act_0 5 rfl rfl)
theorem dX8_act_8 : decode cX8_act 8 = .ok (.aload_n 0, 1) := dk_42 (dk_at dksX8_act_0 8 rfl rfl)
theorem dX8_act_9 : decode cX8_act 9 = .ok (.iload_n 3, 1) := dk_29 (dk_at dksX8_act_0 9 rfl rfl)
theorem dX8_act_10 : decode cX8_act 10 = .ok (.invokevirtual 117, 3) := dk_182 0 117 (dk_at dksX8_act_0 10 rfl rfl)
theorem dX8_act_13 : decode cX8_act 13 = .ok (.ifCond .ne 9, 3) := dk_154 0 9 (dk_at dksX8_act_0 13 rfl rfl)
theorem dX8_act_16 : decode cX8_act 16 = .ok (.aload_n 0, 1) := dk_42 (dk_at dksX8_act_0 16 rfl rfl)
theorem dX8_act_17 : decode cX8_act 17 = .ok (.iconst 1, 1) := dk_4 (dk_at dksX8_act_0 17 rfl rfl)
theorem dX8_act_18 : decode cX8_act 18 = .ok (.invokevirtual 79, 3) := dk_182 0 79 (dk_at dksX8_act_0 18 rfl rfl)
theorem dX8_act_21 : decode cX8_act 21 = .ok (.ireturn, 1) := dk_172 (dk_at dksX8_act_0 21 rfl rfl)
theorem dX8_act_22 : decode cX8_act 22 = .ok (.iload_n 1, 1) := dk_27 (dk_at dksX8_act_0 22 rfl rfl)
theorem dX8_act_23 : decode cX8_act 23 = .ok (.ifCond .lt 13, 3) := dk_155 0 13 (dk_at dksX8_act_1 0 rfl rfl)
theorem dX8_act_26 : decode cX8_act 26 = .ok (.iload_n 1, 1) := dk_27 (dk_at dksX8_act_1 3 rfl rfl)
theorem dX8_act_27 : decode cX8_act 27 = .ok (.bipush 12, 2) := dk_16 12 (dk_at dksX8_act_1 4 rfl rfl)
theorem dX8_act_29 : decode cX8_act 29 = .ok (.if_icmp .gt 7, 3) := dk_163 0 7 (dk_at dksX8_act_1 6 rfl rfl)
theorem dX8_act_32 : decode cX8_act 32 = .ok (.iconst 1, 1) := dk_4 (dk_at dksX8_act_1 9 rfl rfl)
theorem dX8_act_33 : decode cX8_act 33 = .ok (.goto 4, 3) := dk_167 0 4 (dk_at dksX8_act_1 10 rfl rfl)
theorem dX8_act_36 : decode cX8_act 36 = .ok (.iconst 0, 1) := dk_3 (dk_at dksX8_act_1 13 rfl rfl)
theorem dX8_act_37 : decode cX8_act 37 = .ok (.istore 4, 2) := dk_54 4 (dk_at dksX8_act_1 14 rfl rfl)
theorem dX8_act_39 : decode cX8_act 39 = .ok (.iload 4, 2) := dk_21 4 (dk_at dksX8_act_1 16 rfl rfl)
theorem dX8_act_41 : decode cX8_act 41 = .ok (.ifCond .eq 63, 3) := dk_153 0 63 (dk_at dksX8_act_1 18 rfl rfl)
theorem dX8_act_44 : decode cX8_act 44 = .ok (.iload_n 1, 1) := dk_27 (dk_at dksX8_act_1 21 rfl rfl)
theorem dX8_act_45 : decode cX8_act 45 = .ok (.bipush 8, 2) := dk_16 8 (dk_at dksX8_act_1 22 rfl rfl)
theorem dX8_act_47 : decode cX8_act 47 = .ok (.if_icmp .ne 19, 3) := dk_160 0 19 (dk_at dksX8_act_2 0 rfl rfl)
theorem dX8_act_50 : decode cX8_act 50 = .ok (.aload_n 0, 1) := dk_42 (dk_at dksX8_act_2 3 rfl rfl)
theorem dX8_act_51 : decode cX8_act 51 = .ok (.iload_n 2, 1) := dk_28 (dk_at dksX8_act_2 4 rfl rfl)
theorem dX8_act_52 : decode cX8_act 52 = .ok (.invokevirtual 111, 3) := dk_182 0 111 (dk_at dksX8_act_2 5 rfl rfl)
theorem dX8_act_55 : decode cX8_act 55 = .ok (.ifCond .eq 49, 3) := dk_153 0 49 (dk_at dksX8_act_2 8 rfl rfl)
theorem dX8_act_58 : decode cX8_act 58 = .ok (.aload_n 0, 1) := dk_42 (dk_at dksX8_act_2 11 rfl rfl)
theorem dX8_act_59 : decode cX8_act 59 = .ok (.iload_n 3, 1) := dk_29 (dk_at dksX8_act_2 12 rfl rfl)
theorem dX8_act_60 : decode cX8_act 60 = .ok (.invokevirtual 111, 3) := dk_182 0 111 (dk_at dksX8_act_2 13 rfl rfl)
theorem dX8_act_63 : decode cX8_act 63 = .ok (.ifCond .eq 41, 3) := dk_153 0 41 (dk_at dksX8_act_2 16 rfl rfl)
theorem dX8_act_66 : decode cX8_act 66 = .ok (.iload_n 1, 1) := dk_27 (dk_at dksX8_act_2 19 rfl rfl)
theorem dX8_act_67 : decode cX8_act 67 = .ok (.bipush 9, 2) := dk_16 9 (dk_at dksX8_act_2 20 rfl rfl)
theorem dX8_act_69 : decode cX8_act 69 = .ok (.if_icmp .ne 14, 3) := dk_160 0 14 (dk_at dksX8_act_3 0 rfl rfl)
theorem dX8_act_72 : decode cX8_act 72 = .ok (.aload_n 0, 1) := dk_42 (dk_at dksX8_act_3 3 rfl rfl)
theorem dX8_act_73 : decode cX8_act 73 = .ok (.iload_n 3, 1) := dk_29 (dk_at dksX8_act_3 4 rfl rfl)
theorem dX8_act_74 : decode cX8_act 74 = .ok (.sipush 300, 3) := dk_17 1 44 (dk_at dksX8_act_3 5 rfl rfl)
theorem dX8_act_77 : decode cX8_act 77 = .ok (.invokevirtual 120, 3) := dk_182 0 120 (dk_at dksX8_act_3 8 rfl rfl)
theorem dX8_act_80 : decode cX8_act 80 = .ok (.ifCond .eq 24, 3) := dk_153 0 24 (dk_at dksX8_act_3 11 rfl rfl)
theorem dX8_act_83 : decode cX8_act 83 = .ok (.iload_n 1, 1) := dk_27 (dk_at dksX8_act_3 14 rfl rfl)
theorem dX8_act_84 : decode cX8_act 84 = .ok (.bipush 10, 2) := dk_16 10 (dk_at dksX8_act_3 15 rfl rfl)
theorem dX8_act_86 : decode cX8_act 86 = .ok (.if_icmp .ne 14, 3) := dk_160 0 14 (dk_at dksX8_act_3 17 rfl rfl)
theorem dX8_act_89 : decode cX8_act 89 = .ok (.aload_n 0, 1) := dk_42 (dk_at dksX8_act_3 20 rfl rfl)
theorem dX8_act_90 : decode cX8_act 90 = .ok (.iload_n 3, 1) := dk_29 (dk_at dksX8_act_3 21 rfl rfl)
theorem dX8_act_91 : decode cX8_act 91 = .ok (.sipush 600, 3) := dk_17 2 88 (dk_at dksX8_act_4 0 rfl rfl)
theorem dX8_act_94 : decode cX8_act 94 = .ok (.invokevirtual 120, 3) := dk_182 0 120 (dk_at dksX8_act_4 3 rfl rfl)
theorem dX8_act_97 : decode cX8_act 97 = .ok (.ifCond .eq 7, 3) := dk_153 0 7 (dk_at dksX8_act_4 6 rfl rfl)
theorem dX8_act_100 : decode cX8_act 100 = .ok (.iconst 1, 1) := dk_4 (dk_at dksX8_act_4 9 rfl rfl)
theorem dX8_act_101 : decode cX8_act 101 = .ok (.goto 4, 3) := dk_167 0 4 (dk_at dksX8_act_4 10 rfl rfl)
theorem dX8_act_104 : decode cX8_act 104 = .ok (.iconst 0, 1) := dk_3 (dk_at dksX8_act_4 13 rfl rfl)
theorem dX8_act_105 : decode cX8_act 105 = .ok (.istore 4, 2) := dk_54 4 (dk_at dksX8_act_4 14 rfl rfl)
theorem dX8_act_107 : decode cX8_act 107 = .ok (.iload 4, 2) := dk_21 4 (dk_at dksX8_act_4 16 rfl rfl)
theorem dX8_act_109 : decode cX8_act 109 = .ok (.ifCond .ne 9, 3) := dk_154 0 9 (dk_at dksX8_act_4 18 rfl rfl)
theorem dX8_act_112 : decode cX8_act 112 = .ok (.aload_n 0, 1) := dk_42 (dk_at dksX8_act_4 21 rfl rfl)
theorem dX8_act_113 : decode cX8_act 113 = .ok (.iconst 2, 1) := dk_5 (dk_at dksX8_act_4 22 rfl rfl)
theorem dX8_act_114 : decode cX8_act 114 = .ok (.invokevirtual 79, 3) := dk_182 0 79 (dk_at dksX8_act_5 0 rfl rfl)
theorem dX8_act_117 : decode cX8_act 117 = .ok (.ireturn, 1) := dk_172 (dk_at dksX8_act_5 3 rfl rfl)
theorem dX8_act_118 : decode cX8_act 118 = .ok (.iload_n 1, 1) := dk_27 (dk_at dksX8_act_5 4 rfl rfl)
theorem dX8_act_119 : decode cX8_act 119 = .ok (.iconst 3, 1) := dk_6 (dk_at dksX8_act_5 5 rfl rfl)
theorem dX8_act_120 : decode cX8_act 120 = .ok (.if_icmp .lt 18, 3) := dk_161 0 18 (dk_at dksX8_act_5 6 rfl rfl)
theorem dX8_act_123 : decode cX8_act 123 = .ok (.iload_n 1, 1) := dk_27 (dk_at dksX8_act_5 9 rfl rfl)
theorem dX8_act_124 : decode cX8_act 124 = .ok (.bipush 7, 2) := dk_16 7 (dk_at dksX8_act_5 10 rfl rfl)
theorem dX8_act_126 : decode cX8_act 126 = .ok (.if_icmp .gt 12, 3) := dk_163 0 12 (dk_at dksX8_act_5 12 rfl rfl)
theorem dX8_act_129 : decode cX8_act 129 = .ok (.aload_n 0, 1) := dk_42 (dk_at dksX8_act_5 15 rfl rfl)
theorem dX8_act_130 : decode cX8_act 130 = .ok (.getfield 7, 3) := dk_180 0 7 (dk_at dksX8_act_5 16 rfl rfl)
theorem dX8_act_133 : decode cX8_act 133 = .ok (.iload_n 3, 1) := dk_29 (dk_at dksX8_act_5 19 rfl rfl)
theorem dX8_act_134 : decode cX8_act 134 = .ok (.iaload, 1) := dk_46 (dk_at dksX8_act_5 20 rfl rfl)
theorem dX8_act_135 : decode cX8_act 135 = .ok (.ifCond .eq 25, 3) := dk_153 0 25 (dk_at dksX8_act_5 21 rfl rfl)
theorem dX8_act_138 : decode cX8_act 138 = .ok (.iload_n 1, 1) := dk_27 (dk_at dksX8_act_6 0 rfl rfl)
theorem dX8_act_139 : decode cX8_act 139 = .ok (.bipush 9, 2) := dk_16 9 (dk_at dksX8_act_6 1 rfl rfl)
theorem dX8_act_141 : decode cX8_act 141 = .ok (.if_icmp .ne 25, 3) := dk_160 0 25 (dk_at dksX8_act_6 3 rfl rfl)
theorem dX8_act_144 : decode cX8_act 144 = .ok (.aload_n 0, 1) := dk_42 (dk_at dksX8_act_6 6 rfl rfl)
theorem dX8_act_145 : decode cX8_act 145 = .ok (.getfield 114, 3) := dk_180 0 114 (dk_at dksX8_act_6 7 rfl rfl)
theorem dX8_act_148 : decode cX8_act 148 = .ok (.ifCond .ge 18, 3) := dk_156 0 18 (dk_at dksX8_act_6 10 rfl rfl)
theorem dX8_act_151 : decode cX8_act 151 = .ok (.aload_n 0, 1) := dk_42 (dk_at dksX8_act_6 13 rfl rfl)
theorem dX8_act_152 : decode cX8_act 152 = .ok (.getfield 7, 3) := dk_180 0 7 (dk_at dksX8_act_6 14 rfl rfl)
theorem dX8_act_155 : decode cX8_act 155 = .ok (.iload_n 2, 1) := dk_28 (dk_at dksX8_act_6 17 rfl rfl)
theorem dX8_act_156 : decode cX8_act 156 = .ok (.iaload, 1) := dk_46 (dk_at dksX8_act_6 18 rfl rfl)
theorem dX8_act_157 : decode cX8_act 157 = .ok (.ifCond .ne 9, 3) := dk_154 0 9 (dk_at dksX8_act_6 19 rfl rfl)
theorem dX8_act_160 : decode cX8_act 160 = .ok (.aload_n 0, 1) := dk_42 (dk_at dksX8_act_6 22 rfl rfl)
theorem dX8_act_161 : decode cX8_act 161 = .ok (.iconst 3, 1) := dk_6 (dk_at dksX8_act_6 23 rfl rfl)
theorem dX8_act_162 : decode cX8_act 162 = .ok (.invokevirtual 79, 3) := dk_182 0 79 (dk_at dksX8_act_7 0 rfl rfl)
theorem dX8_act_165 : decode cX8_act 165 = .ok (.ireturn, 1) := dk_172 (dk_at dksX8_act_7 3 rfl rfl)
theorem dX8_act_166 : decode cX8_act 166 = .ok (.iload_n 1, 1) := dk_27 (dk_at dksX8_act_7 4 rfl rfl)
theorem dX8_act_167 : decode cX8_act 167 = .ok (.bipush 9, 2) := dk_16 9 (dk_at dksX8_act_7 5 rfl rfl)
theorem dX8_act_169 : decode cX8_act 169 = .ok (.if_icmp .ne 13, 3) := dk_160 0 13 (dk_at dksX8_act_7 7 rfl rfl)
theorem dX8_act_172 : decode cX8_act 172 = .ok (.aload_n 0, 1) := dk_42 (dk_at dksX8_act_7 10 rfl rfl)
theorem dX8_act_173 : decode cX8_act 173 = .ok (.iload_n 2, 1) := dk_28 (dk_at dksX8_act_7 11 rfl rfl)
theorem dX8_act_174 : decode cX8_act 174 = .ok (.aload_n 0, 1) := dk_42 (dk_at dksX8_act_7 12 rfl rfl)
theorem dX8_act_175 : decode cX8_act 175 = .ok (.getfield 114, 3) := dk_180 0 114 (dk_at dksX8_act_7 13 rfl rfl)
theorem dX8_act_178 : decode cX8_act 178 = .ok (.invokevirtual 124, 3) := dk_182 0 124 (dk_at dksX8_act_7 16 rfl rfl)
theorem dX8_act_181 : decode cX8_act 181 = .ok (.ireturn, 1) := dk_172 (dk_at dksX8_act_7 19 rfl rfl)
theorem dX8_act_182 : decode cX8_act 182 = .ok (.iload_n 1, 1) := dk_27 (dk_at dksX8_act_7 20 rfl rfl)
theorem dX8_act_183 : decode cX8_act 183 = .ok (.bipush 11, 2) := dk_16 11 (dk_at dksX8_act_7 21 rfl rfl)
theorem dX8_act_185 : decode cX8_act 185 = .ok (.if_icmp .lt 65, 3) := dk_161 0 65 (dk_at dksX8_act_8 0 rfl rfl)
theorem dX8_act_188 : decode cX8_act 188 = .ok (.aload_n 0, 1) := dk_42 (dk_at dksX8_act_8 3 rfl rfl)
theorem dX8_act_189 : decode cX8_act 189 = .ok (.iload_n 2, 1) := dk_28 (dk_at dksX8_act_8 4 rfl rfl)
theorem dX8_act_190 : decode cX8_act 190 = .ok (.iload_n 3, 1) := dk_29 (dk_at dksX8_act_8 5 rfl rfl)
theorem dX8_act_191 : decode cX8_act 191 = .ok (.invokevirtual 127, 3) := dk_182 0 127 (dk_at dksX8_act_8 6 rfl rfl)
theorem dX8_act_194 : decode cX8_act 194 = .ok (.ifCond .gt 7, 3) := dk_157 0 7 (dk_at dksX8_act_8 9 rfl rfl)
theorem dX8_act_197 : decode cX8_act 197 = .ok (.iconst 1, 1) := dk_4 (dk_at dksX8_act_8 12 rfl rfl)
theorem dX8_act_198 : decode cX8_act 198 = .ok (.goto 4, 3) := dk_167 0 4 (dk_at dksX8_act_8 13 rfl rfl)
theorem dX8_act_201 : decode cX8_act 201 = .ok (.iconst 0, 1) := dk_3 (dk_at dksX8_act_8 16 rfl rfl)
theorem dX8_act_202 : decode cX8_act 202 = .ok (.iload_n 1, 1) := dk_27 (dk_at dksX8_act_8 17 rfl rfl)
theorem dX8_act_203 : decode cX8_act 203 = .ok (.bipush 11, 2) := dk_16 11 (dk_at dksX8_act_8 18 rfl rfl)
theorem dX8_act_205 : decode cX8_act 205 = .ok (.if_icmp .ne 7, 3) := dk_160 0 7 (dk_at dksX8_act_8 20 rfl rfl)
theorem dX8_act_208 : decode cX8_act 208 = .ok (.iconst 1, 1) := dk_4 (dk_at dksX8_act_8 23 rfl rfl)
theorem dX8_act_209 : decode cX8_act 209 = .ok (.goto 4, 3) := dk_167 0 4 (dk_at dksX8_act_9 0 rfl rfl)
theorem dX8_act_212 : decode cX8_act 212 = .ok (.iconst 0, 1) := dk_3 (dk_at dksX8_act_9 3 rfl rfl)
theorem dX8_act_213 : decode cX8_act 213 = .ok (.if_icmp .ne 7, 3) := dk_160 0 7 (dk_at dksX8_act_9 4 rfl rfl)
theorem dX8_act_216 : decode cX8_act 216 = .ok (.iload_n 2, 1) := dk_28 (dk_at dksX8_act_9 7 rfl rfl)
theorem dX8_act_217 : decode cX8_act 217 = .ok (.goto 4, 3) := dk_167 0 4 (dk_at dksX8_act_9 8 rfl rfl)
theorem dX8_act_220 : decode cX8_act 220 = .ok (.iload_n 3, 1) := dk_29 (dk_at dksX8_act_9 11 rfl rfl)
theorem dX8_act_221 : decode cX8_act 221 = .ok (.istore 5, 2) := dk_54 5 (dk_at dksX8_act_9 12 rfl rfl)
theorem dX8_act_223 : decode cX8_act 223 = .ok (.aload_n 0, 1) := dk_42 (dk_at dksX8_act_9 14 rfl rfl)
theorem dX8_act_224 : decode cX8_act 224 = .ok (.iload 5, 2) := dk_21 5 (dk_at dksX8_act_9 15 rfl rfl)
theorem dX8_act_226 : decode cX8_act 226 = .ok (.iconst 0, 1) := dk_3 (dk_at dksX8_act_9 17 rfl rfl)
theorem dX8_act_227 : decode cX8_act 227 = .ok (.invokevirtual 130, 3) := dk_182 0 130 (dk_at dksX8_act_9 18 rfl rfl)
theorem dX8_act_230 : decode cX8_act 230 = .ok (.aload_n 0, 1) := dk_42 (dk_at dksX8_act_9 21 rfl rfl)
theorem dX8_act_231 : decode cX8_act 231 = .ok (.iload 5, 2) := dk_21 5 (dk_at dksX8_act_9 22 rfl rfl)
theorem dX8_act_233 : decode cX8_act 233 = .ok (.iconst 1, 1) := dk_4 (dk_at dksX8_act_10 0 rfl rfl)
theorem dX8_act_234 : decode cX8_act 234 = .ok (.invokevirtual 133, 3) := dk_182 0 133 (dk_at dksX8_act_10 1 rfl rfl)
theorem dX8_act_237 : decode cX8_act 237 = .ok (.aload_n 0, 1) := dk_42 (dk_at dksX8_act_10 4 rfl rfl)
theorem dX8_act_238 : decode cX8_act 238 = .ok (.aload_n 0, 1) := dk_42 (dk_at dksX8_act_10 5 rfl rfl)
theorem dX8_act_239 : decode cX8_act 239 = .ok (.getfield 7, 3) := dk_180 0 7 (dk_at dksX8_act_10 6 rfl rfl)
theorem dX8_act_242 : decode cX8_act 242 = .ok (.iload 5, 2) := dk_21 5 (dk_at dksX8_act_10 9 rfl rfl)
theorem dX8_act_244 : decode cX8_act 244 = .ok (.iaload, 1) := dk_46 (dk_at dksX8_act_10 11 rfl rfl)
theorem dX8_act_245 : decode cX8_act 245 = .ok (.iconst 4, 1) := dk_7 (dk_at dksX8_act_10 12 rfl rfl)
theorem dX8_act_246 : decode cX8_act 246 = .ok (.invokevirtual 86, 3) := dk_182 0 86 (dk_at dksX8_act_10 13 rfl rfl)
theorem dX8_act_249 : decode cX8_act 249 = .ok (.ireturn, 1) := dk_172 (dk_at dksX8_act_10 16 rfl rfl)
theorem dX8_act_250 : decode cX8_act 250 = .ok (.iload_n 1, 1) := dk_27 (dk_at dksX8_act_10 17 rfl rfl)
theorem dX8_act_251 : decode cX8_act 251 = .ok (.bipush 8, 2) := dk_16 8 (dk_at dksX8_act_10 18 rfl rfl)
theorem dX8_act_253 : decode cX8_act 253 = .ok (.if_icmp .ne 41, 3) := dk_160 0 41 (dk_at dksX8_act_10 20 rfl rfl)
theorem dX8_act_256 : decode cX8_act 256 = .ok (.aload_n 0, 1) := dk_42 (dk_at dksX8_act_10 23 rfl rfl)
theorem dX8_act_257 : decode cX8_act 257 = .ok (.iload_n 2, 1) := dk_28 (dk_at dksX8_act_11 0 rfl rfl)
theorem dX8_act_258 : decode cX8_act 258 = .ok (.iconst 2, 1) := dk_5 (dk_at dksX8_act_11 1 rfl rfl)
theorem dX8_act_259 : decode cX8_act 259 = .ok (.invokevirtual 130, 3) := dk_182 0 130 (dk_at dksX8_act_11 2 rfl rfl)
theorem dX8_act_262 : decode cX8_act 262 = .ok (.aload_n 0, 1) := dk_42 (dk_at dksX8_act_11 5 rfl rfl)
theorem dX8_act_263 : decode cX8_act 263 = .ok (.iload_n 3, 1) := dk_29 (dk_at dksX8_act_11 6 rfl rfl)
theorem dX8_act_264 : decode cX8_act 264 = .ok (.iconst 3, 1) := dk_6 (dk_at dksX8_act_11 7 rfl rfl)
theorem dX8_act_265 : decode cX8_act 265 = .ok (.invokevirtual 130, 3) := dk_182 0 130 (dk_at dksX8_act_11 8 rfl rfl)
theorem dX8_act_268 : decode cX8_act 268 = .ok (.aload_n 0, 1) := dk_42 (dk_at dksX8_act_11 11 rfl rfl)
theorem dX8_act_269 : decode cX8_act 269 = .ok (.iconst 2, 1) := dk_5 (dk_at dksX8_act_11 12 rfl rfl)
theorem dX8_act_270 : decode cX8_act 270 = .ok (.iconst 3, 1) := dk_6 (dk_at dksX8_act_11 13 rfl rfl)
theorem dX8_act_271 : decode cX8_act 271 = .ok (.invokevirtual 72, 3) := dk_182 0 72 (dk_at dksX8_act_11 14 rfl rfl)
theorem dX8_act_274 : decode cX8_act 274 = .ok (.aload_n 0, 1) := dk_42 (dk_at dksX8_act_11 17 rfl rfl)
theorem dX8_act_275 : decode cX8_act 275 = .ok (.bipush 14, 2) := dk_16 14 (dk_at dksX8_act_11 18 rfl rfl)
theorem dX8_act_277 : decode cX8_act 277 = .ok (.iconst 0, 1) := dk_3 (dk_at dksX8_act_11 20 rfl rfl)
theorem dX8_act_278 : decode cX8_act 278 = .ok (.invokevirtual 49, 3) := dk_182 0 49 (dk_at dksX8_act_11 21 rfl rfl)
theorem dX8_act_281 : decode cX8_act 281 = .ok (.aload_n 0, 1) := dk_42 (dk_at dksX8_act_12 0 rfl rfl)
theorem dX8_act_282 : decode cX8_act 282 = .ok (.iconst 1, 1) := dk_4 (dk_at dksX8_act_12 1 rfl rfl)
theorem dX8_act_283 : decode cX8_act 283 = .ok (.lconst 1, 1) := dk_10 (dk_at dksX8_act_12 2 rfl rfl)
theorem dX8_act_284 : decode cX8_act 284 = .ok (.invokevirtual 68, 3) := dk_182 0 68 (dk_at dksX8_act_12 3 rfl rfl)
theorem dX8_act_287 : decode cX8_act 287 = .ok (.aload_n 0, 1) := dk_42 (dk_at dksX8_act_12 6 rfl rfl)
theorem dX8_act_288 : decode cX8_act 288 = .ok (.iconst 1, 1) := dk_4 (dk_at dksX8_act_12 7 rfl rfl)
theorem dX8_act_289 : decode cX8_act 289 = .ok (.iconst 4, 1) := dk_7 (dk_at dksX8_act_12 8 rfl rfl)
theorem dX8_act_290 : decode cX8_act 290 = .ok (.invokevirtual 86, 3) := dk_182 0 86 (dk_at dksX8_act_12 9 rfl rfl)
theorem dX8_act_293 : decode cX8_act 293 = .ok (.ireturn, 1) := dk_172 (dk_at dksX8_act_12 12 rfl rfl)
theorem dX8_act_294 : decode cX8_act 294 = .ok (.iload_n 1, 1) := dk_27 (dk_at dksX8_act_12 13 rfl rfl)
theorem dX8_act_295 : decode cX8_act 295 = .ok (.bipush 10, 2) := dk_16 10 (dk_at dksX8_act_12 14 rfl rfl)
theorem dX8_act_297 : decode cX8_act 297 = .ok (.if_icmp .ne 62, 3) := dk_160 0 62 (dk_at dksX8_act_12 16 rfl rfl)
theorem dX8_act_300 : decode cX8_act 300 = .ok (.aload_n 0, 1) := dk_42 (dk_at dksX8_act_12 19 rfl rfl)
theorem dX8_act_301 : decode cX8_act 301 = .ok (.iload_n 2, 1) := dk_28 (dk_at dksX8_act_12 20 rfl rfl)
theorem dX8_act_302 : decode cX8_act 302 = .ok (.iconst 0, 1) := dk_3 (dk_at dksX8_act_12 21 rfl rfl)
theorem dX8_act_303 : decode cX8_act 303 = .ok (.invokevirtual 130, 3) := dk_182 0 130 (dk_at dksX8_act_13 0 rfl rfl)
theorem dX8_act_306 : decode cX8_act 306 = .ok (.aload_n 0, 1) := dk_42 (dk_at dksX8_act_13 3 rfl rfl)
theorem dX8_act_307 : decode cX8_act 307 = .ok (.iload_n 2, 1) := dk_28 (dk_at dksX8_act_13 4 rfl rfl)
theorem dX8_act_308 : decode cX8_act 308 = .ok (.iconst 1, 1) := dk_4 (dk_at dksX8_act_13 5 rfl rfl)
theorem dX8_act_309 : decode cX8_act 309 = .ok (.invokevirtual 133, 3) := dk_182 0 133 (dk_at dksX8_act_13 6 rfl rfl)
theorem dX8_act_312 : decode cX8_act 312 = .ok (.aload_n 0, 1) := dk_42 (dk_at dksX8_act_13 9 rfl rfl)
theorem dX8_act_313 : decode cX8_act 313 = .ok (.aload_n 0, 1) := dk_42 (dk_at dksX8_act_13 10 rfl rfl)
theorem dX8_act_314 : decode cX8_act 314 = .ok (.getfield 114, 3) := dk_180 0 114 (dk_at dksX8_act_13 11 rfl rfl)
theorem dX8_act_317 : decode cX8_act 317 = .ok (.ifCond .le 7, 3) := dk_158 0 7 (dk_at dksX8_act_13 14 rfl rfl)
theorem dX8_act_320 : decode cX8_act 320 = .ok (.iconst 0, 1) := dk_3 (dk_at dksX8_act_13 17 rfl rfl)
theorem dX8_act_321 : decode cX8_act 321 = .ok (.goto 4, 3) := dk_167 0 4 (dk_at dksX8_act_13 18 rfl rfl)
theorem dX8_act_324 : decode cX8_act 324 = .ok (.iconst 1, 1) := dk_4 (dk_at dksX8_act_13 21 rfl rfl)
theorem dX8_act_325 : decode cX8_act 325 = .ok (.aload_n 0, 1) := dk_42 (dk_at dksX8_act_13 22 rfl rfl)
theorem dX8_act_326 : decode cX8_act 326 = .ok (.getfield 114, 3) := dk_180 0 114 (dk_at dksX8_act_14 0 rfl rfl)
theorem dX8_act_329 : decode cX8_act 329 = .ok (.ifCond .le 10, 3) := dk_158 0 10 (dk_at dksX8_act_14 3 rfl rfl)
theorem dX8_act_332 : decode cX8_act 332 = .ok (.aload_n 0, 1) := dk_42 (dk_at dksX8_act_14 6 rfl rfl)
theorem dX8_act_333 : decode cX8_act 333 = .ok (.getfield 114, 3) := dk_180 0 114 (dk_at dksX8_act_14 7 rfl rfl)
theorem dX8_act_336 : decode cX8_act 336 = .ok (.goto 8, 3) := dk_167 0 8 (dk_at dksX8_act_14 10 rfl rfl)
theorem dX8_act_339 : decode cX8_act 339 = .ok (.aload_n 0, 1) := dk_42 (dk_at dksX8_act_14 13 rfl rfl)
theorem dX8_act_340 : decode cX8_act 340 = .ok (.getfield 114, 3) := dk_180 0 114 (dk_at dksX8_act_14 14 rfl rfl)
theorem dX8_act_343 : decode cX8_act 343 = .ok (.ineg, 1) := dk_116 (dk_at dksX8_act_14 17 rfl rfl)
theorem dX8_act_344 : decode cX8_act 344 = .ok (.invokevirtual 34, 3) := dk_182 0 34 (dk_at dksX8_act_14 18 rfl rfl)
theorem dX8_act_347 : decode cX8_act 347 = .ok (.aload_n 0, 1) := dk_42 (dk_at dksX8_act_14 21 rfl rfl)
theorem dX8_act_348 : decode cX8_act 348 = .ok (.aload_n 0, 1) := dk_42 (dk_at dksX8_act_14 22 rfl rfl)
theorem dX8_act_349 : decode cX8_act 349 = .ok (.getfield 7, 3) := dk_180 0 7 (dk_at dksX8_act_15 0 rfl rfl)
theorem dX8_act_352 : decode cX8_act 352 = .ok (.iload_n 2, 1) := dk_28 (dk_at dksX8_act_15 3 rfl rfl)
theorem dX8_act_353 : decode cX8_act 353 = .ok (.iaload, 1) := dk_46 (dk_at dksX8_act_15 4 rfl rfl)
theorem dX8_act_354 : decode cX8_act 354 = .ok (.iconst 4, 1) := dk_7 (dk_at dksX8_act_15 5 rfl rfl)
theorem dX8_act_355 : decode cX8_act 355 = .ok (.invokevirtual 86, 3) := dk_182 0 86 (dk_at dksX8_act_15 6 rfl rfl)
theorem dX8_act_358 : decode cX8_act 358 = .ok (.ireturn, 1) := dk_172 (dk_at dksX8_act_15 9 rfl rfl)
theorem dX8_act_359 : decode cX8_act 359 = .ok (.aload_n 0, 1) := dk_42 (dk_at dksX8_act_15 10 rfl rfl)
theorem dX8_act_360 : decode cX8_act 360 = .ok (.iload_n 1, 1) := dk_27 (dk_at dksX8_act_15 11 rfl rfl)
theorem dX8_act_361 : decode cX8_act 361 = .ok (.iload_n 2, 1) := dk_28 (dk_at dksX8_act_15 12 rfl rfl)
theorem dX8_act_362 : decode cX8_act 362 = .ok (.iload_n 3, 1) := dk_29 (dk_at dksX8_act_15 13 rfl rfl)
theorem dX8_act_363 : decode cX8_act 363 = .ok (.invokevirtual 136, 3) := dk_182 0 136 (dk_at dksX8_act_15 14 rfl rfl)
theorem dX8_act_366 : decode cX8_act 366 = .ok (.ireturn, 1) := dk_172 (dk_at dksX8_act_15 17 rfl rfl)
abbrev cX8_isNumber : ByteArray := prog_11_method_20_code
def yX8_isNumber : MethodName := ⟨RX8, "isNumbe\x72", "(I)Z"⟩
def dkwX8_isNumber_0 : List UInt8 := [27, 155, 0, 15, 27, 42, 180, 0, 65, 162, 0, 7, 4, 167, 0, 4, 3, 172]
abbrev dktX8_isNumber_0 : List UInt8 := dkwX8_isNumber_0 ++ []
theorem dksX8_isNumber_0 : cX8_isNumber.data.toList.drop 0 = dktX8_isNumber_0 := by decide +kernel
theorem dX8_isNumber_0 : decode cX8_isNumber 0 = .ok (.iload_n 1, 1) := dk_27 (dk_at dksX8_isNumber_0 0 rfl rfl)
theorem dX8_isNumber_1 : decode cX8_isNumber 1 = .ok (.ifCond .lt 15, 3) := dk_155 0 15 (dk_at dksX8_isNumber_0 1 rfl rfl)
theorem dX8_isNumber_4 : decode cX8_isNumber 4 = .ok (.iload_n 1, 1) := dk_27 (dk_at dksX8_isNumber_0 4 rfl rfl)
theorem dX8_isNumber_5 : decode cX8_isNumber 5 = .ok (.aload_n 0, 1) := dk_42 (dk_at dksX8_isNumber_0 5 rfl rfl)
theorem dX8_isNumber_6 : decode cX8_isNumber 6 = .ok (.getfield 65, 3) := dk_180 0 65 (dk_at dksX8_isNumber_0 6 rfl rfl)
theorem dX8_isNumber_9 : decode cX8_isNumber 9 = .ok (.if_icmp .ge 7, 3) := dk_162 0 7 (dk_at dksX8_isNumber_0 9 rfl rfl)
theorem dX8_isNumber_12 : decode cX8_isNumber 12 = .ok (.iconst 1, 1) := dk_4 (dk_at dksX8_isNumber_0 12 rfl rfl)
theorem dX8_isNumber_13 : decode cX8_isNumber 13 = .ok (.goto 4, 3) := dk_167 0 4 (dk_at dksX8_isNumber_0 13 rfl rfl)
theorem dX8_isNumber_16 : decode cX8_isNumber 16 = .ok (.iconst 0, 1) := dk_3 (dk_at dksX8_isNumber_0 16 rfl rfl)
theorem dX8_isNumber_17 : decode cX8_isNumber 17 = .ok (.ireturn, 1) := dk_172 (dk_at dksX8_isNumber_0 17 rfl rfl)
abbrev cX8_isWhole : ByteArray := prog_11_method_35_code
def yX8_isWhole : MethodName := ⟨RX8, "isWhole", "(I)Z"⟩
def dkwX8_isWhole_2 : List UInt8 := [9, 148, 154, 0, 7, 4, 167, 0, 4, 3, 61, 132, 3, 1, 167, 255, 221, 28, 172]
abbrev dktX8_isWhole_2 : List UInt8 := dkwX8_isWhole_2 ++ []
def dkwX8_isWhole_1 : List UInt8 := [16, 9, 62, 29, 16, 16, 162, 0, 35, 28, 153, 0, 23, 42, 180, 0, 13, 16, 16, 27, 104, 29, 96, 47]
abbrev dktX8_isWhole_1 : List UInt8 := dkwX8_isWhole_1 ++ dktX8_isWhole_2
def dkwX8_isWhole_0 : List UInt8 := [42, 180, 0, 13, 16, 16, 27, 104, 16, 8, 96, 47, 10, 148, 154, 0, 7, 4, 167, 0, 4, 3, 61]
abbrev dktX8_isWhole_0 : List UInt8 := dkwX8_isWhole_0 ++ dktX8_isWhole_1
theorem dksX8_isWhole_0 : cX8_isWhole.data.toList.drop 0 = dktX8_isWhole_0 := by decide +kernel
theorem dksX8_isWhole_1 : cX8_isWhole.data.toList.drop 23 = dktX8_isWhole_1 := dk_seg dksX8_isWhole_0 23 rfl rfl
theorem dksX8_isWhole_2 : cX8_isWhole.data.toList.drop 47 = dktX8_isWhole_2 := dk_seg dksX8_isWhole_1 24 rfl rfl
theorem dX8_isWhole_0 : decode cX8_isWhole 0 = .ok (.aload_n 0, 1) := dk_42 (dk_at dksX8_isWhole_0 0 rfl rfl)
theorem dX8_isWhole_1 : decode cX8_isWhole 1 = .ok (.getfield 13, 3) := dk_180 0 13 (dk_at dksX8_isWhole_0 1 rfl rfl)
theorem dX8_isWhole_4 : decode cX8_isWhole 4 = .ok (.bipush 16, 2) := dk_16 16 (dk_at dksX8_isWhole_0 4 rfl rfl)
theorem dX8_isWhole_6 : decode cX8_isWhole 6 = .ok (.iload_n 1, 1) := dk_27 (dk_at dksX8_isWhole_0 6 rfl rfl)
theorem dX8_isWhole_7 : decode cX8_isWhole 7 = .ok (.imul, 1) := dk_104 (dk_at dksX8_isWhole_0 7 rfl rfl)
theorem dX8_isWhole_8 : decode cX8_isWhole 8 = .ok (.bipush 8, 2) := dk_16 8 (dk_at dksX8_isWhole_0 8 rfl rfl)
theorem dX8_isWhole_10 : decode cX8_isWhole 10 = .ok (.iadd, 1) := dk_96 (dk_at dksX8_isWhole_0 10 rfl rfl)
theorem dX8_isWhole_11 : decode cX8_isWhole 11 = .ok (.laload, 1) := dk_47 (dk_at dksX8_isWhole_0 11 rfl rfl)
theorem dX8_isWhole_12 : decode cX8_isWhole 12 = .ok (.lconst 1, 1) := dk_10 (dk_at dksX8_isWhole_0 12 rfl rfl)
theorem dX8_isWhole_13 : decode cX8_isWhole 13 = .ok (.lcmp, 1) := dk_148 (dk_at dksX8_isWhole_0 13 rfl rfl)
theorem dX8_isWhole_14 : decode cX8_isWhole 14 = .ok (.ifCond .ne 7, 3) := dk_154 0 7 (dk_at dksX8_isWhole_0 14 rfl rfl)
theorem dX8_isWhole_17 : decode cX8_isWhole 17 = .ok (.iconst 1, 1) := dk_4 (dk_at dksX8_isWhole_0 17 rfl rfl)
theorem dX8_isWhole_18 : decode cX8_isWhole 18 = .ok (.goto 4, 3) := dk_167 0 4 (dk_at dksX8_isWhole_0 18 rfl rfl)
theorem dX8_isWhole_21 : decode cX8_isWhole 21 = .ok (.iconst 0, 1) := dk_3 (dk_at dksX8_isWhole_0 21 rfl rfl)
theorem dX8_isWhole_22 : decode cX8_isWhole 22 = .ok (.istore_n 2, 1) := dk_61 (dk_at dksX8_isWhole_0 22 rfl rfl)
theorem dX8_isWhole_23 : decode cX8_isWhole 23 = .ok (.bipush 9, 2) := dk_16 9 (dk_at dksX8_isWhole_1 0 rfl rfl)
theorem dX8_isWhole_25 : decode cX8_isWhole 25 = .ok (.istore_n 3, 1) := dk_62 (dk_at dksX8_isWhole_1 2 rfl rfl)
theorem dX8_isWhole_26 : decode cX8_isWhole 26 = .ok (.iload_n 3, 1) := dk_29 (dk_at dksX8_isWhole_1 3 rfl rfl)
theorem dX8_isWhole_27 : decode cX8_isWhole 27 = .ok (.bipush 16, 2) := dk_16 16 (dk_at dksX8_isWhole_1 4 rfl rfl)
theorem dX8_isWhole_29 : decode cX8_isWhole 29 = .ok (.if_icmp .ge 35, 3) := dk_162 0 35 (dk_at dksX8_isWhole_1 6 rfl rfl)
theorem dX8_isWhole_32 : decode cX8_isWhole 32 = .ok (.iload_n 2, 1) := dk_28 (dk_at dksX8_isWhole_1 9 rfl rfl)
theorem dX8_isWhole_33 : decode cX8_isWhole 33 = .ok (.ifCond .eq 23, 3) := dk_153 0 23 (dk_at dksX8_isWhole_1 10 rfl rfl)
theorem dX8_isWhole_36 : decode cX8_isWhole 36 = .ok (.aload_n 0, 1) := dk_42 (dk_at dksX8_isWhole_1 13 rfl rfl)
theorem dX8_isWhole_37 : decode cX8_isWhole 37 = .ok (.getfield 13, 3) := dk_180 0 13 (dk_at dksX8_isWhole_1 14 rfl rfl)
theorem dX8_isWhole_40 : decode cX8_isWhole 40 = .ok (.bipush 16, 2) := dk_16 16 (dk_at dksX8_isWhole_1 17 rfl rfl)
theorem dX8_isWhole_42 : decode cX8_isWhole 42 = .ok (.iload_n 1, 1) := dk_27 (dk_at dksX8_isWhole_1 19 rfl rfl)
theorem dX8_isWhole_43 : decode cX8_isWhole 43 = .ok (.imul, 1) := dk_104 (dk_at dksX8_isWhole_1 20 rfl rfl)
theorem dX8_isWhole_44 : decode cX8_isWhole 44 = .ok (.iload_n 3, 1) := dk_29 (dk_at dksX8_isWhole_1 21 rfl rfl)
theorem dX8_isWhole_45 : decode cX8_isWhole 45 = .ok (.iadd, 1) := dk_96 (dk_at dksX8_isWhole_1 22 rfl rfl)
theorem dX8_isWhole_46 : decode cX8_isWhole 46 = .ok (.laload, 1) := dk_47 (dk_at dksX8_isWhole_1 23 rfl rfl)
theorem dX8_isWhole_47 : decode cX8_isWhole 47 = .ok (.lconst 0, 1) := dk_9 (dk_at dksX8_isWhole_2 0 rfl rfl)
theorem dX8_isWhole_48 : decode cX8_isWhole 48 = .ok (.lcmp, 1) := dk_148 (dk_at dksX8_isWhole_2 1 rfl rfl)
theorem dX8_isWhole_49 : decode cX8_isWhole 49 = .ok (.ifCond .ne 7, 3) := dk_154 0 7 (dk_at dksX8_isWhole_2 2 rfl rfl)
theorem dX8_isWhole_52 : decode cX8_isWhole 52 = .ok (.iconst 1, 1) := dk_4 (dk_at dksX8_isWhole_2 5 rfl rfl)
theorem dX8_isWhole_53 : decode cX8_isWhole 53 = .ok (.goto 4, 3) := dk_167 0 4 (dk_at dksX8_isWhole_2 6 rfl rfl)
theorem dX8_isWhole_56 : decode cX8_isWhole 56 = .ok (.iconst 0, 1) := dk_3 (dk_at dksX8_isWhole_2 9 rfl rfl)
theorem dX8_isWhole_57 : decode cX8_isWhole 57 = .ok (.istore_n 2, 1) := dk_61 (dk_at dksX8_isWhole_2 10 rfl rfl)
theorem dX8_isWhole_58 : decode cX8_isWhole 58 = .ok (.iinc 3 1, 3) := dk_132 3 1 (dk_at dksX8_isWhole_2 11 rfl rfl)
theorem dX8_isWhole_61 : decode cX8_isWhole 61 = .ok (.goto (-35), 3) := dk_167 255 221 (dk_at dksX8_isWhole_2 14 rfl rfl)
theorem dX8_isWhole_64 : decode cX8_isWhole 64 = .ok (.iload_n 2, 1) := dk_28 (dk_at dksX8_isWhole_2 17 rfl rfl)
theorem dX8_isWhole_65 : decode cX8_isWhole 65 = .ok (.ireturn, 1) := dk_172 (dk_at dksX8_isWhole_2 18 rfl rfl)
abbrev cX8_isSmall : ByteArray := prog_11_method_36_code
def yX8_isSmall : MethodName := ⟨RX8, "isSmall", "(II)Z"⟩
def dkwX8_isSmall_4 : List UInt8 := [104, 167, 0, 4, 3, 181, 0, 114, 29, 172]
abbrev dktX8_isSmall_4 : List UInt8 := dkwX8_isSmall_4 ++ []
def dkwX8_isSmall_3 : List UInt8 := [167, 255, 219, 42, 29, 153, 0, 23, 42, 180, 0, 7, 27, 46, 42, 180, 0, 13, 16, 16, 27, 104, 47, 136]
abbrev dktX8_isSmall_3 : List UInt8 := dkwX8_isSmall_3 ++ dktX8_isSmall_4
def dkwX8_isSmall_2 : List UInt8 := [16, 16, 27, 104, 21, 4, 96, 47, 9, 148, 154, 0, 7, 4, 167, 0, 4, 3, 62, 132, 4, 1]
abbrev dktX8_isSmall_2 : List UInt8 := dkwX8_isSmall_2 ++ dktX8_isSmall_3
def dkwX8_isSmall_1 : List UInt8 := [167, 0, 4, 3, 62, 4, 54, 4, 21, 4, 16, 8, 162, 0, 36, 29, 153, 0, 24, 42, 180, 0, 13]
abbrev dktX8_isSmall_1 : List UInt8 := dkwX8_isSmall_1 ++ dktX8_isSmall_2
def dkwX8_isSmall_0 : List UInt8 := [42, 27, 182, 0, 111, 153, 0, 22, 42, 180, 0, 13, 16, 16, 27, 104, 47, 28, 133, 148, 157, 0, 7, 4]
abbrev dktX8_isSmall_0 : List UInt8 := dkwX8_isSmall_0 ++ dktX8_isSmall_1
theorem dksX8_isSmall_0 : cX8_isSmall.data.toList.drop 0 = dktX8_isSmall_0 := by decide +kernel
theorem dksX8_isSmall_1 : cX8_isSmall.data.toList.drop 24 = dktX8_isSmall_1 := dk_seg dksX8_isSmall_0 24 rfl rfl
theorem dksX8_isSmall_2 : cX8_isSmall.data.toList.drop 47 = dktX8_isSmall_2 := dk_seg dksX8_isSmall_1 23 rfl rfl
theorem dksX8_isSmall_3 : cX8_isSmall.data.toList.drop 69 = dktX8_isSmall_3 := dk_seg dksX8_isSmall_2 22 rfl rfl
theorem dksX8_isSmall_4 : cX8_isSmall.data.toList.drop 93 = dktX8_isSmall_4 := dk_seg dksX8_isSmall_3 24 rfl rfl
theorem dX8_isSmall_0 : decode cX8_isSmall 0 = .ok (.aload_n 0, 1) := dk_42 (dk_at dksX8_isSmall_0 0 rfl rfl)
theorem dX8_isSmall_1 : decode cX8_isSmall 1 = .ok (.iload_n 1, 1) := dk_27 (dk_at dksX8_isSmall_0 1 rfl rfl)
theorem dX8_isSmall_2 : decode cX8_isSmall 2 = .ok (.invokevirtual 111, 3) := dk_182 0 111 (dk_at dksX8_isSmall_0 2 rfl rfl)
theorem dX8_isSmall_5 : decode cX8_isSmall 5 = .ok (.ifCond .eq 22, 3) := dk_153 0 22 (dk_at dksX8_isSmall_0 5 rfl rfl)
theorem dX8_isSmall_8 : decode cX8_isSmall 8 = .ok (.aload_n 0, 1) := dk_42 (dk_at dksX8_isSmall_0 8 rfl rfl)
theorem dX8_isSmall_9 : decode cX8_isSmall 9 = .ok (.getfield 13, 3) := dk_180 0 13 (dk_at dksX8_isSmall_0 9 rfl rfl)
theorem dX8_isSmall_12 : decode cX8_isSmall 12 = .ok (.bipush 16, 2) := dk_16 16 (dk_at dksX8_isSmall_0 12 rfl rfl)
theorem dX8_isSmall_14 : decode cX8_isSmall 14 = .ok (.iload_n 1, 1) := dk_27 (dk_at dksX8_isSmall_0 14 rfl rfl)
theorem dX8_isSmall_15 : decode cX8_isSmall 15 = .ok (.imul, 1) := dk_104 (dk_at dksX8_isSmall_0 15 rfl rfl)
theorem dX8_isSmall_16 : decode cX8_isSmall 16 = .ok (.laload, 1) := dk_47 (dk_at dksX8_isSmall_0 16 rfl rfl)
theorem dX8_isSmall_17 : decode cX8_isSmall 17 = .ok (.iload_n 2, 1) := dk_28 (dk_at dksX8_isSmall_0 17 rfl rfl)
theorem dX8_isSmall_18 : decode cX8_isSmall 18 = .ok (.i2l, 1) := dk_133 (dk_at dksX8_isSmall_0 18 rfl rfl)
theorem dX8_isSmall_19 : decode cX8_isSmall 19 = .ok (.lcmp, 1) := dk_148 (dk_at dksX8_isSmall_0 19 rfl rfl)
theorem dX8_isSmall_20 : decode cX8_isSmall 20 = .ok (.ifCond .gt 7, 3) := dk_157 0 7 (dk_at dksX8_isSmall_0 20 rfl rfl)
theorem dX8_isSmall_23 : decode cX8_isSmall 23 = .ok (.iconst 1, 1) := dk_4 (dk_at dksX8_isSmall_0 23 rfl rfl)
theorem dX8_isSmall_24 : decode cX8_isSmall 24 = .ok (.goto 4, 3) := dk_167 0 4 (dk_at dksX8_isSmall_1 0 rfl rfl)
theorem dX8_isSmall_27 : decode cX8_isSmall 27 = .ok (.iconst 0, 1) := dk_3 (dk_at dksX8_isSmall_1 3 rfl rfl)
theorem dX8_isSmall_28 : decode cX8_isSmall 28 = .ok (.istore_n 3, 1) := dk_62 (dk_at dksX8_isSmall_1 4 rfl rfl)
theorem dX8_isSmall_29 : decode cX8_isSmall 29 = .ok (.iconst 1, 1) := dk_4 (dk_at dksX8_isSmall_1 5 rfl rfl)
theorem dX8_isSmall_30 : decode cX8_isSmall 30 = .ok (.istore 4, 2) := dk_54 4 (dk_at dksX8_isSmall_1 6 rfl rfl)
theorem dX8_isSmall_32 : decode cX8_isSmall 32 = .ok (.iload 4, 2) := dk_21 4 (dk_at dksX8_isSmall_1 8 rfl rfl)
theorem dX8_isSmall_34 : decode cX8_isSmall 34 = .ok (.bipush 8, 2) := dk_16 8 (dk_at dksX8_isSmall_1 10 rfl rfl)
theorem dX8_isSmall_36 : decode cX8_isSmall 36 = .ok (.if_icmp .ge 36, 3) := dk_162 0 36 (dk_at dksX8_isSmall_1 12 rfl rfl)
theorem dX8_isSmall_39 : decode cX8_isSmall 39 = .ok (.iload_n 3, 1) := dk_29 (dk_at dksX8_isSmall_1 15 rfl rfl)
theorem dX8_isSmall_40 : decode cX8_isSmall 40 = .ok (.ifCond .eq 24, 3) := dk_153 0 24 (dk_at dksX8_isSmall_1 16 rfl rfl)
theorem dX8_isSmall_43 : decode cX8_isSmall 43 = .ok (.aload_n 0, 1) := dk_42 (dk_at dksX8_isSmall_1 19 rfl rfl)
theorem dX8_isSmall_44 : decode cX8_isSmall 44 = .ok (.getfield 13, 3) := dk_180 0 13 (dk_at dksX8_isSmall_1 20 rfl rfl)
theorem dX8_isSmall_47 : decode cX8_isSmall 47 = .ok (.bipush 16, 2) := dk_16 16 (dk_at dksX8_isSmall_2 0 rfl rfl)
theorem dX8_isSmall_49 : decode cX8_isSmall 49 = .ok (.iload_n 1, 1) := dk_27 (dk_at dksX8_isSmall_2 2 rfl rfl)
theorem dX8_isSmall_50 : decode cX8_isSmall 50 = .ok (.imul, 1) := dk_104 (dk_at dksX8_isSmall_2 3 rfl rfl)
theorem dX8_isSmall_51 : decode cX8_isSmall 51 = .ok (.iload 4, 2) := dk_21 4 (dk_at dksX8_isSmall_2 4 rfl rfl)
theorem dX8_isSmall_53 : decode cX8_isSmall 53 = .ok (.iadd, 1) := dk_96 (dk_at dksX8_isSmall_2 6 rfl rfl)
theorem dX8_isSmall_54 : decode cX8_isSmall 54 = .ok (.laload, 1) := dk_47 (dk_at dksX8_isSmall_2 7 rfl rfl)
theorem dX8_isSmall_55 : decode cX8_isSmall 55 = .ok (.lconst 0, 1) := dk_9 (dk_at dksX8_isSmall_2 8 rfl rfl)
theorem dX8_isSmall_56 : decode cX8_isSmall 56 = .ok (.lcmp, 1) := dk_148 (dk_at dksX8_isSmall_2 9 rfl rfl)
theorem dX8_isSmall_57 : decode cX8_isSmall 57 = .ok (.ifCond .ne 7, 3) := dk_154 0 7 (dk_at dksX8_isSmall_2 10 rfl rfl)
theorem dX8_isSmall_60 : decode cX8_isSmall 60 = .ok (.iconst 1, 1) := dk_4 (dk_at dksX8_isSmall_2 13 rfl rfl)
theorem dX8_isSmall_61 : decode cX8_isSmall 61 = .ok (.goto 4, 3) := dk_167 0 4 (dk_at dksX8_isSmall_2 14 rfl rfl)
theorem dX8_isSmall_64 : decode cX8_isSmall 64 = .ok (.iconst 0, 1) := dk_3 (dk_at dksX8_isSmall_2 17 rfl rfl)
theorem dX8_isSmall_65 : decode cX8_isSmall 65 = .ok (.istore_n 3, 1) := dk_62 (dk_at dksX8_isSmall_2 18 rfl rfl)
theorem dX8_isSmall_66 : decode cX8_isSmall 66 = .ok (.iinc 4 1, 3) := dk_132 4 1 (dk_at dksX8_isSmall_2 19 rfl rfl)
theorem dX8_isSmall_69 : decode cX8_isSmall 69 = .ok (.goto (-37), 3) := dk_167 255 219 (dk_at dksX8_isSmall_3 0 rfl rfl)
theorem dX8_isSmall_72 : decode cX8_isSmall 72 = .ok (.aload_n 0, 1) := dk_42 (dk_at dksX8_isSmall_3 3 rfl rfl)
theorem dX8_isSmall_73 : decode cX8_isSmall 73 = .ok (.iload_n 3, 1) := dk_29 (dk_at dksX8_isSmall_3 4 rfl rfl)
theorem dX8_isSmall_74 : decode cX8_isSmall 74 = .ok (.ifCond .eq 23, 3) := dk_153 0 23 (dk_at dksX8_isSmall_3 5 rfl rfl)
theorem dX8_isSmall_77 : decode cX8_isSmall 77 = .ok (.aload_n 0, 1) := dk_42 (dk_at dksX8_isSmall_3 8 rfl rfl)
theorem dX8_isSmall_78 : decode cX8_isSmall 78 = .ok (.getfield 7, 3) := dk_180 0 7 (dk_at dksX8_isSmall_3 9 rfl rfl)
theorem dX8_isSmall_81 : decode cX8_isSmall 81 = .ok (.iload_n 1, 1) := dk_27 (dk_at dksX8_isSmall_3 12 rfl rfl)
theorem dX8_isSmall_82 : decode cX8_isSmall 82 = .ok (.iaload, 1) := dk_46 (dk_at dksX8_isSmall_3 13 rfl rfl)
theorem dX8_isSmall_83 : decode cX8_isSmall 83 = .ok (.aload_n 0, 1) := dk_42 (dk_at dksX8_isSmall_3 14 rfl rfl)
theorem dX8_isSmall_84 : decode cX8_isSmall 84 = .ok (.getfield 13, 3) := dk_180 0 13 (dk_at dksX8_isSmall_3 15 rfl rfl)
theorem dX8_isSmall_87 : decode cX8_isSmall 87 = .ok (.bipush 16, 2) := dk_16 16 (dk_at dksX8_isSmall_3 18 rfl rfl)
theorem dX8_isSmall_89 : decode cX8_isSmall 89 = .ok (.iload_n 1, 1) := dk_27 (dk_at dksX8_isSmall_3 20 rfl rfl)
theorem dX8_isSmall_90 : decode cX8_isSmall 90 = .ok (.imul, 1) := dk_104 (dk_at dksX8_isSmall_3 21 rfl rfl)
theorem dX8_isSmall_91 : decode cX8_isSmall 91 = .ok (.laload, 1) := dk_47 (dk_at dksX8_isSmall_3 22 rfl rfl)
theorem dX8_isSmall_92 : decode cX8_isSmall 92 = .ok (.l2i, 1) := dk_136 (dk_at dksX8_isSmall_3 23 rfl rfl)
theorem dX8_isSmall_93 : decode cX8_isSmall 93 = .ok (.imul, 1) := dk_104 (dk_at dksX8_isSmall_4 0 rfl rfl)
theorem dX8_isSmall_94 : decode cX8_isSmall 94 = .ok (.goto 4, 3) := dk_167 0 4 (dk_at dksX8_isSmall_4 1 rfl rfl)
theorem dX8_isSmall_97 : decode cX8_isSmall 97 = .ok (.iconst 0, 1) := dk_3 (dk_at dksX8_isSmall_4 4 rfl rfl)
theorem dX8_isSmall_98 : decode cX8_isSmall 98 = .ok (.putfield 114, 3) := dk_181 0 114 (dk_at dksX8_isSmall_4 5 rfl rfl)
theorem dX8_isSmall_101 : decode cX8_isSmall 101 = .ok (.iload_n 3, 1) := dk_29 (dk_at dksX8_isSmall_4 8 rfl rfl)
theorem dX8_isSmall_102 : decode cX8_isSmall 102 = .ok (.ireturn, 1) := dk_172 (dk_at dksX8_isSmall_4 9 rfl rfl)
abbrev cX8_power : ByteArray := prog_11_method_41_code
def yX8_power : MethodName := ⟨RX8, "powe\x72", "(II)I"⟩
def dkwX8_power_6 : List UInt8 := [182, 0, 86, 172]
abbrev dktX8_power_6 : List UInt8 := dkwX8_power_6 ++ []
def dkwX8_power_5 : List UInt8 := [182, 0, 79, 172, 132, 5, 1, 167, 255, 193, 28, 156, 0, 9, 42, 3, 4, 182, 0, 62, 42, 21, 4, 7]
abbrev dktX8_power_5 : List UInt8 := dkwX8_power_5 ++ dktX8_power_6
def dkwX8_power_4 : List UInt8 := [182, 0, 30, 17, 1, 0, 163, 0, 14, 42, 4, 182, 0, 30, 17, 1, 0, 164, 0, 9, 42, 7]
abbrev dktX8_power_4 : List UInt8 := dkwX8_power_4 ++ dktX8_power_5
def dkwX8_power_3 : List UInt8 := [182, 0, 140, 42, 7, 3, 182, 0, 49, 42, 4, 6, 7, 182, 0, 140, 42, 7, 4, 182, 0, 49, 42, 3]
abbrev dktX8_power_3 : List UInt8 := dkwX8_power_3 ++ dktX8_power_4
def dkwX8_power_2 : List UInt8 := [10, 182, 0, 68, 42, 4, 10, 182, 0, 68, 3, 54, 5, 21, 5, 29, 162, 0, 63, 42, 3, 5, 7]
abbrev dktX8_power_2 : List UInt8 := dkwX8_power_2 ++ dktX8_power_3
def dkwX8_power_1 : List UInt8 := [160, 0, 7, 2, 167, 0, 4, 4, 54, 4, 42, 27, 5, 182, 0, 130, 42, 27, 6, 182, 0, 133, 42, 3]
abbrev dktX8_power_1 : List UInt8 := dkwX8_power_1 ++ dktX8_power_2
def dkwX8_power_0 : List UInt8 := [28, 156, 0, 8, 28, 116, 167, 0, 4, 28, 62, 42, 180, 0, 7, 27, 46, 156, 0, 14, 29, 5, 112, 4]
abbrev dktX8_power_0 : List UInt8 := dkwX8_power_0 ++ dktX8_power_1
theorem dksX8_power_0 : cX8_power.data.toList.drop 0 = dktX8_power_0 := by decide +kernel
theorem dksX8_power_1 : cX8_power.data.toList.drop 24 = dktX8_power_1 := dk_seg dksX8_power_0 24 rfl rfl
theorem dksX8_power_2 : cX8_power.data.toList.drop 48 = dktX8_power_2 := dk_seg dksX8_power_1 24 rfl rfl
theorem dksX8_power_3 : cX8_power.data.toList.drop 71 = dktX8_power_3 := dk_seg dksX8_power_2 23 rfl rfl
theorem dksX8_power_4 : cX8_power.data.toList.drop 95 = dktX8_power_4 := dk_seg dksX8_power_3 24 rfl rfl
theorem dksX8_power_5 : cX8_power.data.toList.drop 117 = dktX8_power_5 := dk_seg dksX8_power_4 22 rfl rfl
theorem dksX8_power_6 : cX8_power.data.toList.drop 141 = dktX8_power_6 := dk_seg dksX8_power_5 24 rfl rfl
theorem dX8_power_0 : decode cX8_power 0 = .ok (.iload_n 2, 1) := dk_28 (dk_at dksX8_power_0 0 rfl rfl)
theorem dX8_power_1 : decode cX8_power 1 = .ok (.ifCond .ge 8, 3) := dk_156 0 8 (dk_at dksX8_power_0 1 rfl rfl)
theorem dX8_power_4 : decode cX8_power 4 = .ok (.iload_n 2, 1) := dk_28 (dk_at dksX8_power_0 4 rfl rfl)
theorem dX8_power_5 : decode cX8_power 5 = .ok (.ineg, 1) := dk_116 (dk_at dksX8_power_0 5 rfl rfl)
theorem dX8_power_6 : decode cX8_power 6 = .ok (.goto 4, 3) := dk_167 0 4 (dk_at dksX8_power_0 6 rfl rfl)
theorem dX8_power_9 : decode cX8_power 9 = .ok (.iload_n 2, 1) := dk_28 (dk_at dksX8_power_0 9 rfl rfl)
theorem dX8_power_10 : decode cX8_power 10 = .ok (.istore_n 3, 1) := dk_62 (dk_at dksX8_power_0 10 rfl rfl)
theorem dX8_power_11 : decode cX8_power 11 = .ok (.aload_n 0, 1) := dk_42 (dk_at dksX8_power_0 11 rfl rfl)
theorem dX8_power_12 : decode cX8_power 12 = .ok (.getfield 7, 3) := dk_180 0 7 (dk_at dksX8_power_0 12 rfl rfl)
theorem dX8_power_15 : decode cX8_power 15 = .ok (.iload_n 1, 1) := dk_27 (dk_at dksX8_power_0 15 rfl rfl)
theorem dX8_power_16 : decode cX8_power 16 = .ok (.iaload, 1) := dk_46 (dk_at dksX8_power_0 16 rfl rfl)
theorem dX8_power_17 : decode cX8_power 17 = .ok (.ifCond .ge 14, 3) := dk_156 0 14 (dk_at dksX8_power_0 17 rfl rfl)
theorem dX8_power_20 : decode cX8_power 20 = .ok (.iload_n 3, 1) := dk_29 (dk_at dksX8_power_0 20 rfl rfl)
theorem dX8_power_21 : decode cX8_power 21 = .ok (.iconst 2, 1) := dk_5 (dk_at dksX8_power_0 21 rfl rfl)
theorem dX8_power_22 : decode cX8_power 22 = .ok (.irem, 1) := dk_112 (dk_at dksX8_power_0 22 rfl rfl)
theorem dX8_power_23 : decode cX8_power 23 = .ok (.iconst 1, 1) := dk_4 (dk_at dksX8_power_0 23 rfl rfl)
theorem dX8_power_24 : decode cX8_power 24 = .ok (.if_icmp .ne 7, 3) := dk_160 0 7 (dk_at dksX8_power_1 0 rfl rfl)
theorem dX8_power_27 : decode cX8_power 27 = .ok (.iconst (-1), 1) := dk_2 (dk_at dksX8_power_1 3 rfl rfl)
theorem dX8_power_28 : decode cX8_power 28 = .ok (.goto 4, 3) := dk_167 0 4 (dk_at dksX8_power_1 4 rfl rfl)
theorem dX8_power_31 : decode cX8_power 31 = .ok (.iconst 1, 1) := dk_4 (dk_at dksX8_power_1 7 rfl rfl)
theorem dX8_power_32 : decode cX8_power 32 = .ok (.istore 4, 2) := dk_54 4 (dk_at dksX8_power_1 8 rfl rfl)
theorem dX8_power_34 : decode cX8_power 34 = .ok (.aload_n 0, 1) := dk_42 (dk_at dksX8_power_1 10 rfl rfl)
theorem dX8_power_35 : decode cX8_power 35 = .ok (.iload_n 1, 1) := dk_27 (dk_at dksX8_power_1 11 rfl rfl)
theorem dX8_power_36 : decode cX8_power 36 = .ok (.iconst 2, 1) := dk_5 (dk_at dksX8_power_1 12 rfl rfl)
theorem dX8_power_37 : decode cX8_power 37 = .ok (.invokevirtual 130, 3) := dk_182 0 130 (dk_at dksX8_power_1 13 rfl rfl)
theorem dX8_power_40 : decode cX8_power 40 = .ok (.aload_n 0, 1) := dk_42 (dk_at dksX8_power_1 16 rfl rfl)
theorem dX8_power_41 : decode cX8_power 41 = .ok (.iload_n 1, 1) := dk_27 (dk_at dksX8_power_1 17 rfl rfl)
theorem dX8_power_42 : decode cX8_power 42 = .ok (.iconst 3, 1) := dk_6 (dk_at dksX8_power_1 18 rfl rfl)
theorem dX8_power_43 : decode cX8_power 43 = .ok (.invokevirtual 133, 3) := dk_182 0 133 (dk_at dksX8_power_1 19 rfl rfl)
theorem dX8_power_46 : decode cX8_power 46 = .ok (.aload_n 0, 1) := dk_42 (dk_at dksX8_power_1 22 rfl rfl)
theorem dX8_power_47 : decode cX8_power 47 = .ok (.iconst 0, 1) := dk_3 (dk_at dksX8_power_1 23 rfl rfl)
theorem dX8_power_48 : decode cX8_power 48 = .ok (.lconst 1, 1) := dk_10 (dk_at dksX8_power_2 0 rfl rfl)
theorem dX8_power_49 : decode cX8_power 49 = .ok (.invokevirtual 68, 3) := dk_182 0 68 (dk_at dksX8_power_2 1 rfl rfl)
theorem dX8_power_52 : decode cX8_power 52 = .ok (.aload_n 0, 1) := dk_42 (dk_at dksX8_power_2 4 rfl rfl)
theorem dX8_power_53 : decode cX8_power 53 = .ok (.iconst 1, 1) := dk_4 (dk_at dksX8_power_2 5 rfl rfl)
theorem dX8_power_54 : decode cX8_power 54 = .ok (.lconst 1, 1) := dk_10 (dk_at dksX8_power_2 6 rfl rfl)
theorem dX8_power_55 : decode cX8_power 55 = .ok (.invokevirtual 68, 3) := dk_182 0 68 (dk_at dksX8_power_2 7 rfl rfl)
theorem dX8_power_58 : decode cX8_power 58 = .ok (.iconst 0, 1) := dk_3 (dk_at dksX8_power_2 10 rfl rfl)
theorem dX8_power_59 : decode cX8_power 59 = .ok (.istore 5, 2) := dk_54 5 (dk_at dksX8_power_2 11 rfl rfl)
theorem dX8_power_61 : decode cX8_power 61 = .ok (.iload 5, 2) := dk_21 5 (dk_at dksX8_power_2 13 rfl rfl)
theorem dX8_power_63 : decode cX8_power 63 = .ok (.iload_n 3, 1) := dk_29 (dk_at dksX8_power_2 15 rfl rfl)
theorem dX8_power_64 : decode cX8_power 64 = .ok (.if_icmp .ge 63, 3) := dk_162 0 63 (dk_at dksX8_power_2 16 rfl rfl)
theorem dX8_power_67 : decode cX8_power 67 = .ok (.aload_n 0, 1) := dk_42 (dk_at dksX8_power_2 19 rfl rfl)
theorem dX8_power_68 : decode cX8_power 68 = .ok (.iconst 0, 1) := dk_3 (dk_at dksX8_power_2 20 rfl rfl)
theorem dX8_power_69 : decode cX8_power 69 = .ok (.iconst 2, 1) := dk_5 (dk_at dksX8_power_2 21 rfl rfl)
theorem dX8_power_70 : decode cX8_power 70 = .ok (.iconst 4, 1) := dk_7 (dk_at dksX8_power_2 22 rfl rfl)
theorem dX8_power_71 : decode cX8_power 71 = .ok (.invokevirtual 140, 3) := dk_182 0 140 (dk_at dksX8_power_3 0 rfl rfl)
theorem dX8_power_74 : decode cX8_power 74 = .ok (.aload_n 0, 1) := dk_42 (dk_at dksX8_power_3 3 rfl rfl)
theorem dX8_power_75 : decode cX8_power 75 = .ok (.iconst 4, 1) := dk_7 (dk_at dksX8_power_3 4 rfl rfl)
theorem dX8_power_76 : decode cX8_power 76 = .ok (.iconst 0, 1) := dk_3 (dk_at dksX8_power_3 5 rfl rfl)
theorem dX8_power_77 : decode cX8_power 77 = .ok (.invokevirtual 49, 3) := dk_182 0 49 (dk_at dksX8_power_3 6 rfl rfl)
theorem dX8_power_80 : decode cX8_power 80 = .ok (.aload_n 0, 1) := dk_42 (dk_at dksX8_power_3 9 rfl rfl)
theorem dX8_power_81 : decode cX8_power 81 = .ok (.iconst 1, 1) := dk_4 (dk_at dksX8_power_3 10 rfl rfl)
theorem dX8_power_82 : decode cX8_power 82 = .ok (.iconst 3, 1) := dk_6 (dk_at dksX8_power_3 11 rfl rfl)
theorem dX8_power_83 : decode cX8_power 83 = .ok (.iconst 4, 1) := dk_7 (dk_at dksX8_power_3 12 rfl rfl)
theorem dX8_power_84 : decode cX8_power 84 = .ok (.invokevirtual 140, 3) := dk_182 0 140 (dk_at dksX8_power_3 13 rfl rfl)
theorem dX8_power_87 : decode cX8_power 87 = .ok (.aload_n 0, 1) := dk_42 (dk_at dksX8_power_3 16 rfl rfl)
theorem dX8_power_88 : decode cX8_power 88 = .ok (.iconst 4, 1) := dk_7 (dk_at dksX8_power_3 17 rfl rfl)
theorem dX8_power_89 : decode cX8_power 89 = .ok (.iconst 1, 1) := dk_4 (dk_at dksX8_power_3 18 rfl rfl)
theorem dX8_power_90 : decode cX8_power 90 = .ok (.invokevirtual 49, 3) := dk_182 0 49 (dk_at dksX8_power_3 19 rfl rfl)
theorem dX8_power_93 : decode cX8_power 93 = .ok (.aload_n 0, 1) := dk_42 (dk_at dksX8_power_3 22 rfl rfl)
theorem dX8_power_94 : decode cX8_power 94 = .ok (.iconst 0, 1) := dk_3 (dk_at dksX8_power_3 23 rfl rfl)
theorem dX8_power_95 : decode cX8_power 95 = .ok (.invokevirtual 30, 3) := dk_182 0 30 (dk_at dksX8_power_4 0 rfl rfl)
theorem dX8_power_98 : decode cX8_power 98 = .ok (.sipush 256, 3) := dk_17 1 0 (dk_at dksX8_power_4 3 rfl rfl)
theorem dX8_power_101 : decode cX8_power 101 = .ok (.if_icmp .gt 14, 3) := dk_163 0 14 (dk_at dksX8_power_4 6 rfl rfl)
theorem dX8_power_104 : decode cX8_power 104 = .ok (.aload_n 0, 1) := dk_42 (dk_at dksX8_power_4 9 rfl rfl)
theorem dX8_power_105 : decode cX8_power 105 = .ok (.iconst 1, 1) := dk_4 (dk_at dksX8_power_4 10 rfl rfl)
theorem dX8_power_106 : decode cX8_power 106 = .ok (.invokevirtual 30, 3) := dk_182 0 30 (dk_at dksX8_power_4 11 rfl rfl)
theorem dX8_power_109 : decode cX8_power 109 = .ok (.sipush 256, 3) := dk_17 1 0 (dk_at dksX8_power_4 14 rfl rfl)
theorem dX8_power_112 : decode cX8_power 112 = .ok (.if_icmp .le 9, 3) := dk_164 0 9 (dk_at dksX8_power_4 17 rfl rfl)
theorem dX8_power_115 : decode cX8_power 115 = .ok (.aload_n 0, 1) := dk_42 (dk_at dksX8_power_4 20 rfl rfl)
theorem dX8_power_116 : decode cX8_power 116 = .ok (.iconst 4, 1) := dk_7 (dk_at dksX8_power_4 21 rfl rfl)
theorem dX8_power_117 : decode cX8_power 117 = .ok (.invokevirtual 79, 3) := dk_182 0 79 (dk_at dksX8_power_5 0 rfl rfl)
theorem dX8_power_120 : decode cX8_power 120 = .ok (.ireturn, 1) := dk_172 (dk_at dksX8_power_5 3 rfl rfl)
theorem dX8_power_121 : decode cX8_power 121 = .ok (.iinc 5 1, 3) := dk_132 5 1 (dk_at dksX8_power_5 4 rfl rfl)
theorem dX8_power_124 : decode cX8_power 124 = .ok (.goto (-63), 3) := dk_167 255 193 (dk_at dksX8_power_5 7 rfl rfl)
theorem dX8_power_127 : decode cX8_power 127 = .ok (.iload_n 2, 1) := dk_28 (dk_at dksX8_power_5 10 rfl rfl)
theorem dX8_power_128 : decode cX8_power 128 = .ok (.ifCond .ge 9, 3) := dk_156 0 9 (dk_at dksX8_power_5 11 rfl rfl)
theorem dX8_power_131 : decode cX8_power 131 = .ok (.aload_n 0, 1) := dk_42 (dk_at dksX8_power_5 14 rfl rfl)
theorem dX8_power_132 : decode cX8_power 132 = .ok (.iconst 0, 1) := dk_3 (dk_at dksX8_power_5 15 rfl rfl)
theorem dX8_power_133 : decode cX8_power 133 = .ok (.iconst 1, 1) := dk_4 (dk_at dksX8_power_5 16 rfl rfl)
theorem dX8_power_134 : decode cX8_power 134 = .ok (.invokevirtual 62, 3) := dk_182 0 62 (dk_at dksX8_power_5 17 rfl rfl)
theorem dX8_power_137 : decode cX8_power 137 = .ok (.aload_n 0, 1) := dk_42 (dk_at dksX8_power_5 20 rfl rfl)
theorem dX8_power_138 : decode cX8_power 138 = .ok (.iload 4, 2) := dk_21 4 (dk_at dksX8_power_5 21 rfl rfl)
theorem dX8_power_140 : decode cX8_power 140 = .ok (.iconst 4, 1) := dk_7 (dk_at dksX8_power_5 23 rfl rfl)
theorem dX8_power_141 : decode cX8_power 141 = .ok (.invokevirtual 86, 3) := dk_182 0 86 (dk_at dksX8_power_6 0 rfl rfl)
theorem dX8_power_144 : decode cX8_power 144 = .ok (.ireturn, 1) := dk_172 (dk_at dksX8_power_6 3 rfl rfl)
abbrev cX8_loadP : ByteArray := prog_11_method_21_code
def yX8_loadP : MethodName := ⟨RX8, "loadP", "(II)V"⟩
def dkwX8_loadP_1 : List UInt8 := [180, 0, 13, 16, 16, 27, 104, 29, 96, 47, 80, 132, 3, 1, 167, 255, 225, 177]
abbrev dktX8_loadP_1 : List UInt8 := dkwX8_loadP_1 ++ []
def dkwX8_loadP_0 : List UInt8 := [42, 28, 182, 0, 24, 3, 62, 29, 16, 8, 162, 0, 31, 42, 180, 0, 17, 16, 64, 28, 104, 29, 96, 42]
abbrev dktX8_loadP_0 : List UInt8 := dkwX8_loadP_0 ++ dktX8_loadP_1
theorem dksX8_loadP_0 : cX8_loadP.data.toList.drop 0 = dktX8_loadP_0 := by decide +kernel
theorem dksX8_loadP_1 : cX8_loadP.data.toList.drop 24 = dktX8_loadP_1 := dk_seg dksX8_loadP_0 24 rfl rfl
theorem dX8_loadP_0 : decode cX8_loadP 0 = .ok (.aload_n 0, 1) := dk_42 (dk_at dksX8_loadP_0 0 rfl rfl)
theorem dX8_loadP_1 : decode cX8_loadP 1 = .ok (.iload_n 2, 1) := dk_28 (dk_at dksX8_loadP_0 1 rfl rfl)
theorem dX8_loadP_2 : decode cX8_loadP 2 = .ok (.invokevirtual 24, 3) := dk_182 0 24 (dk_at dksX8_loadP_0 2 rfl rfl)
theorem dX8_loadP_5 : decode cX8_loadP 5 = .ok (.iconst 0, 1) := dk_3 (dk_at dksX8_loadP_0 5 rfl rfl)
theorem dX8_loadP_6 : decode cX8_loadP 6 = .ok (.istore_n 3, 1) := dk_62 (dk_at dksX8_loadP_0 6 rfl rfl)
theorem dX8_loadP_7 : decode cX8_loadP 7 = .ok (.iload_n 3, 1) := dk_29 (dk_at dksX8_loadP_0 7 rfl rfl)
theorem dX8_loadP_8 : decode cX8_loadP 8 = .ok (.bipush 8, 2) := dk_16 8 (dk_at dksX8_loadP_0 8 rfl rfl)
theorem dX8_loadP_10 : decode cX8_loadP 10 = .ok (.if_icmp .ge 31, 3) := dk_162 0 31 (dk_at dksX8_loadP_0 10 rfl rfl)
theorem dX8_loadP_13 : decode cX8_loadP 13 = .ok (.aload_n 0, 1) := dk_42 (dk_at dksX8_loadP_0 13 rfl rfl)
theorem dX8_loadP_14 : decode cX8_loadP 14 = .ok (.getfield 17, 3) := dk_180 0 17 (dk_at dksX8_loadP_0 14 rfl rfl)
theorem dX8_loadP_17 : decode cX8_loadP 17 = .ok (.bipush 64, 2) := dk_16 64 (dk_at dksX8_loadP_0 17 rfl rfl)
theorem dX8_loadP_19 : decode cX8_loadP 19 = .ok (.iload_n 2, 1) := dk_28 (dk_at dksX8_loadP_0 19 rfl rfl)
theorem dX8_loadP_20 : decode cX8_loadP 20 = .ok (.imul, 1) := dk_104 (dk_at dksX8_loadP_0 20 rfl rfl)
theorem dX8_loadP_21 : decode cX8_loadP 21 = .ok (.iload_n 3, 1) := dk_29 (dk_at dksX8_loadP_0 21 rfl rfl)
theorem dX8_loadP_22 : decode cX8_loadP 22 = .ok (.iadd, 1) := dk_96 (dk_at dksX8_loadP_0 22 rfl rfl)
theorem dX8_loadP_23 : decode cX8_loadP 23 = .ok (.aload_n 0, 1) := dk_42 (dk_at dksX8_loadP_0 23 rfl rfl)
theorem dX8_loadP_24 : decode cX8_loadP 24 = .ok (.getfield 13, 3) := dk_180 0 13 (dk_at dksX8_loadP_1 0 rfl rfl)
theorem dX8_loadP_27 : decode cX8_loadP 27 = .ok (.bipush 16, 2) := dk_16 16 (dk_at dksX8_loadP_1 3 rfl rfl)
theorem dX8_loadP_29 : decode cX8_loadP 29 = .ok (.iload_n 1, 1) := dk_27 (dk_at dksX8_loadP_1 5 rfl rfl)
theorem dX8_loadP_30 : decode cX8_loadP 30 = .ok (.imul, 1) := dk_104 (dk_at dksX8_loadP_1 6 rfl rfl)
theorem dX8_loadP_31 : decode cX8_loadP 31 = .ok (.iload_n 3, 1) := dk_29 (dk_at dksX8_loadP_1 7 rfl rfl)
theorem dX8_loadP_32 : decode cX8_loadP 32 = .ok (.iadd, 1) := dk_96 (dk_at dksX8_loadP_1 8 rfl rfl)
theorem dX8_loadP_33 : decode cX8_loadP 33 = .ok (.laload, 1) := dk_47 (dk_at dksX8_loadP_1 9 rfl rfl)
theorem dX8_loadP_34 : decode cX8_loadP 34 = .ok (.lastore, 1) := dk_80 (dk_at dksX8_loadP_1 10 rfl rfl)
theorem dX8_loadP_35 : decode cX8_loadP 35 = .ok (.iinc 3 1, 3) := dk_132 3 1 (dk_at dksX8_loadP_1 11 rfl rfl)
theorem dX8_loadP_38 : decode cX8_loadP 38 = .ok (.goto (-31), 3) := dk_167 255 225 (dk_at dksX8_loadP_1 14 rfl rfl)
theorem dX8_loadP_41 : decode cX8_loadP 41 = .ok (.return_, 1) := dk_177 (dk_at dksX8_loadP_1 17 rfl rfl)
abbrev cX8_loadQ : ByteArray := prog_11_method_22_code
def yX8_loadQ : MethodName := ⟨RX8, "loadQ", "(II)V"⟩
def dkwX8_loadQ_1 : List UInt8 := [180, 0, 13, 16, 16, 27, 104, 16, 8, 96, 29, 96, 47, 80, 132, 3, 1, 167, 255, 222, 177]
abbrev dktX8_loadQ_1 : List UInt8 := dkwX8_loadQ_1 ++ []
def dkwX8_loadQ_0 : List UInt8 := [42, 28, 182, 0, 24, 3, 62, 29, 16, 8, 162, 0, 34, 42, 180, 0, 17, 16, 64, 28, 104, 29, 96, 42]
abbrev dktX8_loadQ_0 : List UInt8 := dkwX8_loadQ_0 ++ dktX8_loadQ_1
theorem dksX8_loadQ_0 : cX8_loadQ.data.toList.drop 0 = dktX8_loadQ_0 := by decide +kernel
theorem dksX8_loadQ_1 : cX8_loadQ.data.toList.drop 24 = dktX8_loadQ_1 := dk_seg dksX8_loadQ_0 24 rfl rfl
theorem dX8_loadQ_0 : decode cX8_loadQ 0 = .ok (.aload_n 0, 1) := dk_42 (dk_at dksX8_loadQ_0 0 rfl rfl)
theorem dX8_loadQ_1 : decode cX8_loadQ 1 = .ok (.iload_n 2, 1) := dk_28 (dk_at dksX8_loadQ_0 1 rfl rfl)
theorem dX8_loadQ_2 : decode cX8_loadQ 2 = .ok (.invokevirtual 24, 3) := dk_182 0 24 (dk_at dksX8_loadQ_0 2 rfl rfl)
theorem dX8_loadQ_5 : decode cX8_loadQ 5 = .ok (.iconst 0, 1) := dk_3 (dk_at dksX8_loadQ_0 5 rfl rfl)
theorem dX8_loadQ_6 : decode cX8_loadQ 6 = .ok (.istore_n 3, 1) := dk_62 (dk_at dksX8_loadQ_0 6 rfl rfl)
theorem dX8_loadQ_7 : decode cX8_loadQ 7 = .ok (.iload_n 3, 1) := dk_29 (dk_at dksX8_loadQ_0 7 rfl rfl)
theorem dX8_loadQ_8 : decode cX8_loadQ 8 = .ok (.bipush 8, 2) := dk_16 8 (dk_at dksX8_loadQ_0 8 rfl rfl)
theorem dX8_loadQ_10 : decode cX8_loadQ 10 = .ok (.if_icmp .ge 34, 3) := dk_162 0 34 (dk_at dksX8_loadQ_0 10 rfl rfl)
theorem dX8_loadQ_13 : decode cX8_loadQ 13 = .ok (.aload_n 0, 1) := dk_42 (dk_at dksX8_loadQ_0 13 rfl rfl)
theorem dX8_loadQ_14 : decode cX8_loadQ 14 = .ok (.getfield 17, 3) := dk_180 0 17 (dk_at dksX8_loadQ_0 14 rfl rfl)
theorem dX8_loadQ_17 : decode cX8_loadQ 17 = .ok (.bipush 64, 2) := dk_16 64 (dk_at dksX8_loadQ_0 17 rfl rfl)
theorem dX8_loadQ_19 : decode cX8_loadQ 19 = .ok (.iload_n 2, 1) := dk_28 (dk_at dksX8_loadQ_0 19 rfl rfl)
theorem dX8_loadQ_20 : decode cX8_loadQ 20 = .ok (.imul, 1) := dk_104 (dk_at dksX8_loadQ_0 20 rfl rfl)
theorem dX8_loadQ_21 : decode cX8_loadQ 21 = .ok (.iload_n 3, 1) := dk_29 (dk_at dksX8_loadQ_0 21 rfl rfl)
theorem dX8_loadQ_22 : decode cX8_loadQ 22 = .ok (.iadd, 1) := dk_96 (dk_at dksX8_loadQ_0 22 rfl rfl)
theorem dX8_loadQ_23 : decode cX8_loadQ 23 = .ok (.aload_n 0, 1) := dk_42 (dk_at dksX8_loadQ_0 23 rfl rfl)
theorem dX8_loadQ_24 : decode cX8_loadQ 24 = .ok (.getfield 13, 3) := dk_180 0 13 (dk_at dksX8_loadQ_1 0 rfl rfl)
theorem dX8_loadQ_27 : decode cX8_loadQ 27 = .ok (.bipush 16, 2) := dk_16 16 (dk_at dksX8_loadQ_1 3 rfl rfl)
theorem dX8_loadQ_29 : decode cX8_loadQ 29 = .ok (.iload_n 1, 1) := dk_27 (dk_at dksX8_loadQ_1 5 rfl rfl)
theorem dX8_loadQ_30 : decode cX8_loadQ 30 = .ok (.imul, 1) := dk_104 (dk_at dksX8_loadQ_1 6 rfl rfl)
theorem dX8_loadQ_31 : decode cX8_loadQ 31 = .ok (.bipush 8, 2) := dk_16 8 (dk_at dksX8_loadQ_1 7 rfl rfl)
theorem dX8_loadQ_33 : decode cX8_loadQ 33 = .ok (.iadd, 1) := dk_96 (dk_at dksX8_loadQ_1 9 rfl rfl)
theorem dX8_loadQ_34 : decode cX8_loadQ 34 = .ok (.iload_n 3, 1) := dk_29 (dk_at dksX8_loadQ_1 10 rfl rfl)
theorem dX8_loadQ_35 : decode cX8_loadQ 35 = .ok (.iadd, 1) := dk_96 (dk_at dksX8_loadQ_1 11 rfl rfl)
theorem dX8_loadQ_36 : decode cX8_loadQ 36 = .ok (.laload, 1) := dk_47 (dk_at dksX8_loadQ_1 12 rfl rfl)
theorem dX8_loadQ_37 : decode cX8_loadQ 37 = .ok (.lastore, 1) := dk_80 (dk_at dksX8_loadQ_1 13 rfl rfl)
theorem dX8_loadQ_38 : decode cX8_loadQ 38 = .ok (.iinc 3 1, 3) := dk_132 3 1 (dk_at dksX8_loadQ_1 14 rfl rfl)
theorem dX8_loadQ_41 : decode cX8_loadQ 41 = .ok (.goto (-34), 3) := dk_167 255 222 (dk_at dksX8_loadQ_1 17 rfl rfl)
theorem dX8_loadQ_44 : decode cX8_loadQ 44 = .ok (.return_, 1) := dk_177 (dk_at dksX8_loadQ_1 20 rfl rfl)
abbrev cX8_times : ByteArray := prog_11_method_11_code
def yX8_times : MethodName := ⟨RX8, "times", "(III)V"⟩
def dkwX8_times_6 : List UInt8 := [167, 255, 125, 177]
abbrev dktX8_times_6 : List UInt8 := dkwX8_times_6 ++ []
def dkwX8_times_5 : List UInt8 := [22, 10, 16, 32, 125, 22, 12, 16, 32, 125, 97, 55, 5, 132, 9, 1, 167, 255, 158, 132, 4, 1]
abbrev dktX8_times_5 : List UInt8 := dkwX8_times_5 ++ dktX8_times_6
def dkwX8_times_4 : List UInt8 := [55, 12, 42, 180, 0, 17, 16, 64, 29, 104, 21, 4, 96, 21, 9, 96, 22, 12, 20, 0, 28, 127, 80]
abbrev dktX8_times_4 : List UInt8 := dkwX8_times_4 ++ dktX8_times_5
def dkwX8_times_3 : List UInt8 := [180, 0, 17, 16, 64, 28, 104, 21, 9, 96, 47, 105, 97, 55, 10, 22, 10, 20, 0, 28, 127, 22, 5, 97]
abbrev dktX8_times_3 : List UInt8 := dkwX8_times_3 ++ dktX8_times_4
def dkwX8_times_2 : List UInt8 := [148, 153, 0, 87, 42, 180, 0, 17, 16, 64, 29, 104, 21, 4, 96, 21, 9, 96, 47, 22, 7, 42]
abbrev dktX8_times_2 : List UInt8 := dkwX8_times_2 ++ dktX8_times_3
def dkwX8_times_1 : List UInt8 := [27, 104, 21, 4, 96, 47, 55, 7, 3, 54, 9, 21, 4, 21, 9, 96, 16, 64, 162, 0, 94, 22, 7, 9]
abbrev dktX8_times_1 : List UInt8 := dkwX8_times_1 ++ dktX8_times_2
def dkwX8_times_0 : List UInt8 := [42, 29, 182, 0, 24, 3, 54, 4, 21, 4, 16, 64, 162, 0, 130, 9, 55, 5, 42, 180, 0, 17, 16, 64]
abbrev dktX8_times_0 : List UInt8 := dkwX8_times_0 ++ dktX8_times_1
theorem dksX8_times_0 : cX8_times.data.toList.drop 0 = dktX8_times_0 := by decide +kernel
theorem dksX8_times_1 : cX8_times.data.toList.drop 24 = dktX8_times_1 := dk_seg dksX8_times_0 24 rfl rfl
theorem dksX8_times_2 : cX8_times.data.toList.drop 48 = dktX8_times_2 := dk_seg dksX8_times_1 24 rfl rfl
theorem dksX8_times_3 : cX8_times.data.toList.drop 70 = dktX8_times_3 := dk_seg dksX8_times_2 22 rfl rfl
theorem dksX8_times_4 : cX8_times.data.toList.drop 94 = dktX8_times_4 := dk_seg dksX8_times_3 24 rfl rfl
theorem dksX8_times_5 : cX8_times.data.toList.drop 117 = dktX8_times_5 := dk_seg dksX8_times_4 23 rfl rfl
theorem dksX8_times_6 : cX8_times.data.toList.drop 139 = dktX8_times_6 := dk_seg dksX8_times_5 22 rfl rfl
theorem dX8_times_0 : decode cX8_times 0 = .ok (.aload_n 0, 1) := dk_42 (dk_at dksX8_times_0 0 rfl rfl)
theorem dX8_times_1 : decode cX8_times 1 = .ok (.iload_n 3, 1) := dk_29 (dk_at dksX8_times_0 1 rfl rfl)
theorem dX8_times_2 : decode cX8_times 2 = .ok (.invokevirtual 24, 3) := dk_182 0 24 (dk_at dksX8_times_0 2 rfl rfl)
theorem dX8_times_5 : decode cX8_times 5 = .ok (.iconst 0, 1) := dk_3 (dk_at dksX8_times_0 5 rfl rfl)
theorem dX8_times_6 : decode cX8_times 6 = .ok (.istore 4, 2) := dk_54 4 (dk_at dksX8_times_0 6 rfl rfl)
theorem dX8_times_8 : decode cX8_times 8 = .ok (.iload 4, 2) := dk_21 4 (dk_at dksX8_times_0 8 rfl rfl)
theorem dX8_times_10 : decode cX8_times 10 = .ok (.bipush 64, 2) := dk_16 64 (dk_at dksX8_times_0 10 rfl rfl)
theorem dX8_times_12 : decode cX8_times 12 = .ok (.if_icmp .ge 130, 3) := dk_162 0 130 (dk_at dksX8_times_0 12 rfl rfl)
theorem dX8_times_15 : decode cX8_times 15 = .ok (.lconst 0, 1) := dk_9 (dk_at dksX8_times_0 15 rfl rfl)
theorem dX8_times_16 : decode cX8_times 16 = .ok (.lstore 5, 2) := dk_55 5 (dk_at dksX8_times_0 16 rfl rfl)
theorem dX8_times_18 : decode cX8_times 18 = .ok (.aload_n 0, 1) := dk_42 (dk_at dksX8_times_0 18 rfl rfl)
theorem dX8_times_19 : decode cX8_times 19 = .ok (.getfield 17, 3) := dk_180 0 17 (dk_at dksX8_times_0 19 rfl rfl)
theorem dX8_times_22 : decode cX8_times 22 = .ok (.bipush 64, 2) := dk_16 64 (dk_at dksX8_times_0 22 rfl rfl)
theorem dX8_times_24 : decode cX8_times 24 = .ok (.iload_n 1, 1) := dk_27 (dk_at dksX8_times_1 0 rfl rfl)
theorem dX8_times_25 : decode cX8_times 25 = .ok (.imul, 1) := dk_104 (dk_at dksX8_times_1 1 rfl rfl)
theorem dX8_times_26 : decode cX8_times 26 = .ok (.iload 4, 2) := dk_21 4 (dk_at dksX8_times_1 2 rfl rfl)
theorem dX8_times_28 : decode cX8_times 28 = .ok (.iadd, 1) := dk_96 (dk_at dksX8_times_1 4 rfl rfl)
theorem dX8_times_29 : decode cX8_times 29 = .ok (.laload, 1) := dk_47 (dk_at dksX8_times_1 5 rfl rfl)
theorem dX8_times_30 : decode cX8_times 30 = .ok (.lstore 7, 2) := dk_55 7 (dk_at dksX8_times_1 6 rfl rfl)
theorem dX8_times_32 : decode cX8_times 32 = .ok (.iconst 0, 1) := dk_3 (dk_at dksX8_times_1 8 rfl rfl)
theorem dX8_times_33 : decode cX8_times 33 = .ok (.istore 9, 2) := dk_54 9 (dk_at dksX8_times_1 9 rfl rfl)
theorem dX8_times_35 : decode cX8_times 35 = .ok (.iload 4, 2) := dk_21 4 (dk_at dksX8_times_1 11 rfl rfl)
theorem dX8_times_37 : decode cX8_times 37 = .ok (.iload 9, 2) := dk_21 9 (dk_at dksX8_times_1 13 rfl rfl)
theorem dX8_times_39 : decode cX8_times 39 = .ok (.iadd, 1) := dk_96 (dk_at dksX8_times_1 15 rfl rfl)
theorem dX8_times_40 : decode cX8_times 40 = .ok (.bipush 64, 2) := dk_16 64 (dk_at dksX8_times_1 16 rfl rfl)
theorem dX8_times_42 : decode cX8_times 42 = .ok (.if_icmp .ge 94, 3) := dk_162 0 94 (dk_at dksX8_times_1 18 rfl rfl)
theorem dX8_times_45 : decode cX8_times 45 = .ok (.lload 7, 2) := dk_22 7 (dk_at dksX8_times_1 21 rfl rfl)
theorem dX8_times_47 : decode cX8_times 47 = .ok (.lconst 0, 1) := dk_9 (dk_at dksX8_times_1 23 rfl rfl)
theorem dX8_times_48 : decode cX8_times 48 = .ok (.lcmp, 1) := dk_148 (dk_at dksX8_times_2 0 rfl rfl)
theorem dX8_times_49 : decode cX8_times 49 = .ok (.ifCond .eq 87, 3) := dk_153 0 87 (dk_at dksX8_times_2 1 rfl rfl)
theorem dX8_times_52 : decode cX8_times 52 = .ok (.aload_n 0, 1) := dk_42 (dk_at dksX8_times_2 4 rfl rfl)
theorem dX8_times_53 : decode cX8_times 53 = .ok (.getfield 17, 3) := dk_180 0 17 (dk_at dksX8_times_2 5 rfl rfl)
theorem dX8_times_56 : decode cX8_times 56 = .ok (.bipush 64, 2) := dk_16 64 (dk_at dksX8_times_2 8 rfl rfl)
theorem dX8_times_58 : decode cX8_times 58 = .ok (.iload_n 3, 1) := dk_29 (dk_at dksX8_times_2 10 rfl rfl)
theorem dX8_times_59 : decode cX8_times 59 = .ok (.imul, 1) := dk_104 (dk_at dksX8_times_2 11 rfl rfl)
theorem dX8_times_60 : decode cX8_times 60 = .ok (.iload 4, 2) := dk_21 4 (dk_at dksX8_times_2 12 rfl rfl)
theorem dX8_times_62 : decode cX8_times 62 = .ok (.iadd, 1) := dk_96 (dk_at dksX8_times_2 14 rfl rfl)
theorem dX8_times_63 : decode cX8_times 63 = .ok (.iload 9, 2) := dk_21 9 (dk_at dksX8_times_2 15 rfl rfl)
theorem dX8_times_65 : decode cX8_times 65 = .ok (.iadd, 1) := dk_96 (dk_at dksX8_times_2 17 rfl rfl)
theorem dX8_times_66 : decode cX8_times 66 = .ok (.laload, 1) := dk_47 (dk_at dksX8_times_2 18 rfl rfl)
theorem dX8_times_67 : decode cX8_times 67 = .ok (.lload 7, 2) := dk_22 7 (dk_at dksX8_times_2 19 rfl rfl)
theorem dX8_times_69 : decode cX8_times 69 = .ok (.aload_n 0, 1) := dk_42 (dk_at dksX8_times_2 21 rfl rfl)
theorem dX8_times_70 : decode cX8_times 70 = .ok (.getfield 17, 3) := dk_180 0 17 (dk_at dksX8_times_3 0 rfl rfl)
theorem dX8_times_73 : decode cX8_times 73 = .ok (.bipush 64, 2) := dk_16 64 (dk_at dksX8_times_3 3 rfl rfl)
theorem dX8_times_75 : decode cX8_times 75 = .ok (.iload_n 2, 1) := dk_28 (dk_at dksX8_times_3 5 rfl rfl)
theorem dX8_times_76 : decode cX8_times 76 = .ok (.imul, 1) := dk_104 (dk_at dksX8_times_3 6 rfl rfl)
theorem dX8_times_77 : decode cX8_times 77 = .ok (.iload 9, 2) := dk_21 9 (dk_at dksX8_times_3 7 rfl rfl)
theorem dX8_times_79 : decode cX8_times 79 = .ok (.iadd, 1) := dk_96 (dk_at dksX8_times_3 9 rfl rfl)
theorem dX8_times_80 : decode cX8_times 80 = .ok (.laload, 1) := dk_47 (dk_at dksX8_times_3 10 rfl rfl)
theorem dX8_times_81 : decode cX8_times 81 = .ok (.lmul, 1) := dk_105 (dk_at dksX8_times_3 11 rfl rfl)
theorem dX8_times_82 : decode cX8_times 82 = .ok (.ladd, 1) := dk_97 (dk_at dksX8_times_3 12 rfl rfl)
theorem dX8_times_83 : decode cX8_times 83 = .ok (.lstore 10, 2) := dk_55 10 (dk_at dksX8_times_3 13 rfl rfl)
theorem dX8_times_85 : decode cX8_times 85 = .ok (.lload 10, 2) := dk_22 10 (dk_at dksX8_times_3 15 rfl rfl)
theorem dX8_times_87 : decode cX8_times 87 = .ok (.ldc2_w 28, 3) := dk_20 0 28 (dk_at dksX8_times_3 17 rfl rfl)
theorem dX8_times_90 : decode cX8_times 90 = .ok (.land, 1) := dk_127 (dk_at dksX8_times_3 20 rfl rfl)
theorem dX8_times_91 : decode cX8_times 91 = .ok (.lload 5, 2) := dk_22 5 (dk_at dksX8_times_3 21 rfl rfl)
theorem dX8_times_93 : decode cX8_times 93 = .ok (.ladd, 1) := dk_97 (dk_at dksX8_times_3 23 rfl rfl)
theorem dX8_times_94 : decode cX8_times 94 = .ok (.lstore 12, 2) := dk_55 12 (dk_at dksX8_times_4 0 rfl rfl)
theorem dX8_times_96 : decode cX8_times 96 = .ok (.aload_n 0, 1) := dk_42 (dk_at dksX8_times_4 2 rfl rfl)
theorem dX8_times_97 : decode cX8_times 97 = .ok (.getfield 17, 3) := dk_180 0 17 (dk_at dksX8_times_4 3 rfl rfl)
theorem dX8_times_100 : decode cX8_times 100 = .ok (.bipush 64, 2) := dk_16 64 (dk_at dksX8_times_4 6 rfl rfl)
theorem dX8_times_102 : decode cX8_times 102 = .ok (.iload_n 3, 1) := dk_29 (dk_at dksX8_times_4 8 rfl rfl)
theorem dX8_times_103 : decode cX8_times 103 = .ok (.imul, 1) := dk_104 (dk_at dksX8_times_4 9 rfl rfl)
theorem dX8_times_104 : decode cX8_times 104 = .ok (.iload 4, 2) := dk_21 4 (dk_at dksX8_times_4 10 rfl rfl)
theorem dX8_times_106 : decode cX8_times 106 = .ok (.iadd, 1) := dk_96 (dk_at dksX8_times_4 12 rfl rfl)
theorem dX8_times_107 : decode cX8_times 107 = .ok (.iload 9, 2) := dk_21 9 (dk_at dksX8_times_4 13 rfl rfl)
theorem dX8_times_109 : decode cX8_times 109 = .ok (.iadd, 1) := dk_96 (dk_at dksX8_times_4 15 rfl rfl)
theorem dX8_times_110 : decode cX8_times 110 = .ok (.lload 12, 2) := dk_22 12 (dk_at dksX8_times_4 16 rfl rfl)
theorem dX8_times_112 : decode cX8_times 112 = .ok (.ldc2_w 28, 3) := dk_20 0 28 (dk_at dksX8_times_4 18 rfl rfl)
theorem dX8_times_115 : decode cX8_times 115 = .ok (.land, 1) := dk_127 (dk_at dksX8_times_4 21 rfl rfl)
theorem dX8_times_116 : decode cX8_times 116 = .ok (.lastore, 1) := dk_80 (dk_at dksX8_times_4 22 rfl rfl)
theorem dX8_times_117 : decode cX8_times 117 = .ok (.lload 10, 2) := dk_22 10 (dk_at dksX8_times_5 0 rfl rfl)
theorem dX8_times_119 : decode cX8_times 119 = .ok (.bipush 32, 2) := dk_16 32 (dk_at dksX8_times_5 2 rfl rfl)
theorem dX8_times_121 : decode cX8_times 121 = .ok (.lushr, 1) := dk_125 (dk_at dksX8_times_5 4 rfl rfl)
theorem dX8_times_122 : decode cX8_times 122 = .ok (.lload 12, 2) := dk_22 12 (dk_at dksX8_times_5 5 rfl rfl)
theorem dX8_times_124 : decode cX8_times 124 = .ok (.bipush 32, 2) := dk_16 32 (dk_at dksX8_times_5 7 rfl rfl)
theorem dX8_times_126 : decode cX8_times 126 = .ok (.lushr, 1) := dk_125 (dk_at dksX8_times_5 9 rfl rfl)
theorem dX8_times_127 : decode cX8_times 127 = .ok (.ladd, 1) := dk_97 (dk_at dksX8_times_5 10 rfl rfl)
theorem dX8_times_128 : decode cX8_times 128 = .ok (.lstore 5, 2) := dk_55 5 (dk_at dksX8_times_5 11 rfl rfl)
theorem dX8_times_130 : decode cX8_times 130 = .ok (.iinc 9 1, 3) := dk_132 9 1 (dk_at dksX8_times_5 13 rfl rfl)
theorem dX8_times_133 : decode cX8_times 133 = .ok (.goto (-98), 3) := dk_167 255 158 (dk_at dksX8_times_5 16 rfl rfl)
theorem dX8_times_136 : decode cX8_times 136 = .ok (.iinc 4 1, 3) := dk_132 4 1 (dk_at dksX8_times_5 19 rfl rfl)
theorem dX8_times_139 : decode cX8_times 139 = .ok (.goto (-131), 3) := dk_167 255 125 (dk_at dksX8_times_6 0 rfl rfl)
theorem dX8_times_142 : decode cX8_times 142 = .ok (.return_, 1) := dk_177 (dk_at dksX8_times_6 3 rfl rfl)
abbrev cX8_order : ByteArray := prog_11_method_48_code
def yX8_order : MethodName := ⟨RX8, "orde\x72", "(II)I"⟩
def dkwX8_order_3 : List UInt8 := [180, 0, 7, 27, 46, 42, 7, 8, 182, 0, 42, 104, 172]
abbrev dktX8_order_3 : List UInt8 := dkwX8_order_3 ++ []
def dkwX8_order_2 : List UInt8 := [42, 180, 0, 7, 28, 46, 162, 0, 7, 2, 167, 0, 4, 4, 172, 42, 27, 28, 182, 0, 144, 42]
abbrev dktX8_order_2 : List UInt8 := dkwX8_order_2 ++ dktX8_order_3
def dkwX8_order_1 : List UInt8 := [181, 0, 20, 42, 180, 0, 7, 27, 46, 42, 180, 0, 7, 28, 46, 159, 0, 24, 42, 180, 0, 7, 27, 46]
abbrev dktX8_order_1 : List UInt8 := dkwX8_order_1 ++ dktX8_order_2
def dkwX8_order_0 : List UInt8 := [42, 27, 182, 0, 117, 153, 0, 11, 42, 28, 182, 0, 117, 154, 0, 9, 42, 4, 182, 0, 79, 172, 42, 3]
abbrev dktX8_order_0 : List UInt8 := dkwX8_order_0 ++ dktX8_order_1
theorem dksX8_order_0 : cX8_order.data.toList.drop 0 = dktX8_order_0 := by decide +kernel
theorem dksX8_order_1 : cX8_order.data.toList.drop 24 = dktX8_order_1 := dk_seg dksX8_order_0 24 rfl rfl
theorem dksX8_order_2 : cX8_order.data.toList.drop 48 = dktX8_order_2 := dk_seg dksX8_order_1 24 rfl rfl
theorem dksX8_order_3 : cX8_order.data.toList.drop 70 = dktX8_order_3 := dk_seg dksX8_order_2 22 rfl rfl
theorem dX8_order_0 : decode cX8_order 0 = .ok (.aload_n 0, 1) := dk_42 (dk_at dksX8_order_0 0 rfl rfl)
theorem dX8_order_1 : decode cX8_order 1 = .ok (.iload_n 1, 1) := dk_27 (dk_at dksX8_order_0 1 rfl rfl)
theorem dX8_order_2 : decode cX8_order 2 = .ok (.invokevirtual 117, 3) := dk_182 0 117 (dk_at dksX8_order_0 2 rfl rfl)
theorem dX8_order_5 : decode cX8_order 5 = .ok (.ifCond .eq 11, 3) := dk_153 0 11 (dk_at dksX8_order_0 5 rfl rfl)
theorem dX8_order_8 : decode cX8_order 8 = .ok (.aload_n 0, 1) := dk_42 (dk_at dksX8_order_0 8 rfl rfl)
theorem dX8_order_9 : decode cX8_order 9 = .ok (.iload_n 2, 1) := dk_28 (dk_at dksX8_order_0 9 rfl rfl)
theorem dX8_order_10 : decode cX8_order 10 = .ok (.invokevirtual 117, 3) := dk_182 0 117 (dk_at dksX8_order_0 10 rfl rfl)
theorem dX8_order_13 : decode cX8_order 13 = .ok (.ifCond .ne 9, 3) := dk_154 0 9 (dk_at dksX8_order_0 13 rfl rfl)
theorem dX8_order_16 : decode cX8_order 16 = .ok (.aload_n 0, 1) := dk_42 (dk_at dksX8_order_0 16 rfl rfl)
theorem dX8_order_17 : decode cX8_order 17 = .ok (.iconst 1, 1) := dk_4 (dk_at dksX8_order_0 17 rfl rfl)
theorem dX8_order_18 : decode cX8_order 18 = .ok (.invokevirtual 79, 3) := dk_182 0 79 (dk_at dksX8_order_0 18 rfl rfl)
theorem dX8_order_21 : decode cX8_order 21 = .ok (.ireturn, 1) := dk_172 (dk_at dksX8_order_0 21 rfl rfl)
theorem dX8_order_22 : decode cX8_order 22 = .ok (.aload_n 0, 1) := dk_42 (dk_at dksX8_order_0 22 rfl rfl)
theorem dX8_order_23 : decode cX8_order 23 = .ok (.iconst 0, 1) := dk_3 (dk_at dksX8_order_0 23 rfl rfl)
theorem dX8_order_24 : decode cX8_order 24 = .ok (.putfield 20, 3) := dk_181 0 20 (dk_at dksX8_order_1 0 rfl rfl)
theorem dX8_order_27 : decode cX8_order 27 = .ok (.aload_n 0, 1) := dk_42 (dk_at dksX8_order_1 3 rfl rfl)
theorem dX8_order_28 : decode cX8_order 28 = .ok (.getfield 7, 3) := dk_180 0 7 (dk_at dksX8_order_1 4 rfl rfl)
theorem dX8_order_31 : decode cX8_order 31 = .ok (.iload_n 1, 1) := dk_27 (dk_at dksX8_order_1 7 rfl rfl)
theorem dX8_order_32 : decode cX8_order 32 = .ok (.iaload, 1) := dk_46 (dk_at dksX8_order_1 8 rfl rfl)
theorem dX8_order_33 : decode cX8_order 33 = .ok (.aload_n 0, 1) := dk_42 (dk_at dksX8_order_1 9 rfl rfl)
theorem dX8_order_34 : decode cX8_order 34 = .ok (.getfield 7, 3) := dk_180 0 7 (dk_at dksX8_order_1 10 rfl rfl)
theorem dX8_order_37 : decode cX8_order 37 = .ok (.iload_n 2, 1) := dk_28 (dk_at dksX8_order_1 13 rfl rfl)
theorem dX8_order_38 : decode cX8_order 38 = .ok (.iaload, 1) := dk_46 (dk_at dksX8_order_1 14 rfl rfl)
theorem dX8_order_39 : decode cX8_order 39 = .ok (.if_icmp .eq 24, 3) := dk_159 0 24 (dk_at dksX8_order_1 15 rfl rfl)
theorem dX8_order_42 : decode cX8_order 42 = .ok (.aload_n 0, 1) := dk_42 (dk_at dksX8_order_1 18 rfl rfl)
theorem dX8_order_43 : decode cX8_order 43 = .ok (.getfield 7, 3) := dk_180 0 7 (dk_at dksX8_order_1 19 rfl rfl)
theorem dX8_order_46 : decode cX8_order 46 = .ok (.iload_n 1, 1) := dk_27 (dk_at dksX8_order_1 22 rfl rfl)
theorem dX8_order_47 : decode cX8_order 47 = .ok (.iaload, 1) := dk_46 (dk_at dksX8_order_1 23 rfl rfl)
theorem dX8_order_48 : decode cX8_order 48 = .ok (.aload_n 0, 1) := dk_42 (dk_at dksX8_order_2 0 rfl rfl)
theorem dX8_order_49 : decode cX8_order 49 = .ok (.getfield 7, 3) := dk_180 0 7 (dk_at dksX8_order_2 1 rfl rfl)
theorem dX8_order_52 : decode cX8_order 52 = .ok (.iload_n 2, 1) := dk_28 (dk_at dksX8_order_2 4 rfl rfl)
theorem dX8_order_53 : decode cX8_order 53 = .ok (.iaload, 1) := dk_46 (dk_at dksX8_order_2 5 rfl rfl)
theorem dX8_order_54 : decode cX8_order 54 = .ok (.if_icmp .ge 7, 3) := dk_162 0 7 (dk_at dksX8_order_2 6 rfl rfl)
theorem dX8_order_57 : decode cX8_order 57 = .ok (.iconst (-1), 1) := dk_2 (dk_at dksX8_order_2 9 rfl rfl)
theorem dX8_order_58 : decode cX8_order 58 = .ok (.goto 4, 3) := dk_167 0 4 (dk_at dksX8_order_2 10 rfl rfl)
theorem dX8_order_61 : decode cX8_order 61 = .ok (.iconst 1, 1) := dk_4 (dk_at dksX8_order_2 13 rfl rfl)
theorem dX8_order_62 : decode cX8_order 62 = .ok (.ireturn, 1) := dk_172 (dk_at dksX8_order_2 14 rfl rfl)
theorem dX8_order_63 : decode cX8_order 63 = .ok (.aload_n 0, 1) := dk_42 (dk_at dksX8_order_2 15 rfl rfl)
theorem dX8_order_64 : decode cX8_order 64 = .ok (.iload_n 1, 1) := dk_27 (dk_at dksX8_order_2 16 rfl rfl)
theorem dX8_order_65 : decode cX8_order 65 = .ok (.iload_n 2, 1) := dk_28 (dk_at dksX8_order_2 17 rfl rfl)
theorem dX8_order_66 : decode cX8_order 66 = .ok (.invokevirtual 144, 3) := dk_182 0 144 (dk_at dksX8_order_2 18 rfl rfl)
theorem dX8_order_69 : decode cX8_order 69 = .ok (.aload_n 0, 1) := dk_42 (dk_at dksX8_order_2 21 rfl rfl)
theorem dX8_order_70 : decode cX8_order 70 = .ok (.getfield 7, 3) := dk_180 0 7 (dk_at dksX8_order_3 0 rfl rfl)
theorem dX8_order_73 : decode cX8_order 73 = .ok (.iload_n 1, 1) := dk_27 (dk_at dksX8_order_3 3 rfl rfl)
theorem dX8_order_74 : decode cX8_order 74 = .ok (.iaload, 1) := dk_46 (dk_at dksX8_order_3 4 rfl rfl)
theorem dX8_order_75 : decode cX8_order 75 = .ok (.aload_n 0, 1) := dk_42 (dk_at dksX8_order_3 5 rfl rfl)
theorem dX8_order_76 : decode cX8_order 76 = .ok (.iconst 4, 1) := dk_7 (dk_at dksX8_order_3 6 rfl rfl)
theorem dX8_order_77 : decode cX8_order 77 = .ok (.iconst 5, 1) := dk_8 (dk_at dksX8_order_3 7 rfl rfl)
theorem dX8_order_78 : decode cX8_order 78 = .ok (.invokevirtual 42, 3) := dk_182 0 42 (dk_at dksX8_order_3 8 rfl rfl)
theorem dX8_order_81 : decode cX8_order 81 = .ok (.imul, 1) := dk_104 (dk_at dksX8_order_3 11 rfl rfl)
theorem dX8_order_82 : decode cX8_order 82 = .ok (.ireturn, 1) := dk_172 (dk_at dksX8_order_3 12 rfl rfl)
abbrev cX8_level : ByteArray := prog_11_method_38_code
def yX8_level : MethodName := ⟨RX8, "level", "(II)V"⟩
def dkwX8_level_2 : List UInt8 := [6, 182, 0, 133, 42, 5, 6, 16, 6, 182, 0, 140, 177]
abbrev dktX8_level_2 : List UInt8 := dkwX8_level_2 ++ []
def dkwX8_level_1 : List UInt8 := [182, 0, 130, 42, 27, 6, 182, 0, 133, 42, 5, 6, 8, 182, 0, 140, 42, 27, 5, 182, 0, 133, 42, 28]
abbrev dktX8_level_1 : List UInt8 := dkwX8_level_1 ++ dktX8_level_2
def dkwX8_level_0 : List UInt8 := [42, 27, 5, 182, 0, 130, 42, 28, 6, 182, 0, 133, 42, 5, 6, 7, 182, 0, 140, 42, 28, 5]
abbrev dktX8_level_0 : List UInt8 := dkwX8_level_0 ++ dktX8_level_1
theorem dksX8_level_0 : cX8_level.data.toList.drop 0 = dktX8_level_0 := by decide +kernel
theorem dksX8_level_1 : cX8_level.data.toList.drop 22 = dktX8_level_1 := dk_seg dksX8_level_0 22 rfl rfl
theorem dksX8_level_2 : cX8_level.data.toList.drop 46 = dktX8_level_2 := dk_seg dksX8_level_1 24 rfl rfl
theorem dX8_level_0 : decode cX8_level 0 = .ok (.aload_n 0, 1) := dk_42 (dk_at dksX8_level_0 0 rfl rfl)
theorem dX8_level_1 : decode cX8_level 1 = .ok (.iload_n 1, 1) := dk_27 (dk_at dksX8_level_0 1 rfl rfl)
theorem dX8_level_2 : decode cX8_level 2 = .ok (.iconst 2, 1) := dk_5 (dk_at dksX8_level_0 2 rfl rfl)
theorem dX8_level_3 : decode cX8_level 3 = .ok (.invokevirtual 130, 3) := dk_182 0 130 (dk_at dksX8_level_0 3 rfl rfl)
theorem dX8_level_6 : decode cX8_level 6 = .ok (.aload_n 0, 1) := dk_42 (dk_at dksX8_level_0 6 rfl rfl)
theorem dX8_level_7 : decode cX8_level 7 = .ok (.iload_n 2, 1) := dk_28 (dk_at dksX8_level_0 7 rfl rfl)
theorem dX8_level_8 : decode cX8_level 8 = .ok (.iconst 3, 1) := dk_6 (dk_at dksX8_level_0 8 rfl rfl)
theorem dX8_level_9 : decode cX8_level 9 = .ok (.invokevirtual 133, 3) := dk_182 0 133 (dk_at dksX8_level_0 9 rfl rfl)
theorem dX8_level_12 : decode cX8_level 12 = .ok (.aload_n 0, 1) := dk_42 (dk_at dksX8_level_0 12 rfl rfl)
theorem dX8_level_13 : decode cX8_level 13 = .ok (.iconst 2, 1) := dk_5 (dk_at dksX8_level_0 13 rfl rfl)
theorem dX8_level_14 : decode cX8_level 14 = .ok (.iconst 3, 1) := dk_6 (dk_at dksX8_level_0 14 rfl rfl)
theorem dX8_level_15 : decode cX8_level 15 = .ok (.iconst 4, 1) := dk_7 (dk_at dksX8_level_0 15 rfl rfl)
theorem dX8_level_16 : decode cX8_level 16 = .ok (.invokevirtual 140, 3) := dk_182 0 140 (dk_at dksX8_level_0 16 rfl rfl)
theorem dX8_level_19 : decode cX8_level 19 = .ok (.aload_n 0, 1) := dk_42 (dk_at dksX8_level_0 19 rfl rfl)
theorem dX8_level_20 : decode cX8_level 20 = .ok (.iload_n 2, 1) := dk_28 (dk_at dksX8_level_0 20 rfl rfl)
theorem dX8_level_21 : decode cX8_level 21 = .ok (.iconst 2, 1) := dk_5 (dk_at dksX8_level_0 21 rfl rfl)
theorem dX8_level_22 : decode cX8_level 22 = .ok (.invokevirtual 130, 3) := dk_182 0 130 (dk_at dksX8_level_1 0 rfl rfl)
theorem dX8_level_25 : decode cX8_level 25 = .ok (.aload_n 0, 1) := dk_42 (dk_at dksX8_level_1 3 rfl rfl)
theorem dX8_level_26 : decode cX8_level 26 = .ok (.iload_n 1, 1) := dk_27 (dk_at dksX8_level_1 4 rfl rfl)
theorem dX8_level_27 : decode cX8_level 27 = .ok (.iconst 3, 1) := dk_6 (dk_at dksX8_level_1 5 rfl rfl)
theorem dX8_level_28 : decode cX8_level 28 = .ok (.invokevirtual 133, 3) := dk_182 0 133 (dk_at dksX8_level_1 6 rfl rfl)
theorem dX8_level_31 : decode cX8_level 31 = .ok (.aload_n 0, 1) := dk_42 (dk_at dksX8_level_1 9 rfl rfl)
theorem dX8_level_32 : decode cX8_level 32 = .ok (.iconst 2, 1) := dk_5 (dk_at dksX8_level_1 10 rfl rfl)
theorem dX8_level_33 : decode cX8_level 33 = .ok (.iconst 3, 1) := dk_6 (dk_at dksX8_level_1 11 rfl rfl)
theorem dX8_level_34 : decode cX8_level 34 = .ok (.iconst 5, 1) := dk_8 (dk_at dksX8_level_1 12 rfl rfl)
theorem dX8_level_35 : decode cX8_level 35 = .ok (.invokevirtual 140, 3) := dk_182 0 140 (dk_at dksX8_level_1 13 rfl rfl)
theorem dX8_level_38 : decode cX8_level 38 = .ok (.aload_n 0, 1) := dk_42 (dk_at dksX8_level_1 16 rfl rfl)
theorem dX8_level_39 : decode cX8_level 39 = .ok (.iload_n 1, 1) := dk_27 (dk_at dksX8_level_1 17 rfl rfl)
theorem dX8_level_40 : decode cX8_level 40 = .ok (.iconst 2, 1) := dk_5 (dk_at dksX8_level_1 18 rfl rfl)
theorem dX8_level_41 : decode cX8_level 41 = .ok (.invokevirtual 133, 3) := dk_182 0 133 (dk_at dksX8_level_1 19 rfl rfl)
theorem dX8_level_44 : decode cX8_level 44 = .ok (.aload_n 0, 1) := dk_42 (dk_at dksX8_level_1 22 rfl rfl)
theorem dX8_level_45 : decode cX8_level 45 = .ok (.iload_n 2, 1) := dk_28 (dk_at dksX8_level_1 23 rfl rfl)
theorem dX8_level_46 : decode cX8_level 46 = .ok (.iconst 3, 1) := dk_6 (dk_at dksX8_level_2 0 rfl rfl)
theorem dX8_level_47 : decode cX8_level 47 = .ok (.invokevirtual 133, 3) := dk_182 0 133 (dk_at dksX8_level_2 1 rfl rfl)
theorem dX8_level_50 : decode cX8_level 50 = .ok (.aload_n 0, 1) := dk_42 (dk_at dksX8_level_2 4 rfl rfl)
theorem dX8_level_51 : decode cX8_level 51 = .ok (.iconst 2, 1) := dk_5 (dk_at dksX8_level_2 5 rfl rfl)
theorem dX8_level_52 : decode cX8_level 52 = .ok (.iconst 3, 1) := dk_6 (dk_at dksX8_level_2 6 rfl rfl)
theorem dX8_level_53 : decode cX8_level 53 = .ok (.bipush 6, 2) := dk_16 6 (dk_at dksX8_level_2 7 rfl rfl)
theorem dX8_level_55 : decode cX8_level 55 = .ok (.invokevirtual 140, 3) := dk_182 0 140 (dk_at dksX8_level_2 9 rfl rfl)
theorem dX8_level_58 : decode cX8_level 58 = .ok (.return_, 1) := dk_177 (dk_at dksX8_level_2 12 rfl rfl)
abbrev cX8_reckon : ByteArray := prog_11_method_39_code
def yX8_reckon : MethodName := ⟨RX8, "reckon", "(III)I"⟩
def dkwX8_reckon_11 : List UInt8 := [153, 0, 8, 21, 5, 167, 0, 5, 21, 4, 7, 182, 0, 86, 172]
abbrev dktX8_reckon_11 : List UInt8 := dkwX8_reckon_11 ++ []
def dkwX8_reckon_10 : List UInt8 := [8, 3, 182, 0, 49, 42, 3, 16, 8, 182, 0, 46, 42, 16, 6, 4, 182, 0, 49, 42, 21, 6]
abbrev dktX8_reckon_10 : List UInt8 := dkwX8_reckon_10 ++ dktX8_reckon_11
def dkwX8_reckon_9 : List UInt8 := [42, 21, 4, 21, 5, 104, 7, 182, 0, 86, 172, 42, 16, 8, 3, 182, 0, 49, 21, 6, 153, 0, 16, 42]
abbrev dktX8_reckon_9 : List UInt8 := dkwX8_reckon_9 ++ dktX8_reckon_10
def dkwX8_reckon_8 : List UInt8 := [182, 0, 68, 42, 16, 7, 16, 9, 182, 0, 150, 42, 16, 7, 3, 182, 0, 49, 42, 4, 10, 182, 0, 68]
abbrev dktX8_reckon_8 : List UInt8 := dkwX8_reckon_8 ++ dktX8_reckon_9
def dkwX8_reckon_7 : List UInt8 := [3, 54, 6, 27, 7, 159, 0, 9, 27, 16, 6, 160, 0, 47, 21, 6, 153, 0, 18, 42, 16, 9, 10]
abbrev dktX8_reckon_7 : List UInt8 := dkwX8_reckon_7 ++ dktX8_reckon_8
def dkwX8_reckon_6 : List UInt8 := [162, 0, 24, 21, 4, 21, 5, 104, 156, 0, 16, 42, 16, 8, 182, 0, 52, 154, 0, 7, 4, 167, 0, 4]
abbrev dktX8_reckon_6 : List UInt8 := dkwX8_reckon_6 ++ dktX8_reckon_7
def dkwX8_reckon_5 : List UInt8 := [21, 4, 21, 5, 104, 7, 182, 0, 86, 172, 42, 7, 8, 16, 7, 16, 8, 182, 0, 75, 27, 16, 6]
abbrev dktX8_reckon_5 : List UInt8 := dkwX8_reckon_5 ++ dktX8_reckon_6
def dkwX8_reckon_4 : List UInt8 := [104, 7, 182, 0, 86, 172, 27, 6, 160, 0, 26, 42, 7, 3, 182, 0, 49, 42, 8, 4, 182, 0, 49, 42]
abbrev dktX8_reckon_4 : List UInt8 := dkwX8_reckon_4 ++ dktX8_reckon_5
def dkwX8_reckon_3 : List UInt8 := [29, 6, 182, 0, 130, 42, 5, 6, 3, 182, 0, 140, 42, 16, 6, 4, 182, 0, 49, 42, 21, 4, 21, 5]
abbrev dktX8_reckon_3 : List UInt8 := dkwX8_reckon_3 ++ dktX8_reckon_4
def dkwX8_reckon_2 : List UInt8 := [182, 0, 49, 42, 21, 4, 21, 5, 182, 0, 147, 172, 27, 5, 160, 0, 40, 42, 28, 5, 182, 0, 130, 42]
abbrev dktX8_reckon_2 : List UInt8 := dkwX8_reckon_2 ++ dktX8_reckon_3
def dkwX8_reckon_1 : List UInt8 := [46, 116, 167, 0, 9, 42, 180, 0, 7, 29, 46, 54, 5, 27, 5, 162, 0, 19, 42, 16, 6, 4]
abbrev dktX8_reckon_1 : List UInt8 := dkwX8_reckon_1 ++ dktX8_reckon_2
def dkwX8_reckon_0 : List UInt8 := [42, 28, 29, 182, 0, 144, 42, 180, 0, 7, 28, 46, 54, 4, 27, 4, 160, 0, 13, 42, 180, 0, 7, 29]
abbrev dktX8_reckon_0 : List UInt8 := dkwX8_reckon_0 ++ dktX8_reckon_1
theorem dksX8_reckon_0 : cX8_reckon.data.toList.drop 0 = dktX8_reckon_0 := by decide +kernel
theorem dksX8_reckon_1 : cX8_reckon.data.toList.drop 24 = dktX8_reckon_1 := dk_seg dksX8_reckon_0 24 rfl rfl
theorem dksX8_reckon_2 : cX8_reckon.data.toList.drop 46 = dktX8_reckon_2 := dk_seg dksX8_reckon_1 22 rfl rfl
theorem dksX8_reckon_3 : cX8_reckon.data.toList.drop 70 = dktX8_reckon_3 := dk_seg dksX8_reckon_2 24 rfl rfl
theorem dksX8_reckon_4 : cX8_reckon.data.toList.drop 94 = dktX8_reckon_4 := dk_seg dksX8_reckon_3 24 rfl rfl
theorem dksX8_reckon_5 : cX8_reckon.data.toList.drop 118 = dktX8_reckon_5 := dk_seg dksX8_reckon_4 24 rfl rfl
theorem dksX8_reckon_6 : cX8_reckon.data.toList.drop 141 = dktX8_reckon_6 := dk_seg dksX8_reckon_5 23 rfl rfl
theorem dksX8_reckon_7 : cX8_reckon.data.toList.drop 165 = dktX8_reckon_7 := dk_seg dksX8_reckon_6 24 rfl rfl
theorem dksX8_reckon_8 : cX8_reckon.data.toList.drop 188 = dktX8_reckon_8 := dk_seg dksX8_reckon_7 23 rfl rfl
theorem dksX8_reckon_9 : cX8_reckon.data.toList.drop 212 = dktX8_reckon_9 := dk_seg dksX8_reckon_8 24 rfl rfl
theorem dksX8_reckon_10 : cX8_reckon.data.toList.drop 236 = dktX8_reckon_10 := dk_seg dksX8_reckon_9 24 rfl rfl
theorem dksX8_reckon_11 : cX8_reckon.data.toList.drop 258 = dktX8_reckon_11 := dk_seg dksX8_reckon_10 22 rfl rfl
theorem dX8_reckon_0 : decode cX8_reckon 0 = .ok (.aload_n 0, 1) := dk_42 (dk_at dksX8_reckon_0 0 rfl rfl)
theorem dX8_reckon_1 : decode cX8_reckon 1 = .ok (.iload_n 2, 1) := dk_28 (dk_at dksX8_reckon_0 1 rfl rfl)
theorem dX8_reckon_2 : decode cX8_reckon 2 = .ok (.iload_n 3, 1) := dk_29 (dk_at dksX8_reckon_0 2 rfl rfl)
theorem dX8_reckon_3 : decode cX8_reckon 3 = .ok (.invokevirtual 144, 3) := dk_182 0 144 (dk_at dksX8_reckon_0 3 rfl rfl)
theorem dX8_reckon_6 : decode cX8_reckon 6 = .ok (.aload_n 0, 1) := dk_42 (dk_at dksX8_reckon_0 6 rfl rfl)
theorem dX8_reckon_7 : decode cX8_reckon 7 = .ok (.getfield 7, 3) := dk_180 0 7 (dk_at dksX8_reckon_0 7 rfl rfl)
theorem dX8_reckon_10 : decode cX8_reckon 10 = .ok (.iload_n 2, 1) := dk_28 (dk_at dksX8_reckon_0 10 rfl rfl)
theorem dX8_reckon_11 : decode cX8_reckon 11 = .ok (.iaload, 1) := dk_46 (dk_at dksX8_reckon_0 11 rfl rfl)
theorem dX8_reckon_12 : decode cX8_reckon 12 = .ok (.istore 4, 2) := dk_54 4 (dk_at dksX8_reckon_0 12 rfl rfl)
theorem dX8_reckon_14 : decode cX8_reckon 14 = .ok (.iload_n 1, 1) := dk_27 (dk_at dksX8_reckon_0 14 rfl rfl)
theorem dX8_reckon_15 : decode cX8_reckon 15 = .ok (.iconst 1, 1) := dk_4 (dk_at dksX8_reckon_0 15 rfl rfl)
theorem dX8_reckon_16 : decode cX8_reckon 16 = .ok (.if_icmp .ne 13, 3) := dk_160 0 13 (dk_at dksX8_reckon_0 16 rfl rfl)
theorem dX8_reckon_19 : decode cX8_reckon 19 = .ok (.aload_n 0, 1) := dk_42 (dk_at dksX8_reckon_0 19 rfl rfl)
theorem dX8_reckon_20 : decode cX8_reckon 20 = .ok (.getfield 7, 3) := dk_180 0 7 (dk_at dksX8_reckon_0 20 rfl rfl)
theorem dX8_reckon_23 : decode cX8_reckon 23 = .ok (.iload_n 3, 1) := dk_29 (dk_at dksX8_reckon_0 23 rfl rfl)
theorem dX8_reckon_24 : decode cX8_reckon 24 = .ok (.iaload, 1) := dk_46 (dk_at dksX8_reckon_1 0 rfl rfl)
theorem dX8_reckon_25 : decode cX8_reckon 25 = .ok (.ineg, 1) := dk_116 (dk_at dksX8_reckon_1 1 rfl rfl)
theorem dX8_reckon_26 : decode cX8_reckon 26 = .ok (.goto 9, 3) := dk_167 0 9 (dk_at dksX8_reckon_1 2 rfl rfl)
theorem dX8_reckon_29 : decode cX8_reckon 29 = .ok (.aload_n 0, 1) := dk_42 (dk_at dksX8_reckon_1 5 rfl rfl)
theorem dX8_reckon_30 : decode cX8_reckon 30 = .ok (.getfield 7, 3) := dk_180 0 7 (dk_at dksX8_reckon_1 6 rfl rfl)
theorem dX8_reckon_33 : decode cX8_reckon 33 = .ok (.iload_n 3, 1) := dk_29 (dk_at dksX8_reckon_1 9 rfl rfl)
theorem dX8_reckon_34 : decode cX8_reckon 34 = .ok (.iaload, 1) := dk_46 (dk_at dksX8_reckon_1 10 rfl rfl)
theorem dX8_reckon_35 : decode cX8_reckon 35 = .ok (.istore 5, 2) := dk_54 5 (dk_at dksX8_reckon_1 11 rfl rfl)
theorem dX8_reckon_37 : decode cX8_reckon 37 = .ok (.iload_n 1, 1) := dk_27 (dk_at dksX8_reckon_1 13 rfl rfl)
theorem dX8_reckon_38 : decode cX8_reckon 38 = .ok (.iconst 2, 1) := dk_5 (dk_at dksX8_reckon_1 14 rfl rfl)
theorem dX8_reckon_39 : decode cX8_reckon 39 = .ok (.if_icmp .ge 19, 3) := dk_162 0 19 (dk_at dksX8_reckon_1 15 rfl rfl)
theorem dX8_reckon_42 : decode cX8_reckon 42 = .ok (.aload_n 0, 1) := dk_42 (dk_at dksX8_reckon_1 18 rfl rfl)
theorem dX8_reckon_43 : decode cX8_reckon 43 = .ok (.bipush 6, 2) := dk_16 6 (dk_at dksX8_reckon_1 19 rfl rfl)
theorem dX8_reckon_45 : decode cX8_reckon 45 = .ok (.iconst 1, 1) := dk_4 (dk_at dksX8_reckon_1 21 rfl rfl)
theorem dX8_reckon_46 : decode cX8_reckon 46 = .ok (.invokevirtual 49, 3) := dk_182 0 49 (dk_at dksX8_reckon_2 0 rfl rfl)
theorem dX8_reckon_49 : decode cX8_reckon 49 = .ok (.aload_n 0, 1) := dk_42 (dk_at dksX8_reckon_2 3 rfl rfl)
theorem dX8_reckon_50 : decode cX8_reckon 50 = .ok (.iload 4, 2) := dk_21 4 (dk_at dksX8_reckon_2 4 rfl rfl)
theorem dX8_reckon_52 : decode cX8_reckon 52 = .ok (.iload 5, 2) := dk_21 5 (dk_at dksX8_reckon_2 6 rfl rfl)
theorem dX8_reckon_54 : decode cX8_reckon 54 = .ok (.invokevirtual 147, 3) := dk_182 0 147 (dk_at dksX8_reckon_2 8 rfl rfl)
theorem dX8_reckon_57 : decode cX8_reckon 57 = .ok (.ireturn, 1) := dk_172 (dk_at dksX8_reckon_2 11 rfl rfl)
theorem dX8_reckon_58 : decode cX8_reckon 58 = .ok (.iload_n 1, 1) := dk_27 (dk_at dksX8_reckon_2 12 rfl rfl)
theorem dX8_reckon_59 : decode cX8_reckon 59 = .ok (.iconst 2, 1) := dk_5 (dk_at dksX8_reckon_2 13 rfl rfl)
theorem dX8_reckon_60 : decode cX8_reckon 60 = .ok (.if_icmp .ne 40, 3) := dk_160 0 40 (dk_at dksX8_reckon_2 14 rfl rfl)
theorem dX8_reckon_63 : decode cX8_reckon 63 = .ok (.aload_n 0, 1) := dk_42 (dk_at dksX8_reckon_2 17 rfl rfl)
theorem dX8_reckon_64 : decode cX8_reckon 64 = .ok (.iload_n 2, 1) := dk_28 (dk_at dksX8_reckon_2 18 rfl rfl)
theorem dX8_reckon_65 : decode cX8_reckon 65 = .ok (.iconst 2, 1) := dk_5 (dk_at dksX8_reckon_2 19 rfl rfl)
theorem dX8_reckon_66 : decode cX8_reckon 66 = .ok (.invokevirtual 130, 3) := dk_182 0 130 (dk_at dksX8_reckon_2 20 rfl rfl)
theorem dX8_reckon_69 : decode cX8_reckon 69 = .ok (.aload_n 0, 1) := dk_42 (dk_at dksX8_reckon_2 23 rfl rfl)
theorem dX8_reckon_70 : decode cX8_reckon 70 = .ok (.iload_n 3, 1) := dk_29 (dk_at dksX8_reckon_3 0 rfl rfl)
theorem dX8_reckon_71 : decode cX8_reckon 71 = .ok (.iconst 3, 1) := dk_6 (dk_at dksX8_reckon_3 1 rfl rfl)
theorem dX8_reckon_72 : decode cX8_reckon 72 = .ok (.invokevirtual 130, 3) := dk_182 0 130 (dk_at dksX8_reckon_3 2 rfl rfl)
theorem dX8_reckon_75 : decode cX8_reckon 75 = .ok (.aload_n 0, 1) := dk_42 (dk_at dksX8_reckon_3 5 rfl rfl)
theorem dX8_reckon_76 : decode cX8_reckon 76 = .ok (.iconst 2, 1) := dk_5 (dk_at dksX8_reckon_3 6 rfl rfl)
theorem dX8_reckon_77 : decode cX8_reckon 77 = .ok (.iconst 3, 1) := dk_6 (dk_at dksX8_reckon_3 7 rfl rfl)
theorem dX8_reckon_78 : decode cX8_reckon 78 = .ok (.iconst 0, 1) := dk_3 (dk_at dksX8_reckon_3 8 rfl rfl)
theorem dX8_reckon_79 : decode cX8_reckon 79 = .ok (.invokevirtual 140, 3) := dk_182 0 140 (dk_at dksX8_reckon_3 9 rfl rfl)
theorem dX8_reckon_82 : decode cX8_reckon 82 = .ok (.aload_n 0, 1) := dk_42 (dk_at dksX8_reckon_3 12 rfl rfl)
theorem dX8_reckon_83 : decode cX8_reckon 83 = .ok (.bipush 6, 2) := dk_16 6 (dk_at dksX8_reckon_3 13 rfl rfl)
theorem dX8_reckon_85 : decode cX8_reckon 85 = .ok (.iconst 1, 1) := dk_4 (dk_at dksX8_reckon_3 15 rfl rfl)
theorem dX8_reckon_86 : decode cX8_reckon 86 = .ok (.invokevirtual 49, 3) := dk_182 0 49 (dk_at dksX8_reckon_3 16 rfl rfl)
theorem dX8_reckon_89 : decode cX8_reckon 89 = .ok (.aload_n 0, 1) := dk_42 (dk_at dksX8_reckon_3 19 rfl rfl)
theorem dX8_reckon_90 : decode cX8_reckon 90 = .ok (.iload 4, 2) := dk_21 4 (dk_at dksX8_reckon_3 20 rfl rfl)
theorem dX8_reckon_92 : decode cX8_reckon 92 = .ok (.iload 5, 2) := dk_21 5 (dk_at dksX8_reckon_3 22 rfl rfl)
theorem dX8_reckon_94 : decode cX8_reckon 94 = .ok (.imul, 1) := dk_104 (dk_at dksX8_reckon_4 0 rfl rfl)
theorem dX8_reckon_95 : decode cX8_reckon 95 = .ok (.iconst 4, 1) := dk_7 (dk_at dksX8_reckon_4 1 rfl rfl)
theorem dX8_reckon_96 : decode cX8_reckon 96 = .ok (.invokevirtual 86, 3) := dk_182 0 86 (dk_at dksX8_reckon_4 2 rfl rfl)
theorem dX8_reckon_99 : decode cX8_reckon 99 = .ok (.ireturn, 1) := dk_172 (dk_at dksX8_reckon_4 5 rfl rfl)
theorem dX8_reckon_100 : decode cX8_reckon 100 = .ok (.iload_n 1, 1) := dk_27 (dk_at dksX8_reckon_4 6 rfl rfl)
theorem dX8_reckon_101 : decode cX8_reckon 101 = .ok (.iconst 3, 1) := dk_6 (dk_at dksX8_reckon_4 7 rfl rfl)
theorem dX8_reckon_102 : decode cX8_reckon 102 = .ok (.if_icmp .ne 26, 3) := dk_160 0 26 (dk_at dksX8_reckon_4 8 rfl rfl)
theorem dX8_reckon_105 : decode cX8_reckon 105 = .ok (.aload_n 0, 1) := dk_42 (dk_at dksX8_reckon_4 11 rfl rfl)
theorem dX8_reckon_106 : decode cX8_reckon 106 = .ok (.iconst 4, 1) := dk_7 (dk_at dksX8_reckon_4 12 rfl rfl)
theorem dX8_reckon_107 : decode cX8_reckon 107 = .ok (.iconst 0, 1) := dk_3 (dk_at dksX8_reckon_4 13 rfl rfl)
theorem dX8_reckon_108 : decode cX8_reckon 108 = .ok (.invokevirtual 49, 3) := dk_182 0 49 (dk_at dksX8_reckon_4 14 rfl rfl)
theorem dX8_reckon_111 : decode cX8_reckon 111 = .ok (.aload_n 0, 1) := dk_42 (dk_at dksX8_reckon_4 17 rfl rfl)
theorem dX8_reckon_112 : decode cX8_reckon 112 = .ok (.iconst 5, 1) := dk_8 (dk_at dksX8_reckon_4 18 rfl rfl)
theorem dX8_reckon_113 : decode cX8_reckon 113 = .ok (.iconst 1, 1) := dk_4 (dk_at dksX8_reckon_4 19 rfl rfl)
theorem dX8_reckon_114 : decode cX8_reckon 114 = .ok (.invokevirtual 49, 3) := dk_182 0 49 (dk_at dksX8_reckon_4 20 rfl rfl)
theorem dX8_reckon_117 : decode cX8_reckon 117 = .ok (.aload_n 0, 1) := dk_42 (dk_at dksX8_reckon_4 23 rfl rfl)
theorem dX8_reckon_118 : decode cX8_reckon 118 = .ok (.iload 4, 2) := dk_21 4 (dk_at dksX8_reckon_5 0 rfl rfl)
theorem dX8_reckon_120 : decode cX8_reckon 120 = .ok (.iload 5, 2) := dk_21 5 (dk_at dksX8_reckon_5 2 rfl rfl)
theorem dX8_reckon_122 : decode cX8_reckon 122 = .ok (.imul, 1) := dk_104 (dk_at dksX8_reckon_5 4 rfl rfl)
theorem dX8_reckon_123 : decode cX8_reckon 123 = .ok (.iconst 4, 1) := dk_7 (dk_at dksX8_reckon_5 5 rfl rfl)
theorem dX8_reckon_124 : decode cX8_reckon 124 = .ok (.invokevirtual 86, 3) := dk_182 0 86 (dk_at dksX8_reckon_5 6 rfl rfl)
theorem dX8_reckon_127 : decode cX8_reckon 127 = .ok (.ireturn, 1) := dk_172 (dk_at dksX8_reckon_5 9 rfl rfl)
theorem dX8_reckon_128 : decode cX8_reckon 128 = .ok (.aload_n 0, 1) := dk_42 (dk_at dksX8_reckon_5 10 rfl rfl)
theorem dX8_reckon_129 : decode cX8_reckon 129 = .ok (.iconst 4, 1) := dk_7 (dk_at dksX8_reckon_5 11 rfl rfl)
theorem dX8_reckon_130 : decode cX8_reckon 130 = .ok (.iconst 5, 1) := dk_8 (dk_at dksX8_reckon_5 12 rfl rfl)
theorem dX8_reckon_131 : decode cX8_reckon 131 = .ok (.bipush 7, 2) := dk_16 7 (dk_at dksX8_reckon_5 13 rfl rfl)
theorem dX8_reckon_133 : decode cX8_reckon 133 = .ok (.bipush 8, 2) := dk_16 8 (dk_at dksX8_reckon_5 15 rfl rfl)
theorem dX8_reckon_135 : decode cX8_reckon 135 = .ok (.invokevirtual 75, 3) := dk_182 0 75 (dk_at dksX8_reckon_5 17 rfl rfl)
theorem dX8_reckon_138 : decode cX8_reckon 138 = .ok (.iload_n 1, 1) := dk_27 (dk_at dksX8_reckon_5 20 rfl rfl)
theorem dX8_reckon_139 : decode cX8_reckon 139 = .ok (.bipush 6, 2) := dk_16 6 (dk_at dksX8_reckon_5 21 rfl rfl)
theorem dX8_reckon_141 : decode cX8_reckon 141 = .ok (.if_icmp .ge 24, 3) := dk_162 0 24 (dk_at dksX8_reckon_6 0 rfl rfl)
theorem dX8_reckon_144 : decode cX8_reckon 144 = .ok (.iload 4, 2) := dk_21 4 (dk_at dksX8_reckon_6 3 rfl rfl)
theorem dX8_reckon_146 : decode cX8_reckon 146 = .ok (.iload 5, 2) := dk_21 5 (dk_at dksX8_reckon_6 5 rfl rfl)
theorem dX8_reckon_148 : decode cX8_reckon 148 = .ok (.imul, 1) := dk_104 (dk_at dksX8_reckon_6 7 rfl rfl)
theorem dX8_reckon_149 : decode cX8_reckon 149 = .ok (.ifCond .ge 16, 3) := dk_156 0 16 (dk_at dksX8_reckon_6 8 rfl rfl)
theorem dX8_reckon_152 : decode cX8_reckon 152 = .ok (.aload_n 0, 1) := dk_42 (dk_at dksX8_reckon_6 11 rfl rfl)
theorem dX8_reckon_153 : decode cX8_reckon 153 = .ok (.bipush 8, 2) := dk_16 8 (dk_at dksX8_reckon_6 12 rfl rfl)
theorem dX8_reckon_155 : decode cX8_reckon 155 = .ok (.invokevirtual 52, 3) := dk_182 0 52 (dk_at dksX8_reckon_6 14 rfl rfl)
theorem dX8_reckon_158 : decode cX8_reckon 158 = .ok (.ifCond .ne 7, 3) := dk_154 0 7 (dk_at dksX8_reckon_6 17 rfl rfl)
theorem dX8_reckon_161 : decode cX8_reckon 161 = .ok (.iconst 1, 1) := dk_4 (dk_at dksX8_reckon_6 20 rfl rfl)
theorem dX8_reckon_162 : decode cX8_reckon 162 = .ok (.goto 4, 3) := dk_167 0 4 (dk_at dksX8_reckon_6 21 rfl rfl)
theorem dX8_reckon_165 : decode cX8_reckon 165 = .ok (.iconst 0, 1) := dk_3 (dk_at dksX8_reckon_7 0 rfl rfl)
theorem dX8_reckon_166 : decode cX8_reckon 166 = .ok (.istore 6, 2) := dk_54 6 (dk_at dksX8_reckon_7 1 rfl rfl)
theorem dX8_reckon_168 : decode cX8_reckon 168 = .ok (.iload_n 1, 1) := dk_27 (dk_at dksX8_reckon_7 3 rfl rfl)
theorem dX8_reckon_169 : decode cX8_reckon 169 = .ok (.iconst 4, 1) := dk_7 (dk_at dksX8_reckon_7 4 rfl rfl)
theorem dX8_reckon_170 : decode cX8_reckon 170 = .ok (.if_icmp .eq 9, 3) := dk_159 0 9 (dk_at dksX8_reckon_7 5 rfl rfl)
theorem dX8_reckon_173 : decode cX8_reckon 173 = .ok (.iload_n 1, 1) := dk_27 (dk_at dksX8_reckon_7 8 rfl rfl)
theorem dX8_reckon_174 : decode cX8_reckon 174 = .ok (.bipush 6, 2) := dk_16 6 (dk_at dksX8_reckon_7 9 rfl rfl)
theorem dX8_reckon_176 : decode cX8_reckon 176 = .ok (.if_icmp .ne 47, 3) := dk_160 0 47 (dk_at dksX8_reckon_7 11 rfl rfl)
theorem dX8_reckon_179 : decode cX8_reckon 179 = .ok (.iload 6, 2) := dk_21 6 (dk_at dksX8_reckon_7 14 rfl rfl)
theorem dX8_reckon_181 : decode cX8_reckon 181 = .ok (.ifCond .eq 18, 3) := dk_153 0 18 (dk_at dksX8_reckon_7 16 rfl rfl)
theorem dX8_reckon_184 : decode cX8_reckon 184 = .ok (.aload_n 0, 1) := dk_42 (dk_at dksX8_reckon_7 19 rfl rfl)
theorem dX8_reckon_185 : decode cX8_reckon 185 = .ok (.bipush 9, 2) := dk_16 9 (dk_at dksX8_reckon_7 20 rfl rfl)
theorem dX8_reckon_187 : decode cX8_reckon 187 = .ok (.lconst 1, 1) := dk_10 (dk_at dksX8_reckon_7 22 rfl rfl)
theorem dX8_reckon_188 : decode cX8_reckon 188 = .ok (.invokevirtual 68, 3) := dk_182 0 68 (dk_at dksX8_reckon_8 0 rfl rfl)
theorem dX8_reckon_191 : decode cX8_reckon 191 = .ok (.aload_n 0, 1) := dk_42 (dk_at dksX8_reckon_8 3 rfl rfl)
theorem dX8_reckon_192 : decode cX8_reckon 192 = .ok (.bipush 7, 2) := dk_16 7 (dk_at dksX8_reckon_8 4 rfl rfl)
theorem dX8_reckon_194 : decode cX8_reckon 194 = .ok (.bipush 9, 2) := dk_16 9 (dk_at dksX8_reckon_8 6 rfl rfl)
theorem dX8_reckon_196 : decode cX8_reckon 196 = .ok (.invokevirtual 150, 3) := dk_182 0 150 (dk_at dksX8_reckon_8 8 rfl rfl)
theorem dX8_reckon_199 : decode cX8_reckon 199 = .ok (.aload_n 0, 1) := dk_42 (dk_at dksX8_reckon_8 11 rfl rfl)
theorem dX8_reckon_200 : decode cX8_reckon 200 = .ok (.bipush 7, 2) := dk_16 7 (dk_at dksX8_reckon_8 12 rfl rfl)
theorem dX8_reckon_202 : decode cX8_reckon 202 = .ok (.iconst 0, 1) := dk_3 (dk_at dksX8_reckon_8 14 rfl rfl)
theorem dX8_reckon_203 : decode cX8_reckon 203 = .ok (.invokevirtual 49, 3) := dk_182 0 49 (dk_at dksX8_reckon_8 15 rfl rfl)
theorem dX8_reckon_206 : decode cX8_reckon 206 = .ok (.aload_n 0, 1) := dk_42 (dk_at dksX8_reckon_8 18 rfl rfl)
theorem dX8_reckon_207 : decode cX8_reckon 207 = .ok (.iconst 1, 1) := dk_4 (dk_at dksX8_reckon_8 19 rfl rfl)
theorem dX8_reckon_208 : decode cX8_reckon 208 = .ok (.lconst 1, 1) := dk_10 (dk_at dksX8_reckon_8 20 rfl rfl)
theorem dX8_reckon_209 : decode cX8_reckon 209 = .ok (.invokevirtual 68, 3) := dk_182 0 68 (dk_at dksX8_reckon_8 21 rfl rfl)
theorem dX8_reckon_212 : decode cX8_reckon 212 = .ok (.aload_n 0, 1) := dk_42 (dk_at dksX8_reckon_9 0 rfl rfl)
theorem dX8_reckon_213 : decode cX8_reckon 213 = .ok (.iload 4, 2) := dk_21 4 (dk_at dksX8_reckon_9 1 rfl rfl)
theorem dX8_reckon_215 : decode cX8_reckon 215 = .ok (.iload 5, 2) := dk_21 5 (dk_at dksX8_reckon_9 3 rfl rfl)
theorem dX8_reckon_217 : decode cX8_reckon 217 = .ok (.imul, 1) := dk_104 (dk_at dksX8_reckon_9 5 rfl rfl)
theorem dX8_reckon_218 : decode cX8_reckon 218 = .ok (.iconst 4, 1) := dk_7 (dk_at dksX8_reckon_9 6 rfl rfl)
theorem dX8_reckon_219 : decode cX8_reckon 219 = .ok (.invokevirtual 86, 3) := dk_182 0 86 (dk_at dksX8_reckon_9 7 rfl rfl)
theorem dX8_reckon_222 : decode cX8_reckon 222 = .ok (.ireturn, 1) := dk_172 (dk_at dksX8_reckon_9 10 rfl rfl)
theorem dX8_reckon_223 : decode cX8_reckon 223 = .ok (.aload_n 0, 1) := dk_42 (dk_at dksX8_reckon_9 11 rfl rfl)
theorem dX8_reckon_224 : decode cX8_reckon 224 = .ok (.bipush 8, 2) := dk_16 8 (dk_at dksX8_reckon_9 12 rfl rfl)
theorem dX8_reckon_226 : decode cX8_reckon 226 = .ok (.iconst 0, 1) := dk_3 (dk_at dksX8_reckon_9 14 rfl rfl)
theorem dX8_reckon_227 : decode cX8_reckon 227 = .ok (.invokevirtual 49, 3) := dk_182 0 49 (dk_at dksX8_reckon_9 15 rfl rfl)
theorem dX8_reckon_230 : decode cX8_reckon 230 = .ok (.iload 6, 2) := dk_21 6 (dk_at dksX8_reckon_9 18 rfl rfl)
theorem dX8_reckon_232 : decode cX8_reckon 232 = .ok (.ifCond .eq 16, 3) := dk_153 0 16 (dk_at dksX8_reckon_9 20 rfl rfl)
theorem dX8_reckon_235 : decode cX8_reckon 235 = .ok (.aload_n 0, 1) := dk_42 (dk_at dksX8_reckon_9 23 rfl rfl)
theorem dX8_reckon_236 : decode cX8_reckon 236 = .ok (.iconst 5, 1) := dk_8 (dk_at dksX8_reckon_10 0 rfl rfl)
theorem dX8_reckon_237 : decode cX8_reckon 237 = .ok (.iconst 0, 1) := dk_3 (dk_at dksX8_reckon_10 1 rfl rfl)
theorem dX8_reckon_238 : decode cX8_reckon 238 = .ok (.invokevirtual 49, 3) := dk_182 0 49 (dk_at dksX8_reckon_10 2 rfl rfl)
theorem dX8_reckon_241 : decode cX8_reckon 241 = .ok (.aload_n 0, 1) := dk_42 (dk_at dksX8_reckon_10 5 rfl rfl)
theorem dX8_reckon_242 : decode cX8_reckon 242 = .ok (.iconst 0, 1) := dk_3 (dk_at dksX8_reckon_10 6 rfl rfl)
theorem dX8_reckon_243 : decode cX8_reckon 243 = .ok (.bipush 8, 2) := dk_16 8 (dk_at dksX8_reckon_10 7 rfl rfl)
theorem dX8_reckon_245 : decode cX8_reckon 245 = .ok (.invokevirtual 46, 3) := dk_182 0 46 (dk_at dksX8_reckon_10 9 rfl rfl)
theorem dX8_reckon_248 : decode cX8_reckon 248 = .ok (.aload_n 0, 1) := dk_42 (dk_at dksX8_reckon_10 12 rfl rfl)
theorem dX8_reckon_249 : decode cX8_reckon 249 = .ok (.bipush 6, 2) := dk_16 6 (dk_at dksX8_reckon_10 13 rfl rfl)
theorem dX8_reckon_251 : decode cX8_reckon 251 = .ok (.iconst 1, 1) := dk_4 (dk_at dksX8_reckon_10 15 rfl rfl)
theorem dX8_reckon_252 : decode cX8_reckon 252 = .ok (.invokevirtual 49, 3) := dk_182 0 49 (dk_at dksX8_reckon_10 16 rfl rfl)
theorem dX8_reckon_255 : decode cX8_reckon 255 = .ok (.aload_n 0, 1) := dk_42 (dk_at dksX8_reckon_10 19 rfl rfl)
theorem dX8_reckon_256 : decode cX8_reckon 256 = .ok (.iload 6, 2) := dk_21 6 (dk_at dksX8_reckon_10 20 rfl rfl)
theorem dX8_reckon_258 : decode cX8_reckon 258 = .ok (.ifCond .eq 8, 3) := dk_153 0 8 (dk_at dksX8_reckon_11 0 rfl rfl)
theorem dX8_reckon_261 : decode cX8_reckon 261 = .ok (.iload 5, 2) := dk_21 5 (dk_at dksX8_reckon_11 3 rfl rfl)
theorem dX8_reckon_263 : decode cX8_reckon 263 = .ok (.goto 5, 3) := dk_167 0 5 (dk_at dksX8_reckon_11 5 rfl rfl)
theorem dX8_reckon_266 : decode cX8_reckon 266 = .ok (.iload 4, 2) := dk_21 4 (dk_at dksX8_reckon_11 8 rfl rfl)
theorem dX8_reckon_268 : decode cX8_reckon 268 = .ok (.iconst 4, 1) := dk_7 (dk_at dksX8_reckon_11 10 rfl rfl)
theorem dX8_reckon_269 : decode cX8_reckon 269 = .ok (.invokevirtual 86, 3) := dk_182 0 86 (dk_at dksX8_reckon_11 11 rfl rfl)
theorem dX8_reckon_272 : decode cX8_reckon 272 = .ok (.ireturn, 1) := dk_172 (dk_at dksX8_reckon_11 14 rfl rfl)
abbrev cX8_sum : ByteArray := prog_11_method_40_code
def yX8_sum : MethodName := ⟨RX8, "sum", "(II)I"⟩
def dkwX8_sum_4 : List UInt8 := [182, 0, 86, 172]
abbrev dktX8_sum_4 : List UInt8 := dkwX8_sum_4 ++ []
def dkwX8_sum_3 : List UInt8 := [3, 29, 153, 0, 7, 8, 167, 0, 4, 7, 182, 0, 46, 42, 29, 153, 0, 7, 27, 167, 0, 4, 28, 7]
abbrev dktX8_sum_3 : List UInt8 := dkwX8_sum_3 ++ dktX8_sum_4
def dkwX8_sum_2 : List UInt8 := [155, 0, 7, 4, 167, 0, 4, 3, 62, 42, 29, 153, 0, 7, 7, 167, 0, 4, 8, 3, 182, 0, 49, 42]
abbrev dktX8_sum_2 : List UInt8 := dkwX8_sum_2 ++ dktX8_sum_3
def dkwX8_sum_1 : List UInt8 := [182, 0, 150, 42, 27, 154, 0, 7, 28, 167, 0, 4, 27, 7, 182, 0, 86, 172, 42, 7, 8, 182, 0, 42]
abbrev dktX8_sum_1 : List UInt8 := dkwX8_sum_1 ++ dktX8_sum_2
def dkwX8_sum_0 : List UInt8 := [27, 153, 0, 12, 28, 153, 0, 8, 27, 28, 160, 0, 30, 42, 7, 3, 182, 0, 49, 42, 3, 8]
abbrev dktX8_sum_0 : List UInt8 := dkwX8_sum_0 ++ dktX8_sum_1
theorem dksX8_sum_0 : cX8_sum.data.toList.drop 0 = dktX8_sum_0 := by decide +kernel
theorem dksX8_sum_1 : cX8_sum.data.toList.drop 22 = dktX8_sum_1 := dk_seg dksX8_sum_0 22 rfl rfl
theorem dksX8_sum_2 : cX8_sum.data.toList.drop 46 = dktX8_sum_2 := dk_seg dksX8_sum_1 24 rfl rfl
theorem dksX8_sum_3 : cX8_sum.data.toList.drop 70 = dktX8_sum_3 := dk_seg dksX8_sum_2 24 rfl rfl
theorem dksX8_sum_4 : cX8_sum.data.toList.drop 94 = dktX8_sum_4 := dk_seg dksX8_sum_3 24 rfl rfl
theorem dX8_sum_0 : decode cX8_sum 0 = .ok (.iload_n 1, 1) := dk_27 (dk_at dksX8_sum_0 0 rfl rfl)
theorem dX8_sum_1 : decode cX8_sum 1 = .ok (.ifCond .eq 12, 3) := dk_153 0 12 (dk_at dksX8_sum_0 1 rfl rfl)
theorem dX8_sum_4 : decode cX8_sum 4 = .ok (.iload_n 2, 1) := dk_28 (dk_at dksX8_sum_0 4 rfl rfl)
theorem dX8_sum_5 : decode cX8_sum 5 = .ok (.ifCond .eq 8, 3) := dk_153 0 8 (dk_at dksX8_sum_0 5 rfl rfl)
theorem dX8_sum_8 : decode cX8_sum 8 = .ok (.iload_n 1, 1) := dk_27 (dk_at dksX8_sum_0 8 rfl rfl)
theorem dX8_sum_9 : decode cX8_sum 9 = .ok (.iload_n 2, 1) := dk_28 (dk_at dksX8_sum_0 9 rfl rfl)
theorem dX8_sum_10 : decode cX8_sum 10 = .ok (.if_icmp .ne 30, 3) := dk_160 0 30 (dk_at dksX8_sum_0 10 rfl rfl)
theorem dX8_sum_13 : decode cX8_sum 13 = .ok (.aload_n 0, 1) := dk_42 (dk_at dksX8_sum_0 13 rfl rfl)
theorem dX8_sum_14 : decode cX8_sum 14 = .ok (.iconst 4, 1) := dk_7 (dk_at dksX8_sum_0 14 rfl rfl)
theorem dX8_sum_15 : decode cX8_sum 15 = .ok (.iconst 0, 1) := dk_3 (dk_at dksX8_sum_0 15 rfl rfl)
theorem dX8_sum_16 : decode cX8_sum 16 = .ok (.invokevirtual 49, 3) := dk_182 0 49 (dk_at dksX8_sum_0 16 rfl rfl)
theorem dX8_sum_19 : decode cX8_sum 19 = .ok (.aload_n 0, 1) := dk_42 (dk_at dksX8_sum_0 19 rfl rfl)
theorem dX8_sum_20 : decode cX8_sum 20 = .ok (.iconst 0, 1) := dk_3 (dk_at dksX8_sum_0 20 rfl rfl)
theorem dX8_sum_21 : decode cX8_sum 21 = .ok (.iconst 5, 1) := dk_8 (dk_at dksX8_sum_0 21 rfl rfl)
theorem dX8_sum_22 : decode cX8_sum 22 = .ok (.invokevirtual 150, 3) := dk_182 0 150 (dk_at dksX8_sum_1 0 rfl rfl)
theorem dX8_sum_25 : decode cX8_sum 25 = .ok (.aload_n 0, 1) := dk_42 (dk_at dksX8_sum_1 3 rfl rfl)
theorem dX8_sum_26 : decode cX8_sum 26 = .ok (.iload_n 1, 1) := dk_27 (dk_at dksX8_sum_1 4 rfl rfl)
theorem dX8_sum_27 : decode cX8_sum 27 = .ok (.ifCond .ne 7, 3) := dk_154 0 7 (dk_at dksX8_sum_1 5 rfl rfl)
theorem dX8_sum_30 : decode cX8_sum 30 = .ok (.iload_n 2, 1) := dk_28 (dk_at dksX8_sum_1 8 rfl rfl)
theorem dX8_sum_31 : decode cX8_sum 31 = .ok (.goto 4, 3) := dk_167 0 4 (dk_at dksX8_sum_1 9 rfl rfl)
theorem dX8_sum_34 : decode cX8_sum 34 = .ok (.iload_n 1, 1) := dk_27 (dk_at dksX8_sum_1 12 rfl rfl)
theorem dX8_sum_35 : decode cX8_sum 35 = .ok (.iconst 4, 1) := dk_7 (dk_at dksX8_sum_1 13 rfl rfl)
theorem dX8_sum_36 : decode cX8_sum 36 = .ok (.invokevirtual 86, 3) := dk_182 0 86 (dk_at dksX8_sum_1 14 rfl rfl)
theorem dX8_sum_39 : decode cX8_sum 39 = .ok (.ireturn, 1) := dk_172 (dk_at dksX8_sum_1 17 rfl rfl)
theorem dX8_sum_40 : decode cX8_sum 40 = .ok (.aload_n 0, 1) := dk_42 (dk_at dksX8_sum_1 18 rfl rfl)
theorem dX8_sum_41 : decode cX8_sum 41 = .ok (.iconst 4, 1) := dk_7 (dk_at dksX8_sum_1 19 rfl rfl)
theorem dX8_sum_42 : decode cX8_sum 42 = .ok (.iconst 5, 1) := dk_8 (dk_at dksX8_sum_1 20 rfl rfl)
theorem dX8_sum_43 : decode cX8_sum 43 = .ok (.invokevirtual 42, 3) := dk_182 0 42 (dk_at dksX8_sum_1 21 rfl rfl)
theorem dX8_sum_46 : decode cX8_sum 46 = .ok (.ifCond .lt 7, 3) := dk_155 0 7 (dk_at dksX8_sum_2 0 rfl rfl)
theorem dX8_sum_49 : decode cX8_sum 49 = .ok (.iconst 1, 1) := dk_4 (dk_at dksX8_sum_2 3 rfl rfl)
theorem dX8_sum_50 : decode cX8_sum 50 = .ok (.goto 4, 3) := dk_167 0 4 (dk_at dksX8_sum_2 4 rfl rfl)
theorem dX8_sum_53 : decode cX8_sum 53 = .ok (.iconst 0, 1) := dk_3 (dk_at dksX8_sum_2 7 rfl rfl)
theorem dX8_sum_54 : decode cX8_sum 54 = .ok (.istore_n 3, 1) := dk_62 (dk_at dksX8_sum_2 8 rfl rfl)
theorem dX8_sum_55 : decode cX8_sum 55 = .ok (.aload_n 0, 1) := dk_42 (dk_at dksX8_sum_2 9 rfl rfl)
theorem dX8_sum_56 : decode cX8_sum 56 = .ok (.iload_n 3, 1) := dk_29 (dk_at dksX8_sum_2 10 rfl rfl)
theorem dX8_sum_57 : decode cX8_sum 57 = .ok (.ifCond .eq 7, 3) := dk_153 0 7 (dk_at dksX8_sum_2 11 rfl rfl)
theorem dX8_sum_60 : decode cX8_sum 60 = .ok (.iconst 4, 1) := dk_7 (dk_at dksX8_sum_2 14 rfl rfl)
theorem dX8_sum_61 : decode cX8_sum 61 = .ok (.goto 4, 3) := dk_167 0 4 (dk_at dksX8_sum_2 15 rfl rfl)
theorem dX8_sum_64 : decode cX8_sum 64 = .ok (.iconst 5, 1) := dk_8 (dk_at dksX8_sum_2 18 rfl rfl)
theorem dX8_sum_65 : decode cX8_sum 65 = .ok (.iconst 0, 1) := dk_3 (dk_at dksX8_sum_2 19 rfl rfl)
theorem dX8_sum_66 : decode cX8_sum 66 = .ok (.invokevirtual 49, 3) := dk_182 0 49 (dk_at dksX8_sum_2 20 rfl rfl)
theorem dX8_sum_69 : decode cX8_sum 69 = .ok (.aload_n 0, 1) := dk_42 (dk_at dksX8_sum_2 23 rfl rfl)
theorem dX8_sum_70 : decode cX8_sum 70 = .ok (.iconst 0, 1) := dk_3 (dk_at dksX8_sum_3 0 rfl rfl)
theorem dX8_sum_71 : decode cX8_sum 71 = .ok (.iload_n 3, 1) := dk_29 (dk_at dksX8_sum_3 1 rfl rfl)
theorem dX8_sum_72 : decode cX8_sum 72 = .ok (.ifCond .eq 7, 3) := dk_153 0 7 (dk_at dksX8_sum_3 2 rfl rfl)
theorem dX8_sum_75 : decode cX8_sum 75 = .ok (.iconst 5, 1) := dk_8 (dk_at dksX8_sum_3 5 rfl rfl)
theorem dX8_sum_76 : decode cX8_sum 76 = .ok (.goto 4, 3) := dk_167 0 4 (dk_at dksX8_sum_3 6 rfl rfl)
theorem dX8_sum_79 : decode cX8_sum 79 = .ok (.iconst 4, 1) := dk_7 (dk_at dksX8_sum_3 9 rfl rfl)
theorem dX8_sum_80 : decode cX8_sum 80 = .ok (.invokevirtual 46, 3) := dk_182 0 46 (dk_at dksX8_sum_3 10 rfl rfl)
theorem dX8_sum_83 : decode cX8_sum 83 = .ok (.aload_n 0, 1) := dk_42 (dk_at dksX8_sum_3 13 rfl rfl)
theorem dX8_sum_84 : decode cX8_sum 84 = .ok (.iload_n 3, 1) := dk_29 (dk_at dksX8_sum_3 14 rfl rfl)
theorem dX8_sum_85 : decode cX8_sum 85 = .ok (.ifCond .eq 7, 3) := dk_153 0 7 (dk_at dksX8_sum_3 15 rfl rfl)
theorem dX8_sum_88 : decode cX8_sum 88 = .ok (.iload_n 1, 1) := dk_27 (dk_at dksX8_sum_3 18 rfl rfl)
theorem dX8_sum_89 : decode cX8_sum 89 = .ok (.goto 4, 3) := dk_167 0 4 (dk_at dksX8_sum_3 19 rfl rfl)
theorem dX8_sum_92 : decode cX8_sum 92 = .ok (.iload_n 2, 1) := dk_28 (dk_at dksX8_sum_3 22 rfl rfl)
theorem dX8_sum_93 : decode cX8_sum 93 = .ok (.iconst 4, 1) := dk_7 (dk_at dksX8_sum_3 23 rfl rfl)
theorem dX8_sum_94 : decode cX8_sum 94 = .ok (.invokevirtual 86, 3) := dk_182 0 86 (dk_at dksX8_sum_4 0 rfl rfl)
theorem dX8_sum_97 : decode cX8_sum 97 = .ok (.ireturn, 1) := dk_172 (dk_at dksX8_sum_4 3 rfl rfl)
abbrev cX8_add : ByteArray := prog_11_method_9_code
def yX8_add : MethodName := ⟨RX8, "add", "(II)V"⟩
def dkwX8_add_2 : List UInt8 := [104, 21, 5, 96, 22, 6, 20, 0, 28, 127, 80, 22, 6, 16, 32, 123, 66, 132, 5, 1, 167, 255, 193, 177]
abbrev dktX8_add_2 : List UInt8 := dkwX8_add_2 ++ []
def dkwX8_add_1 : List UInt8 := [42, 180, 0, 17, 16, 64, 28, 104, 21, 5, 96, 47, 97, 33, 97, 55, 6, 42, 180, 0, 17, 16, 64, 27]
abbrev dktX8_add_1 : List UInt8 := dkwX8_add_1 ++ dktX8_add_2
def dkwX8_add_0 : List UInt8 := [9, 66, 3, 54, 5, 21, 5, 16, 64, 162, 0, 62, 42, 180, 0, 17, 16, 64, 27, 104, 21, 5, 96, 47]
abbrev dktX8_add_0 : List UInt8 := dkwX8_add_0 ++ dktX8_add_1
theorem dksX8_add_0 : cX8_add.data.toList.drop 0 = dktX8_add_0 := by decide +kernel
theorem dksX8_add_1 : cX8_add.data.toList.drop 24 = dktX8_add_1 := dk_seg dksX8_add_0 24 rfl rfl
theorem dksX8_add_2 : cX8_add.data.toList.drop 48 = dktX8_add_2 := dk_seg dksX8_add_1 24 rfl rfl
theorem dX8_add_0 : decode cX8_add 0 = .ok (.lconst 0, 1) := dk_9 (dk_at dksX8_add_0 0 rfl rfl)
theorem dX8_add_1 : decode cX8_add 1 = .ok (.lstore_n 3, 1) := dk_66 (dk_at dksX8_add_0 1 rfl rfl)
theorem dX8_add_2 : decode cX8_add 2 = .ok (.iconst 0, 1) := dk_3 (dk_at dksX8_add_0 2 rfl rfl)
theorem dX8_add_3 : decode cX8_add 3 = .ok (.istore 5, 2) := dk_54 5 (dk_at dksX8_add_0 3 rfl rfl)
theorem dX8_add_5 : decode cX8_add 5 = .ok (.iload 5, 2) := dk_21 5 (dk_at dksX8_add_0 5 rfl rfl)
theorem dX8_add_7 : decode cX8_add 7 = .ok (.bipush 64, 2) := dk_16 64 (dk_at dksX8_add_0 7 rfl rfl)
theorem dX8_add_9 : decode cX8_add 9 = .ok (.if_icmp .ge 62, 3) := dk_162 0 62 (dk_at dksX8_add_0 9 rfl rfl)
theorem dX8_add_12 : decode cX8_add 12 = .ok (.aload_n 0, 1) := dk_42 (dk_at dksX8_add_0 12 rfl rfl)
theorem dX8_add_13 : decode cX8_add 13 = .ok (.getfield 17, 3) := dk_180 0 17 (dk_at dksX8_add_0 13 rfl rfl)
theorem dX8_add_16 : decode cX8_add 16 = .ok (.bipush 64, 2) := dk_16 64 (dk_at dksX8_add_0 16 rfl rfl)
theorem dX8_add_18 : decode cX8_add 18 = .ok (.iload_n 1, 1) := dk_27 (dk_at dksX8_add_0 18 rfl rfl)
theorem dX8_add_19 : decode cX8_add 19 = .ok (.imul, 1) := dk_104 (dk_at dksX8_add_0 19 rfl rfl)
theorem dX8_add_20 : decode cX8_add 20 = .ok (.iload 5, 2) := dk_21 5 (dk_at dksX8_add_0 20 rfl rfl)
theorem dX8_add_22 : decode cX8_add 22 = .ok (.iadd, 1) := dk_96 (dk_at dksX8_add_0 22 rfl rfl)
theorem dX8_add_23 : decode cX8_add 23 = .ok (.laload, 1) := dk_47 (dk_at dksX8_add_0 23 rfl rfl)
theorem dX8_add_24 : decode cX8_add 24 = .ok (.aload_n 0, 1) := dk_42 (dk_at dksX8_add_1 0 rfl rfl)
theorem dX8_add_25 : decode cX8_add 25 = .ok (.getfield 17, 3) := dk_180 0 17 (dk_at dksX8_add_1 1 rfl rfl)
theorem dX8_add_28 : decode cX8_add 28 = .ok (.bipush 64, 2) := dk_16 64 (dk_at dksX8_add_1 4 rfl rfl)
theorem dX8_add_30 : decode cX8_add 30 = .ok (.iload_n 2, 1) := dk_28 (dk_at dksX8_add_1 6 rfl rfl)
theorem dX8_add_31 : decode cX8_add 31 = .ok (.imul, 1) := dk_104 (dk_at dksX8_add_1 7 rfl rfl)
theorem dX8_add_32 : decode cX8_add 32 = .ok (.iload 5, 2) := dk_21 5 (dk_at dksX8_add_1 8 rfl rfl)
theorem dX8_add_34 : decode cX8_add 34 = .ok (.iadd, 1) := dk_96 (dk_at dksX8_add_1 10 rfl rfl)
theorem dX8_add_35 : decode cX8_add 35 = .ok (.laload, 1) := dk_47 (dk_at dksX8_add_1 11 rfl rfl)
theorem dX8_add_36 : decode cX8_add 36 = .ok (.ladd, 1) := dk_97 (dk_at dksX8_add_1 12 rfl rfl)
theorem dX8_add_37 : decode cX8_add 37 = .ok (.lload_n 3, 1) := dk_33 (dk_at dksX8_add_1 13 rfl rfl)
theorem dX8_add_38 : decode cX8_add 38 = .ok (.ladd, 1) := dk_97 (dk_at dksX8_add_1 14 rfl rfl)
theorem dX8_add_39 : decode cX8_add 39 = .ok (.lstore 6, 2) := dk_55 6 (dk_at dksX8_add_1 15 rfl rfl)
theorem dX8_add_41 : decode cX8_add 41 = .ok (.aload_n 0, 1) := dk_42 (dk_at dksX8_add_1 17 rfl rfl)
theorem dX8_add_42 : decode cX8_add 42 = .ok (.getfield 17, 3) := dk_180 0 17 (dk_at dksX8_add_1 18 rfl rfl)
theorem dX8_add_45 : decode cX8_add 45 = .ok (.bipush 64, 2) := dk_16 64 (dk_at dksX8_add_1 21 rfl rfl)
theorem dX8_add_47 : decode cX8_add 47 = .ok (.iload_n 1, 1) := dk_27 (dk_at dksX8_add_1 23 rfl rfl)
theorem dX8_add_48 : decode cX8_add 48 = .ok (.imul, 1) := dk_104 (dk_at dksX8_add_2 0 rfl rfl)
theorem dX8_add_49 : decode cX8_add 49 = .ok (.iload 5, 2) := dk_21 5 (dk_at dksX8_add_2 1 rfl rfl)
theorem dX8_add_51 : decode cX8_add 51 = .ok (.iadd, 1) := dk_96 (dk_at dksX8_add_2 3 rfl rfl)
theorem dX8_add_52 : decode cX8_add 52 = .ok (.lload 6, 2) := dk_22 6 (dk_at dksX8_add_2 4 rfl rfl)
theorem dX8_add_54 : decode cX8_add 54 = .ok (.ldc2_w 28, 3) := dk_20 0 28 (dk_at dksX8_add_2 6 rfl rfl)
theorem dX8_add_57 : decode cX8_add 57 = .ok (.land, 1) := dk_127 (dk_at dksX8_add_2 9 rfl rfl)
theorem dX8_add_58 : decode cX8_add 58 = .ok (.lastore, 1) := dk_80 (dk_at dksX8_add_2 10 rfl rfl)
theorem dX8_add_59 : decode cX8_add 59 = .ok (.lload 6, 2) := dk_22 6 (dk_at dksX8_add_2 11 rfl rfl)
theorem dX8_add_61 : decode cX8_add 61 = .ok (.bipush 32, 2) := dk_16 32 (dk_at dksX8_add_2 13 rfl rfl)
theorem dX8_add_63 : decode cX8_add 63 = .ok (.lshr, 1) := dk_123 (dk_at dksX8_add_2 15 rfl rfl)
theorem dX8_add_64 : decode cX8_add 64 = .ok (.lstore_n 3, 1) := dk_66 (dk_at dksX8_add_2 16 rfl rfl)
theorem dX8_add_65 : decode cX8_add 65 = .ok (.iinc 5 1, 3) := dk_132 5 1 (dk_at dksX8_add_2 17 rfl rfl)
theorem dX8_add_68 : decode cX8_add 68 = .ok (.goto (-63), 3) := dk_167 255 193 (dk_at dksX8_add_2 20 rfl rfl)
theorem dX8_add_71 : decode cX8_add 71 = .ok (.return_, 1) := dk_177 (dk_at dksX8_add_2 23 rfl rfl)
abbrev cX8_clear : ByteArray := prog_11_method_42_code
def yX8_clear : MethodName := ⟨RX8, "clea\x72", "()I"⟩
def dkwX8_clear_0 : List UInt8 := [42, 3, 181, 0, 20, 42, 180, 0, 65, 60, 42, 3, 181, 0, 65, 27, 172]
abbrev dktX8_clear_0 : List UInt8 := dkwX8_clear_0 ++ []
theorem dksX8_clear_0 : cX8_clear.data.toList.drop 0 = dktX8_clear_0 := by decide +kernel
theorem dX8_clear_0 : decode cX8_clear 0 = .ok (.aload_n 0, 1) := dk_42 (dk_at dksX8_clear_0 0 rfl rfl)
theorem dX8_clear_1 : decode cX8_clear 1 = .ok (.iconst 0, 1) := dk_3 (dk_at dksX8_clear_0 1 rfl rfl)
theorem dX8_clear_2 : decode cX8_clear 2 = .ok (.putfield 20, 3) := dk_181 0 20 (dk_at dksX8_clear_0 2 rfl rfl)
theorem dX8_clear_5 : decode cX8_clear 5 = .ok (.aload_n 0, 1) := dk_42 (dk_at dksX8_clear_0 5 rfl rfl)
theorem dX8_clear_6 : decode cX8_clear 6 = .ok (.getfield 65, 3) := dk_180 0 65 (dk_at dksX8_clear_0 6 rfl rfl)
theorem dX8_clear_9 : decode cX8_clear 9 = .ok (.istore_n 1, 1) := dk_60 (dk_at dksX8_clear_0 9 rfl rfl)
theorem dX8_clear_10 : decode cX8_clear 10 = .ok (.aload_n 0, 1) := dk_42 (dk_at dksX8_clear_0 10 rfl rfl)
theorem dX8_clear_11 : decode cX8_clear 11 = .ok (.iconst 0, 1) := dk_3 (dk_at dksX8_clear_0 11 rfl rfl)
theorem dX8_clear_12 : decode cX8_clear 12 = .ok (.putfield 65, 3) := dk_181 0 65 (dk_at dksX8_clear_0 12 rfl rfl)
theorem dX8_clear_15 : decode cX8_clear 15 = .ok (.iload_n 1, 1) := dk_27 (dk_at dksX8_clear_0 15 rfl rfl)
theorem dX8_clear_16 : decode cX8_clear 16 = .ok (.ireturn, 1) := dk_172 (dk_at dksX8_clear_0 16 rfl rfl)
abbrev cX8_count : ByteArray := prog_11_method_43_code
def yX8_count : MethodName := ⟨RX8, "count", "()I"⟩
def dkwX8_count_0 : List UInt8 := [42, 3, 181, 0, 20, 42, 180, 0, 65, 172]
abbrev dktX8_count_0 : List UInt8 := dkwX8_count_0 ++ []
theorem dksX8_count_0 : cX8_count.data.toList.drop 0 = dktX8_count_0 := by decide +kernel
theorem dX8_count_0 : decode cX8_count 0 = .ok (.aload_n 0, 1) := dk_42 (dk_at dksX8_count_0 0 rfl rfl)
theorem dX8_count_1 : decode cX8_count 1 = .ok (.iconst 0, 1) := dk_3 (dk_at dksX8_count_0 1 rfl rfl)
theorem dX8_count_2 : decode cX8_count 2 = .ok (.putfield 20, 3) := dk_181 0 20 (dk_at dksX8_count_0 2 rfl rfl)
theorem dX8_count_5 : decode cX8_count 5 = .ok (.aload_n 0, 1) := dk_42 (dk_at dksX8_count_0 5 rfl rfl)
theorem dX8_count_6 : decode cX8_count 6 = .ok (.getfield 65, 3) := dk_180 0 65 (dk_at dksX8_count_0 6 rfl rfl)
theorem dX8_count_9 : decode cX8_count 9 = .ok (.ireturn, 1) := dk_172 (dk_at dksX8_count_0 9 rfl rfl)
abbrev cX8_word : ByteArray := prog_11_method_44_code
def yX8_word : MethodName := ⟨RX8, "word", "(II)J"⟩
def dkwX8_word_1 : List UInt8 := [173, 42, 3, 181, 0, 20, 42, 180, 0, 13, 16, 16, 27, 104, 28, 96, 47, 173]
abbrev dktX8_word_1 : List UInt8 := dkwX8_word_1 ++ []
def dkwX8_word_0 : List UInt8 := [42, 27, 182, 0, 117, 153, 0, 13, 28, 155, 0, 9, 28, 16, 15, 164, 0, 10, 42, 4, 182, 0, 79, 133]
abbrev dktX8_word_0 : List UInt8 := dkwX8_word_0 ++ dktX8_word_1
theorem dksX8_word_0 : cX8_word.data.toList.drop 0 = dktX8_word_0 := by decide +kernel
theorem dksX8_word_1 : cX8_word.data.toList.drop 24 = dktX8_word_1 := dk_seg dksX8_word_0 24 rfl rfl
theorem dX8_word_0 : decode cX8_word 0 = .ok (.aload_n 0, 1) := dk_42 (dk_at dksX8_word_0 0 rfl rfl)
theorem dX8_word_1 : decode cX8_word 1 = .ok (.iload_n 1, 1) := dk_27 (dk_at dksX8_word_0 1 rfl rfl)
theorem dX8_word_2 : decode cX8_word 2 = .ok (.invokevirtual 117, 3) := dk_182 0 117 (dk_at dksX8_word_0 2 rfl rfl)
theorem dX8_word_5 : decode cX8_word 5 = .ok (.ifCond .eq 13, 3) := dk_153 0 13 (dk_at dksX8_word_0 5 rfl rfl)
theorem dX8_word_8 : decode cX8_word 8 = .ok (.iload_n 2, 1) := dk_28 (dk_at dksX8_word_0 8 rfl rfl)
theorem dX8_word_9 : decode cX8_word 9 = .ok (.ifCond .lt 9, 3) := dk_155 0 9 (dk_at dksX8_word_0 9 rfl rfl)
theorem dX8_word_12 : decode cX8_word 12 = .ok (.iload_n 2, 1) := dk_28 (dk_at dksX8_word_0 12 rfl rfl)
theorem dX8_word_13 : decode cX8_word 13 = .ok (.bipush 15, 2) := dk_16 15 (dk_at dksX8_word_0 13 rfl rfl)
theorem dX8_word_15 : decode cX8_word 15 = .ok (.if_icmp .le 10, 3) := dk_164 0 10 (dk_at dksX8_word_0 15 rfl rfl)
theorem dX8_word_18 : decode cX8_word 18 = .ok (.aload_n 0, 1) := dk_42 (dk_at dksX8_word_0 18 rfl rfl)
theorem dX8_word_19 : decode cX8_word 19 = .ok (.iconst 1, 1) := dk_4 (dk_at dksX8_word_0 19 rfl rfl)
theorem dX8_word_20 : decode cX8_word 20 = .ok (.invokevirtual 79, 3) := dk_182 0 79 (dk_at dksX8_word_0 20 rfl rfl)
theorem dX8_word_23 : decode cX8_word 23 = .ok (.i2l, 1) := dk_133 (dk_at dksX8_word_0 23 rfl rfl)
theorem dX8_word_24 : decode cX8_word 24 = .ok (.lreturn, 1) := dk_173 (dk_at dksX8_word_1 0 rfl rfl)
theorem dX8_word_25 : decode cX8_word 25 = .ok (.aload_n 0, 1) := dk_42 (dk_at dksX8_word_1 1 rfl rfl)
theorem dX8_word_26 : decode cX8_word 26 = .ok (.iconst 0, 1) := dk_3 (dk_at dksX8_word_1 2 rfl rfl)
theorem dX8_word_27 : decode cX8_word 27 = .ok (.putfield 20, 3) := dk_181 0 20 (dk_at dksX8_word_1 3 rfl rfl)
theorem dX8_word_30 : decode cX8_word 30 = .ok (.aload_n 0, 1) := dk_42 (dk_at dksX8_word_1 6 rfl rfl)
theorem dX8_word_31 : decode cX8_word 31 = .ok (.getfield 13, 3) := dk_180 0 13 (dk_at dksX8_word_1 7 rfl rfl)
theorem dX8_word_34 : decode cX8_word 34 = .ok (.bipush 16, 2) := dk_16 16 (dk_at dksX8_word_1 10 rfl rfl)
theorem dX8_word_36 : decode cX8_word 36 = .ok (.iload_n 1, 1) := dk_27 (dk_at dksX8_word_1 12 rfl rfl)
theorem dX8_word_37 : decode cX8_word 37 = .ok (.imul, 1) := dk_104 (dk_at dksX8_word_1 13 rfl rfl)
theorem dX8_word_38 : decode cX8_word 38 = .ok (.iload_n 2, 1) := dk_28 (dk_at dksX8_word_1 14 rfl rfl)
theorem dX8_word_39 : decode cX8_word 39 = .ok (.iadd, 1) := dk_96 (dk_at dksX8_word_1 15 rfl rfl)
theorem dX8_word_40 : decode cX8_word 40 = .ok (.laload, 1) := dk_47 (dk_at dksX8_word_1 16 rfl rfl)
theorem dX8_word_41 : decode cX8_word 41 = .ok (.lreturn, 1) := dk_173 (dk_at dksX8_word_1 17 rfl rfl)
abbrev cX8_sign : ByteArray := prog_11_method_45_code
def yX8_sign : MethodName := ⟨RX8, "sign", "(I)I"⟩
def dkwX8_sign_1 : List UInt8 := [46, 172]
abbrev dktX8_sign_1 : List UInt8 := dkwX8_sign_1 ++ []
def dkwX8_sign_0 : List UInt8 := [42, 27, 182, 0, 117, 154, 0, 9, 42, 4, 182, 0, 79, 172, 42, 3, 181, 0, 20, 42, 180, 0, 7, 27]
abbrev dktX8_sign_0 : List UInt8 := dkwX8_sign_0 ++ dktX8_sign_1
theorem dksX8_sign_0 : cX8_sign.data.toList.drop 0 = dktX8_sign_0 := by decide +kernel
theorem dksX8_sign_1 : cX8_sign.data.toList.drop 24 = dktX8_sign_1 := dk_seg dksX8_sign_0 24 rfl rfl
theorem dX8_sign_0 : decode cX8_sign 0 = .ok (.aload_n 0, 1) := dk_42 (dk_at dksX8_sign_0 0 rfl rfl)
theorem dX8_sign_1 : decode cX8_sign 1 = .ok (.iload_n 1, 1) := dk_27 (dk_at dksX8_sign_0 1 rfl rfl)
theorem dX8_sign_2 : decode cX8_sign 2 = .ok (.invokevirtual 117, 3) := dk_182 0 117 (dk_at dksX8_sign_0 2 rfl rfl)
theorem dX8_sign_5 : decode cX8_sign 5 = .ok (.ifCond .ne 9, 3) := dk_154 0 9 (dk_at dksX8_sign_0 5 rfl rfl)
theorem dX8_sign_8 : decode cX8_sign 8 = .ok (.aload_n 0, 1) := dk_42 (dk_at dksX8_sign_0 8 rfl rfl)
theorem dX8_sign_9 : decode cX8_sign 9 = .ok (.iconst 1, 1) := dk_4 (dk_at dksX8_sign_0 9 rfl rfl)
theorem dX8_sign_10 : decode cX8_sign 10 = .ok (.invokevirtual 79, 3) := dk_182 0 79 (dk_at dksX8_sign_0 10 rfl rfl)
theorem dX8_sign_13 : decode cX8_sign 13 = .ok (.ireturn, 1) := dk_172 (dk_at dksX8_sign_0 13 rfl rfl)
theorem dX8_sign_14 : decode cX8_sign 14 = .ok (.aload_n 0, 1) := dk_42 (dk_at dksX8_sign_0 14 rfl rfl)
theorem dX8_sign_15 : decode cX8_sign 15 = .ok (.iconst 0, 1) := dk_3 (dk_at dksX8_sign_0 15 rfl rfl)
theorem dX8_sign_16 : decode cX8_sign 16 = .ok (.putfield 20, 3) := dk_181 0 20 (dk_at dksX8_sign_0 16 rfl rfl)
theorem dX8_sign_19 : decode cX8_sign 19 = .ok (.aload_n 0, 1) := dk_42 (dk_at dksX8_sign_0 19 rfl rfl)
theorem dX8_sign_20 : decode cX8_sign 20 = .ok (.getfield 7, 3) := dk_180 0 7 (dk_at dksX8_sign_0 20 rfl rfl)
theorem dX8_sign_23 : decode cX8_sign 23 = .ok (.iload_n 1, 1) := dk_27 (dk_at dksX8_sign_0 23 rfl rfl)
theorem dX8_sign_24 : decode cX8_sign 24 = .ok (.iaload, 1) := dk_46 (dk_at dksX8_sign_1 0 rfl rfl)
theorem dX8_sign_25 : decode cX8_sign 25 = .ok (.ireturn, 1) := dk_172 (dk_at dksX8_sign_1 1 rfl rfl)
abbrev cX8_bits : ByteArray := prog_11_method_46_code
def yX8_bits : MethodName := ⟨RX8, "bits", "(IZ)I"⟩
def dkwX8_bits_1 : List UInt8 := [27, 5, 182, 0, 130, 167, 0, 9, 42, 27, 5, 182, 0, 133, 42, 5, 182, 0, 30, 172]
abbrev dktX8_bits_1 : List UInt8 := dkwX8_bits_1 ++ []
def dkwX8_bits_0 : List UInt8 := [42, 27, 182, 0, 117, 154, 0, 9, 42, 4, 182, 0, 79, 172, 42, 3, 181, 0, 20, 28, 153, 0, 12, 42]
abbrev dktX8_bits_0 : List UInt8 := dkwX8_bits_0 ++ dktX8_bits_1
theorem dksX8_bits_0 : cX8_bits.data.toList.drop 0 = dktX8_bits_0 := by decide +kernel
theorem dksX8_bits_1 : cX8_bits.data.toList.drop 24 = dktX8_bits_1 := dk_seg dksX8_bits_0 24 rfl rfl
theorem dX8_bits_0 : decode cX8_bits 0 = .ok (.aload_n 0, 1) := dk_42 (dk_at dksX8_bits_0 0 rfl rfl)
theorem dX8_bits_1 : decode cX8_bits 1 = .ok (.iload_n 1, 1) := dk_27 (dk_at dksX8_bits_0 1 rfl rfl)
theorem dX8_bits_2 : decode cX8_bits 2 = .ok (.invokevirtual 117, 3) := dk_182 0 117 (dk_at dksX8_bits_0 2 rfl rfl)
theorem dX8_bits_5 : decode cX8_bits 5 = .ok (.ifCond .ne 9, 3) := dk_154 0 9 (dk_at dksX8_bits_0 5 rfl rfl)
theorem dX8_bits_8 : decode cX8_bits 8 = .ok (.aload_n 0, 1) := dk_42 (dk_at dksX8_bits_0 8 rfl rfl)
theorem dX8_bits_9 : decode cX8_bits 9 = .ok (.iconst 1, 1) := dk_4 (dk_at dksX8_bits_0 9 rfl rfl)
theorem dX8_bits_10 : decode cX8_bits 10 = .ok (.invokevirtual 79, 3) := dk_182 0 79 (dk_at dksX8_bits_0 10 rfl rfl)
theorem dX8_bits_13 : decode cX8_bits 13 = .ok (.ireturn, 1) := dk_172 (dk_at dksX8_bits_0 13 rfl rfl)
theorem dX8_bits_14 : decode cX8_bits 14 = .ok (.aload_n 0, 1) := dk_42 (dk_at dksX8_bits_0 14 rfl rfl)
theorem dX8_bits_15 : decode cX8_bits 15 = .ok (.iconst 0, 1) := dk_3 (dk_at dksX8_bits_0 15 rfl rfl)
theorem dX8_bits_16 : decode cX8_bits 16 = .ok (.putfield 20, 3) := dk_181 0 20 (dk_at dksX8_bits_0 16 rfl rfl)
theorem dX8_bits_19 : decode cX8_bits 19 = .ok (.iload_n 2, 1) := dk_28 (dk_at dksX8_bits_0 19 rfl rfl)
theorem dX8_bits_20 : decode cX8_bits 20 = .ok (.ifCond .eq 12, 3) := dk_153 0 12 (dk_at dksX8_bits_0 20 rfl rfl)
theorem dX8_bits_23 : decode cX8_bits 23 = .ok (.aload_n 0, 1) := dk_42 (dk_at dksX8_bits_0 23 rfl rfl)
theorem dX8_bits_24 : decode cX8_bits 24 = .ok (.iload_n 1, 1) := dk_27 (dk_at dksX8_bits_1 0 rfl rfl)
theorem dX8_bits_25 : decode cX8_bits 25 = .ok (.iconst 2, 1) := dk_5 (dk_at dksX8_bits_1 1 rfl rfl)
theorem dX8_bits_26 : decode cX8_bits 26 = .ok (.invokevirtual 130, 3) := dk_182 0 130 (dk_at dksX8_bits_1 2 rfl rfl)
theorem dX8_bits_29 : decode cX8_bits 29 = .ok (.goto 9, 3) := dk_167 0 9 (dk_at dksX8_bits_1 5 rfl rfl)
theorem dX8_bits_32 : decode cX8_bits 32 = .ok (.aload_n 0, 1) := dk_42 (dk_at dksX8_bits_1 8 rfl rfl)
theorem dX8_bits_33 : decode cX8_bits 33 = .ok (.iload_n 1, 1) := dk_27 (dk_at dksX8_bits_1 9 rfl rfl)
theorem dX8_bits_34 : decode cX8_bits 34 = .ok (.iconst 2, 1) := dk_5 (dk_at dksX8_bits_1 10 rfl rfl)
theorem dX8_bits_35 : decode cX8_bits 35 = .ok (.invokevirtual 133, 3) := dk_182 0 133 (dk_at dksX8_bits_1 11 rfl rfl)
theorem dX8_bits_38 : decode cX8_bits 38 = .ok (.aload_n 0, 1) := dk_42 (dk_at dksX8_bits_1 14 rfl rfl)
theorem dX8_bits_39 : decode cX8_bits 39 = .ok (.iconst 2, 1) := dk_5 (dk_at dksX8_bits_1 15 rfl rfl)
theorem dX8_bits_40 : decode cX8_bits 40 = .ok (.invokevirtual 30, 3) := dk_182 0 30 (dk_at dksX8_bits_1 16 rfl rfl)
theorem dX8_bits_43 : decode cX8_bits 43 = .ok (.ireturn, 1) := dk_172 (dk_at dksX8_bits_1 19 rfl rfl)
abbrev cX8_wrap : ByteArray := prog_11_method_47_code
def yX8_wrap : MethodName := ⟨RX8, "wrap", "(IIZ)J"⟩
def dkwX8_wrap_6 : List UInt8 := [101, 167, 0, 5, 22, 6, 173]
abbrev dktX8_wrap_6 : List UInt8 := dkwX8_wrap_6 ++ []
def dkwX8_wrap_5 : List UInt8 := [55, 6, 29, 153, 0, 25, 22, 6, 28, 4, 100, 123, 10, 127, 10, 148, 154, 0, 12, 22, 6, 10, 28, 121]
abbrev dktX8_wrap_5 : List UInt8 := dkwX8_wrap_5 ++ dktX8_wrap_6
def dkwX8_wrap_4 : List UInt8 := [167, 0, 5, 22, 4, 55, 4, 28, 16, 64, 160, 0, 6, 22, 4, 173, 22, 4, 10, 28, 121, 10, 101, 127]
abbrev dktX8_wrap_4 : List UInt8 := dkwX8_wrap_4 ++ dktX8_wrap_5
def dkwX8_wrap_3 : List UInt8 := [17, 1, 1, 47, 16, 32, 121, 129, 55, 4, 42, 180, 0, 7, 27, 46, 156, 0, 9, 22, 4, 117]
abbrev dktX8_wrap_3 : List UInt8 := dkwX8_wrap_3 ++ dktX8_wrap_4
def dkwX8_wrap_2 : List UInt8 := [182, 0, 133, 42, 5, 6, 7, 8, 182, 0, 75, 42, 180, 0, 17, 17, 1, 0, 47, 42, 180, 0, 17]
abbrev dktX8_wrap_2 : List UInt8 := dkwX8_wrap_2 ++ dktX8_wrap_3
def dkwX8_wrap_1 : List UInt8 := [164, 0, 10, 42, 5, 182, 0, 79, 133, 173, 42, 3, 181, 0, 20, 42, 27, 5, 182, 0, 130, 42, 27, 6]
abbrev dktX8_wrap_1 : List UInt8 := dkwX8_wrap_1 ++ dktX8_wrap_2
def dkwX8_wrap_0 : List UInt8 := [42, 27, 182, 0, 117, 154, 0, 10, 42, 4, 182, 0, 79, 133, 173, 28, 4, 161, 0, 9, 28, 16, 64]
abbrev dktX8_wrap_0 : List UInt8 := dkwX8_wrap_0 ++ dktX8_wrap_1
theorem dksX8_wrap_0 : cX8_wrap.data.toList.drop 0 = dktX8_wrap_0 := by decide +kernel
theorem dksX8_wrap_1 : cX8_wrap.data.toList.drop 23 = dktX8_wrap_1 := dk_seg dksX8_wrap_0 23 rfl rfl
theorem dksX8_wrap_2 : cX8_wrap.data.toList.drop 47 = dktX8_wrap_2 := dk_seg dksX8_wrap_1 24 rfl rfl
theorem dksX8_wrap_3 : cX8_wrap.data.toList.drop 70 = dktX8_wrap_3 := dk_seg dksX8_wrap_2 23 rfl rfl
theorem dksX8_wrap_4 : cX8_wrap.data.toList.drop 92 = dktX8_wrap_4 := dk_seg dksX8_wrap_3 22 rfl rfl
theorem dksX8_wrap_5 : cX8_wrap.data.toList.drop 116 = dktX8_wrap_5 := dk_seg dksX8_wrap_4 24 rfl rfl
theorem dksX8_wrap_6 : cX8_wrap.data.toList.drop 140 = dktX8_wrap_6 := dk_seg dksX8_wrap_5 24 rfl rfl
theorem dX8_wrap_0 : decode cX8_wrap 0 = .ok (.aload_n 0, 1) := dk_42 (dk_at dksX8_wrap_0 0 rfl rfl)
theorem dX8_wrap_1 : decode cX8_wrap 1 = .ok (.iload_n 1, 1) := dk_27 (dk_at dksX8_wrap_0 1 rfl rfl)
theorem dX8_wrap_2 : decode cX8_wrap 2 = .ok (.invokevirtual 117, 3) := dk_182 0 117 (dk_at dksX8_wrap_0 2 rfl rfl)
theorem dX8_wrap_5 : decode cX8_wrap 5 = .ok (.ifCond .ne 10, 3) := dk_154 0 10 (dk_at dksX8_wrap_0 5 rfl rfl)
theorem dX8_wrap_8 : decode cX8_wrap 8 = .ok (.aload_n 0, 1) := dk_42 (dk_at dksX8_wrap_0 8 rfl rfl)
theorem dX8_wrap_9 : decode cX8_wrap 9 = .ok (.iconst 1, 1) := dk_4 (dk_at dksX8_wrap_0 9 rfl rfl)
theorem dX8_wrap_10 : decode cX8_wrap 10 = .ok (.invokevirtual 79, 3) := dk_182 0 79 (dk_at dksX8_wrap_0 10 rfl rfl)
theorem dX8_wrap_13 : decode cX8_wrap 13 = .ok (.i2l, 1) := dk_133 (dk_at dksX8_wrap_0 13 rfl rfl)
theorem dX8_wrap_14 : decode cX8_wrap 14 = .ok (.lreturn, 1) := dk_173 (dk_at dksX8_wrap_0 14 rfl rfl)
theorem dX8_wrap_15 : decode cX8_wrap 15 = .ok (.iload_n 2, 1) := dk_28 (dk_at dksX8_wrap_0 15 rfl rfl)
theorem dX8_wrap_16 : decode cX8_wrap 16 = .ok (.iconst 1, 1) := dk_4 (dk_at dksX8_wrap_0 16 rfl rfl)
theorem dX8_wrap_17 : decode cX8_wrap 17 = .ok (.if_icmp .lt 9, 3) := dk_161 0 9 (dk_at dksX8_wrap_0 17 rfl rfl)
theorem dX8_wrap_20 : decode cX8_wrap 20 = .ok (.iload_n 2, 1) := dk_28 (dk_at dksX8_wrap_0 20 rfl rfl)
theorem dX8_wrap_21 : decode cX8_wrap 21 = .ok (.bipush 64, 2) := dk_16 64 (dk_at dksX8_wrap_0 21 rfl rfl)
theorem dX8_wrap_23 : decode cX8_wrap 23 = .ok (.if_icmp .le 10, 3) := dk_164 0 10 (dk_at dksX8_wrap_1 0 rfl rfl)
theorem dX8_wrap_26 : decode cX8_wrap 26 = .ok (.aload_n 0, 1) := dk_42 (dk_at dksX8_wrap_1 3 rfl rfl)
theorem dX8_wrap_27 : decode cX8_wrap 27 = .ok (.iconst 2, 1) := dk_5 (dk_at dksX8_wrap_1 4 rfl rfl)
theorem dX8_wrap_28 : decode cX8_wrap 28 = .ok (.invokevirtual 79, 3) := dk_182 0 79 (dk_at dksX8_wrap_1 5 rfl rfl)
theorem dX8_wrap_31 : decode cX8_wrap 31 = .ok (.i2l, 1) := dk_133 (dk_at dksX8_wrap_1 8 rfl rfl)
theorem dX8_wrap_32 : decode cX8_wrap 32 = .ok (.lreturn, 1) := dk_173 (dk_at dksX8_wrap_1 9 rfl rfl)
theorem dX8_wrap_33 : decode cX8_wrap 33 = .ok (.aload_n 0, 1) := dk_42 (dk_at dksX8_wrap_1 10 rfl rfl)
theorem dX8_wrap_34 : decode cX8_wrap 34 = .ok (.iconst 0, 1) := dk_3 (dk_at dksX8_wrap_1 11 rfl rfl)
theorem dX8_wrap_35 : decode cX8_wrap 35 = .ok (.putfield 20, 3) := dk_181 0 20 (dk_at dksX8_wrap_1 12 rfl rfl)
theorem dX8_wrap_38 : decode cX8_wrap 38 = .ok (.aload_n 0, 1) := dk_42 (dk_at dksX8_wrap_1 15 rfl rfl)
theorem dX8_wrap_39 : decode cX8_wrap 39 = .ok (.iload_n 1, 1) := dk_27 (dk_at dksX8_wrap_1 16 rfl rfl)
theorem dX8_wrap_40 : decode cX8_wrap 40 = .ok (.iconst 2, 1) := dk_5 (dk_at dksX8_wrap_1 17 rfl rfl)
theorem dX8_wrap_41 : decode cX8_wrap 41 = .ok (.invokevirtual 130, 3) := dk_182 0 130 (dk_at dksX8_wrap_1 18 rfl rfl)
theorem dX8_wrap_44 : decode cX8_wrap 44 = .ok (.aload_n 0, 1) := dk_42 (dk_at dksX8_wrap_1 21 rfl rfl)
theorem dX8_wrap_45 : decode cX8_wrap 45 = .ok (.iload_n 1, 1) := dk_27 (dk_at dksX8_wrap_1 22 rfl rfl)
theorem dX8_wrap_46 : decode cX8_wrap 46 = .ok (.iconst 3, 1) := dk_6 (dk_at dksX8_wrap_1 23 rfl rfl)
theorem dX8_wrap_47 : decode cX8_wrap 47 = .ok (.invokevirtual 133, 3) := dk_182 0 133 (dk_at dksX8_wrap_2 0 rfl rfl)
theorem dX8_wrap_50 : decode cX8_wrap 50 = .ok (.aload_n 0, 1) := dk_42 (dk_at dksX8_wrap_2 3 rfl rfl)
theorem dX8_wrap_51 : decode cX8_wrap 51 = .ok (.iconst 2, 1) := dk_5 (dk_at dksX8_wrap_2 4 rfl rfl)
theorem dX8_wrap_52 : decode cX8_wrap 52 = .ok (.iconst 3, 1) := dk_6 (dk_at dksX8_wrap_2 5 rfl rfl)
theorem dX8_wrap_53 : decode cX8_wrap 53 = .ok (.iconst 4, 1) := dk_7 (dk_at dksX8_wrap_2 6 rfl rfl)
theorem dX8_wrap_54 : decode cX8_wrap 54 = .ok (.iconst 5, 1) := dk_8 (dk_at dksX8_wrap_2 7 rfl rfl)
theorem dX8_wrap_55 : decode cX8_wrap 55 = .ok (.invokevirtual 75, 3) := dk_182 0 75 (dk_at dksX8_wrap_2 8 rfl rfl)
theorem dX8_wrap_58 : decode cX8_wrap 58 = .ok (.aload_n 0, 1) := dk_42 (dk_at dksX8_wrap_2 11 rfl rfl)
theorem dX8_wrap_59 : decode cX8_wrap 59 = .ok (.getfield 17, 3) := dk_180 0 17 (dk_at dksX8_wrap_2 12 rfl rfl)
theorem dX8_wrap_62 : decode cX8_wrap 62 = .ok (.sipush 256, 3) := dk_17 1 0 (dk_at dksX8_wrap_2 15 rfl rfl)
theorem dX8_wrap_65 : decode cX8_wrap 65 = .ok (.laload, 1) := dk_47 (dk_at dksX8_wrap_2 18 rfl rfl)
theorem dX8_wrap_66 : decode cX8_wrap 66 = .ok (.aload_n 0, 1) := dk_42 (dk_at dksX8_wrap_2 19 rfl rfl)
theorem dX8_wrap_67 : decode cX8_wrap 67 = .ok (.getfield 17, 3) := dk_180 0 17 (dk_at dksX8_wrap_2 20 rfl rfl)
theorem dX8_wrap_70 : decode cX8_wrap 70 = .ok (.sipush 257, 3) := dk_17 1 1 (dk_at dksX8_wrap_3 0 rfl rfl)
theorem dX8_wrap_73 : decode cX8_wrap 73 = .ok (.laload, 1) := dk_47 (dk_at dksX8_wrap_3 3 rfl rfl)
theorem dX8_wrap_74 : decode cX8_wrap 74 = .ok (.bipush 32, 2) := dk_16 32 (dk_at dksX8_wrap_3 4 rfl rfl)
theorem dX8_wrap_76 : decode cX8_wrap 76 = .ok (.lshl, 1) := dk_121 (dk_at dksX8_wrap_3 6 rfl rfl)
theorem dX8_wrap_77 : decode cX8_wrap 77 = .ok (.lor, 1) := dk_129 (dk_at dksX8_wrap_3 7 rfl rfl)
theorem dX8_wrap_78 : decode cX8_wrap 78 = .ok (.lstore 4, 2) := dk_55 4 (dk_at dksX8_wrap_3 8 rfl rfl)
theorem dX8_wrap_80 : decode cX8_wrap 80 = .ok (.aload_n 0, 1) := dk_42 (dk_at dksX8_wrap_3 10 rfl rfl)
theorem dX8_wrap_81 : decode cX8_wrap 81 = .ok (.getfield 7, 3) := dk_180 0 7 (dk_at dksX8_wrap_3 11 rfl rfl)
theorem dX8_wrap_84 : decode cX8_wrap 84 = .ok (.iload_n 1, 1) := dk_27 (dk_at dksX8_wrap_3 14 rfl rfl)
theorem dX8_wrap_85 : decode cX8_wrap 85 = .ok (.iaload, 1) := dk_46 (dk_at dksX8_wrap_3 15 rfl rfl)
theorem dX8_wrap_86 : decode cX8_wrap 86 = .ok (.ifCond .ge 9, 3) := dk_156 0 9 (dk_at dksX8_wrap_3 16 rfl rfl)
theorem dX8_wrap_89 : decode cX8_wrap 89 = .ok (.lload 4, 2) := dk_22 4 (dk_at dksX8_wrap_3 19 rfl rfl)
theorem dX8_wrap_91 : decode cX8_wrap 91 = .ok (.lneg, 1) := dk_117 (dk_at dksX8_wrap_3 21 rfl rfl)
theorem dX8_wrap_92 : decode cX8_wrap 92 = .ok (.goto 5, 3) := dk_167 0 5 (dk_at dksX8_wrap_4 0 rfl rfl)
theorem dX8_wrap_95 : decode cX8_wrap 95 = .ok (.lload 4, 2) := dk_22 4 (dk_at dksX8_wrap_4 3 rfl rfl)
theorem dX8_wrap_97 : decode cX8_wrap 97 = .ok (.lstore 4, 2) := dk_55 4 (dk_at dksX8_wrap_4 5 rfl rfl)
theorem dX8_wrap_99 : decode cX8_wrap 99 = .ok (.iload_n 2, 1) := dk_28 (dk_at dksX8_wrap_4 7 rfl rfl)
theorem dX8_wrap_100 : decode cX8_wrap 100 = .ok (.bipush 64, 2) := dk_16 64 (dk_at dksX8_wrap_4 8 rfl rfl)
theorem dX8_wrap_102 : decode cX8_wrap 102 = .ok (.if_icmp .ne 6, 3) := dk_160 0 6 (dk_at dksX8_wrap_4 10 rfl rfl)
theorem dX8_wrap_105 : decode cX8_wrap 105 = .ok (.lload 4, 2) := dk_22 4 (dk_at dksX8_wrap_4 13 rfl rfl)
theorem dX8_wrap_107 : decode cX8_wrap 107 = .ok (.lreturn, 1) := dk_173 (dk_at dksX8_wrap_4 15 rfl rfl)
theorem dX8_wrap_108 : decode cX8_wrap 108 = .ok (.lload 4, 2) := dk_22 4 (dk_at dksX8_wrap_4 16 rfl rfl)
theorem dX8_wrap_110 : decode cX8_wrap 110 = .ok (.lconst 1, 1) := dk_10 (dk_at dksX8_wrap_4 18 rfl rfl)
theorem dX8_wrap_111 : decode cX8_wrap 111 = .ok (.iload_n 2, 1) := dk_28 (dk_at dksX8_wrap_4 19 rfl rfl)
theorem dX8_wrap_112 : decode cX8_wrap 112 = .ok (.lshl, 1) := dk_121 (dk_at dksX8_wrap_4 20 rfl rfl)
theorem dX8_wrap_113 : decode cX8_wrap 113 = .ok (.lconst 1, 1) := dk_10 (dk_at dksX8_wrap_4 21 rfl rfl)
theorem dX8_wrap_114 : decode cX8_wrap 114 = .ok (.lsub, 1) := dk_101 (dk_at dksX8_wrap_4 22 rfl rfl)
theorem dX8_wrap_115 : decode cX8_wrap 115 = .ok (.land, 1) := dk_127 (dk_at dksX8_wrap_4 23 rfl rfl)
theorem dX8_wrap_116 : decode cX8_wrap 116 = .ok (.lstore 6, 2) := dk_55 6 (dk_at dksX8_wrap_5 0 rfl rfl)
theorem dX8_wrap_118 : decode cX8_wrap 118 = .ok (.iload_n 3, 1) := dk_29 (dk_at dksX8_wrap_5 2 rfl rfl)
theorem dX8_wrap_119 : decode cX8_wrap 119 = .ok (.ifCond .eq 25, 3) := dk_153 0 25 (dk_at dksX8_wrap_5 3 rfl rfl)
theorem dX8_wrap_122 : decode cX8_wrap 122 = .ok (.lload 6, 2) := dk_22 6 (dk_at dksX8_wrap_5 6 rfl rfl)
theorem dX8_wrap_124 : decode cX8_wrap 124 = .ok (.iload_n 2, 1) := dk_28 (dk_at dksX8_wrap_5 8 rfl rfl)
theorem dX8_wrap_125 : decode cX8_wrap 125 = .ok (.iconst 1, 1) := dk_4 (dk_at dksX8_wrap_5 9 rfl rfl)
theorem dX8_wrap_126 : decode cX8_wrap 126 = .ok (.isub, 1) := dk_100 (dk_at dksX8_wrap_5 10 rfl rfl)
theorem dX8_wrap_127 : decode cX8_wrap 127 = .ok (.lshr, 1) := dk_123 (dk_at dksX8_wrap_5 11 rfl rfl)
theorem dX8_wrap_128 : decode cX8_wrap 128 = .ok (.lconst 1, 1) := dk_10 (dk_at dksX8_wrap_5 12 rfl rfl)
theorem dX8_wrap_129 : decode cX8_wrap 129 = .ok (.land, 1) := dk_127 (dk_at dksX8_wrap_5 13 rfl rfl)
theorem dX8_wrap_130 : decode cX8_wrap 130 = .ok (.lconst 1, 1) := dk_10 (dk_at dksX8_wrap_5 14 rfl rfl)
theorem dX8_wrap_131 : decode cX8_wrap 131 = .ok (.lcmp, 1) := dk_148 (dk_at dksX8_wrap_5 15 rfl rfl)
theorem dX8_wrap_132 : decode cX8_wrap 132 = .ok (.ifCond .ne 12, 3) := dk_154 0 12 (dk_at dksX8_wrap_5 16 rfl rfl)
theorem dX8_wrap_135 : decode cX8_wrap 135 = .ok (.lload 6, 2) := dk_22 6 (dk_at dksX8_wrap_5 19 rfl rfl)
theorem dX8_wrap_137 : decode cX8_wrap 137 = .ok (.lconst 1, 1) := dk_10 (dk_at dksX8_wrap_5 21 rfl rfl)
theorem dX8_wrap_138 : decode cX8_wrap 138 = .ok (.iload_n 2, 1) := dk_28 (dk_at dksX8_wrap_5 22 rfl rfl)
theorem dX8_wrap_139 : decode cX8_wrap 139 = .ok (.lshl, 1) := dk_121 (dk_at dksX8_wrap_5 23 rfl rfl)
theorem dX8_wrap_140 : decode cX8_wrap 140 = .ok (.lsub, 1) := dk_101 (dk_at dksX8_wrap_6 0 rfl rfl)
theorem dX8_wrap_141 : decode cX8_wrap 141 = .ok (.goto 5, 3) := dk_167 0 5 (dk_at dksX8_wrap_6 1 rfl rfl)
theorem dX8_wrap_144 : decode cX8_wrap 144 = .ok (.lload 6, 2) := dk_22 6 (dk_at dksX8_wrap_6 4 rfl rfl)
theorem dX8_wrap_146 : decode cX8_wrap 146 = .ok (.lreturn, 1) := dk_173 (dk_at dksX8_wrap_6 6 rfl rfl)
abbrev cX8_meets : ByteArray := prog_11_method_49_code
def yX8_meets : MethodName := ⟨RX8, "meets", "(IJ)I"⟩
def dkwX8_meets_6 : List UInt8 := [167, 0, 6, 21, 5, 116, 182, 0, 34, 21, 4, 42, 5, 8, 182, 0, 42, 104, 172]
abbrev dktX8_meets_6 : List UInt8 := dkwX8_meets_6 ++ []
def dkwX8_meets_5 : List UInt8 := [184, 0, 105, 54, 5, 42, 21, 5, 158, 0, 7, 8, 167, 0, 4, 5, 21, 5, 158, 0, 8, 21, 5]
abbrev dktX8_meets_5 : List UInt8 := dkwX8_meets_5 ++ dktX8_meets_6
def dkwX8_meets_4 : List UInt8 := [27, 6, 182, 0, 133, 42, 7, 32, 184, 0, 102, 182, 0, 68, 42, 6, 7, 8, 182, 0, 140, 32]
abbrev dktX8_meets_4 : List UInt8 := dkwX8_meets_4 ++ dktX8_meets_5
def dkwX8_meets_3 : List UInt8 := [42, 180, 0, 7, 27, 46, 21, 4, 162, 0, 7, 2, 167, 0, 4, 4, 172, 42, 27, 5, 182, 0, 130, 42]
abbrev dktX8_meets_3 : List UInt8 := dkwX8_meets_3 ++ dktX8_meets_4
def dkwX8_meets_2 : List UInt8 := [154, 0, 7, 3, 167, 0, 7, 32, 184, 0, 108, 54, 4, 42, 180, 0, 7, 27, 46, 21, 4, 159, 0, 20]
abbrev dktX8_meets_2 : List UInt8 := dkwX8_meets_2 ++ dktX8_meets_3
def dkwX8_meets_1 : List UInt8 := [153, 0, 5, 5, 172, 32, 184, 0, 157, 153, 0, 9, 32, 184, 0, 108, 116, 172, 32, 184, 0, 102, 9, 148]
abbrev dktX8_meets_1 : List UInt8 := dkwX8_meets_1 ++ dktX8_meets_2
def dkwX8_meets_0 : List UInt8 := [42, 27, 182, 0, 117, 154, 0, 9, 42, 4, 182, 0, 79, 172, 42, 3, 181, 0, 20, 32, 184, 0, 153]
abbrev dktX8_meets_0 : List UInt8 := dkwX8_meets_0 ++ dktX8_meets_1
theorem dksX8_meets_0 : cX8_meets.data.toList.drop 0 = dktX8_meets_0 := by decide +kernel
theorem dksX8_meets_1 : cX8_meets.data.toList.drop 23 = dktX8_meets_1 := dk_seg dksX8_meets_0 23 rfl rfl
theorem dksX8_meets_2 : cX8_meets.data.toList.drop 47 = dktX8_meets_2 := dk_seg dksX8_meets_1 24 rfl rfl
theorem dksX8_meets_3 : cX8_meets.data.toList.drop 71 = dktX8_meets_3 := dk_seg dksX8_meets_2 24 rfl rfl
theorem dksX8_meets_4 : cX8_meets.data.toList.drop 95 = dktX8_meets_4 := dk_seg dksX8_meets_3 24 rfl rfl
theorem dksX8_meets_5 : cX8_meets.data.toList.drop 117 = dktX8_meets_5 := dk_seg dksX8_meets_4 22 rfl rfl
theorem dksX8_meets_6 : cX8_meets.data.toList.drop 140 = dktX8_meets_6 := dk_seg dksX8_meets_5 23 rfl rfl
theorem dX8_meets_0 : decode cX8_meets 0 = .ok (.aload_n 0, 1) := dk_42 (dk_at dksX8_meets_0 0 rfl rfl)
theorem dX8_meets_1 : decode cX8_meets 1 = .ok (.iload_n 1, 1) := dk_27 (dk_at dksX8_meets_0 1 rfl rfl)
theorem dX8_meets_2 : decode cX8_meets 2 = .ok (.invokevirtual 117, 3) := dk_182 0 117 (dk_at dksX8_meets_0 2 rfl rfl)
theorem dX8_meets_5 : decode cX8_meets 5 = .ok (.ifCond .ne 9, 3) := dk_154 0 9 (dk_at dksX8_meets_0 5 rfl rfl)
theorem dX8_meets_8 : decode cX8_meets 8 = .ok (.aload_n 0, 1) := dk_42 (dk_at dksX8_meets_0 8 rfl rfl)
theorem dX8_meets_9 : decode cX8_meets 9 = .ok (.iconst 1, 1) := dk_4 (dk_at dksX8_meets_0 9 rfl rfl)
theorem dX8_meets_10 : decode cX8_meets 10 = .ok (.invokevirtual 79, 3) := dk_182 0 79 (dk_at dksX8_meets_0 10 rfl rfl)
theorem dX8_meets_13 : decode cX8_meets 13 = .ok (.ireturn, 1) := dk_172 (dk_at dksX8_meets_0 13 rfl rfl)
theorem dX8_meets_14 : decode cX8_meets 14 = .ok (.aload_n 0, 1) := dk_42 (dk_at dksX8_meets_0 14 rfl rfl)
theorem dX8_meets_15 : decode cX8_meets 15 = .ok (.iconst 0, 1) := dk_3 (dk_at dksX8_meets_0 15 rfl rfl)
theorem dX8_meets_16 : decode cX8_meets 16 = .ok (.putfield 20, 3) := dk_181 0 20 (dk_at dksX8_meets_0 16 rfl rfl)
theorem dX8_meets_19 : decode cX8_meets 19 = .ok (.lload_n 2, 1) := dk_32 (dk_at dksX8_meets_0 19 rfl rfl)
theorem dX8_meets_20 : decode cX8_meets 20 = .ok (.invokestatic 153, 3) := dk_184 0 153 (dk_at dksX8_meets_0 20 rfl rfl)
theorem dX8_meets_23 : decode cX8_meets 23 = .ok (.ifCond .eq 5, 3) := dk_153 0 5 (dk_at dksX8_meets_1 0 rfl rfl)
theorem dX8_meets_26 : decode cX8_meets 26 = .ok (.iconst 2, 1) := dk_5 (dk_at dksX8_meets_1 3 rfl rfl)
theorem dX8_meets_27 : decode cX8_meets 27 = .ok (.ireturn, 1) := dk_172 (dk_at dksX8_meets_1 4 rfl rfl)
theorem dX8_meets_28 : decode cX8_meets 28 = .ok (.lload_n 2, 1) := dk_32 (dk_at dksX8_meets_1 5 rfl rfl)
theorem dX8_meets_29 : decode cX8_meets 29 = .ok (.invokestatic 157, 3) := dk_184 0 157 (dk_at dksX8_meets_1 6 rfl rfl)
theorem dX8_meets_32 : decode cX8_meets 32 = .ok (.ifCond .eq 9, 3) := dk_153 0 9 (dk_at dksX8_meets_1 9 rfl rfl)
theorem dX8_meets_35 : decode cX8_meets 35 = .ok (.lload_n 2, 1) := dk_32 (dk_at dksX8_meets_1 12 rfl rfl)
theorem dX8_meets_36 : decode cX8_meets 36 = .ok (.invokestatic 108, 3) := dk_184 0 108 (dk_at dksX8_meets_1 13 rfl rfl)
theorem dX8_meets_39 : decode cX8_meets 39 = .ok (.ineg, 1) := dk_116 (dk_at dksX8_meets_1 16 rfl rfl)
theorem dX8_meets_40 : decode cX8_meets 40 = .ok (.ireturn, 1) := dk_172 (dk_at dksX8_meets_1 17 rfl rfl)
theorem dX8_meets_41 : decode cX8_meets 41 = .ok (.lload_n 2, 1) := dk_32 (dk_at dksX8_meets_1 18 rfl rfl)
theorem dX8_meets_42 : decode cX8_meets 42 = .ok (.invokestatic 102, 3) := dk_184 0 102 (dk_at dksX8_meets_1 19 rfl rfl)
theorem dX8_meets_45 : decode cX8_meets 45 = .ok (.lconst 0, 1) := dk_9 (dk_at dksX8_meets_1 22 rfl rfl)
theorem dX8_meets_46 : decode cX8_meets 46 = .ok (.lcmp, 1) := dk_148 (dk_at dksX8_meets_1 23 rfl rfl)
theorem dX8_meets_47 : decode cX8_meets 47 = .ok (.ifCond .ne 7, 3) := dk_154 0 7 (dk_at dksX8_meets_2 0 rfl rfl)
theorem dX8_meets_50 : decode cX8_meets 50 = .ok (.iconst 0, 1) := dk_3 (dk_at dksX8_meets_2 3 rfl rfl)
theorem dX8_meets_51 : decode cX8_meets 51 = .ok (.goto 7, 3) := dk_167 0 7 (dk_at dksX8_meets_2 4 rfl rfl)
theorem dX8_meets_54 : decode cX8_meets 54 = .ok (.lload_n 2, 1) := dk_32 (dk_at dksX8_meets_2 7 rfl rfl)
theorem dX8_meets_55 : decode cX8_meets 55 = .ok (.invokestatic 108, 3) := dk_184 0 108 (dk_at dksX8_meets_2 8 rfl rfl)
theorem dX8_meets_58 : decode cX8_meets 58 = .ok (.istore 4, 2) := dk_54 4 (dk_at dksX8_meets_2 11 rfl rfl)
theorem dX8_meets_60 : decode cX8_meets 60 = .ok (.aload_n 0, 1) := dk_42 (dk_at dksX8_meets_2 13 rfl rfl)
theorem dX8_meets_61 : decode cX8_meets 61 = .ok (.getfield 7, 3) := dk_180 0 7 (dk_at dksX8_meets_2 14 rfl rfl)
theorem dX8_meets_64 : decode cX8_meets 64 = .ok (.iload_n 1, 1) := dk_27 (dk_at dksX8_meets_2 17 rfl rfl)
theorem dX8_meets_65 : decode cX8_meets 65 = .ok (.iaload, 1) := dk_46 (dk_at dksX8_meets_2 18 rfl rfl)
theorem dX8_meets_66 : decode cX8_meets 66 = .ok (.iload 4, 2) := dk_21 4 (dk_at dksX8_meets_2 19 rfl rfl)
theorem dX8_meets_68 : decode cX8_meets 68 = .ok (.if_icmp .eq 20, 3) := dk_159 0 20 (dk_at dksX8_meets_2 21 rfl rfl)
theorem dX8_meets_71 : decode cX8_meets 71 = .ok (.aload_n 0, 1) := dk_42 (dk_at dksX8_meets_3 0 rfl rfl)
theorem dX8_meets_72 : decode cX8_meets 72 = .ok (.getfield 7, 3) := dk_180 0 7 (dk_at dksX8_meets_3 1 rfl rfl)
theorem dX8_meets_75 : decode cX8_meets 75 = .ok (.iload_n 1, 1) := dk_27 (dk_at dksX8_meets_3 4 rfl rfl)
theorem dX8_meets_76 : decode cX8_meets 76 = .ok (.iaload, 1) := dk_46 (dk_at dksX8_meets_3 5 rfl rfl)
theorem dX8_meets_77 : decode cX8_meets 77 = .ok (.iload 4, 2) := dk_21 4 (dk_at dksX8_meets_3 6 rfl rfl)
theorem dX8_meets_79 : decode cX8_meets 79 = .ok (.if_icmp .ge 7, 3) := dk_162 0 7 (dk_at dksX8_meets_3 8 rfl rfl)
theorem dX8_meets_82 : decode cX8_meets 82 = .ok (.iconst (-1), 1) := dk_2 (dk_at dksX8_meets_3 11 rfl rfl)
theorem dX8_meets_83 : decode cX8_meets 83 = .ok (.goto 4, 3) := dk_167 0 4 (dk_at dksX8_meets_3 12 rfl rfl)
theorem dX8_meets_86 : decode cX8_meets 86 = .ok (.iconst 1, 1) := dk_4 (dk_at dksX8_meets_3 15 rfl rfl)
theorem dX8_meets_87 : decode cX8_meets 87 = .ok (.ireturn, 1) := dk_172 (dk_at dksX8_meets_3 16 rfl rfl)
theorem dX8_meets_88 : decode cX8_meets 88 = .ok (.aload_n 0, 1) := dk_42 (dk_at dksX8_meets_3 17 rfl rfl)
theorem dX8_meets_89 : decode cX8_meets 89 = .ok (.iload_n 1, 1) := dk_27 (dk_at dksX8_meets_3 18 rfl rfl)
theorem dX8_meets_90 : decode cX8_meets 90 = .ok (.iconst 2, 1) := dk_5 (dk_at dksX8_meets_3 19 rfl rfl)
theorem dX8_meets_91 : decode cX8_meets 91 = .ok (.invokevirtual 130, 3) := dk_182 0 130 (dk_at dksX8_meets_3 20 rfl rfl)
theorem dX8_meets_94 : decode cX8_meets 94 = .ok (.aload_n 0, 1) := dk_42 (dk_at dksX8_meets_3 23 rfl rfl)
theorem dX8_meets_95 : decode cX8_meets 95 = .ok (.iload_n 1, 1) := dk_27 (dk_at dksX8_meets_4 0 rfl rfl)
theorem dX8_meets_96 : decode cX8_meets 96 = .ok (.iconst 3, 1) := dk_6 (dk_at dksX8_meets_4 1 rfl rfl)
theorem dX8_meets_97 : decode cX8_meets 97 = .ok (.invokevirtual 133, 3) := dk_182 0 133 (dk_at dksX8_meets_4 2 rfl rfl)
theorem dX8_meets_100 : decode cX8_meets 100 = .ok (.aload_n 0, 1) := dk_42 (dk_at dksX8_meets_4 5 rfl rfl)
theorem dX8_meets_101 : decode cX8_meets 101 = .ok (.iconst 4, 1) := dk_7 (dk_at dksX8_meets_4 6 rfl rfl)
theorem dX8_meets_102 : decode cX8_meets 102 = .ok (.lload_n 2, 1) := dk_32 (dk_at dksX8_meets_4 7 rfl rfl)
theorem dX8_meets_103 : decode cX8_meets 103 = .ok (.invokestatic 102, 3) := dk_184 0 102 (dk_at dksX8_meets_4 8 rfl rfl)
theorem dX8_meets_106 : decode cX8_meets 106 = .ok (.invokevirtual 68, 3) := dk_182 0 68 (dk_at dksX8_meets_4 11 rfl rfl)
theorem dX8_meets_109 : decode cX8_meets 109 = .ok (.aload_n 0, 1) := dk_42 (dk_at dksX8_meets_4 14 rfl rfl)
theorem dX8_meets_110 : decode cX8_meets 110 = .ok (.iconst 3, 1) := dk_6 (dk_at dksX8_meets_4 15 rfl rfl)
theorem dX8_meets_111 : decode cX8_meets 111 = .ok (.iconst 4, 1) := dk_7 (dk_at dksX8_meets_4 16 rfl rfl)
theorem dX8_meets_112 : decode cX8_meets 112 = .ok (.iconst 5, 1) := dk_8 (dk_at dksX8_meets_4 17 rfl rfl)
theorem dX8_meets_113 : decode cX8_meets 113 = .ok (.invokevirtual 140, 3) := dk_182 0 140 (dk_at dksX8_meets_4 18 rfl rfl)
theorem dX8_meets_116 : decode cX8_meets 116 = .ok (.lload_n 2, 1) := dk_32 (dk_at dksX8_meets_4 21 rfl rfl)
theorem dX8_meets_117 : decode cX8_meets 117 = .ok (.invokestatic 105, 3) := dk_184 0 105 (dk_at dksX8_meets_5 0 rfl rfl)
theorem dX8_meets_120 : decode cX8_meets 120 = .ok (.istore 5, 2) := dk_54 5 (dk_at dksX8_meets_5 3 rfl rfl)
theorem dX8_meets_122 : decode cX8_meets 122 = .ok (.aload_n 0, 1) := dk_42 (dk_at dksX8_meets_5 5 rfl rfl)
theorem dX8_meets_123 : decode cX8_meets 123 = .ok (.iload 5, 2) := dk_21 5 (dk_at dksX8_meets_5 6 rfl rfl)
theorem dX8_meets_125 : decode cX8_meets 125 = .ok (.ifCond .le 7, 3) := dk_158 0 7 (dk_at dksX8_meets_5 8 rfl rfl)
theorem dX8_meets_128 : decode cX8_meets 128 = .ok (.iconst 5, 1) := dk_8 (dk_at dksX8_meets_5 11 rfl rfl)
theorem dX8_meets_129 : decode cX8_meets 129 = .ok (.goto 4, 3) := dk_167 0 4 (dk_at dksX8_meets_5 12 rfl rfl)
theorem dX8_meets_132 : decode cX8_meets 132 = .ok (.iconst 2, 1) := dk_5 (dk_at dksX8_meets_5 15 rfl rfl)
theorem dX8_meets_133 : decode cX8_meets 133 = .ok (.iload 5, 2) := dk_21 5 (dk_at dksX8_meets_5 16 rfl rfl)
theorem dX8_meets_135 : decode cX8_meets 135 = .ok (.ifCond .le 8, 3) := dk_158 0 8 (dk_at dksX8_meets_5 18 rfl rfl)
theorem dX8_meets_138 : decode cX8_meets 138 = .ok (.iload 5, 2) := dk_21 5 (dk_at dksX8_meets_5 21 rfl rfl)
theorem dX8_meets_140 : decode cX8_meets 140 = .ok (.goto 6, 3) := dk_167 0 6 (dk_at dksX8_meets_6 0 rfl rfl)
theorem dX8_meets_143 : decode cX8_meets 143 = .ok (.iload 5, 2) := dk_21 5 (dk_at dksX8_meets_6 3 rfl rfl)
theorem dX8_meets_145 : decode cX8_meets 145 = .ok (.ineg, 1) := dk_116 (dk_at dksX8_meets_6 5 rfl rfl)
theorem dX8_meets_146 : decode cX8_meets 146 = .ok (.invokevirtual 34, 3) := dk_182 0 34 (dk_at dksX8_meets_6 6 rfl rfl)
theorem dX8_meets_149 : decode cX8_meets 149 = .ok (.iload 4, 2) := dk_21 4 (dk_at dksX8_meets_6 9 rfl rfl)
theorem dX8_meets_151 : decode cX8_meets 151 = .ok (.aload_n 0, 1) := dk_42 (dk_at dksX8_meets_6 11 rfl rfl)
theorem dX8_meets_152 : decode cX8_meets 152 = .ok (.iconst 2, 1) := dk_5 (dk_at dksX8_meets_6 12 rfl rfl)
theorem dX8_meets_153 : decode cX8_meets 153 = .ok (.iconst 5, 1) := dk_8 (dk_at dksX8_meets_6 13 rfl rfl)
theorem dX8_meets_154 : decode cX8_meets 154 = .ok (.invokevirtual 42, 3) := dk_182 0 42 (dk_at dksX8_meets_6 14 rfl rfl)
theorem dX8_meets_157 : decode cX8_meets 157 = .ok (.imul, 1) := dk_104 (dk_at dksX8_meets_6 17 rfl rfl)
theorem dX8_meets_158 : decode cX8_meets 158 = .ok (.ireturn, 1) := dk_172 (dk_at dksX8_meets_6 18 rfl rfl)
abbrev cX8_isNo : ByteArray := prog_11_method_29_code
def yX8_isNo : MethodName := ⟨RX8, "isNo", "(J)Z"⟩
def dkwX8_isNo_1 : List UInt8 := [172]
abbrev dktX8_isNo_1 : List UInt8 := dkwX8_isNo_1 ++ []
def dkwX8_isNo_0 : List UInt8 := [30, 184, 0, 93, 17, 7, 255, 160, 0, 16, 30, 184, 0, 97, 9, 148, 153, 0, 7, 4, 167, 0, 4, 3]
abbrev dktX8_isNo_0 : List UInt8 := dkwX8_isNo_0 ++ dktX8_isNo_1
theorem dksX8_isNo_0 : cX8_isNo.data.toList.drop 0 = dktX8_isNo_0 := by decide +kernel
theorem dksX8_isNo_1 : cX8_isNo.data.toList.drop 24 = dktX8_isNo_1 := dk_seg dksX8_isNo_0 24 rfl rfl
theorem dX8_isNo_0 : decode cX8_isNo 0 = .ok (.lload_n 0, 1) := dk_30 (dk_at dksX8_isNo_0 0 rfl rfl)
theorem dX8_isNo_1 : decode cX8_isNo 1 = .ok (.invokestatic 93, 3) := dk_184 0 93 (dk_at dksX8_isNo_0 1 rfl rfl)
theorem dX8_isNo_4 : decode cX8_isNo 4 = .ok (.sipush 2047, 3) := dk_17 7 255 (dk_at dksX8_isNo_0 4 rfl rfl)
theorem dX8_isNo_7 : decode cX8_isNo 7 = .ok (.if_icmp .ne 16, 3) := dk_160 0 16 (dk_at dksX8_isNo_0 7 rfl rfl)
theorem dX8_isNo_10 : decode cX8_isNo 10 = .ok (.lload_n 0, 1) := dk_30 (dk_at dksX8_isNo_0 10 rfl rfl)
theorem dX8_isNo_11 : decode cX8_isNo 11 = .ok (.invokestatic 97, 3) := dk_184 0 97 (dk_at dksX8_isNo_0 11 rfl rfl)
theorem dX8_isNo_14 : decode cX8_isNo 14 = .ok (.lconst 0, 1) := dk_9 (dk_at dksX8_isNo_0 14 rfl rfl)
theorem dX8_isNo_15 : decode cX8_isNo 15 = .ok (.lcmp, 1) := dk_148 (dk_at dksX8_isNo_0 15 rfl rfl)
theorem dX8_isNo_16 : decode cX8_isNo 16 = .ok (.ifCond .eq 7, 3) := dk_153 0 7 (dk_at dksX8_isNo_0 16 rfl rfl)
theorem dX8_isNo_19 : decode cX8_isNo 19 = .ok (.iconst 1, 1) := dk_4 (dk_at dksX8_isNo_0 19 rfl rfl)
theorem dX8_isNo_20 : decode cX8_isNo 20 = .ok (.goto 4, 3) := dk_167 0 4 (dk_at dksX8_isNo_0 20 rfl rfl)
theorem dX8_isNo_23 : decode cX8_isNo 23 = .ok (.iconst 0, 1) := dk_3 (dk_at dksX8_isNo_0 23 rfl rfl)
theorem dX8_isNo_24 : decode cX8_isNo 24 = .ok (.ireturn, 1) := dk_172 (dk_at dksX8_isNo_1 0 rfl rfl)
abbrev cX8_isInfinite : ByteArray := prog_11_method_30_code
def yX8_isInfinite : MethodName := ⟨RX8, "isInfinite", "(J)Z"⟩
def dkwX8_isInfinite_1 : List UInt8 := [172]
abbrev dktX8_isInfinite_1 : List UInt8 := dkwX8_isInfinite_1 ++ []
def dkwX8_isInfinite_0 : List UInt8 := [30, 184, 0, 93, 17, 7, 255, 160, 0, 16, 30, 184, 0, 97, 9, 148, 154, 0, 7, 4, 167, 0, 4, 3]
abbrev dktX8_isInfinite_0 : List UInt8 := dkwX8_isInfinite_0 ++ dktX8_isInfinite_1
theorem dksX8_isInfinite_0 : cX8_isInfinite.data.toList.drop 0 = dktX8_isInfinite_0 := by decide +kernel
theorem dksX8_isInfinite_1 : cX8_isInfinite.data.toList.drop 24 = dktX8_isInfinite_1 := dk_seg dksX8_isInfinite_0 24 rfl rfl
theorem dX8_isInfinite_0 : decode cX8_isInfinite 0 = .ok (.lload_n 0, 1) := dk_30 (dk_at dksX8_isInfinite_0 0 rfl rfl)
theorem dX8_isInfinite_1 : decode cX8_isInfinite 1 = .ok (.invokestatic 93, 3) := dk_184 0 93 (dk_at dksX8_isInfinite_0 1 rfl rfl)
theorem dX8_isInfinite_4 : decode cX8_isInfinite 4 = .ok (.sipush 2047, 3) := dk_17 7 255 (dk_at dksX8_isInfinite_0 4 rfl rfl)
theorem dX8_isInfinite_7 : decode cX8_isInfinite 7 = .ok (.if_icmp .ne 16, 3) := dk_160 0 16 (dk_at dksX8_isInfinite_0 7 rfl rfl)
theorem dX8_isInfinite_10 : decode cX8_isInfinite 10 = .ok (.lload_n 0, 1) := dk_30 (dk_at dksX8_isInfinite_0 10 rfl rfl)
theorem dX8_isInfinite_11 : decode cX8_isInfinite 11 = .ok (.invokestatic 97, 3) := dk_184 0 97 (dk_at dksX8_isInfinite_0 11 rfl rfl)
theorem dX8_isInfinite_14 : decode cX8_isInfinite 14 = .ok (.lconst 0, 1) := dk_9 (dk_at dksX8_isInfinite_0 14 rfl rfl)
theorem dX8_isInfinite_15 : decode cX8_isInfinite 15 = .ok (.lcmp, 1) := dk_148 (dk_at dksX8_isInfinite_0 15 rfl rfl)
theorem dX8_isInfinite_16 : decode cX8_isInfinite 16 = .ok (.ifCond .ne 7, 3) := dk_154 0 7 (dk_at dksX8_isInfinite_0 16 rfl rfl)
theorem dX8_isInfinite_19 : decode cX8_isInfinite 19 = .ok (.iconst 1, 1) := dk_4 (dk_at dksX8_isInfinite_0 19 rfl rfl)
theorem dX8_isInfinite_20 : decode cX8_isInfinite 20 = .ok (.goto 4, 3) := dk_167 0 4 (dk_at dksX8_isInfinite_0 20 rfl rfl)
theorem dX8_isInfinite_23 : decode cX8_isInfinite 23 = .ok (.iconst 0, 1) := dk_3 (dk_at dksX8_isInfinite_0 23 rfl rfl)
theorem dX8_isInfinite_24 : decode cX8_isInfinite 24 = .ok (.ireturn, 1) := dk_172 (dk_at dksX8_isInfinite_1 0 rfl rfl)
abbrev cX8_nearest : ByteArray := prog_11_method_54_code
def yX8_nearest : MethodName := ⟨RX8, "nearest", "(II)J"⟩
def dkwX8_nearest_2 : List UInt8 := [182, 0, 180, 42, 180, 0, 7, 27, 46, 156, 0, 9, 20, 0, 183, 167, 0, 4, 9, 129, 173]
abbrev dktX8_nearest_2 : List UInt8 := dkwX8_nearest_2 ++ []
def dkwX8_nearest_1 : List UInt8 := [182, 0, 176, 42, 27, 5, 182, 0, 130, 42, 27, 6, 182, 0, 133, 42, 42, 180, 0, 7, 27, 46, 28]
abbrev dktX8_nearest_1 : List UInt8 := dkwX8_nearest_1 ++ dktX8_nearest_2
def dkwX8_nearest_0 : List UInt8 := [42, 27, 28, 182, 0, 173, 154, 0, 5, 9, 173, 42, 180, 0, 7, 27, 46, 154, 0, 5, 9, 173, 42, 4]
abbrev dktX8_nearest_0 : List UInt8 := dkwX8_nearest_0 ++ dktX8_nearest_1
theorem dksX8_nearest_0 : cX8_nearest.data.toList.drop 0 = dktX8_nearest_0 := by decide +kernel
theorem dksX8_nearest_1 : cX8_nearest.data.toList.drop 24 = dktX8_nearest_1 := dk_seg dksX8_nearest_0 24 rfl rfl
theorem dksX8_nearest_2 : cX8_nearest.data.toList.drop 47 = dktX8_nearest_2 := dk_seg dksX8_nearest_1 23 rfl rfl
theorem dX8_nearest_0 : decode cX8_nearest 0 = .ok (.aload_n 0, 1) := dk_42 (dk_at dksX8_nearest_0 0 rfl rfl)
theorem dX8_nearest_1 : decode cX8_nearest 1 = .ok (.iload_n 1, 1) := dk_27 (dk_at dksX8_nearest_0 1 rfl rfl)
theorem dX8_nearest_2 : decode cX8_nearest 2 = .ok (.iload_n 2, 1) := dk_28 (dk_at dksX8_nearest_0 2 rfl rfl)
theorem dX8_nearest_3 : decode cX8_nearest 3 = .ok (.invokevirtual 173, 3) := dk_182 0 173 (dk_at dksX8_nearest_0 3 rfl rfl)
theorem dX8_nearest_6 : decode cX8_nearest 6 = .ok (.ifCond .ne 5, 3) := dk_154 0 5 (dk_at dksX8_nearest_0 6 rfl rfl)
theorem dX8_nearest_9 : decode cX8_nearest 9 = .ok (.lconst 0, 1) := dk_9 (dk_at dksX8_nearest_0 9 rfl rfl)
theorem dX8_nearest_10 : decode cX8_nearest 10 = .ok (.lreturn, 1) := dk_173 (dk_at dksX8_nearest_0 10 rfl rfl)
theorem dX8_nearest_11 : decode cX8_nearest 11 = .ok (.aload_n 0, 1) := dk_42 (dk_at dksX8_nearest_0 11 rfl rfl)
theorem dX8_nearest_12 : decode cX8_nearest 12 = .ok (.getfield 7, 3) := dk_180 0 7 (dk_at dksX8_nearest_0 12 rfl rfl)
theorem dX8_nearest_15 : decode cX8_nearest 15 = .ok (.iload_n 1, 1) := dk_27 (dk_at dksX8_nearest_0 15 rfl rfl)
theorem dX8_nearest_16 : decode cX8_nearest 16 = .ok (.iaload, 1) := dk_46 (dk_at dksX8_nearest_0 16 rfl rfl)
theorem dX8_nearest_17 : decode cX8_nearest 17 = .ok (.ifCond .ne 5, 3) := dk_154 0 5 (dk_at dksX8_nearest_0 17 rfl rfl)
theorem dX8_nearest_20 : decode cX8_nearest 20 = .ok (.lconst 0, 1) := dk_9 (dk_at dksX8_nearest_0 20 rfl rfl)
theorem dX8_nearest_21 : decode cX8_nearest 21 = .ok (.lreturn, 1) := dk_173 (dk_at dksX8_nearest_0 21 rfl rfl)
theorem dX8_nearest_22 : decode cX8_nearest 22 = .ok (.aload_n 0, 1) := dk_42 (dk_at dksX8_nearest_0 22 rfl rfl)
theorem dX8_nearest_23 : decode cX8_nearest 23 = .ok (.iconst 1, 1) := dk_4 (dk_at dksX8_nearest_0 23 rfl rfl)
theorem dX8_nearest_24 : decode cX8_nearest 24 = .ok (.invokevirtual 176, 3) := dk_182 0 176 (dk_at dksX8_nearest_1 0 rfl rfl)
theorem dX8_nearest_27 : decode cX8_nearest 27 = .ok (.aload_n 0, 1) := dk_42 (dk_at dksX8_nearest_1 3 rfl rfl)
theorem dX8_nearest_28 : decode cX8_nearest 28 = .ok (.iload_n 1, 1) := dk_27 (dk_at dksX8_nearest_1 4 rfl rfl)
theorem dX8_nearest_29 : decode cX8_nearest 29 = .ok (.iconst 2, 1) := dk_5 (dk_at dksX8_nearest_1 5 rfl rfl)
theorem dX8_nearest_30 : decode cX8_nearest 30 = .ok (.invokevirtual 130, 3) := dk_182 0 130 (dk_at dksX8_nearest_1 6 rfl rfl)
theorem dX8_nearest_33 : decode cX8_nearest 33 = .ok (.aload_n 0, 1) := dk_42 (dk_at dksX8_nearest_1 9 rfl rfl)
theorem dX8_nearest_34 : decode cX8_nearest 34 = .ok (.iload_n 1, 1) := dk_27 (dk_at dksX8_nearest_1 10 rfl rfl)
theorem dX8_nearest_35 : decode cX8_nearest 35 = .ok (.iconst 3, 1) := dk_6 (dk_at dksX8_nearest_1 11 rfl rfl)
theorem dX8_nearest_36 : decode cX8_nearest 36 = .ok (.invokevirtual 133, 3) := dk_182 0 133 (dk_at dksX8_nearest_1 12 rfl rfl)
theorem dX8_nearest_39 : decode cX8_nearest 39 = .ok (.aload_n 0, 1) := dk_42 (dk_at dksX8_nearest_1 15 rfl rfl)
theorem dX8_nearest_40 : decode cX8_nearest 40 = .ok (.aload_n 0, 1) := dk_42 (dk_at dksX8_nearest_1 16 rfl rfl)
theorem dX8_nearest_41 : decode cX8_nearest 41 = .ok (.getfield 7, 3) := dk_180 0 7 (dk_at dksX8_nearest_1 17 rfl rfl)
theorem dX8_nearest_44 : decode cX8_nearest 44 = .ok (.iload_n 1, 1) := dk_27 (dk_at dksX8_nearest_1 20 rfl rfl)
theorem dX8_nearest_45 : decode cX8_nearest 45 = .ok (.iaload, 1) := dk_46 (dk_at dksX8_nearest_1 21 rfl rfl)
theorem dX8_nearest_46 : decode cX8_nearest 46 = .ok (.iload_n 2, 1) := dk_28 (dk_at dksX8_nearest_1 22 rfl rfl)
theorem dX8_nearest_47 : decode cX8_nearest 47 = .ok (.invokevirtual 180, 3) := dk_182 0 180 (dk_at dksX8_nearest_2 0 rfl rfl)
theorem dX8_nearest_50 : decode cX8_nearest 50 = .ok (.aload_n 0, 1) := dk_42 (dk_at dksX8_nearest_2 3 rfl rfl)
theorem dX8_nearest_51 : decode cX8_nearest 51 = .ok (.getfield 7, 3) := dk_180 0 7 (dk_at dksX8_nearest_2 4 rfl rfl)
theorem dX8_nearest_54 : decode cX8_nearest 54 = .ok (.iload_n 1, 1) := dk_27 (dk_at dksX8_nearest_2 7 rfl rfl)
theorem dX8_nearest_55 : decode cX8_nearest 55 = .ok (.iaload, 1) := dk_46 (dk_at dksX8_nearest_2 8 rfl rfl)
theorem dX8_nearest_56 : decode cX8_nearest 56 = .ok (.ifCond .ge 9, 3) := dk_156 0 9 (dk_at dksX8_nearest_2 9 rfl rfl)
theorem dX8_nearest_59 : decode cX8_nearest 59 = .ok (.ldc2_w 183, 3) := dk_20 0 183 (dk_at dksX8_nearest_2 12 rfl rfl)
theorem dX8_nearest_62 : decode cX8_nearest 62 = .ok (.goto 4, 3) := dk_167 0 4 (dk_at dksX8_nearest_2 15 rfl rfl)
theorem dX8_nearest_65 : decode cX8_nearest 65 = .ok (.lconst 0, 1) := dk_9 (dk_at dksX8_nearest_2 18 rfl rfl)
theorem dX8_nearest_66 : decode cX8_nearest 66 = .ok (.lor, 1) := dk_129 (dk_at dksX8_nearest_2 19 rfl rfl)
theorem dX8_nearest_67 : decode cX8_nearest 67 = .ok (.lreturn, 1) := dk_173 (dk_at dksX8_nearest_2 20 rfl rfl)
abbrev cX8_isDirection : ByteArray := prog_11_method_53_code
def yX8_isDirection : MethodName := ⟨RX8, "isDirection", "(II)Z"⟩
def dkwX8_isDirection_1 : List UInt8 := [167, 0, 4, 3, 181, 0, 20, 42, 180, 0, 20, 154, 0, 7, 4, 167, 0, 4, 3, 172]
abbrev dktX8_isDirection_1 : List UInt8 := dkwX8_isDirection_1 ++ []
def dkwX8_isDirection_0 : List UInt8 := [42, 42, 27, 182, 0, 117, 154, 0, 7, 4, 167, 0, 17, 28, 155, 0, 8, 28, 6, 164, 0, 7, 5]
abbrev dktX8_isDirection_0 : List UInt8 := dkwX8_isDirection_0 ++ dktX8_isDirection_1
theorem dksX8_isDirection_0 : cX8_isDirection.data.toList.drop 0 = dktX8_isDirection_0 := by decide +kernel
theorem dksX8_isDirection_1 : cX8_isDirection.data.toList.drop 23 = dktX8_isDirection_1 := dk_seg dksX8_isDirection_0 23 rfl rfl
theorem dX8_isDirection_0 : decode cX8_isDirection 0 = .ok (.aload_n 0, 1) := dk_42 (dk_at dksX8_isDirection_0 0 rfl rfl)
theorem dX8_isDirection_1 : decode cX8_isDirection 1 = .ok (.aload_n 0, 1) := dk_42 (dk_at dksX8_isDirection_0 1 rfl rfl)
theorem dX8_isDirection_2 : decode cX8_isDirection 2 = .ok (.iload_n 1, 1) := dk_27 (dk_at dksX8_isDirection_0 2 rfl rfl)
theorem dX8_isDirection_3 : decode cX8_isDirection 3 = .ok (.invokevirtual 117, 3) := dk_182 0 117 (dk_at dksX8_isDirection_0 3 rfl rfl)
theorem dX8_isDirection_6 : decode cX8_isDirection 6 = .ok (.ifCond .ne 7, 3) := dk_154 0 7 (dk_at dksX8_isDirection_0 6 rfl rfl)
theorem dX8_isDirection_9 : decode cX8_isDirection 9 = .ok (.iconst 1, 1) := dk_4 (dk_at dksX8_isDirection_0 9 rfl rfl)
theorem dX8_isDirection_10 : decode cX8_isDirection 10 = .ok (.goto 17, 3) := dk_167 0 17 (dk_at dksX8_isDirection_0 10 rfl rfl)
theorem dX8_isDirection_13 : decode cX8_isDirection 13 = .ok (.iload_n 2, 1) := dk_28 (dk_at dksX8_isDirection_0 13 rfl rfl)
theorem dX8_isDirection_14 : decode cX8_isDirection 14 = .ok (.ifCond .lt 8, 3) := dk_155 0 8 (dk_at dksX8_isDirection_0 14 rfl rfl)
theorem dX8_isDirection_17 : decode cX8_isDirection 17 = .ok (.iload_n 2, 1) := dk_28 (dk_at dksX8_isDirection_0 17 rfl rfl)
theorem dX8_isDirection_18 : decode cX8_isDirection 18 = .ok (.iconst 3, 1) := dk_6 (dk_at dksX8_isDirection_0 18 rfl rfl)
theorem dX8_isDirection_19 : decode cX8_isDirection 19 = .ok (.if_icmp .le 7, 3) := dk_164 0 7 (dk_at dksX8_isDirection_0 19 rfl rfl)
theorem dX8_isDirection_22 : decode cX8_isDirection 22 = .ok (.iconst 2, 1) := dk_5 (dk_at dksX8_isDirection_0 22 rfl rfl)
theorem dX8_isDirection_23 : decode cX8_isDirection 23 = .ok (.goto 4, 3) := dk_167 0 4 (dk_at dksX8_isDirection_1 0 rfl rfl)
theorem dX8_isDirection_26 : decode cX8_isDirection 26 = .ok (.iconst 0, 1) := dk_3 (dk_at dksX8_isDirection_1 3 rfl rfl)
theorem dX8_isDirection_27 : decode cX8_isDirection 27 = .ok (.putfield 20, 3) := dk_181 0 20 (dk_at dksX8_isDirection_1 4 rfl rfl)
theorem dX8_isDirection_30 : decode cX8_isDirection 30 = .ok (.aload_n 0, 1) := dk_42 (dk_at dksX8_isDirection_1 7 rfl rfl)
theorem dX8_isDirection_31 : decode cX8_isDirection 31 = .ok (.getfield 20, 3) := dk_180 0 20 (dk_at dksX8_isDirection_1 8 rfl rfl)
theorem dX8_isDirection_34 : decode cX8_isDirection 34 = .ok (.ifCond .ne 7, 3) := dk_154 0 7 (dk_at dksX8_isDirection_1 11 rfl rfl)
theorem dX8_isDirection_37 : decode cX8_isDirection 37 = .ok (.iconst 1, 1) := dk_4 (dk_at dksX8_isDirection_1 14 rfl rfl)
theorem dX8_isDirection_38 : decode cX8_isDirection 38 = .ok (.goto 4, 3) := dk_167 0 4 (dk_at dksX8_isDirection_1 15 rfl rfl)
theorem dX8_isDirection_41 : decode cX8_isDirection 41 = .ok (.iconst 0, 1) := dk_3 (dk_at dksX8_isDirection_1 18 rfl rfl)
theorem dX8_isDirection_42 : decode cX8_isDirection 42 = .ok (.ireturn, 1) := dk_172 (dk_at dksX8_isDirection_1 19 rfl rfl)
abbrev cX8_form : ByteArray := prog_11_method_50_code
def yX8_form : MethodName := ⟨RX8, "form", "(Z)V"⟩
def dkwX8_form_2 : List UInt8 := [181, 0, 166, 177]
abbrev dktX8_form_2 : List UInt8 := dkwX8_form_2 ++ []
def dkwX8_form_1 : List UInt8 := [167, 0, 6, 17, 255, 107, 181, 0, 163, 42, 27, 153, 0, 9, 17, 3, 203, 167, 0, 5, 16, 104]
abbrev dktX8_form_1 : List UInt8 := dkwX8_form_1 ++ dktX8_form_2
def dkwX8_form_0 : List UInt8 := [42, 27, 153, 0, 8, 16, 53, 167, 0, 5, 16, 24, 181, 0, 160, 42, 27, 153, 0, 9, 17, 251, 206]
abbrev dktX8_form_0 : List UInt8 := dkwX8_form_0 ++ dktX8_form_1
theorem dksX8_form_0 : cX8_form.data.toList.drop 0 = dktX8_form_0 := by decide +kernel
theorem dksX8_form_1 : cX8_form.data.toList.drop 23 = dktX8_form_1 := dk_seg dksX8_form_0 23 rfl rfl
theorem dksX8_form_2 : cX8_form.data.toList.drop 45 = dktX8_form_2 := dk_seg dksX8_form_1 22 rfl rfl
theorem dX8_form_0 : decode cX8_form 0 = .ok (.aload_n 0, 1) := dk_42 (dk_at dksX8_form_0 0 rfl rfl)
theorem dX8_form_1 : decode cX8_form 1 = .ok (.iload_n 1, 1) := dk_27 (dk_at dksX8_form_0 1 rfl rfl)
theorem dX8_form_2 : decode cX8_form 2 = .ok (.ifCond .eq 8, 3) := dk_153 0 8 (dk_at dksX8_form_0 2 rfl rfl)
theorem dX8_form_5 : decode cX8_form 5 = .ok (.bipush 53, 2) := dk_16 53 (dk_at dksX8_form_0 5 rfl rfl)
theorem dX8_form_7 : decode cX8_form 7 = .ok (.goto 5, 3) := dk_167 0 5 (dk_at dksX8_form_0 7 rfl rfl)
theorem dX8_form_10 : decode cX8_form 10 = .ok (.bipush 24, 2) := dk_16 24 (dk_at dksX8_form_0 10 rfl rfl)
theorem dX8_form_12 : decode cX8_form 12 = .ok (.putfield 160, 3) := dk_181 0 160 (dk_at dksX8_form_0 12 rfl rfl)
theorem dX8_form_15 : decode cX8_form 15 = .ok (.aload_n 0, 1) := dk_42 (dk_at dksX8_form_0 15 rfl rfl)
theorem dX8_form_16 : decode cX8_form 16 = .ok (.iload_n 1, 1) := dk_27 (dk_at dksX8_form_0 16 rfl rfl)
theorem dX8_form_17 : decode cX8_form 17 = .ok (.ifCond .eq 9, 3) := dk_153 0 9 (dk_at dksX8_form_0 17 rfl rfl)
theorem dX8_form_20 : decode cX8_form 20 = .ok (.sipush (-1074), 3) := dk_17 251 206 (dk_at dksX8_form_0 20 rfl rfl)
theorem dX8_form_23 : decode cX8_form 23 = .ok (.goto 6, 3) := dk_167 0 6 (dk_at dksX8_form_1 0 rfl rfl)
theorem dX8_form_26 : decode cX8_form 26 = .ok (.sipush (-149), 3) := dk_17 255 107 (dk_at dksX8_form_1 3 rfl rfl)
theorem dX8_form_29 : decode cX8_form 29 = .ok (.putfield 163, 3) := dk_181 0 163 (dk_at dksX8_form_1 6 rfl rfl)
theorem dX8_form_32 : decode cX8_form 32 = .ok (.aload_n 0, 1) := dk_42 (dk_at dksX8_form_1 9 rfl rfl)
theorem dX8_form_33 : decode cX8_form 33 = .ok (.iload_n 1, 1) := dk_27 (dk_at dksX8_form_1 10 rfl rfl)
theorem dX8_form_34 : decode cX8_form 34 = .ok (.ifCond .eq 9, 3) := dk_153 0 9 (dk_at dksX8_form_1 11 rfl rfl)
theorem dX8_form_37 : decode cX8_form 37 = .ok (.sipush 971, 3) := dk_17 3 203 (dk_at dksX8_form_1 14 rfl rfl)
theorem dX8_form_40 : decode cX8_form 40 = .ok (.goto 5, 3) := dk_167 0 5 (dk_at dksX8_form_1 17 rfl rfl)
theorem dX8_form_43 : decode cX8_form 43 = .ok (.bipush 104, 2) := dk_16 104 (dk_at dksX8_form_1 20 rfl rfl)
theorem dX8_form_45 : decode cX8_form 45 = .ok (.putfield 166, 3) := dk_181 0 166 (dk_at dksX8_form_2 0 rfl rfl)
theorem dX8_form_48 : decode cX8_form 48 = .ok (.return_, 1) := dk_177 (dk_at dksX8_form_2 3 rfl rfl)
abbrev cX8_round : ByteArray := prog_11_method_51_code
def yX8_round : MethodName := ⟨RX8, "round", "(II)J"⟩
def dkwX8_round_14 : List UInt8 := [22, 4, 29, 21, 9, 182, 0, 169, 173]
abbrev dktX8_round_14 : List UInt8 := dkwX8_round_14 ++ []
def dkwX8_round_13 : List UInt8 := [160, 0, 7, 27, 157, 0, 12, 28, 5, 160, 0, 11, 27, 156, 0, 7, 4, 167, 0, 4, 3, 54, 9, 42]
abbrev dktX8_round_13 : List UInt8 := dkwX8_round_13 ++ dktX8_round_14
def dkwX8_round_12 : List UInt8 := [153, 0, 12, 21, 7, 153, 0, 7, 10, 167, 0, 4, 9, 97, 55, 4, 28, 153, 0, 21, 28, 4]
abbrev dktX8_round_12 : List UInt8 := dkwX8_round_12 ++ dktX8_round_13
def dkwX8_round_11 : List UInt8 := [154, 0, 16, 22, 4, 10, 127, 10, 148, 154, 0, 7, 4, 167, 0, 4, 3, 54, 8, 22, 4, 21, 8]
abbrev dktX8_round_11 : List UInt8 := dkwX8_round_11 ++ dktX8_round_12
def dkwX8_round_10 : List UInt8 := [42, 16, 8, 4, 182, 0, 34, 42, 16, 8, 16, 6, 182, 0, 42, 54, 9, 21, 9, 157, 0, 17, 21, 9]
abbrev dktX8_round_10 : List UInt8 := dkwX8_round_10 ++ dktX8_round_11
def dkwX8_round_9 : List UInt8 := [27, 157, 0, 12, 28, 5, 160, 0, 11, 27, 156, 0, 7, 4, 167, 0, 4, 3, 54, 8, 28, 154, 0, 46]
abbrev dktX8_round_9 : List UInt8 := dkwX8_round_9 ++ dktX8_round_10
def dkwX8_round_8 : List UInt8 := [167, 255, 108, 42, 16, 8, 182, 0, 52, 154, 0, 7, 4, 167, 0, 4, 3, 54, 7, 28, 4, 160, 0, 7]
abbrev dktX8_round_8 : List UInt8 := dkwX8_round_8 ++ dktX8_round_9
def dkwX8_round_7 : List UInt8 := [164, 0, 9, 29, 4, 96, 167, 0, 15, 21, 6, 153, 0, 9, 29, 4, 100, 167, 0, 4, 29, 62]
abbrev dktX8_round_7 : List UInt8 := dkwX8_round_7 ++ dktX8_round_8
def dkwX8_round_6 : List UInt8 := [42, 180, 0, 163, 164, 0, 7, 4, 167, 0, 4, 3, 54, 6, 42, 16, 7, 182, 0, 30, 42, 180, 0, 160]
abbrev dktX8_round_6 : List UInt8 := dkwX8_round_6 ++ dktX8_round_7
def dkwX8_round_5 : List UInt8 := [182, 0, 30, 42, 180, 0, 160, 163, 0, 24, 42, 16, 7, 182, 0, 30, 42, 180, 0, 160, 162, 0, 15, 29]
abbrev dktX8_round_5 : List UInt8 := dkwX8_round_5 ++ dktX8_round_6
def dkwX8_round_4 : List UInt8 := [180, 0, 17, 17, 1, 192, 47, 42, 180, 0, 17, 17, 1, 193, 47, 16, 32, 121, 129, 55, 4, 42, 16, 7]
abbrev dktX8_round_4 : List UInt8 := dkwX8_round_4 ++ dktX8_round_5
def dkwX8_round_3 : List UInt8 := [158, 0, 7, 29, 167, 0, 5, 29, 116, 182, 0, 34, 42, 8, 16, 6, 16, 7, 16, 8, 182, 0, 75, 42]
abbrev dktX8_round_3 : List UInt8 := dkwX8_round_3 ++ dktX8_round_4
def dkwX8_round_2 : List UInt8 := [5, 8, 182, 0, 49, 42, 6, 16, 6, 182, 0, 49, 42, 29, 158, 0, 8, 16, 6, 167, 0, 4, 8, 29]
abbrev dktX8_round_2 : List UInt8 := dkwX8_round_2 ++ dktX8_round_3
def dkwX8_round_1 : List UInt8 := [162, 0, 10, 42, 180, 0, 163, 167, 0, 4, 29, 62, 9, 55, 4, 4, 54, 6, 21, 6, 153, 0, 149, 42]
abbrev dktX8_round_1 : List UInt8 := dkwX8_round_1 ++ dktX8_round_2
def dkwX8_round_0 : List UInt8 := [42, 5, 182, 0, 30, 42, 6, 182, 0, 30, 100, 42, 180, 0, 160, 100, 62, 29, 42, 180, 0, 163]
abbrev dktX8_round_0 : List UInt8 := dkwX8_round_0 ++ dktX8_round_1
theorem dksX8_round_0 : cX8_round.data.toList.drop 0 = dktX8_round_0 := by decide +kernel
theorem dksX8_round_1 : cX8_round.data.toList.drop 22 = dktX8_round_1 := dk_seg dksX8_round_0 22 rfl rfl
theorem dksX8_round_2 : cX8_round.data.toList.drop 46 = dktX8_round_2 := dk_seg dksX8_round_1 24 rfl rfl
theorem dksX8_round_3 : cX8_round.data.toList.drop 70 = dktX8_round_3 := dk_seg dksX8_round_2 24 rfl rfl
theorem dksX8_round_4 : cX8_round.data.toList.drop 94 = dktX8_round_4 := dk_seg dksX8_round_3 24 rfl rfl
theorem dksX8_round_5 : cX8_round.data.toList.drop 118 = dktX8_round_5 := dk_seg dksX8_round_4 24 rfl rfl
theorem dksX8_round_6 : cX8_round.data.toList.drop 142 = dktX8_round_6 := dk_seg dksX8_round_5 24 rfl rfl
theorem dksX8_round_7 : cX8_round.data.toList.drop 166 = dktX8_round_7 := dk_seg dksX8_round_6 24 rfl rfl
theorem dksX8_round_8 : cX8_round.data.toList.drop 188 = dktX8_round_8 := dk_seg dksX8_round_7 22 rfl rfl
theorem dksX8_round_9 : cX8_round.data.toList.drop 212 = dktX8_round_9 := dk_seg dksX8_round_8 24 rfl rfl
theorem dksX8_round_10 : cX8_round.data.toList.drop 236 = dktX8_round_10 := dk_seg dksX8_round_9 24 rfl rfl
theorem dksX8_round_11 : cX8_round.data.toList.drop 260 = dktX8_round_11 := dk_seg dksX8_round_10 24 rfl rfl
theorem dksX8_round_12 : cX8_round.data.toList.drop 283 = dktX8_round_12 := dk_seg dksX8_round_11 23 rfl rfl
theorem dksX8_round_13 : cX8_round.data.toList.drop 305 = dktX8_round_13 := dk_seg dksX8_round_12 22 rfl rfl
theorem dksX8_round_14 : cX8_round.data.toList.drop 329 = dktX8_round_14 := dk_seg dksX8_round_13 24 rfl rfl
theorem dX8_round_0 : decode cX8_round 0 = .ok (.aload_n 0, 1) := dk_42 (dk_at dksX8_round_0 0 rfl rfl)
theorem dX8_round_1 : decode cX8_round 1 = .ok (.iconst 2, 1) := dk_5 (dk_at dksX8_round_0 1 rfl rfl)
theorem dX8_round_2 : decode cX8_round 2 = .ok (.invokevirtual 30, 3) := dk_182 0 30 (dk_at dksX8_round_0 2 rfl rfl)
theorem dX8_round_5 : decode cX8_round 5 = .ok (.aload_n 0, 1) := dk_42 (dk_at dksX8_round_0 5 rfl rfl)
theorem dX8_round_6 : decode cX8_round 6 = .ok (.iconst 3, 1) := dk_6 (dk_at dksX8_round_0 6 rfl rfl)
theorem dX8_round_7 : decode cX8_round 7 = .ok (.invokevirtual 30, 3) := dk_182 0 30 (dk_at dksX8_round_0 7 rfl rfl)
theorem dX8_round_10 : decode cX8_round 10 = .ok (.isub, 1) := dk_100 (dk_at dksX8_round_0 10 rfl rfl)
theorem dX8_round_11 : decode cX8_round 11 = .ok (.aload_n 0, 1) := dk_42 (dk_at dksX8_round_0 11 rfl rfl)
theorem dX8_round_12 : decode cX8_round 12 = .ok (.getfield 160, 3) := dk_180 0 160 (dk_at dksX8_round_0 12 rfl rfl)
theorem dX8_round_15 : decode cX8_round 15 = .ok (.isub, 1) := dk_100 (dk_at dksX8_round_0 15 rfl rfl)
theorem dX8_round_16 : decode cX8_round 16 = .ok (.istore_n 3, 1) := dk_62 (dk_at dksX8_round_0 16 rfl rfl)
theorem dX8_round_17 : decode cX8_round 17 = .ok (.iload_n 3, 1) := dk_29 (dk_at dksX8_round_0 17 rfl rfl)
theorem dX8_round_18 : decode cX8_round 18 = .ok (.aload_n 0, 1) := dk_42 (dk_at dksX8_round_0 18 rfl rfl)
theorem dX8_round_19 : decode cX8_round 19 = .ok (.getfield 163, 3) := dk_180 0 163 (dk_at dksX8_round_0 19 rfl rfl)
theorem dX8_round_22 : decode cX8_round 22 = .ok (.if_icmp .ge 10, 3) := dk_162 0 10 (dk_at dksX8_round_1 0 rfl rfl)
theorem dX8_round_25 : decode cX8_round 25 = .ok (.aload_n 0, 1) := dk_42 (dk_at dksX8_round_1 3 rfl rfl)
theorem dX8_round_26 : decode cX8_round 26 = .ok (.getfield 163, 3) := dk_180 0 163 (dk_at dksX8_round_1 4 rfl rfl)
theorem dX8_round_29 : decode cX8_round 29 = .ok (.goto 4, 3) := dk_167 0 4 (dk_at dksX8_round_1 7 rfl rfl)
theorem dX8_round_32 : decode cX8_round 32 = .ok (.iload_n 3, 1) := dk_29 (dk_at dksX8_round_1 10 rfl rfl)
theorem dX8_round_33 : decode cX8_round 33 = .ok (.istore_n 3, 1) := dk_62 (dk_at dksX8_round_1 11 rfl rfl)
theorem dX8_round_34 : decode cX8_round 34 = .ok (.lconst 0, 1) := dk_9 (dk_at dksX8_round_1 12 rfl rfl)
theorem dX8_round_35 : decode cX8_round 35 = .ok (.lstore 4, 2) := dk_55 4 (dk_at dksX8_round_1 13 rfl rfl)
theorem dX8_round_37 : decode cX8_round 37 = .ok (.iconst 1, 1) := dk_4 (dk_at dksX8_round_1 15 rfl rfl)
theorem dX8_round_38 : decode cX8_round 38 = .ok (.istore 6, 2) := dk_54 6 (dk_at dksX8_round_1 16 rfl rfl)
theorem dX8_round_40 : decode cX8_round 40 = .ok (.iload 6, 2) := dk_21 6 (dk_at dksX8_round_1 18 rfl rfl)
theorem dX8_round_42 : decode cX8_round 42 = .ok (.ifCond .eq 149, 3) := dk_153 0 149 (dk_at dksX8_round_1 20 rfl rfl)
theorem dX8_round_45 : decode cX8_round 45 = .ok (.aload_n 0, 1) := dk_42 (dk_at dksX8_round_1 23 rfl rfl)
theorem dX8_round_46 : decode cX8_round 46 = .ok (.iconst 2, 1) := dk_5 (dk_at dksX8_round_2 0 rfl rfl)
theorem dX8_round_47 : decode cX8_round 47 = .ok (.iconst 5, 1) := dk_8 (dk_at dksX8_round_2 1 rfl rfl)
theorem dX8_round_48 : decode cX8_round 48 = .ok (.invokevirtual 49, 3) := dk_182 0 49 (dk_at dksX8_round_2 2 rfl rfl)
theorem dX8_round_51 : decode cX8_round 51 = .ok (.aload_n 0, 1) := dk_42 (dk_at dksX8_round_2 5 rfl rfl)
theorem dX8_round_52 : decode cX8_round 52 = .ok (.iconst 3, 1) := dk_6 (dk_at dksX8_round_2 6 rfl rfl)
theorem dX8_round_53 : decode cX8_round 53 = .ok (.bipush 6, 2) := dk_16 6 (dk_at dksX8_round_2 7 rfl rfl)
theorem dX8_round_55 : decode cX8_round 55 = .ok (.invokevirtual 49, 3) := dk_182 0 49 (dk_at dksX8_round_2 9 rfl rfl)
theorem dX8_round_58 : decode cX8_round 58 = .ok (.aload_n 0, 1) := dk_42 (dk_at dksX8_round_2 12 rfl rfl)
theorem dX8_round_59 : decode cX8_round 59 = .ok (.iload_n 3, 1) := dk_29 (dk_at dksX8_round_2 13 rfl rfl)
theorem dX8_round_60 : decode cX8_round 60 = .ok (.ifCond .le 8, 3) := dk_158 0 8 (dk_at dksX8_round_2 14 rfl rfl)
theorem dX8_round_63 : decode cX8_round 63 = .ok (.bipush 6, 2) := dk_16 6 (dk_at dksX8_round_2 17 rfl rfl)
theorem dX8_round_65 : decode cX8_round 65 = .ok (.goto 4, 3) := dk_167 0 4 (dk_at dksX8_round_2 19 rfl rfl)
theorem dX8_round_68 : decode cX8_round 68 = .ok (.iconst 5, 1) := dk_8 (dk_at dksX8_round_2 22 rfl rfl)
theorem dX8_round_69 : decode cX8_round 69 = .ok (.iload_n 3, 1) := dk_29 (dk_at dksX8_round_2 23 rfl rfl)
theorem dX8_round_70 : decode cX8_round 70 = .ok (.ifCond .le 7, 3) := dk_158 0 7 (dk_at dksX8_round_3 0 rfl rfl)
theorem dX8_round_73 : decode cX8_round 73 = .ok (.iload_n 3, 1) := dk_29 (dk_at dksX8_round_3 3 rfl rfl)
theorem dX8_round_74 : decode cX8_round 74 = .ok (.goto 5, 3) := dk_167 0 5 (dk_at dksX8_round_3 4 rfl rfl)
theorem dX8_round_77 : decode cX8_round 77 = .ok (.iload_n 3, 1) := dk_29 (dk_at dksX8_round_3 7 rfl rfl)
theorem dX8_round_78 : decode cX8_round 78 = .ok (.ineg, 1) := dk_116 (dk_at dksX8_round_3 8 rfl rfl)
theorem dX8_round_79 : decode cX8_round 79 = .ok (.invokevirtual 34, 3) := dk_182 0 34 (dk_at dksX8_round_3 9 rfl rfl)
theorem dX8_round_82 : decode cX8_round 82 = .ok (.aload_n 0, 1) := dk_42 (dk_at dksX8_round_3 12 rfl rfl)
theorem dX8_round_83 : decode cX8_round 83 = .ok (.iconst 5, 1) := dk_8 (dk_at dksX8_round_3 13 rfl rfl)
theorem dX8_round_84 : decode cX8_round 84 = .ok (.bipush 6, 2) := dk_16 6 (dk_at dksX8_round_3 14 rfl rfl)
theorem dX8_round_86 : decode cX8_round 86 = .ok (.bipush 7, 2) := dk_16 7 (dk_at dksX8_round_3 16 rfl rfl)
theorem dX8_round_88 : decode cX8_round 88 = .ok (.bipush 8, 2) := dk_16 8 (dk_at dksX8_round_3 18 rfl rfl)
theorem dX8_round_90 : decode cX8_round 90 = .ok (.invokevirtual 75, 3) := dk_182 0 75 (dk_at dksX8_round_3 20 rfl rfl)
theorem dX8_round_93 : decode cX8_round 93 = .ok (.aload_n 0, 1) := dk_42 (dk_at dksX8_round_3 23 rfl rfl)
theorem dX8_round_94 : decode cX8_round 94 = .ok (.getfield 17, 3) := dk_180 0 17 (dk_at dksX8_round_4 0 rfl rfl)
theorem dX8_round_97 : decode cX8_round 97 = .ok (.sipush 448, 3) := dk_17 1 192 (dk_at dksX8_round_4 3 rfl rfl)
theorem dX8_round_100 : decode cX8_round 100 = .ok (.laload, 1) := dk_47 (dk_at dksX8_round_4 6 rfl rfl)
theorem dX8_round_101 : decode cX8_round 101 = .ok (.aload_n 0, 1) := dk_42 (dk_at dksX8_round_4 7 rfl rfl)
theorem dX8_round_102 : decode cX8_round 102 = .ok (.getfield 17, 3) := dk_180 0 17 (dk_at dksX8_round_4 8 rfl rfl)
theorem dX8_round_105 : decode cX8_round 105 = .ok (.sipush 449, 3) := dk_17 1 193 (dk_at dksX8_round_4 11 rfl rfl)
theorem dX8_round_108 : decode cX8_round 108 = .ok (.laload, 1) := dk_47 (dk_at dksX8_round_4 14 rfl rfl)
theorem dX8_round_109 : decode cX8_round 109 = .ok (.bipush 32, 2) := dk_16 32 (dk_at dksX8_round_4 15 rfl rfl)
theorem dX8_round_111 : decode cX8_round 111 = .ok (.lshl, 1) := dk_121 (dk_at dksX8_round_4 17 rfl rfl)
theorem dX8_round_112 : decode cX8_round 112 = .ok (.lor, 1) := dk_129 (dk_at dksX8_round_4 18 rfl rfl)
theorem dX8_round_113 : decode cX8_round 113 = .ok (.lstore 4, 2) := dk_55 4 (dk_at dksX8_round_4 19 rfl rfl)
theorem dX8_round_115 : decode cX8_round 115 = .ok (.aload_n 0, 1) := dk_42 (dk_at dksX8_round_4 21 rfl rfl)
theorem dX8_round_116 : decode cX8_round 116 = .ok (.bipush 7, 2) := dk_16 7 (dk_at dksX8_round_4 22 rfl rfl)
theorem dX8_round_118 : decode cX8_round 118 = .ok (.invokevirtual 30, 3) := dk_182 0 30 (dk_at dksX8_round_5 0 rfl rfl)
theorem dX8_round_121 : decode cX8_round 121 = .ok (.aload_n 0, 1) := dk_42 (dk_at dksX8_round_5 3 rfl rfl)
theorem dX8_round_122 : decode cX8_round 122 = .ok (.getfield 160, 3) := dk_180 0 160 (dk_at dksX8_round_5 4 rfl rfl)
theorem dX8_round_125 : decode cX8_round 125 = .ok (.if_icmp .gt 24, 3) := dk_163 0 24 (dk_at dksX8_round_5 7 rfl rfl)
theorem dX8_round_128 : decode cX8_round 128 = .ok (.aload_n 0, 1) := dk_42 (dk_at dksX8_round_5 10 rfl rfl)
theorem dX8_round_129 : decode cX8_round 129 = .ok (.bipush 7, 2) := dk_16 7 (dk_at dksX8_round_5 11 rfl rfl)
theorem dX8_round_131 : decode cX8_round 131 = .ok (.invokevirtual 30, 3) := dk_182 0 30 (dk_at dksX8_round_5 13 rfl rfl)
theorem dX8_round_134 : decode cX8_round 134 = .ok (.aload_n 0, 1) := dk_42 (dk_at dksX8_round_5 16 rfl rfl)
theorem dX8_round_135 : decode cX8_round 135 = .ok (.getfield 160, 3) := dk_180 0 160 (dk_at dksX8_round_5 17 rfl rfl)
theorem dX8_round_138 : decode cX8_round 138 = .ok (.if_icmp .ge 15, 3) := dk_162 0 15 (dk_at dksX8_round_5 20 rfl rfl)
theorem dX8_round_141 : decode cX8_round 141 = .ok (.iload_n 3, 1) := dk_29 (dk_at dksX8_round_5 23 rfl rfl)
theorem dX8_round_142 : decode cX8_round 142 = .ok (.aload_n 0, 1) := dk_42 (dk_at dksX8_round_6 0 rfl rfl)
theorem dX8_round_143 : decode cX8_round 143 = .ok (.getfield 163, 3) := dk_180 0 163 (dk_at dksX8_round_6 1 rfl rfl)
theorem dX8_round_146 : decode cX8_round 146 = .ok (.if_icmp .le 7, 3) := dk_164 0 7 (dk_at dksX8_round_6 4 rfl rfl)
theorem dX8_round_149 : decode cX8_round 149 = .ok (.iconst 1, 1) := dk_4 (dk_at dksX8_round_6 7 rfl rfl)
theorem dX8_round_150 : decode cX8_round 150 = .ok (.goto 4, 3) := dk_167 0 4 (dk_at dksX8_round_6 8 rfl rfl)
theorem dX8_round_153 : decode cX8_round 153 = .ok (.iconst 0, 1) := dk_3 (dk_at dksX8_round_6 11 rfl rfl)
theorem dX8_round_154 : decode cX8_round 154 = .ok (.istore 6, 2) := dk_54 6 (dk_at dksX8_round_6 12 rfl rfl)
theorem dX8_round_156 : decode cX8_round 156 = .ok (.aload_n 0, 1) := dk_42 (dk_at dksX8_round_6 14 rfl rfl)
theorem dX8_round_157 : decode cX8_round 157 = .ok (.bipush 7, 2) := dk_16 7 (dk_at dksX8_round_6 15 rfl rfl)
theorem dX8_round_159 : decode cX8_round 159 = .ok (.invokevirtual 30, 3) := dk_182 0 30 (dk_at dksX8_round_6 17 rfl rfl)
theorem dX8_round_162 : decode cX8_round 162 = .ok (.aload_n 0, 1) := dk_42 (dk_at dksX8_round_6 20 rfl rfl)
theorem dX8_round_163 : decode cX8_round 163 = .ok (.getfield 160, 3) := dk_180 0 160 (dk_at dksX8_round_6 21 rfl rfl)
theorem dX8_round_166 : decode cX8_round 166 = .ok (.if_icmp .le 9, 3) := dk_164 0 9 (dk_at dksX8_round_7 0 rfl rfl)
theorem dX8_round_169 : decode cX8_round 169 = .ok (.iload_n 3, 1) := dk_29 (dk_at dksX8_round_7 3 rfl rfl)
theorem dX8_round_170 : decode cX8_round 170 = .ok (.iconst 1, 1) := dk_4 (dk_at dksX8_round_7 4 rfl rfl)
theorem dX8_round_171 : decode cX8_round 171 = .ok (.iadd, 1) := dk_96 (dk_at dksX8_round_7 5 rfl rfl)
theorem dX8_round_172 : decode cX8_round 172 = .ok (.goto 15, 3) := dk_167 0 15 (dk_at dksX8_round_7 6 rfl rfl)
theorem dX8_round_175 : decode cX8_round 175 = .ok (.iload 6, 2) := dk_21 6 (dk_at dksX8_round_7 9 rfl rfl)
theorem dX8_round_177 : decode cX8_round 177 = .ok (.ifCond .eq 9, 3) := dk_153 0 9 (dk_at dksX8_round_7 11 rfl rfl)
theorem dX8_round_180 : decode cX8_round 180 = .ok (.iload_n 3, 1) := dk_29 (dk_at dksX8_round_7 14 rfl rfl)
theorem dX8_round_181 : decode cX8_round 181 = .ok (.iconst 1, 1) := dk_4 (dk_at dksX8_round_7 15 rfl rfl)
theorem dX8_round_182 : decode cX8_round 182 = .ok (.isub, 1) := dk_100 (dk_at dksX8_round_7 16 rfl rfl)
theorem dX8_round_183 : decode cX8_round 183 = .ok (.goto 4, 3) := dk_167 0 4 (dk_at dksX8_round_7 17 rfl rfl)
theorem dX8_round_186 : decode cX8_round 186 = .ok (.iload_n 3, 1) := dk_29 (dk_at dksX8_round_7 20 rfl rfl)
theorem dX8_round_187 : decode cX8_round 187 = .ok (.istore_n 3, 1) := dk_62 (dk_at dksX8_round_7 21 rfl rfl)
theorem dX8_round_188 : decode cX8_round 188 = .ok (.goto (-148), 3) := dk_167 255 108 (dk_at dksX8_round_8 0 rfl rfl)
theorem dX8_round_191 : decode cX8_round 191 = .ok (.aload_n 0, 1) := dk_42 (dk_at dksX8_round_8 3 rfl rfl)
theorem dX8_round_192 : decode cX8_round 192 = .ok (.bipush 8, 2) := dk_16 8 (dk_at dksX8_round_8 4 rfl rfl)
theorem dX8_round_194 : decode cX8_round 194 = .ok (.invokevirtual 52, 3) := dk_182 0 52 (dk_at dksX8_round_8 6 rfl rfl)
theorem dX8_round_197 : decode cX8_round 197 = .ok (.ifCond .ne 7, 3) := dk_154 0 7 (dk_at dksX8_round_8 9 rfl rfl)
theorem dX8_round_200 : decode cX8_round 200 = .ok (.iconst 1, 1) := dk_4 (dk_at dksX8_round_8 12 rfl rfl)
theorem dX8_round_201 : decode cX8_round 201 = .ok (.goto 4, 3) := dk_167 0 4 (dk_at dksX8_round_8 13 rfl rfl)
theorem dX8_round_204 : decode cX8_round 204 = .ok (.iconst 0, 1) := dk_3 (dk_at dksX8_round_8 16 rfl rfl)
theorem dX8_round_205 : decode cX8_round 205 = .ok (.istore 7, 2) := dk_54 7 (dk_at dksX8_round_8 17 rfl rfl)
theorem dX8_round_207 : decode cX8_round 207 = .ok (.iload_n 2, 1) := dk_28 (dk_at dksX8_round_8 19 rfl rfl)
theorem dX8_round_208 : decode cX8_round 208 = .ok (.iconst 1, 1) := dk_4 (dk_at dksX8_round_8 20 rfl rfl)
theorem dX8_round_209 : decode cX8_round 209 = .ok (.if_icmp .ne 7, 3) := dk_160 0 7 (dk_at dksX8_round_8 21 rfl rfl)
theorem dX8_round_212 : decode cX8_round 212 = .ok (.iload_n 1, 1) := dk_27 (dk_at dksX8_round_9 0 rfl rfl)
theorem dX8_round_213 : decode cX8_round 213 = .ok (.ifCond .gt 12, 3) := dk_157 0 12 (dk_at dksX8_round_9 1 rfl rfl)
theorem dX8_round_216 : decode cX8_round 216 = .ok (.iload_n 2, 1) := dk_28 (dk_at dksX8_round_9 4 rfl rfl)
theorem dX8_round_217 : decode cX8_round 217 = .ok (.iconst 2, 1) := dk_5 (dk_at dksX8_round_9 5 rfl rfl)
theorem dX8_round_218 : decode cX8_round 218 = .ok (.if_icmp .ne 11, 3) := dk_160 0 11 (dk_at dksX8_round_9 6 rfl rfl)
theorem dX8_round_221 : decode cX8_round 221 = .ok (.iload_n 1, 1) := dk_27 (dk_at dksX8_round_9 9 rfl rfl)
theorem dX8_round_222 : decode cX8_round 222 = .ok (.ifCond .ge 7, 3) := dk_156 0 7 (dk_at dksX8_round_9 10 rfl rfl)
theorem dX8_round_225 : decode cX8_round 225 = .ok (.iconst 1, 1) := dk_4 (dk_at dksX8_round_9 13 rfl rfl)
theorem dX8_round_226 : decode cX8_round 226 = .ok (.goto 4, 3) := dk_167 0 4 (dk_at dksX8_round_9 14 rfl rfl)
theorem dX8_round_229 : decode cX8_round 229 = .ok (.iconst 0, 1) := dk_3 (dk_at dksX8_round_9 17 rfl rfl)
theorem dX8_round_230 : decode cX8_round 230 = .ok (.istore 8, 2) := dk_54 8 (dk_at dksX8_round_9 18 rfl rfl)
theorem dX8_round_232 : decode cX8_round 232 = .ok (.iload_n 2, 1) := dk_28 (dk_at dksX8_round_9 20 rfl rfl)
theorem dX8_round_233 : decode cX8_round 233 = .ok (.ifCond .ne 46, 3) := dk_154 0 46 (dk_at dksX8_round_9 21 rfl rfl)
theorem dX8_round_236 : decode cX8_round 236 = .ok (.aload_n 0, 1) := dk_42 (dk_at dksX8_round_10 0 rfl rfl)
theorem dX8_round_237 : decode cX8_round 237 = .ok (.bipush 8, 2) := dk_16 8 (dk_at dksX8_round_10 1 rfl rfl)
theorem dX8_round_239 : decode cX8_round 239 = .ok (.iconst 1, 1) := dk_4 (dk_at dksX8_round_10 3 rfl rfl)
theorem dX8_round_240 : decode cX8_round 240 = .ok (.invokevirtual 34, 3) := dk_182 0 34 (dk_at dksX8_round_10 4 rfl rfl)
theorem dX8_round_243 : decode cX8_round 243 = .ok (.aload_n 0, 1) := dk_42 (dk_at dksX8_round_10 7 rfl rfl)
theorem dX8_round_244 : decode cX8_round 244 = .ok (.bipush 8, 2) := dk_16 8 (dk_at dksX8_round_10 8 rfl rfl)
theorem dX8_round_246 : decode cX8_round 246 = .ok (.bipush 6, 2) := dk_16 6 (dk_at dksX8_round_10 10 rfl rfl)
theorem dX8_round_248 : decode cX8_round 248 = .ok (.invokevirtual 42, 3) := dk_182 0 42 (dk_at dksX8_round_10 12 rfl rfl)
theorem dX8_round_251 : decode cX8_round 251 = .ok (.istore 9, 2) := dk_54 9 (dk_at dksX8_round_10 15 rfl rfl)
theorem dX8_round_253 : decode cX8_round 253 = .ok (.iload 9, 2) := dk_21 9 (dk_at dksX8_round_10 17 rfl rfl)
theorem dX8_round_255 : decode cX8_round 255 = .ok (.ifCond .gt 17, 3) := dk_157 0 17 (dk_at dksX8_round_10 19 rfl rfl)
theorem dX8_round_258 : decode cX8_round 258 = .ok (.iload 9, 2) := dk_21 9 (dk_at dksX8_round_10 22 rfl rfl)
theorem dX8_round_260 : decode cX8_round 260 = .ok (.ifCond .ne 16, 3) := dk_154 0 16 (dk_at dksX8_round_11 0 rfl rfl)
theorem dX8_round_263 : decode cX8_round 263 = .ok (.lload 4, 2) := dk_22 4 (dk_at dksX8_round_11 3 rfl rfl)
theorem dX8_round_265 : decode cX8_round 265 = .ok (.lconst 1, 1) := dk_10 (dk_at dksX8_round_11 5 rfl rfl)
theorem dX8_round_266 : decode cX8_round 266 = .ok (.land, 1) := dk_127 (dk_at dksX8_round_11 6 rfl rfl)
theorem dX8_round_267 : decode cX8_round 267 = .ok (.lconst 1, 1) := dk_10 (dk_at dksX8_round_11 7 rfl rfl)
theorem dX8_round_268 : decode cX8_round 268 = .ok (.lcmp, 1) := dk_148 (dk_at dksX8_round_11 8 rfl rfl)
theorem dX8_round_269 : decode cX8_round 269 = .ok (.ifCond .ne 7, 3) := dk_154 0 7 (dk_at dksX8_round_11 9 rfl rfl)
theorem dX8_round_272 : decode cX8_round 272 = .ok (.iconst 1, 1) := dk_4 (dk_at dksX8_round_11 12 rfl rfl)
theorem dX8_round_273 : decode cX8_round 273 = .ok (.goto 4, 3) := dk_167 0 4 (dk_at dksX8_round_11 13 rfl rfl)
theorem dX8_round_276 : decode cX8_round 276 = .ok (.iconst 0, 1) := dk_3 (dk_at dksX8_round_11 16 rfl rfl)
theorem dX8_round_277 : decode cX8_round 277 = .ok (.istore 8, 2) := dk_54 8 (dk_at dksX8_round_11 17 rfl rfl)
theorem dX8_round_279 : decode cX8_round 279 = .ok (.lload 4, 2) := dk_22 4 (dk_at dksX8_round_11 19 rfl rfl)
theorem dX8_round_281 : decode cX8_round 281 = .ok (.iload 8, 2) := dk_21 8 (dk_at dksX8_round_11 21 rfl rfl)
theorem dX8_round_283 : decode cX8_round 283 = .ok (.ifCond .eq 12, 3) := dk_153 0 12 (dk_at dksX8_round_12 0 rfl rfl)
theorem dX8_round_286 : decode cX8_round 286 = .ok (.iload 7, 2) := dk_21 7 (dk_at dksX8_round_12 3 rfl rfl)
theorem dX8_round_288 : decode cX8_round 288 = .ok (.ifCond .eq 7, 3) := dk_153 0 7 (dk_at dksX8_round_12 5 rfl rfl)
theorem dX8_round_291 : decode cX8_round 291 = .ok (.lconst 1, 1) := dk_10 (dk_at dksX8_round_12 8 rfl rfl)
theorem dX8_round_292 : decode cX8_round 292 = .ok (.goto 4, 3) := dk_167 0 4 (dk_at dksX8_round_12 9 rfl rfl)
theorem dX8_round_295 : decode cX8_round 295 = .ok (.lconst 0, 1) := dk_9 (dk_at dksX8_round_12 12 rfl rfl)
theorem dX8_round_296 : decode cX8_round 296 = .ok (.ladd, 1) := dk_97 (dk_at dksX8_round_12 13 rfl rfl)
theorem dX8_round_297 : decode cX8_round 297 = .ok (.lstore 4, 2) := dk_55 4 (dk_at dksX8_round_12 14 rfl rfl)
theorem dX8_round_299 : decode cX8_round 299 = .ok (.iload_n 2, 1) := dk_28 (dk_at dksX8_round_12 16 rfl rfl)
theorem dX8_round_300 : decode cX8_round 300 = .ok (.ifCond .eq 21, 3) := dk_153 0 21 (dk_at dksX8_round_12 17 rfl rfl)
theorem dX8_round_303 : decode cX8_round 303 = .ok (.iload_n 2, 1) := dk_28 (dk_at dksX8_round_12 20 rfl rfl)
theorem dX8_round_304 : decode cX8_round 304 = .ok (.iconst 1, 1) := dk_4 (dk_at dksX8_round_12 21 rfl rfl)
theorem dX8_round_305 : decode cX8_round 305 = .ok (.if_icmp .ne 7, 3) := dk_160 0 7 (dk_at dksX8_round_13 0 rfl rfl)
theorem dX8_round_308 : decode cX8_round 308 = .ok (.iload_n 1, 1) := dk_27 (dk_at dksX8_round_13 3 rfl rfl)
theorem dX8_round_309 : decode cX8_round 309 = .ok (.ifCond .gt 12, 3) := dk_157 0 12 (dk_at dksX8_round_13 4 rfl rfl)
theorem dX8_round_312 : decode cX8_round 312 = .ok (.iload_n 2, 1) := dk_28 (dk_at dksX8_round_13 7 rfl rfl)
theorem dX8_round_313 : decode cX8_round 313 = .ok (.iconst 2, 1) := dk_5 (dk_at dksX8_round_13 8 rfl rfl)
theorem dX8_round_314 : decode cX8_round 314 = .ok (.if_icmp .ne 11, 3) := dk_160 0 11 (dk_at dksX8_round_13 9 rfl rfl)
theorem dX8_round_317 : decode cX8_round 317 = .ok (.iload_n 1, 1) := dk_27 (dk_at dksX8_round_13 12 rfl rfl)
theorem dX8_round_318 : decode cX8_round 318 = .ok (.ifCond .ge 7, 3) := dk_156 0 7 (dk_at dksX8_round_13 13 rfl rfl)
theorem dX8_round_321 : decode cX8_round 321 = .ok (.iconst 1, 1) := dk_4 (dk_at dksX8_round_13 16 rfl rfl)
theorem dX8_round_322 : decode cX8_round 322 = .ok (.goto 4, 3) := dk_167 0 4 (dk_at dksX8_round_13 17 rfl rfl)
theorem dX8_round_325 : decode cX8_round 325 = .ok (.iconst 0, 1) := dk_3 (dk_at dksX8_round_13 20 rfl rfl)
theorem dX8_round_326 : decode cX8_round 326 = .ok (.istore 9, 2) := dk_54 9 (dk_at dksX8_round_13 21 rfl rfl)
theorem dX8_round_328 : decode cX8_round 328 = .ok (.aload_n 0, 1) := dk_42 (dk_at dksX8_round_13 23 rfl rfl)
theorem dX8_round_329 : decode cX8_round 329 = .ok (.lload 4, 2) := dk_22 4 (dk_at dksX8_round_14 0 rfl rfl)
theorem dX8_round_331 : decode cX8_round 331 = .ok (.iload_n 3, 1) := dk_29 (dk_at dksX8_round_14 2 rfl rfl)
theorem dX8_round_332 : decode cX8_round 332 = .ok (.iload 9, 2) := dk_21 9 (dk_at dksX8_round_14 3 rfl rfl)
theorem dX8_round_334 : decode cX8_round 334 = .ok (.invokevirtual 169, 3) := dk_182 0 169 (dk_at dksX8_round_14 5 rfl rfl)
theorem dX8_round_337 : decode cX8_round 337 = .ok (.lreturn, 1) := dk_173 (dk_at dksX8_round_14 8 rfl rfl)
abbrev cX8_encode : ByteArray := prog_11_method_52_code
def yX8_encode : MethodName := ⟨RX8, "encode", "(JIZ)J"⟩
def dkwX8_encode_4 : List UInt8 := [21, 7, 42, 180, 0, 163, 100, 4, 96, 133, 42, 180, 0, 160, 4, 100, 121, 22, 5, 22, 8, 101, 129, 173]
abbrev dktX8_encode_4 : List UInt8 := dkwX8_encode_4 ++ []
def dkwX8_encode_3 : List UInt8 := [22, 10, 167, 0, 7, 22, 10, 10, 101, 173, 22, 5, 22, 8, 148, 156, 0, 8, 22, 5, 167, 0, 26]
abbrev dktX8_encode_3 : List UInt8 := dkwX8_encode_3 ++ dktX8_encode_4
def dkwX8_encode_2 : List UInt8 := [133, 42, 180, 0, 160, 4, 100, 121, 55, 10, 21, 7, 42, 180, 0, 166, 164, 0, 18, 21, 4, 153, 0, 8]
abbrev dktX8_encode_2 : List UInt8 := dkwX8_encode_2 ++ dktX8_encode_3
def dkwX8_encode_1 : List UInt8 := [132, 7, 1, 10, 42, 180, 0, 160, 4, 100, 121, 55, 8, 42, 180, 0, 166, 42, 180, 0, 163, 100, 5, 96]
abbrev dktX8_encode_1 : List UInt8 := dkwX8_encode_1 ++ dktX8_encode_2
def dkwX8_encode_0 : List UInt8 := [31, 55, 5, 29, 54, 7, 22, 5, 10, 42, 180, 0, 160, 121, 148, 154, 0, 12, 22, 5, 4, 123, 55, 5]
abbrev dktX8_encode_0 : List UInt8 := dkwX8_encode_0 ++ dktX8_encode_1
theorem dksX8_encode_0 : cX8_encode.data.toList.drop 0 = dktX8_encode_0 := by decide +kernel
theorem dksX8_encode_1 : cX8_encode.data.toList.drop 24 = dktX8_encode_1 := dk_seg dksX8_encode_0 24 rfl rfl
theorem dksX8_encode_2 : cX8_encode.data.toList.drop 48 = dktX8_encode_2 := dk_seg dksX8_encode_1 24 rfl rfl
theorem dksX8_encode_3 : cX8_encode.data.toList.drop 72 = dktX8_encode_3 := dk_seg dksX8_encode_2 24 rfl rfl
theorem dksX8_encode_4 : cX8_encode.data.toList.drop 95 = dktX8_encode_4 := dk_seg dksX8_encode_3 23 rfl rfl
theorem dX8_encode_0 : decode cX8_encode 0 = .ok (.lload_n 1, 1) := dk_31 (dk_at dksX8_encode_0 0 rfl rfl)
theorem dX8_encode_1 : decode cX8_encode 1 = .ok (.lstore 5, 2) := dk_55 5 (dk_at dksX8_encode_0 1 rfl rfl)
theorem dX8_encode_3 : decode cX8_encode 3 = .ok (.iload_n 3, 1) := dk_29 (dk_at dksX8_encode_0 3 rfl rfl)
theorem dX8_encode_4 : decode cX8_encode 4 = .ok (.istore 7, 2) := dk_54 7 (dk_at dksX8_encode_0 4 rfl rfl)
theorem dX8_encode_6 : decode cX8_encode 6 = .ok (.lload 5, 2) := dk_22 5 (dk_at dksX8_encode_0 6 rfl rfl)
theorem dX8_encode_8 : decode cX8_encode 8 = .ok (.lconst 1, 1) := dk_10 (dk_at dksX8_encode_0 8 rfl rfl)
theorem dX8_encode_9 : decode cX8_encode 9 = .ok (.aload_n 0, 1) := dk_42 (dk_at dksX8_encode_0 9 rfl rfl)
theorem dX8_encode_10 : decode cX8_encode 10 = .ok (.getfield 160, 3) := dk_180 0 160 (dk_at dksX8_encode_0 10 rfl rfl)
theorem dX8_encode_13 : decode cX8_encode 13 = .ok (.lshl, 1) := dk_121 (dk_at dksX8_encode_0 13 rfl rfl)
theorem dX8_encode_14 : decode cX8_encode 14 = .ok (.lcmp, 1) := dk_148 (dk_at dksX8_encode_0 14 rfl rfl)
theorem dX8_encode_15 : decode cX8_encode 15 = .ok (.ifCond .ne 12, 3) := dk_154 0 12 (dk_at dksX8_encode_0 15 rfl rfl)
theorem dX8_encode_18 : decode cX8_encode 18 = .ok (.lload 5, 2) := dk_22 5 (dk_at dksX8_encode_0 18 rfl rfl)
theorem dX8_encode_20 : decode cX8_encode 20 = .ok (.iconst 1, 1) := dk_4 (dk_at dksX8_encode_0 20 rfl rfl)
theorem dX8_encode_21 : decode cX8_encode 21 = .ok (.lshr, 1) := dk_123 (dk_at dksX8_encode_0 21 rfl rfl)
theorem dX8_encode_22 : decode cX8_encode 22 = .ok (.lstore 5, 2) := dk_55 5 (dk_at dksX8_encode_0 22 rfl rfl)
theorem dX8_encode_24 : decode cX8_encode 24 = .ok (.iinc 7 1, 3) := dk_132 7 1 (dk_at dksX8_encode_1 0 rfl rfl)
theorem dX8_encode_27 : decode cX8_encode 27 = .ok (.lconst 1, 1) := dk_10 (dk_at dksX8_encode_1 3 rfl rfl)
theorem dX8_encode_28 : decode cX8_encode 28 = .ok (.aload_n 0, 1) := dk_42 (dk_at dksX8_encode_1 4 rfl rfl)
theorem dX8_encode_29 : decode cX8_encode 29 = .ok (.getfield 160, 3) := dk_180 0 160 (dk_at dksX8_encode_1 5 rfl rfl)
theorem dX8_encode_32 : decode cX8_encode 32 = .ok (.iconst 1, 1) := dk_4 (dk_at dksX8_encode_1 8 rfl rfl)
theorem dX8_encode_33 : decode cX8_encode 33 = .ok (.isub, 1) := dk_100 (dk_at dksX8_encode_1 9 rfl rfl)
theorem dX8_encode_34 : decode cX8_encode 34 = .ok (.lshl, 1) := dk_121 (dk_at dksX8_encode_1 10 rfl rfl)
theorem dX8_encode_35 : decode cX8_encode 35 = .ok (.lstore 8, 2) := dk_55 8 (dk_at dksX8_encode_1 11 rfl rfl)
theorem dX8_encode_37 : decode cX8_encode 37 = .ok (.aload_n 0, 1) := dk_42 (dk_at dksX8_encode_1 13 rfl rfl)
theorem dX8_encode_38 : decode cX8_encode 38 = .ok (.getfield 166, 3) := dk_180 0 166 (dk_at dksX8_encode_1 14 rfl rfl)
theorem dX8_encode_41 : decode cX8_encode 41 = .ok (.aload_n 0, 1) := dk_42 (dk_at dksX8_encode_1 17 rfl rfl)
theorem dX8_encode_42 : decode cX8_encode 42 = .ok (.getfield 163, 3) := dk_180 0 163 (dk_at dksX8_encode_1 18 rfl rfl)
theorem dX8_encode_45 : decode cX8_encode 45 = .ok (.isub, 1) := dk_100 (dk_at dksX8_encode_1 21 rfl rfl)
theorem dX8_encode_46 : decode cX8_encode 46 = .ok (.iconst 2, 1) := dk_5 (dk_at dksX8_encode_1 22 rfl rfl)
theorem dX8_encode_47 : decode cX8_encode 47 = .ok (.iadd, 1) := dk_96 (dk_at dksX8_encode_1 23 rfl rfl)
theorem dX8_encode_48 : decode cX8_encode 48 = .ok (.i2l, 1) := dk_133 (dk_at dksX8_encode_2 0 rfl rfl)
theorem dX8_encode_49 : decode cX8_encode 49 = .ok (.aload_n 0, 1) := dk_42 (dk_at dksX8_encode_2 1 rfl rfl)
theorem dX8_encode_50 : decode cX8_encode 50 = .ok (.getfield 160, 3) := dk_180 0 160 (dk_at dksX8_encode_2 2 rfl rfl)
theorem dX8_encode_53 : decode cX8_encode 53 = .ok (.iconst 1, 1) := dk_4 (dk_at dksX8_encode_2 5 rfl rfl)
theorem dX8_encode_54 : decode cX8_encode 54 = .ok (.isub, 1) := dk_100 (dk_at dksX8_encode_2 6 rfl rfl)
theorem dX8_encode_55 : decode cX8_encode 55 = .ok (.lshl, 1) := dk_121 (dk_at dksX8_encode_2 7 rfl rfl)
theorem dX8_encode_56 : decode cX8_encode 56 = .ok (.lstore 10, 2) := dk_55 10 (dk_at dksX8_encode_2 8 rfl rfl)
theorem dX8_encode_58 : decode cX8_encode 58 = .ok (.iload 7, 2) := dk_21 7 (dk_at dksX8_encode_2 10 rfl rfl)
theorem dX8_encode_60 : decode cX8_encode 60 = .ok (.aload_n 0, 1) := dk_42 (dk_at dksX8_encode_2 12 rfl rfl)
theorem dX8_encode_61 : decode cX8_encode 61 = .ok (.getfield 166, 3) := dk_180 0 166 (dk_at dksX8_encode_2 13 rfl rfl)
theorem dX8_encode_64 : decode cX8_encode 64 = .ok (.if_icmp .le 18, 3) := dk_164 0 18 (dk_at dksX8_encode_2 16 rfl rfl)
theorem dX8_encode_67 : decode cX8_encode 67 = .ok (.iload 4, 2) := dk_21 4 (dk_at dksX8_encode_2 19 rfl rfl)
theorem dX8_encode_69 : decode cX8_encode 69 = .ok (.ifCond .eq 8, 3) := dk_153 0 8 (dk_at dksX8_encode_2 21 rfl rfl)
theorem dX8_encode_72 : decode cX8_encode 72 = .ok (.lload 10, 2) := dk_22 10 (dk_at dksX8_encode_3 0 rfl rfl)
theorem dX8_encode_74 : decode cX8_encode 74 = .ok (.goto 7, 3) := dk_167 0 7 (dk_at dksX8_encode_3 2 rfl rfl)
theorem dX8_encode_77 : decode cX8_encode 77 = .ok (.lload 10, 2) := dk_22 10 (dk_at dksX8_encode_3 5 rfl rfl)
theorem dX8_encode_79 : decode cX8_encode 79 = .ok (.lconst 1, 1) := dk_10 (dk_at dksX8_encode_3 7 rfl rfl)
theorem dX8_encode_80 : decode cX8_encode 80 = .ok (.lsub, 1) := dk_101 (dk_at dksX8_encode_3 8 rfl rfl)
theorem dX8_encode_81 : decode cX8_encode 81 = .ok (.lreturn, 1) := dk_173 (dk_at dksX8_encode_3 9 rfl rfl)
theorem dX8_encode_82 : decode cX8_encode 82 = .ok (.lload 5, 2) := dk_22 5 (dk_at dksX8_encode_3 10 rfl rfl)
theorem dX8_encode_84 : decode cX8_encode 84 = .ok (.lload 8, 2) := dk_22 8 (dk_at dksX8_encode_3 12 rfl rfl)
theorem dX8_encode_86 : decode cX8_encode 86 = .ok (.lcmp, 1) := dk_148 (dk_at dksX8_encode_3 14 rfl rfl)
theorem dX8_encode_87 : decode cX8_encode 87 = .ok (.ifCond .ge 8, 3) := dk_156 0 8 (dk_at dksX8_encode_3 15 rfl rfl)
theorem dX8_encode_90 : decode cX8_encode 90 = .ok (.lload 5, 2) := dk_22 5 (dk_at dksX8_encode_3 18 rfl rfl)
theorem dX8_encode_92 : decode cX8_encode 92 = .ok (.goto 26, 3) := dk_167 0 26 (dk_at dksX8_encode_3 20 rfl rfl)
theorem dX8_encode_95 : decode cX8_encode 95 = .ok (.iload 7, 2) := dk_21 7 (dk_at dksX8_encode_4 0 rfl rfl)
theorem dX8_encode_97 : decode cX8_encode 97 = .ok (.aload_n 0, 1) := dk_42 (dk_at dksX8_encode_4 2 rfl rfl)
theorem dX8_encode_98 : decode cX8_encode 98 = .ok (.getfield 163, 3) := dk_180 0 163 (dk_at dksX8_encode_4 3 rfl rfl)
theorem dX8_encode_101 : decode cX8_encode 101 = .ok (.isub, 1) := dk_100 (dk_at dksX8_encode_4 6 rfl rfl)
theorem dX8_encode_102 : decode cX8_encode 102 = .ok (.iconst 1, 1) := dk_4 (dk_at dksX8_encode_4 7 rfl rfl)
theorem dX8_encode_103 : decode cX8_encode 103 = .ok (.iadd, 1) := dk_96 (dk_at dksX8_encode_4 8 rfl rfl)
theorem dX8_encode_104 : decode cX8_encode 104 = .ok (.i2l, 1) := dk_133 (dk_at dksX8_encode_4 9 rfl rfl)
theorem dX8_encode_105 : decode cX8_encode 105 = .ok (.aload_n 0, 1) := dk_42 (dk_at dksX8_encode_4 10 rfl rfl)
theorem dX8_encode_106 : decode cX8_encode 106 = .ok (.getfield 160, 3) := dk_180 0 160 (dk_at dksX8_encode_4 11 rfl rfl)
theorem dX8_encode_109 : decode cX8_encode 109 = .ok (.iconst 1, 1) := dk_4 (dk_at dksX8_encode_4 14 rfl rfl)
theorem dX8_encode_110 : decode cX8_encode 110 = .ok (.isub, 1) := dk_100 (dk_at dksX8_encode_4 15 rfl rfl)
theorem dX8_encode_111 : decode cX8_encode 111 = .ok (.lshl, 1) := dk_121 (dk_at dksX8_encode_4 16 rfl rfl)
theorem dX8_encode_112 : decode cX8_encode 112 = .ok (.lload 5, 2) := dk_22 5 (dk_at dksX8_encode_4 17 rfl rfl)
theorem dX8_encode_114 : decode cX8_encode 114 = .ok (.lload 8, 2) := dk_22 8 (dk_at dksX8_encode_4 19 rfl rfl)
theorem dX8_encode_116 : decode cX8_encode 116 = .ok (.lsub, 1) := dk_101 (dk_at dksX8_encode_4 21 rfl rfl)
theorem dX8_encode_117 : decode cX8_encode 117 = .ok (.lor, 1) := dk_129 (dk_at dksX8_encode_4 22 rfl rfl)
theorem dX8_encode_118 : decode cX8_encode 118 = .ok (.lreturn, 1) := dk_173 (dk_at dksX8_encode_4 23 rfl rfl)
abbrev cX8_single : ByteArray := prog_11_method_55_code
def yX8_single : MethodName := ⟨RX8, "single", "(II)I"⟩
def dkwX8_single_2 : List UInt8 := [182, 0, 180, 42, 180, 0, 7, 27, 46, 156, 0, 9, 20, 0, 185, 167, 0, 4, 9, 129, 136, 172]
abbrev dktX8_single_2 : List UInt8 := dkwX8_single_2 ++ []
def dkwX8_single_1 : List UInt8 := [182, 0, 176, 42, 27, 5, 182, 0, 130, 42, 27, 6, 182, 0, 133, 42, 42, 180, 0, 7, 27, 46, 28]
abbrev dktX8_single_1 : List UInt8 := dkwX8_single_1 ++ dktX8_single_2
def dkwX8_single_0 : List UInt8 := [42, 27, 28, 182, 0, 173, 154, 0, 5, 3, 172, 42, 180, 0, 7, 27, 46, 154, 0, 5, 3, 172, 42, 3]
abbrev dktX8_single_0 : List UInt8 := dkwX8_single_0 ++ dktX8_single_1
theorem dksX8_single_0 : cX8_single.data.toList.drop 0 = dktX8_single_0 := by decide +kernel
theorem dksX8_single_1 : cX8_single.data.toList.drop 24 = dktX8_single_1 := dk_seg dksX8_single_0 24 rfl rfl
theorem dksX8_single_2 : cX8_single.data.toList.drop 47 = dktX8_single_2 := dk_seg dksX8_single_1 23 rfl rfl
theorem dX8_single_0 : decode cX8_single 0 = .ok (.aload_n 0, 1) := dk_42 (dk_at dksX8_single_0 0 rfl rfl)
theorem dX8_single_1 : decode cX8_single 1 = .ok (.iload_n 1, 1) := dk_27 (dk_at dksX8_single_0 1 rfl rfl)
theorem dX8_single_2 : decode cX8_single 2 = .ok (.iload_n 2, 1) := dk_28 (dk_at dksX8_single_0 2 rfl rfl)
theorem dX8_single_3 : decode cX8_single 3 = .ok (.invokevirtual 173, 3) := dk_182 0 173 (dk_at dksX8_single_0 3 rfl rfl)
theorem dX8_single_6 : decode cX8_single 6 = .ok (.ifCond .ne 5, 3) := dk_154 0 5 (dk_at dksX8_single_0 6 rfl rfl)
theorem dX8_single_9 : decode cX8_single 9 = .ok (.iconst 0, 1) := dk_3 (dk_at dksX8_single_0 9 rfl rfl)
theorem dX8_single_10 : decode cX8_single 10 = .ok (.ireturn, 1) := dk_172 (dk_at dksX8_single_0 10 rfl rfl)
theorem dX8_single_11 : decode cX8_single 11 = .ok (.aload_n 0, 1) := dk_42 (dk_at dksX8_single_0 11 rfl rfl)
theorem dX8_single_12 : decode cX8_single 12 = .ok (.getfield 7, 3) := dk_180 0 7 (dk_at dksX8_single_0 12 rfl rfl)
theorem dX8_single_15 : decode cX8_single 15 = .ok (.iload_n 1, 1) := dk_27 (dk_at dksX8_single_0 15 rfl rfl)
theorem dX8_single_16 : decode cX8_single 16 = .ok (.iaload, 1) := dk_46 (dk_at dksX8_single_0 16 rfl rfl)
theorem dX8_single_17 : decode cX8_single 17 = .ok (.ifCond .ne 5, 3) := dk_154 0 5 (dk_at dksX8_single_0 17 rfl rfl)
theorem dX8_single_20 : decode cX8_single 20 = .ok (.iconst 0, 1) := dk_3 (dk_at dksX8_single_0 20 rfl rfl)
theorem dX8_single_21 : decode cX8_single 21 = .ok (.ireturn, 1) := dk_172 (dk_at dksX8_single_0 21 rfl rfl)
theorem dX8_single_22 : decode cX8_single 22 = .ok (.aload_n 0, 1) := dk_42 (dk_at dksX8_single_0 22 rfl rfl)
theorem dX8_single_23 : decode cX8_single 23 = .ok (.iconst 0, 1) := dk_3 (dk_at dksX8_single_0 23 rfl rfl)
theorem dX8_single_24 : decode cX8_single 24 = .ok (.invokevirtual 176, 3) := dk_182 0 176 (dk_at dksX8_single_1 0 rfl rfl)
theorem dX8_single_27 : decode cX8_single 27 = .ok (.aload_n 0, 1) := dk_42 (dk_at dksX8_single_1 3 rfl rfl)
theorem dX8_single_28 : decode cX8_single 28 = .ok (.iload_n 1, 1) := dk_27 (dk_at dksX8_single_1 4 rfl rfl)
theorem dX8_single_29 : decode cX8_single 29 = .ok (.iconst 2, 1) := dk_5 (dk_at dksX8_single_1 5 rfl rfl)
theorem dX8_single_30 : decode cX8_single 30 = .ok (.invokevirtual 130, 3) := dk_182 0 130 (dk_at dksX8_single_1 6 rfl rfl)
theorem dX8_single_33 : decode cX8_single 33 = .ok (.aload_n 0, 1) := dk_42 (dk_at dksX8_single_1 9 rfl rfl)
theorem dX8_single_34 : decode cX8_single 34 = .ok (.iload_n 1, 1) := dk_27 (dk_at dksX8_single_1 10 rfl rfl)
theorem dX8_single_35 : decode cX8_single 35 = .ok (.iconst 3, 1) := dk_6 (dk_at dksX8_single_1 11 rfl rfl)
theorem dX8_single_36 : decode cX8_single 36 = .ok (.invokevirtual 133, 3) := dk_182 0 133 (dk_at dksX8_single_1 12 rfl rfl)
theorem dX8_single_39 : decode cX8_single 39 = .ok (.aload_n 0, 1) := dk_42 (dk_at dksX8_single_1 15 rfl rfl)
theorem dX8_single_40 : decode cX8_single 40 = .ok (.aload_n 0, 1) := dk_42 (dk_at dksX8_single_1 16 rfl rfl)
theorem dX8_single_41 : decode cX8_single 41 = .ok (.getfield 7, 3) := dk_180 0 7 (dk_at dksX8_single_1 17 rfl rfl)
theorem dX8_single_44 : decode cX8_single 44 = .ok (.iload_n 1, 1) := dk_27 (dk_at dksX8_single_1 20 rfl rfl)
theorem dX8_single_45 : decode cX8_single 45 = .ok (.iaload, 1) := dk_46 (dk_at dksX8_single_1 21 rfl rfl)
theorem dX8_single_46 : decode cX8_single 46 = .ok (.iload_n 2, 1) := dk_28 (dk_at dksX8_single_1 22 rfl rfl)
theorem dX8_single_47 : decode cX8_single 47 = .ok (.invokevirtual 180, 3) := dk_182 0 180 (dk_at dksX8_single_2 0 rfl rfl)
theorem dX8_single_50 : decode cX8_single 50 = .ok (.aload_n 0, 1) := dk_42 (dk_at dksX8_single_2 3 rfl rfl)
theorem dX8_single_51 : decode cX8_single 51 = .ok (.getfield 7, 3) := dk_180 0 7 (dk_at dksX8_single_2 4 rfl rfl)
theorem dX8_single_54 : decode cX8_single 54 = .ok (.iload_n 1, 1) := dk_27 (dk_at dksX8_single_2 7 rfl rfl)
theorem dX8_single_55 : decode cX8_single 55 = .ok (.iaload, 1) := dk_46 (dk_at dksX8_single_2 8 rfl rfl)
theorem dX8_single_56 : decode cX8_single 56 = .ok (.ifCond .ge 9, 3) := dk_156 0 9 (dk_at dksX8_single_2 9 rfl rfl)
theorem dX8_single_59 : decode cX8_single 59 = .ok (.ldc2_w 185, 3) := dk_20 0 185 (dk_at dksX8_single_2 12 rfl rfl)
theorem dX8_single_62 : decode cX8_single 62 = .ok (.goto 4, 3) := dk_167 0 4 (dk_at dksX8_single_2 15 rfl rfl)
theorem dX8_single_65 : decode cX8_single 65 = .ok (.lconst 0, 1) := dk_9 (dk_at dksX8_single_2 18 rfl rfl)
theorem dX8_single_66 : decode cX8_single 66 = .ok (.lor, 1) := dk_129 (dk_at dksX8_single_2 19 rfl rfl)
theorem dX8_single_67 : decode cX8_single 67 = .ok (.l2i, 1) := dk_136 (dk_at dksX8_single_2 20 rfl rfl)
theorem dX8_single_68 : decode cX8_single 68 = .ok (.ireturn, 1) := dk_172 (dk_at dksX8_single_2 21 rfl rfl)
abbrev cX8_machine : ByteArray := prog_11_method_62_code
def yX8_machine : MethodName := ⟨RX8, "machine", "(IJJ)J"⟩
def dkwX8_machine_4 : List UInt8 := [167, 0, 4, 3, 160, 0, 7, 32, 167, 0, 5, 22, 4, 173, 42, 27, 32, 22, 4, 182, 0, 225, 173]
abbrev dktX8_machine_4 : List UInt8 := dkwX8_machine_4 ++ []
def dkwX8_machine_3 : List UInt8 := [32, 184, 0, 212, 22, 4, 184, 0, 212, 148, 158, 0, 7, 4, 167, 0, 4, 3, 27, 7, 160, 0, 7, 4]
abbrev dktX8_machine_3 : List UInt8 := dkwX8_machine_3 ++ dktX8_machine_4
def dkwX8_machine_2 : List UInt8 := [16, 6, 162, 0, 60, 32, 184, 0, 153, 154, 0, 11, 22, 4, 184, 0, 153, 153, 0, 7, 20, 0, 187, 173]
abbrev dktX8_machine_2 : List UInt8 := dkwX8_machine_2 ++ dktX8_machine_3
def dkwX8_machine_1 : List UInt8 := [154, 0, 11, 42, 32, 22, 4, 182, 0, 217, 173, 27, 7, 162, 0, 10, 42, 27, 32, 182, 0, 221, 173, 27]
abbrev dktX8_machine_1 : List UInt8 := dkwX8_machine_1 ++ dktX8_machine_2
def dkwX8_machine_0 : List UInt8 := [27, 155, 0, 9, 27, 16, 10, 164, 0, 10, 42, 4, 182, 0, 79, 133, 173, 42, 3, 181, 0, 20, 27]
abbrev dktX8_machine_0 : List UInt8 := dkwX8_machine_0 ++ dktX8_machine_1
theorem dksX8_machine_0 : cX8_machine.data.toList.drop 0 = dktX8_machine_0 := by decide +kernel
theorem dksX8_machine_1 : cX8_machine.data.toList.drop 23 = dktX8_machine_1 := dk_seg dksX8_machine_0 23 rfl rfl
theorem dksX8_machine_2 : cX8_machine.data.toList.drop 47 = dktX8_machine_2 := dk_seg dksX8_machine_1 24 rfl rfl
theorem dksX8_machine_3 : cX8_machine.data.toList.drop 71 = dktX8_machine_3 := dk_seg dksX8_machine_2 24 rfl rfl
theorem dksX8_machine_4 : cX8_machine.data.toList.drop 95 = dktX8_machine_4 := dk_seg dksX8_machine_3 24 rfl rfl
theorem dX8_machine_0 : decode cX8_machine 0 = .ok (.iload_n 1, 1) := dk_27 (dk_at dksX8_machine_0 0 rfl rfl)
theorem dX8_machine_1 : decode cX8_machine 1 = .ok (.ifCond .lt 9, 3) := dk_155 0 9 (dk_at dksX8_machine_0 1 rfl rfl)
theorem dX8_machine_4 : decode cX8_machine 4 = .ok (.iload_n 1, 1) := dk_27 (dk_at dksX8_machine_0 4 rfl rfl)
theorem dX8_machine_5 : decode cX8_machine 5 = .ok (.bipush 10, 2) := dk_16 10 (dk_at dksX8_machine_0 5 rfl rfl)
theorem dX8_machine_7 : decode cX8_machine 7 = .ok (.if_icmp .le 10, 3) := dk_164 0 10 (dk_at dksX8_machine_0 7 rfl rfl)
theorem dX8_machine_10 : decode cX8_machine 10 = .ok (.aload_n 0, 1) := dk_42 (dk_at dksX8_machine_0 10 rfl rfl)
theorem dX8_machine_11 : decode cX8_machine 11 = .ok (.iconst 1, 1) := dk_4 (dk_at dksX8_machine_0 11 rfl rfl)
theorem dX8_machine_12 : decode cX8_machine 12 = .ok (.invokevirtual 79, 3) := dk_182 0 79 (dk_at dksX8_machine_0 12 rfl rfl)
theorem dX8_machine_15 : decode cX8_machine 15 = .ok (.i2l, 1) := dk_133 (dk_at dksX8_machine_0 15 rfl rfl)
theorem dX8_machine_16 : decode cX8_machine 16 = .ok (.lreturn, 1) := dk_173 (dk_at dksX8_machine_0 16 rfl rfl)
theorem dX8_machine_17 : decode cX8_machine 17 = .ok (.aload_n 0, 1) := dk_42 (dk_at dksX8_machine_0 17 rfl rfl)
theorem dX8_machine_18 : decode cX8_machine 18 = .ok (.iconst 0, 1) := dk_3 (dk_at dksX8_machine_0 18 rfl rfl)
theorem dX8_machine_19 : decode cX8_machine 19 = .ok (.putfield 20, 3) := dk_181 0 20 (dk_at dksX8_machine_0 19 rfl rfl)
theorem dX8_machine_22 : decode cX8_machine 22 = .ok (.iload_n 1, 1) := dk_27 (dk_at dksX8_machine_0 22 rfl rfl)
theorem dX8_machine_23 : decode cX8_machine 23 = .ok (.ifCond .ne 11, 3) := dk_154 0 11 (dk_at dksX8_machine_1 0 rfl rfl)
theorem dX8_machine_26 : decode cX8_machine 26 = .ok (.aload_n 0, 1) := dk_42 (dk_at dksX8_machine_1 3 rfl rfl)
theorem dX8_machine_27 : decode cX8_machine 27 = .ok (.lload_n 2, 1) := dk_32 (dk_at dksX8_machine_1 4 rfl rfl)
theorem dX8_machine_28 : decode cX8_machine 28 = .ok (.lload 4, 2) := dk_22 4 (dk_at dksX8_machine_1 5 rfl rfl)
theorem dX8_machine_30 : decode cX8_machine 30 = .ok (.invokevirtual 217, 3) := dk_182 0 217 (dk_at dksX8_machine_1 7 rfl rfl)
theorem dX8_machine_33 : decode cX8_machine 33 = .ok (.lreturn, 1) := dk_173 (dk_at dksX8_machine_1 10 rfl rfl)
theorem dX8_machine_34 : decode cX8_machine 34 = .ok (.iload_n 1, 1) := dk_27 (dk_at dksX8_machine_1 11 rfl rfl)
theorem dX8_machine_35 : decode cX8_machine 35 = .ok (.iconst 4, 1) := dk_7 (dk_at dksX8_machine_1 12 rfl rfl)
theorem dX8_machine_36 : decode cX8_machine 36 = .ok (.if_icmp .ge 10, 3) := dk_162 0 10 (dk_at dksX8_machine_1 13 rfl rfl)
theorem dX8_machine_39 : decode cX8_machine 39 = .ok (.aload_n 0, 1) := dk_42 (dk_at dksX8_machine_1 16 rfl rfl)
theorem dX8_machine_40 : decode cX8_machine 40 = .ok (.iload_n 1, 1) := dk_27 (dk_at dksX8_machine_1 17 rfl rfl)
theorem dX8_machine_41 : decode cX8_machine 41 = .ok (.lload_n 2, 1) := dk_32 (dk_at dksX8_machine_1 18 rfl rfl)
theorem dX8_machine_42 : decode cX8_machine 42 = .ok (.invokevirtual 221, 3) := dk_182 0 221 (dk_at dksX8_machine_1 19 rfl rfl)
theorem dX8_machine_45 : decode cX8_machine 45 = .ok (.lreturn, 1) := dk_173 (dk_at dksX8_machine_1 22 rfl rfl)
theorem dX8_machine_46 : decode cX8_machine 46 = .ok (.iload_n 1, 1) := dk_27 (dk_at dksX8_machine_1 23 rfl rfl)
theorem dX8_machine_47 : decode cX8_machine 47 = .ok (.bipush 6, 2) := dk_16 6 (dk_at dksX8_machine_2 0 rfl rfl)
theorem dX8_machine_49 : decode cX8_machine 49 = .ok (.if_icmp .ge 60, 3) := dk_162 0 60 (dk_at dksX8_machine_2 2 rfl rfl)
theorem dX8_machine_52 : decode cX8_machine 52 = .ok (.lload_n 2, 1) := dk_32 (dk_at dksX8_machine_2 5 rfl rfl)
theorem dX8_machine_53 : decode cX8_machine 53 = .ok (.invokestatic 153, 3) := dk_184 0 153 (dk_at dksX8_machine_2 6 rfl rfl)
theorem dX8_machine_56 : decode cX8_machine 56 = .ok (.ifCond .ne 11, 3) := dk_154 0 11 (dk_at dksX8_machine_2 9 rfl rfl)
theorem dX8_machine_59 : decode cX8_machine 59 = .ok (.lload 4, 2) := dk_22 4 (dk_at dksX8_machine_2 12 rfl rfl)
theorem dX8_machine_61 : decode cX8_machine 61 = .ok (.invokestatic 153, 3) := dk_184 0 153 (dk_at dksX8_machine_2 14 rfl rfl)
theorem dX8_machine_64 : decode cX8_machine 64 = .ok (.ifCond .eq 7, 3) := dk_153 0 7 (dk_at dksX8_machine_2 17 rfl rfl)
theorem dX8_machine_67 : decode cX8_machine 67 = .ok (.ldc2_w 187, 3) := dk_20 0 187 (dk_at dksX8_machine_2 20 rfl rfl)
theorem dX8_machine_70 : decode cX8_machine 70 = .ok (.lreturn, 1) := dk_173 (dk_at dksX8_machine_2 23 rfl rfl)
theorem dX8_machine_71 : decode cX8_machine 71 = .ok (.lload_n 2, 1) := dk_32 (dk_at dksX8_machine_3 0 rfl rfl)
theorem dX8_machine_72 : decode cX8_machine 72 = .ok (.invokestatic 212, 3) := dk_184 0 212 (dk_at dksX8_machine_3 1 rfl rfl)
theorem dX8_machine_75 : decode cX8_machine 75 = .ok (.lload 4, 2) := dk_22 4 (dk_at dksX8_machine_3 4 rfl rfl)
theorem dX8_machine_77 : decode cX8_machine 77 = .ok (.invokestatic 212, 3) := dk_184 0 212 (dk_at dksX8_machine_3 6 rfl rfl)
theorem dX8_machine_80 : decode cX8_machine 80 = .ok (.lcmp, 1) := dk_148 (dk_at dksX8_machine_3 9 rfl rfl)
theorem dX8_machine_81 : decode cX8_machine 81 = .ok (.ifCond .le 7, 3) := dk_158 0 7 (dk_at dksX8_machine_3 10 rfl rfl)
theorem dX8_machine_84 : decode cX8_machine 84 = .ok (.iconst 1, 1) := dk_4 (dk_at dksX8_machine_3 13 rfl rfl)
theorem dX8_machine_85 : decode cX8_machine 85 = .ok (.goto 4, 3) := dk_167 0 4 (dk_at dksX8_machine_3 14 rfl rfl)
theorem dX8_machine_88 : decode cX8_machine 88 = .ok (.iconst 0, 1) := dk_3 (dk_at dksX8_machine_3 17 rfl rfl)
theorem dX8_machine_89 : decode cX8_machine 89 = .ok (.iload_n 1, 1) := dk_27 (dk_at dksX8_machine_3 18 rfl rfl)
theorem dX8_machine_90 : decode cX8_machine 90 = .ok (.iconst 4, 1) := dk_7 (dk_at dksX8_machine_3 19 rfl rfl)
theorem dX8_machine_91 : decode cX8_machine 91 = .ok (.if_icmp .ne 7, 3) := dk_160 0 7 (dk_at dksX8_machine_3 20 rfl rfl)
theorem dX8_machine_94 : decode cX8_machine 94 = .ok (.iconst 1, 1) := dk_4 (dk_at dksX8_machine_3 23 rfl rfl)
theorem dX8_machine_95 : decode cX8_machine 95 = .ok (.goto 4, 3) := dk_167 0 4 (dk_at dksX8_machine_4 0 rfl rfl)
theorem dX8_machine_98 : decode cX8_machine 98 = .ok (.iconst 0, 1) := dk_3 (dk_at dksX8_machine_4 3 rfl rfl)
theorem dX8_machine_99 : decode cX8_machine 99 = .ok (.if_icmp .ne 7, 3) := dk_160 0 7 (dk_at dksX8_machine_4 4 rfl rfl)
theorem dX8_machine_102 : decode cX8_machine 102 = .ok (.lload_n 2, 1) := dk_32 (dk_at dksX8_machine_4 7 rfl rfl)
theorem dX8_machine_103 : decode cX8_machine 103 = .ok (.goto 5, 3) := dk_167 0 5 (dk_at dksX8_machine_4 8 rfl rfl)
theorem dX8_machine_106 : decode cX8_machine 106 = .ok (.lload 4, 2) := dk_22 4 (dk_at dksX8_machine_4 11 rfl rfl)
theorem dX8_machine_108 : decode cX8_machine 108 = .ok (.lreturn, 1) := dk_173 (dk_at dksX8_machine_4 13 rfl rfl)
theorem dX8_machine_109 : decode cX8_machine 109 = .ok (.aload_n 0, 1) := dk_42 (dk_at dksX8_machine_4 14 rfl rfl)
theorem dX8_machine_110 : decode cX8_machine 110 = .ok (.iload_n 1, 1) := dk_27 (dk_at dksX8_machine_4 15 rfl rfl)
theorem dX8_machine_111 : decode cX8_machine 111 = .ok (.lload_n 2, 1) := dk_32 (dk_at dksX8_machine_4 16 rfl rfl)
theorem dX8_machine_112 : decode cX8_machine 112 = .ok (.lload 4, 2) := dk_22 4 (dk_at dksX8_machine_4 17 rfl rfl)
theorem dX8_machine_114 : decode cX8_machine 114 = .ok (.invokevirtual 225, 3) := dk_182 0 225 (dk_at dksX8_machine_4 19 rfl rfl)
theorem dX8_machine_117 : decode cX8_machine 117 = .ok (.lreturn, 1) := dk_173 (dk_at dksX8_machine_4 22 rfl rfl)
abbrev cX8_remainder : ByteArray := prog_11_method_57_code
def yX8_remainder : MethodName := ⟨RX8, "remainde\x72", "(JJ)J"⟩
def dkwX8_remainder_7 : List UInt8 := [113, 55, 10, 42, 22, 10, 21, 12, 4, 182, 0, 191, 31, 20, 0, 183, 127, 129, 173]
abbrev dktX8_remainder_7 : List UInt8 := dkwX8_remainder_7 ++ []
def dkwX8_remainder_6 : List UInt8 := [162, 0, 27, 22, 7, 10, 16, 53, 21, 9, 96, 121, 148, 156, 0, 14, 22, 5, 22, 7, 21, 9, 116, 121]
abbrev dktX8_remainder_6 : List UInt8 := dkwX8_remainder_6 ++ dktX8_remainder_7
def dkwX8_remainder_5 : List UInt8 := [55, 10, 132, 13, 1, 167, 255, 235, 33, 184, 0, 105, 54, 12, 167, 0, 35, 21, 9, 116, 16, 53]
abbrev dktX8_remainder_5 : List UInt8 := dkwX8_remainder_5 ++ dktX8_remainder_6
def dkwX8_remainder_4 : List UInt8 := [22, 7, 113, 55, 10, 3, 54, 13, 21, 13, 21, 9, 162, 0, 20, 20, 0, 189, 22, 10, 105, 22, 7, 113]
abbrev dktX8_remainder_4 : List UInt8 := dkwX8_remainder_4 ++ dktX8_remainder_5
def dkwX8_remainder_3 : List UInt8 := [184, 0, 105, 100, 54, 9, 22, 5, 55, 10, 31, 184, 0, 105, 54, 12, 21, 9, 155, 0, 46, 22, 5]
abbrev dktX8_remainder_3 : List UInt8 := dkwX8_remainder_3 ++ dktX8_remainder_4
def dkwX8_remainder_2 : List UInt8 := [153, 0, 5, 31, 173, 31, 184, 0, 102, 55, 5, 33, 184, 0, 102, 55, 7, 31, 184, 0, 105, 33]
abbrev dktX8_remainder_2 : List UInt8 := dkwX8_remainder_2 ++ dktX8_remainder_3
def dkwX8_remainder_1 : List UInt8 := [184, 0, 102, 9, 148, 154, 0, 14, 33, 184, 0, 157, 154, 0, 7, 20, 0, 187, 173, 33, 184, 0, 157]
abbrev dktX8_remainder_1 : List UInt8 := dkwX8_remainder_1 ++ dktX8_remainder_2
def dkwX8_remainder_0 : List UInt8 := [31, 184, 0, 153, 154, 0, 33, 33, 184, 0, 153, 154, 0, 26, 31, 184, 0, 157, 154, 0, 19, 33]
abbrev dktX8_remainder_0 : List UInt8 := dkwX8_remainder_0 ++ dktX8_remainder_1
theorem dksX8_remainder_0 : cX8_remainder.data.toList.drop 0 = dktX8_remainder_0 := by decide +kernel
theorem dksX8_remainder_1 : cX8_remainder.data.toList.drop 22 = dktX8_remainder_1 := dk_seg dksX8_remainder_0 22 rfl rfl
theorem dksX8_remainder_2 : cX8_remainder.data.toList.drop 45 = dktX8_remainder_2 := dk_seg dksX8_remainder_1 23 rfl rfl
theorem dksX8_remainder_3 : cX8_remainder.data.toList.drop 67 = dktX8_remainder_3 := dk_seg dksX8_remainder_2 22 rfl rfl
theorem dksX8_remainder_4 : cX8_remainder.data.toList.drop 90 = dktX8_remainder_4 := dk_seg dksX8_remainder_3 23 rfl rfl
theorem dksX8_remainder_5 : cX8_remainder.data.toList.drop 114 = dktX8_remainder_5 := dk_seg dksX8_remainder_4 24 rfl rfl
theorem dksX8_remainder_6 : cX8_remainder.data.toList.drop 136 = dktX8_remainder_6 := dk_seg dksX8_remainder_5 22 rfl rfl
theorem dksX8_remainder_7 : cX8_remainder.data.toList.drop 160 = dktX8_remainder_7 := dk_seg dksX8_remainder_6 24 rfl rfl
theorem dX8_remainder_0 : decode cX8_remainder 0 = .ok (.lload_n 1, 1) := dk_31 (dk_at dksX8_remainder_0 0 rfl rfl)
theorem dX8_remainder_1 : decode cX8_remainder 1 = .ok (.invokestatic 153, 3) := dk_184 0 153 (dk_at dksX8_remainder_0 1 rfl rfl)
theorem dX8_remainder_4 : decode cX8_remainder 4 = .ok (.ifCond .ne 33, 3) := dk_154 0 33 (dk_at dksX8_remainder_0 4 rfl rfl)
theorem dX8_remainder_7 : decode cX8_remainder 7 = .ok (.lload_n 3, 1) := dk_33 (dk_at dksX8_remainder_0 7 rfl rfl)
theorem dX8_remainder_8 : decode cX8_remainder 8 = .ok (.invokestatic 153, 3) := dk_184 0 153 (dk_at dksX8_remainder_0 8 rfl rfl)
theorem dX8_remainder_11 : decode cX8_remainder 11 = .ok (.ifCond .ne 26, 3) := dk_154 0 26 (dk_at dksX8_remainder_0 11 rfl rfl)
theorem dX8_remainder_14 : decode cX8_remainder 14 = .ok (.lload_n 1, 1) := dk_31 (dk_at dksX8_remainder_0 14 rfl rfl)
theorem dX8_remainder_15 : decode cX8_remainder 15 = .ok (.invokestatic 157, 3) := dk_184 0 157 (dk_at dksX8_remainder_0 15 rfl rfl)
theorem dX8_remainder_18 : decode cX8_remainder 18 = .ok (.ifCond .ne 19, 3) := dk_154 0 19 (dk_at dksX8_remainder_0 18 rfl rfl)
theorem dX8_remainder_21 : decode cX8_remainder 21 = .ok (.lload_n 3, 1) := dk_33 (dk_at dksX8_remainder_0 21 rfl rfl)
theorem dX8_remainder_22 : decode cX8_remainder 22 = .ok (.invokestatic 102, 3) := dk_184 0 102 (dk_at dksX8_remainder_1 0 rfl rfl)
theorem dX8_remainder_25 : decode cX8_remainder 25 = .ok (.lconst 0, 1) := dk_9 (dk_at dksX8_remainder_1 3 rfl rfl)
theorem dX8_remainder_26 : decode cX8_remainder 26 = .ok (.lcmp, 1) := dk_148 (dk_at dksX8_remainder_1 4 rfl rfl)
theorem dX8_remainder_27 : decode cX8_remainder 27 = .ok (.ifCond .ne 14, 3) := dk_154 0 14 (dk_at dksX8_remainder_1 5 rfl rfl)
theorem dX8_remainder_30 : decode cX8_remainder 30 = .ok (.lload_n 3, 1) := dk_33 (dk_at dksX8_remainder_1 8 rfl rfl)
theorem dX8_remainder_31 : decode cX8_remainder 31 = .ok (.invokestatic 157, 3) := dk_184 0 157 (dk_at dksX8_remainder_1 9 rfl rfl)
theorem dX8_remainder_34 : decode cX8_remainder 34 = .ok (.ifCond .ne 7, 3) := dk_154 0 7 (dk_at dksX8_remainder_1 12 rfl rfl)
theorem dX8_remainder_37 : decode cX8_remainder 37 = .ok (.ldc2_w 187, 3) := dk_20 0 187 (dk_at dksX8_remainder_1 15 rfl rfl)
theorem dX8_remainder_40 : decode cX8_remainder 40 = .ok (.lreturn, 1) := dk_173 (dk_at dksX8_remainder_1 18 rfl rfl)
theorem dX8_remainder_41 : decode cX8_remainder 41 = .ok (.lload_n 3, 1) := dk_33 (dk_at dksX8_remainder_1 19 rfl rfl)
theorem dX8_remainder_42 : decode cX8_remainder 42 = .ok (.invokestatic 157, 3) := dk_184 0 157 (dk_at dksX8_remainder_1 20 rfl rfl)
theorem dX8_remainder_45 : decode cX8_remainder 45 = .ok (.ifCond .eq 5, 3) := dk_153 0 5 (dk_at dksX8_remainder_2 0 rfl rfl)
theorem dX8_remainder_48 : decode cX8_remainder 48 = .ok (.lload_n 1, 1) := dk_31 (dk_at dksX8_remainder_2 3 rfl rfl)
theorem dX8_remainder_49 : decode cX8_remainder 49 = .ok (.lreturn, 1) := dk_173 (dk_at dksX8_remainder_2 4 rfl rfl)
theorem dX8_remainder_50 : decode cX8_remainder 50 = .ok (.lload_n 1, 1) := dk_31 (dk_at dksX8_remainder_2 5 rfl rfl)
theorem dX8_remainder_51 : decode cX8_remainder 51 = .ok (.invokestatic 102, 3) := dk_184 0 102 (dk_at dksX8_remainder_2 6 rfl rfl)
theorem dX8_remainder_54 : decode cX8_remainder 54 = .ok (.lstore 5, 2) := dk_55 5 (dk_at dksX8_remainder_2 9 rfl rfl)
theorem dX8_remainder_56 : decode cX8_remainder 56 = .ok (.lload_n 3, 1) := dk_33 (dk_at dksX8_remainder_2 11 rfl rfl)
theorem dX8_remainder_57 : decode cX8_remainder 57 = .ok (.invokestatic 102, 3) := dk_184 0 102 (dk_at dksX8_remainder_2 12 rfl rfl)
theorem dX8_remainder_60 : decode cX8_remainder 60 = .ok (.lstore 7, 2) := dk_55 7 (dk_at dksX8_remainder_2 15 rfl rfl)
theorem dX8_remainder_62 : decode cX8_remainder 62 = .ok (.lload_n 1, 1) := dk_31 (dk_at dksX8_remainder_2 17 rfl rfl)
theorem dX8_remainder_63 : decode cX8_remainder 63 = .ok (.invokestatic 105, 3) := dk_184 0 105 (dk_at dksX8_remainder_2 18 rfl rfl)
theorem dX8_remainder_66 : decode cX8_remainder 66 = .ok (.lload_n 3, 1) := dk_33 (dk_at dksX8_remainder_2 21 rfl rfl)
theorem dX8_remainder_67 : decode cX8_remainder 67 = .ok (.invokestatic 105, 3) := dk_184 0 105 (dk_at dksX8_remainder_3 0 rfl rfl)
theorem dX8_remainder_70 : decode cX8_remainder 70 = .ok (.isub, 1) := dk_100 (dk_at dksX8_remainder_3 3 rfl rfl)
theorem dX8_remainder_71 : decode cX8_remainder 71 = .ok (.istore 9, 2) := dk_54 9 (dk_at dksX8_remainder_3 4 rfl rfl)
theorem dX8_remainder_73 : decode cX8_remainder 73 = .ok (.lload 5, 2) := dk_22 5 (dk_at dksX8_remainder_3 6 rfl rfl)
theorem dX8_remainder_75 : decode cX8_remainder 75 = .ok (.lstore 10, 2) := dk_55 10 (dk_at dksX8_remainder_3 8 rfl rfl)
theorem dX8_remainder_77 : decode cX8_remainder 77 = .ok (.lload_n 1, 1) := dk_31 (dk_at dksX8_remainder_3 10 rfl rfl)
theorem dX8_remainder_78 : decode cX8_remainder 78 = .ok (.invokestatic 105, 3) := dk_184 0 105 (dk_at dksX8_remainder_3 11 rfl rfl)
theorem dX8_remainder_81 : decode cX8_remainder 81 = .ok (.istore 12, 2) := dk_54 12 (dk_at dksX8_remainder_3 14 rfl rfl)
theorem dX8_remainder_83 : decode cX8_remainder 83 = .ok (.iload 9, 2) := dk_21 9 (dk_at dksX8_remainder_3 16 rfl rfl)
theorem dX8_remainder_85 : decode cX8_remainder 85 = .ok (.ifCond .lt 46, 3) := dk_155 0 46 (dk_at dksX8_remainder_3 18 rfl rfl)
theorem dX8_remainder_88 : decode cX8_remainder 88 = .ok (.lload 5, 2) := dk_22 5 (dk_at dksX8_remainder_3 21 rfl rfl)
theorem dX8_remainder_90 : decode cX8_remainder 90 = .ok (.lload 7, 2) := dk_22 7 (dk_at dksX8_remainder_4 0 rfl rfl)
theorem dX8_remainder_92 : decode cX8_remainder 92 = .ok (.lrem, 1) := dk_113 (dk_at dksX8_remainder_4 2 rfl rfl)
theorem dX8_remainder_93 : decode cX8_remainder 93 = .ok (.lstore 10, 2) := dk_55 10 (dk_at dksX8_remainder_4 3 rfl rfl)
theorem dX8_remainder_95 : decode cX8_remainder 95 = .ok (.iconst 0, 1) := dk_3 (dk_at dksX8_remainder_4 5 rfl rfl)
theorem dX8_remainder_96 : decode cX8_remainder 96 = .ok (.istore 13, 2) := dk_54 13 (dk_at dksX8_remainder_4 6 rfl rfl)
theorem dX8_remainder_98 : decode cX8_remainder 98 = .ok (.iload 13, 2) := dk_21 13 (dk_at dksX8_remainder_4 8 rfl rfl)
theorem dX8_remainder_100 : decode cX8_remainder 100 = .ok (.iload 9, 2) := dk_21 9 (dk_at dksX8_remainder_4 10 rfl rfl)
theorem dX8_remainder_102 : decode cX8_remainder 102 = .ok (.if_icmp .ge 20, 3) := dk_162 0 20 (dk_at dksX8_remainder_4 12 rfl rfl)
theorem dX8_remainder_105 : decode cX8_remainder 105 = .ok (.ldc2_w 189, 3) := dk_20 0 189 (dk_at dksX8_remainder_4 15 rfl rfl)
theorem dX8_remainder_108 : decode cX8_remainder 108 = .ok (.lload 10, 2) := dk_22 10 (dk_at dksX8_remainder_4 18 rfl rfl)
theorem dX8_remainder_110 : decode cX8_remainder 110 = .ok (.lmul, 1) := dk_105 (dk_at dksX8_remainder_4 20 rfl rfl)
theorem dX8_remainder_111 : decode cX8_remainder 111 = .ok (.lload 7, 2) := dk_22 7 (dk_at dksX8_remainder_4 21 rfl rfl)
theorem dX8_remainder_113 : decode cX8_remainder 113 = .ok (.lrem, 1) := dk_113 (dk_at dksX8_remainder_4 23 rfl rfl)
theorem dX8_remainder_114 : decode cX8_remainder 114 = .ok (.lstore 10, 2) := dk_55 10 (dk_at dksX8_remainder_5 0 rfl rfl)
theorem dX8_remainder_116 : decode cX8_remainder 116 = .ok (.iinc 13 1, 3) := dk_132 13 1 (dk_at dksX8_remainder_5 2 rfl rfl)
theorem dX8_remainder_119 : decode cX8_remainder 119 = .ok (.goto (-21), 3) := dk_167 255 235 (dk_at dksX8_remainder_5 5 rfl rfl)
theorem dX8_remainder_122 : decode cX8_remainder 122 = .ok (.lload_n 3, 1) := dk_33 (dk_at dksX8_remainder_5 8 rfl rfl)
theorem dX8_remainder_123 : decode cX8_remainder 123 = .ok (.invokestatic 105, 3) := dk_184 0 105 (dk_at dksX8_remainder_5 9 rfl rfl)
theorem dX8_remainder_126 : decode cX8_remainder 126 = .ok (.istore 12, 2) := dk_54 12 (dk_at dksX8_remainder_5 12 rfl rfl)
theorem dX8_remainder_128 : decode cX8_remainder 128 = .ok (.goto 35, 3) := dk_167 0 35 (dk_at dksX8_remainder_5 14 rfl rfl)
theorem dX8_remainder_131 : decode cX8_remainder 131 = .ok (.iload 9, 2) := dk_21 9 (dk_at dksX8_remainder_5 17 rfl rfl)
theorem dX8_remainder_133 : decode cX8_remainder 133 = .ok (.ineg, 1) := dk_116 (dk_at dksX8_remainder_5 19 rfl rfl)
theorem dX8_remainder_134 : decode cX8_remainder 134 = .ok (.bipush 53, 2) := dk_16 53 (dk_at dksX8_remainder_5 20 rfl rfl)
theorem dX8_remainder_136 : decode cX8_remainder 136 = .ok (.if_icmp .ge 27, 3) := dk_162 0 27 (dk_at dksX8_remainder_6 0 rfl rfl)
theorem dX8_remainder_139 : decode cX8_remainder 139 = .ok (.lload 7, 2) := dk_22 7 (dk_at dksX8_remainder_6 3 rfl rfl)
theorem dX8_remainder_141 : decode cX8_remainder 141 = .ok (.lconst 1, 1) := dk_10 (dk_at dksX8_remainder_6 5 rfl rfl)
theorem dX8_remainder_142 : decode cX8_remainder 142 = .ok (.bipush 53, 2) := dk_16 53 (dk_at dksX8_remainder_6 6 rfl rfl)
theorem dX8_remainder_144 : decode cX8_remainder 144 = .ok (.iload 9, 2) := dk_21 9 (dk_at dksX8_remainder_6 8 rfl rfl)
theorem dX8_remainder_146 : decode cX8_remainder 146 = .ok (.iadd, 1) := dk_96 (dk_at dksX8_remainder_6 10 rfl rfl)
theorem dX8_remainder_147 : decode cX8_remainder 147 = .ok (.lshl, 1) := dk_121 (dk_at dksX8_remainder_6 11 rfl rfl)
theorem dX8_remainder_148 : decode cX8_remainder 148 = .ok (.lcmp, 1) := dk_148 (dk_at dksX8_remainder_6 12 rfl rfl)
theorem dX8_remainder_149 : decode cX8_remainder 149 = .ok (.ifCond .ge 14, 3) := dk_156 0 14 (dk_at dksX8_remainder_6 13 rfl rfl)
theorem dX8_remainder_152 : decode cX8_remainder 152 = .ok (.lload 5, 2) := dk_22 5 (dk_at dksX8_remainder_6 16 rfl rfl)
theorem dX8_remainder_154 : decode cX8_remainder 154 = .ok (.lload 7, 2) := dk_22 7 (dk_at dksX8_remainder_6 18 rfl rfl)
theorem dX8_remainder_156 : decode cX8_remainder 156 = .ok (.iload 9, 2) := dk_21 9 (dk_at dksX8_remainder_6 20 rfl rfl)
theorem dX8_remainder_158 : decode cX8_remainder 158 = .ok (.ineg, 1) := dk_116 (dk_at dksX8_remainder_6 22 rfl rfl)
theorem dX8_remainder_159 : decode cX8_remainder 159 = .ok (.lshl, 1) := dk_121 (dk_at dksX8_remainder_6 23 rfl rfl)
theorem dX8_remainder_160 : decode cX8_remainder 160 = .ok (.lrem, 1) := dk_113 (dk_at dksX8_remainder_7 0 rfl rfl)
theorem dX8_remainder_161 : decode cX8_remainder 161 = .ok (.lstore 10, 2) := dk_55 10 (dk_at dksX8_remainder_7 1 rfl rfl)
theorem dX8_remainder_163 : decode cX8_remainder 163 = .ok (.aload_n 0, 1) := dk_42 (dk_at dksX8_remainder_7 3 rfl rfl)
theorem dX8_remainder_164 : decode cX8_remainder 164 = .ok (.lload 10, 2) := dk_22 10 (dk_at dksX8_remainder_7 4 rfl rfl)
theorem dX8_remainder_166 : decode cX8_remainder 166 = .ok (.iload 12, 2) := dk_21 12 (dk_at dksX8_remainder_7 6 rfl rfl)
theorem dX8_remainder_168 : decode cX8_remainder 168 = .ok (.iconst 1, 1) := dk_4 (dk_at dksX8_remainder_7 8 rfl rfl)
theorem dX8_remainder_169 : decode cX8_remainder 169 = .ok (.invokevirtual 191, 3) := dk_182 0 191 (dk_at dksX8_remainder_7 9 rfl rfl)
theorem dX8_remainder_172 : decode cX8_remainder 172 = .ok (.lload_n 1, 1) := dk_31 (dk_at dksX8_remainder_7 12 rfl rfl)
theorem dX8_remainder_173 : decode cX8_remainder 173 = .ok (.ldc2_w 183, 3) := dk_20 0 183 (dk_at dksX8_remainder_7 13 rfl rfl)
theorem dX8_remainder_176 : decode cX8_remainder 176 = .ok (.land, 1) := dk_127 (dk_at dksX8_remainder_7 16 rfl rfl)
theorem dX8_remainder_177 : decode cX8_remainder 177 = .ok (.lor, 1) := dk_129 (dk_at dksX8_remainder_7 17 rfl rfl)
theorem dX8_remainder_178 : decode cX8_remainder 178 = .ok (.lreturn, 1) := dk_173 (dk_at dksX8_remainder_7 18 rfl rfl)
abbrev cX8_scaled : ByteArray := prog_11_method_56_code
def yX8_scaled : MethodName := ⟨RX8, "scaled", "(JIZ)J"⟩
def dkwX8_scaled_4 : List UInt8 := [4, 3, 182, 0, 180, 173]
abbrev dktX8_scaled_4 : List UInt8 := dkwX8_scaled_4 ++ []
def dkwX8_scaled_3 : List UInt8 := [42, 29, 158, 0, 7, 5, 167, 0, 4, 6, 29, 158, 0, 7, 29, 167, 0, 5, 29, 116, 182, 0, 34, 42]
abbrev dktX8_scaled_3 : List UInt8 := dkwX8_scaled_3 ++ dktX8_scaled_4
def dkwX8_scaled_2 : List UInt8 := [96, 164, 0, 23, 42, 10, 42, 180, 0, 160, 4, 100, 121, 42, 180, 0, 166, 4, 96, 4, 182, 0, 169, 173]
abbrev dktX8_scaled_2 : List UInt8 := dkwX8_scaled_2 ++ dktX8_scaled_3
def dkwX8_scaled_1 : List UInt8 := [182, 0, 68, 29, 42, 180, 0, 163, 17, 0, 200, 100, 162, 0, 5, 9, 173, 29, 42, 180, 0, 166, 16, 100]
abbrev dktX8_scaled_1 : List UInt8 := dkwX8_scaled_1 ++ dktX8_scaled_2
def dkwX8_scaled_0 : List UInt8 := [31, 9, 148, 154, 0, 5, 9, 173, 42, 21, 4, 182, 0, 176, 42, 5, 31, 182, 0, 68, 42, 6, 10]
abbrev dktX8_scaled_0 : List UInt8 := dkwX8_scaled_0 ++ dktX8_scaled_1
theorem dksX8_scaled_0 : cX8_scaled.data.toList.drop 0 = dktX8_scaled_0 := by decide +kernel
theorem dksX8_scaled_1 : cX8_scaled.data.toList.drop 23 = dktX8_scaled_1 := dk_seg dksX8_scaled_0 23 rfl rfl
theorem dksX8_scaled_2 : cX8_scaled.data.toList.drop 47 = dktX8_scaled_2 := dk_seg dksX8_scaled_1 24 rfl rfl
theorem dksX8_scaled_3 : cX8_scaled.data.toList.drop 71 = dktX8_scaled_3 := dk_seg dksX8_scaled_2 24 rfl rfl
theorem dksX8_scaled_4 : cX8_scaled.data.toList.drop 95 = dktX8_scaled_4 := dk_seg dksX8_scaled_3 24 rfl rfl
theorem dX8_scaled_0 : decode cX8_scaled 0 = .ok (.lload_n 1, 1) := dk_31 (dk_at dksX8_scaled_0 0 rfl rfl)
theorem dX8_scaled_1 : decode cX8_scaled 1 = .ok (.lconst 0, 1) := dk_9 (dk_at dksX8_scaled_0 1 rfl rfl)
theorem dX8_scaled_2 : decode cX8_scaled 2 = .ok (.lcmp, 1) := dk_148 (dk_at dksX8_scaled_0 2 rfl rfl)
theorem dX8_scaled_3 : decode cX8_scaled 3 = .ok (.ifCond .ne 5, 3) := dk_154 0 5 (dk_at dksX8_scaled_0 3 rfl rfl)
theorem dX8_scaled_6 : decode cX8_scaled 6 = .ok (.lconst 0, 1) := dk_9 (dk_at dksX8_scaled_0 6 rfl rfl)
theorem dX8_scaled_7 : decode cX8_scaled 7 = .ok (.lreturn, 1) := dk_173 (dk_at dksX8_scaled_0 7 rfl rfl)
theorem dX8_scaled_8 : decode cX8_scaled 8 = .ok (.aload_n 0, 1) := dk_42 (dk_at dksX8_scaled_0 8 rfl rfl)
theorem dX8_scaled_9 : decode cX8_scaled 9 = .ok (.iload 4, 2) := dk_21 4 (dk_at dksX8_scaled_0 9 rfl rfl)
theorem dX8_scaled_11 : decode cX8_scaled 11 = .ok (.invokevirtual 176, 3) := dk_182 0 176 (dk_at dksX8_scaled_0 11 rfl rfl)
theorem dX8_scaled_14 : decode cX8_scaled 14 = .ok (.aload_n 0, 1) := dk_42 (dk_at dksX8_scaled_0 14 rfl rfl)
theorem dX8_scaled_15 : decode cX8_scaled 15 = .ok (.iconst 2, 1) := dk_5 (dk_at dksX8_scaled_0 15 rfl rfl)
theorem dX8_scaled_16 : decode cX8_scaled 16 = .ok (.lload_n 1, 1) := dk_31 (dk_at dksX8_scaled_0 16 rfl rfl)
theorem dX8_scaled_17 : decode cX8_scaled 17 = .ok (.invokevirtual 68, 3) := dk_182 0 68 (dk_at dksX8_scaled_0 17 rfl rfl)
theorem dX8_scaled_20 : decode cX8_scaled 20 = .ok (.aload_n 0, 1) := dk_42 (dk_at dksX8_scaled_0 20 rfl rfl)
theorem dX8_scaled_21 : decode cX8_scaled 21 = .ok (.iconst 3, 1) := dk_6 (dk_at dksX8_scaled_0 21 rfl rfl)
theorem dX8_scaled_22 : decode cX8_scaled 22 = .ok (.lconst 1, 1) := dk_10 (dk_at dksX8_scaled_0 22 rfl rfl)
theorem dX8_scaled_23 : decode cX8_scaled 23 = .ok (.invokevirtual 68, 3) := dk_182 0 68 (dk_at dksX8_scaled_1 0 rfl rfl)
theorem dX8_scaled_26 : decode cX8_scaled 26 = .ok (.iload_n 3, 1) := dk_29 (dk_at dksX8_scaled_1 3 rfl rfl)
theorem dX8_scaled_27 : decode cX8_scaled 27 = .ok (.aload_n 0, 1) := dk_42 (dk_at dksX8_scaled_1 4 rfl rfl)
theorem dX8_scaled_28 : decode cX8_scaled 28 = .ok (.getfield 163, 3) := dk_180 0 163 (dk_at dksX8_scaled_1 5 rfl rfl)
theorem dX8_scaled_31 : decode cX8_scaled 31 = .ok (.sipush 200, 3) := dk_17 0 200 (dk_at dksX8_scaled_1 8 rfl rfl)
theorem dX8_scaled_34 : decode cX8_scaled 34 = .ok (.isub, 1) := dk_100 (dk_at dksX8_scaled_1 11 rfl rfl)
theorem dX8_scaled_35 : decode cX8_scaled 35 = .ok (.if_icmp .ge 5, 3) := dk_162 0 5 (dk_at dksX8_scaled_1 12 rfl rfl)
theorem dX8_scaled_38 : decode cX8_scaled 38 = .ok (.lconst 0, 1) := dk_9 (dk_at dksX8_scaled_1 15 rfl rfl)
theorem dX8_scaled_39 : decode cX8_scaled 39 = .ok (.lreturn, 1) := dk_173 (dk_at dksX8_scaled_1 16 rfl rfl)
theorem dX8_scaled_40 : decode cX8_scaled 40 = .ok (.iload_n 3, 1) := dk_29 (dk_at dksX8_scaled_1 17 rfl rfl)
theorem dX8_scaled_41 : decode cX8_scaled 41 = .ok (.aload_n 0, 1) := dk_42 (dk_at dksX8_scaled_1 18 rfl rfl)
theorem dX8_scaled_42 : decode cX8_scaled 42 = .ok (.getfield 166, 3) := dk_180 0 166 (dk_at dksX8_scaled_1 19 rfl rfl)
theorem dX8_scaled_45 : decode cX8_scaled 45 = .ok (.bipush 100, 2) := dk_16 100 (dk_at dksX8_scaled_1 22 rfl rfl)
theorem dX8_scaled_47 : decode cX8_scaled 47 = .ok (.iadd, 1) := dk_96 (dk_at dksX8_scaled_2 0 rfl rfl)
theorem dX8_scaled_48 : decode cX8_scaled 48 = .ok (.if_icmp .le 23, 3) := dk_164 0 23 (dk_at dksX8_scaled_2 1 rfl rfl)
theorem dX8_scaled_51 : decode cX8_scaled 51 = .ok (.aload_n 0, 1) := dk_42 (dk_at dksX8_scaled_2 4 rfl rfl)
theorem dX8_scaled_52 : decode cX8_scaled 52 = .ok (.lconst 1, 1) := dk_10 (dk_at dksX8_scaled_2 5 rfl rfl)
theorem dX8_scaled_53 : decode cX8_scaled 53 = .ok (.aload_n 0, 1) := dk_42 (dk_at dksX8_scaled_2 6 rfl rfl)
theorem dX8_scaled_54 : decode cX8_scaled 54 = .ok (.getfield 160, 3) := dk_180 0 160 (dk_at dksX8_scaled_2 7 rfl rfl)
theorem dX8_scaled_57 : decode cX8_scaled 57 = .ok (.iconst 1, 1) := dk_4 (dk_at dksX8_scaled_2 10 rfl rfl)
theorem dX8_scaled_58 : decode cX8_scaled 58 = .ok (.isub, 1) := dk_100 (dk_at dksX8_scaled_2 11 rfl rfl)
theorem dX8_scaled_59 : decode cX8_scaled 59 = .ok (.lshl, 1) := dk_121 (dk_at dksX8_scaled_2 12 rfl rfl)
theorem dX8_scaled_60 : decode cX8_scaled 60 = .ok (.aload_n 0, 1) := dk_42 (dk_at dksX8_scaled_2 13 rfl rfl)
theorem dX8_scaled_61 : decode cX8_scaled 61 = .ok (.getfield 166, 3) := dk_180 0 166 (dk_at dksX8_scaled_2 14 rfl rfl)
theorem dX8_scaled_64 : decode cX8_scaled 64 = .ok (.iconst 1, 1) := dk_4 (dk_at dksX8_scaled_2 17 rfl rfl)
theorem dX8_scaled_65 : decode cX8_scaled 65 = .ok (.iadd, 1) := dk_96 (dk_at dksX8_scaled_2 18 rfl rfl)
theorem dX8_scaled_66 : decode cX8_scaled 66 = .ok (.iconst 1, 1) := dk_4 (dk_at dksX8_scaled_2 19 rfl rfl)
theorem dX8_scaled_67 : decode cX8_scaled 67 = .ok (.invokevirtual 169, 3) := dk_182 0 169 (dk_at dksX8_scaled_2 20 rfl rfl)
theorem dX8_scaled_70 : decode cX8_scaled 70 = .ok (.lreturn, 1) := dk_173 (dk_at dksX8_scaled_2 23 rfl rfl)
theorem dX8_scaled_71 : decode cX8_scaled 71 = .ok (.aload_n 0, 1) := dk_42 (dk_at dksX8_scaled_3 0 rfl rfl)
theorem dX8_scaled_72 : decode cX8_scaled 72 = .ok (.iload_n 3, 1) := dk_29 (dk_at dksX8_scaled_3 1 rfl rfl)
theorem dX8_scaled_73 : decode cX8_scaled 73 = .ok (.ifCond .le 7, 3) := dk_158 0 7 (dk_at dksX8_scaled_3 2 rfl rfl)
theorem dX8_scaled_76 : decode cX8_scaled 76 = .ok (.iconst 2, 1) := dk_5 (dk_at dksX8_scaled_3 5 rfl rfl)
theorem dX8_scaled_77 : decode cX8_scaled 77 = .ok (.goto 4, 3) := dk_167 0 4 (dk_at dksX8_scaled_3 6 rfl rfl)
theorem dX8_scaled_80 : decode cX8_scaled 80 = .ok (.iconst 3, 1) := dk_6 (dk_at dksX8_scaled_3 9 rfl rfl)
theorem dX8_scaled_81 : decode cX8_scaled 81 = .ok (.iload_n 3, 1) := dk_29 (dk_at dksX8_scaled_3 10 rfl rfl)
theorem dX8_scaled_82 : decode cX8_scaled 82 = .ok (.ifCond .le 7, 3) := dk_158 0 7 (dk_at dksX8_scaled_3 11 rfl rfl)
theorem dX8_scaled_85 : decode cX8_scaled 85 = .ok (.iload_n 3, 1) := dk_29 (dk_at dksX8_scaled_3 14 rfl rfl)
theorem dX8_scaled_86 : decode cX8_scaled 86 = .ok (.goto 5, 3) := dk_167 0 5 (dk_at dksX8_scaled_3 15 rfl rfl)
theorem dX8_scaled_89 : decode cX8_scaled 89 = .ok (.iload_n 3, 1) := dk_29 (dk_at dksX8_scaled_3 18 rfl rfl)
theorem dX8_scaled_90 : decode cX8_scaled 90 = .ok (.ineg, 1) := dk_116 (dk_at dksX8_scaled_3 19 rfl rfl)
theorem dX8_scaled_91 : decode cX8_scaled 91 = .ok (.invokevirtual 34, 3) := dk_182 0 34 (dk_at dksX8_scaled_3 20 rfl rfl)
theorem dX8_scaled_94 : decode cX8_scaled 94 = .ok (.aload_n 0, 1) := dk_42 (dk_at dksX8_scaled_3 23 rfl rfl)
theorem dX8_scaled_95 : decode cX8_scaled 95 = .ok (.iconst 1, 1) := dk_4 (dk_at dksX8_scaled_4 0 rfl rfl)
theorem dX8_scaled_96 : decode cX8_scaled 96 = .ok (.iconst 0, 1) := dk_3 (dk_at dksX8_scaled_4 1 rfl rfl)
theorem dX8_scaled_97 : decode cX8_scaled 97 = .ok (.invokevirtual 180, 3) := dk_182 0 180 (dk_at dksX8_scaled_4 2 rfl rfl)
theorem dX8_scaled_100 : decode cX8_scaled 100 = .ok (.lreturn, 1) := dk_173 (dk_at dksX8_scaled_4 5 rfl rfl)
abbrev cX8_rounded : ByteArray := prog_11_method_59_code
def yX8_rounded : MethodName := ⟨RX8, "rounded", "(IJ)J"⟩
def dkwX8_rounded_6 : List UInt8 := [182, 0, 191, 32, 20, 0, 183, 127, 129, 173]
abbrev dktX8_rounded_6 : List UInt8 := dkwX8_rounded_6 ++ []
def dkwX8_rounded_5 : List UInt8 := [3, 54, 6, 22, 4, 21, 6, 153, 0, 7, 10, 167, 0, 4, 9, 97, 55, 4, 42, 22, 4, 3, 4]
abbrev dktX8_rounded_5 : List UInt8 := dkwX8_rounded_5 ++ dktX8_rounded_6
def dkwX8_rounded_4 : List UInt8 := [159, 0, 20, 42, 180, 0, 194, 5, 160, 0, 16, 22, 4, 10, 127, 10, 148, 154, 0, 7, 4, 167, 0, 4]
abbrev dktX8_rounded_4 : List UInt8 := dkwX8_rounded_4 ++ dktX8_rounded_5
def dkwX8_rounded_3 : List UInt8 := [155, 0, 14, 42, 180, 0, 194, 158, 0, 7, 4, 167, 0, 37, 3, 167, 0, 33, 42, 180, 0, 194, 6]
abbrev dktX8_rounded_3 : List UInt8 := dkwX8_rounded_3 ++ dktX8_rounded_4
def dkwX8_rounded_2 : List UInt8 := [180, 0, 194, 158, 0, 7, 4, 167, 0, 63, 3, 167, 0, 59, 27, 5, 160, 0, 24, 32, 9, 148]
abbrev dktX8_rounded_2 : List UInt8 := dkwX8_rounded_2 ++ dktX8_rounded_3
def dkwX8_rounded_1 : List UInt8 := [155, 0, 5, 32, 173, 42, 32, 182, 0, 197, 55, 4, 27, 4, 160, 0, 24, 32, 9, 148, 156, 0, 14, 42]
abbrev dktX8_rounded_1 : List UInt8 := dkwX8_rounded_1 ++ dktX8_rounded_2
def dkwX8_rounded_0 : List UInt8 := [32, 184, 0, 153, 153, 0, 7, 20, 0, 187, 173, 32, 184, 0, 157, 154, 0, 10, 32, 184, 0, 105]
abbrev dktX8_rounded_0 : List UInt8 := dkwX8_rounded_0 ++ dktX8_rounded_1
theorem dksX8_rounded_0 : cX8_rounded.data.toList.drop 0 = dktX8_rounded_0 := by decide +kernel
theorem dksX8_rounded_1 : cX8_rounded.data.toList.drop 22 = dktX8_rounded_1 := dk_seg dksX8_rounded_0 22 rfl rfl
theorem dksX8_rounded_2 : cX8_rounded.data.toList.drop 46 = dktX8_rounded_2 := dk_seg dksX8_rounded_1 24 rfl rfl
theorem dksX8_rounded_3 : cX8_rounded.data.toList.drop 68 = dktX8_rounded_3 := dk_seg dksX8_rounded_2 22 rfl rfl
theorem dksX8_rounded_4 : cX8_rounded.data.toList.drop 91 = dktX8_rounded_4 := dk_seg dksX8_rounded_3 23 rfl rfl
theorem dksX8_rounded_5 : cX8_rounded.data.toList.drop 115 = dktX8_rounded_5 := dk_seg dksX8_rounded_4 24 rfl rfl
theorem dksX8_rounded_6 : cX8_rounded.data.toList.drop 138 = dktX8_rounded_6 := dk_seg dksX8_rounded_5 23 rfl rfl
theorem dX8_rounded_0 : decode cX8_rounded 0 = .ok (.lload_n 2, 1) := dk_32 (dk_at dksX8_rounded_0 0 rfl rfl)
theorem dX8_rounded_1 : decode cX8_rounded 1 = .ok (.invokestatic 153, 3) := dk_184 0 153 (dk_at dksX8_rounded_0 1 rfl rfl)
theorem dX8_rounded_4 : decode cX8_rounded 4 = .ok (.ifCond .eq 7, 3) := dk_153 0 7 (dk_at dksX8_rounded_0 4 rfl rfl)
theorem dX8_rounded_7 : decode cX8_rounded 7 = .ok (.ldc2_w 187, 3) := dk_20 0 187 (dk_at dksX8_rounded_0 7 rfl rfl)
theorem dX8_rounded_10 : decode cX8_rounded 10 = .ok (.lreturn, 1) := dk_173 (dk_at dksX8_rounded_0 10 rfl rfl)
theorem dX8_rounded_11 : decode cX8_rounded 11 = .ok (.lload_n 2, 1) := dk_32 (dk_at dksX8_rounded_0 11 rfl rfl)
theorem dX8_rounded_12 : decode cX8_rounded 12 = .ok (.invokestatic 157, 3) := dk_184 0 157 (dk_at dksX8_rounded_0 12 rfl rfl)
theorem dX8_rounded_15 : decode cX8_rounded 15 = .ok (.ifCond .ne 10, 3) := dk_154 0 10 (dk_at dksX8_rounded_0 15 rfl rfl)
theorem dX8_rounded_18 : decode cX8_rounded 18 = .ok (.lload_n 2, 1) := dk_32 (dk_at dksX8_rounded_0 18 rfl rfl)
theorem dX8_rounded_19 : decode cX8_rounded 19 = .ok (.invokestatic 105, 3) := dk_184 0 105 (dk_at dksX8_rounded_0 19 rfl rfl)
theorem dX8_rounded_22 : decode cX8_rounded 22 = .ok (.ifCond .lt 5, 3) := dk_155 0 5 (dk_at dksX8_rounded_1 0 rfl rfl)
theorem dX8_rounded_25 : decode cX8_rounded 25 = .ok (.lload_n 2, 1) := dk_32 (dk_at dksX8_rounded_1 3 rfl rfl)
theorem dX8_rounded_26 : decode cX8_rounded 26 = .ok (.lreturn, 1) := dk_173 (dk_at dksX8_rounded_1 4 rfl rfl)
theorem dX8_rounded_27 : decode cX8_rounded 27 = .ok (.aload_n 0, 1) := dk_42 (dk_at dksX8_rounded_1 5 rfl rfl)
theorem dX8_rounded_28 : decode cX8_rounded 28 = .ok (.lload_n 2, 1) := dk_32 (dk_at dksX8_rounded_1 6 rfl rfl)
theorem dX8_rounded_29 : decode cX8_rounded 29 = .ok (.invokevirtual 197, 3) := dk_182 0 197 (dk_at dksX8_rounded_1 7 rfl rfl)
theorem dX8_rounded_32 : decode cX8_rounded 32 = .ok (.lstore 4, 2) := dk_55 4 (dk_at dksX8_rounded_1 10 rfl rfl)
theorem dX8_rounded_34 : decode cX8_rounded 34 = .ok (.iload_n 1, 1) := dk_27 (dk_at dksX8_rounded_1 12 rfl rfl)
theorem dX8_rounded_35 : decode cX8_rounded 35 = .ok (.iconst 1, 1) := dk_4 (dk_at dksX8_rounded_1 13 rfl rfl)
theorem dX8_rounded_36 : decode cX8_rounded 36 = .ok (.if_icmp .ne 24, 3) := dk_160 0 24 (dk_at dksX8_rounded_1 14 rfl rfl)
theorem dX8_rounded_39 : decode cX8_rounded 39 = .ok (.lload_n 2, 1) := dk_32 (dk_at dksX8_rounded_1 17 rfl rfl)
theorem dX8_rounded_40 : decode cX8_rounded 40 = .ok (.lconst 0, 1) := dk_9 (dk_at dksX8_rounded_1 18 rfl rfl)
theorem dX8_rounded_41 : decode cX8_rounded 41 = .ok (.lcmp, 1) := dk_148 (dk_at dksX8_rounded_1 19 rfl rfl)
theorem dX8_rounded_42 : decode cX8_rounded 42 = .ok (.ifCond .ge 14, 3) := dk_156 0 14 (dk_at dksX8_rounded_1 20 rfl rfl)
theorem dX8_rounded_45 : decode cX8_rounded 45 = .ok (.aload_n 0, 1) := dk_42 (dk_at dksX8_rounded_1 23 rfl rfl)
theorem dX8_rounded_46 : decode cX8_rounded 46 = .ok (.getfield 194, 3) := dk_180 0 194 (dk_at dksX8_rounded_2 0 rfl rfl)
theorem dX8_rounded_49 : decode cX8_rounded 49 = .ok (.ifCond .le 7, 3) := dk_158 0 7 (dk_at dksX8_rounded_2 3 rfl rfl)
theorem dX8_rounded_52 : decode cX8_rounded 52 = .ok (.iconst 1, 1) := dk_4 (dk_at dksX8_rounded_2 6 rfl rfl)
theorem dX8_rounded_53 : decode cX8_rounded 53 = .ok (.goto 63, 3) := dk_167 0 63 (dk_at dksX8_rounded_2 7 rfl rfl)
theorem dX8_rounded_56 : decode cX8_rounded 56 = .ok (.iconst 0, 1) := dk_3 (dk_at dksX8_rounded_2 10 rfl rfl)
theorem dX8_rounded_57 : decode cX8_rounded 57 = .ok (.goto 59, 3) := dk_167 0 59 (dk_at dksX8_rounded_2 11 rfl rfl)
theorem dX8_rounded_60 : decode cX8_rounded 60 = .ok (.iload_n 1, 1) := dk_27 (dk_at dksX8_rounded_2 14 rfl rfl)
theorem dX8_rounded_61 : decode cX8_rounded 61 = .ok (.iconst 2, 1) := dk_5 (dk_at dksX8_rounded_2 15 rfl rfl)
theorem dX8_rounded_62 : decode cX8_rounded 62 = .ok (.if_icmp .ne 24, 3) := dk_160 0 24 (dk_at dksX8_rounded_2 16 rfl rfl)
theorem dX8_rounded_65 : decode cX8_rounded 65 = .ok (.lload_n 2, 1) := dk_32 (dk_at dksX8_rounded_2 19 rfl rfl)
theorem dX8_rounded_66 : decode cX8_rounded 66 = .ok (.lconst 0, 1) := dk_9 (dk_at dksX8_rounded_2 20 rfl rfl)
theorem dX8_rounded_67 : decode cX8_rounded 67 = .ok (.lcmp, 1) := dk_148 (dk_at dksX8_rounded_2 21 rfl rfl)
theorem dX8_rounded_68 : decode cX8_rounded 68 = .ok (.ifCond .lt 14, 3) := dk_155 0 14 (dk_at dksX8_rounded_3 0 rfl rfl)
theorem dX8_rounded_71 : decode cX8_rounded 71 = .ok (.aload_n 0, 1) := dk_42 (dk_at dksX8_rounded_3 3 rfl rfl)
theorem dX8_rounded_72 : decode cX8_rounded 72 = .ok (.getfield 194, 3) := dk_180 0 194 (dk_at dksX8_rounded_3 4 rfl rfl)
theorem dX8_rounded_75 : decode cX8_rounded 75 = .ok (.ifCond .le 7, 3) := dk_158 0 7 (dk_at dksX8_rounded_3 7 rfl rfl)
theorem dX8_rounded_78 : decode cX8_rounded 78 = .ok (.iconst 1, 1) := dk_4 (dk_at dksX8_rounded_3 10 rfl rfl)
theorem dX8_rounded_79 : decode cX8_rounded 79 = .ok (.goto 37, 3) := dk_167 0 37 (dk_at dksX8_rounded_3 11 rfl rfl)
theorem dX8_rounded_82 : decode cX8_rounded 82 = .ok (.iconst 0, 1) := dk_3 (dk_at dksX8_rounded_3 14 rfl rfl)
theorem dX8_rounded_83 : decode cX8_rounded 83 = .ok (.goto 33, 3) := dk_167 0 33 (dk_at dksX8_rounded_3 15 rfl rfl)
theorem dX8_rounded_86 : decode cX8_rounded 86 = .ok (.aload_n 0, 1) := dk_42 (dk_at dksX8_rounded_3 18 rfl rfl)
theorem dX8_rounded_87 : decode cX8_rounded 87 = .ok (.getfield 194, 3) := dk_180 0 194 (dk_at dksX8_rounded_3 19 rfl rfl)
theorem dX8_rounded_90 : decode cX8_rounded 90 = .ok (.iconst 3, 1) := dk_6 (dk_at dksX8_rounded_3 22 rfl rfl)
theorem dX8_rounded_91 : decode cX8_rounded 91 = .ok (.if_icmp .eq 20, 3) := dk_159 0 20 (dk_at dksX8_rounded_4 0 rfl rfl)
theorem dX8_rounded_94 : decode cX8_rounded 94 = .ok (.aload_n 0, 1) := dk_42 (dk_at dksX8_rounded_4 3 rfl rfl)
theorem dX8_rounded_95 : decode cX8_rounded 95 = .ok (.getfield 194, 3) := dk_180 0 194 (dk_at dksX8_rounded_4 4 rfl rfl)
theorem dX8_rounded_98 : decode cX8_rounded 98 = .ok (.iconst 2, 1) := dk_5 (dk_at dksX8_rounded_4 7 rfl rfl)
theorem dX8_rounded_99 : decode cX8_rounded 99 = .ok (.if_icmp .ne 16, 3) := dk_160 0 16 (dk_at dksX8_rounded_4 8 rfl rfl)
theorem dX8_rounded_102 : decode cX8_rounded 102 = .ok (.lload 4, 2) := dk_22 4 (dk_at dksX8_rounded_4 11 rfl rfl)
theorem dX8_rounded_104 : decode cX8_rounded 104 = .ok (.lconst 1, 1) := dk_10 (dk_at dksX8_rounded_4 13 rfl rfl)
theorem dX8_rounded_105 : decode cX8_rounded 105 = .ok (.land, 1) := dk_127 (dk_at dksX8_rounded_4 14 rfl rfl)
theorem dX8_rounded_106 : decode cX8_rounded 106 = .ok (.lconst 1, 1) := dk_10 (dk_at dksX8_rounded_4 15 rfl rfl)
theorem dX8_rounded_107 : decode cX8_rounded 107 = .ok (.lcmp, 1) := dk_148 (dk_at dksX8_rounded_4 16 rfl rfl)
theorem dX8_rounded_108 : decode cX8_rounded 108 = .ok (.ifCond .ne 7, 3) := dk_154 0 7 (dk_at dksX8_rounded_4 17 rfl rfl)
theorem dX8_rounded_111 : decode cX8_rounded 111 = .ok (.iconst 1, 1) := dk_4 (dk_at dksX8_rounded_4 20 rfl rfl)
theorem dX8_rounded_112 : decode cX8_rounded 112 = .ok (.goto 4, 3) := dk_167 0 4 (dk_at dksX8_rounded_4 21 rfl rfl)
theorem dX8_rounded_115 : decode cX8_rounded 115 = .ok (.iconst 0, 1) := dk_3 (dk_at dksX8_rounded_5 0 rfl rfl)
theorem dX8_rounded_116 : decode cX8_rounded 116 = .ok (.istore 6, 2) := dk_54 6 (dk_at dksX8_rounded_5 1 rfl rfl)
theorem dX8_rounded_118 : decode cX8_rounded 118 = .ok (.lload 4, 2) := dk_22 4 (dk_at dksX8_rounded_5 3 rfl rfl)
theorem dX8_rounded_120 : decode cX8_rounded 120 = .ok (.iload 6, 2) := dk_21 6 (dk_at dksX8_rounded_5 5 rfl rfl)
theorem dX8_rounded_122 : decode cX8_rounded 122 = .ok (.ifCond .eq 7, 3) := dk_153 0 7 (dk_at dksX8_rounded_5 7 rfl rfl)
theorem dX8_rounded_125 : decode cX8_rounded 125 = .ok (.lconst 1, 1) := dk_10 (dk_at dksX8_rounded_5 10 rfl rfl)
theorem dX8_rounded_126 : decode cX8_rounded 126 = .ok (.goto 4, 3) := dk_167 0 4 (dk_at dksX8_rounded_5 11 rfl rfl)
theorem dX8_rounded_129 : decode cX8_rounded 129 = .ok (.lconst 0, 1) := dk_9 (dk_at dksX8_rounded_5 14 rfl rfl)
theorem dX8_rounded_130 : decode cX8_rounded 130 = .ok (.ladd, 1) := dk_97 (dk_at dksX8_rounded_5 15 rfl rfl)
theorem dX8_rounded_131 : decode cX8_rounded 131 = .ok (.lstore 4, 2) := dk_55 4 (dk_at dksX8_rounded_5 16 rfl rfl)
theorem dX8_rounded_133 : decode cX8_rounded 133 = .ok (.aload_n 0, 1) := dk_42 (dk_at dksX8_rounded_5 18 rfl rfl)
theorem dX8_rounded_134 : decode cX8_rounded 134 = .ok (.lload 4, 2) := dk_22 4 (dk_at dksX8_rounded_5 19 rfl rfl)
theorem dX8_rounded_136 : decode cX8_rounded 136 = .ok (.iconst 0, 1) := dk_3 (dk_at dksX8_rounded_5 21 rfl rfl)
theorem dX8_rounded_137 : decode cX8_rounded 137 = .ok (.iconst 1, 1) := dk_4 (dk_at dksX8_rounded_5 22 rfl rfl)
theorem dX8_rounded_138 : decode cX8_rounded 138 = .ok (.invokevirtual 191, 3) := dk_182 0 191 (dk_at dksX8_rounded_6 0 rfl rfl)
theorem dX8_rounded_141 : decode cX8_rounded 141 = .ok (.lload_n 2, 1) := dk_32 (dk_at dksX8_rounded_6 3 rfl rfl)
theorem dX8_rounded_142 : decode cX8_rounded 142 = .ok (.ldc2_w 183, 3) := dk_20 0 183 (dk_at dksX8_rounded_6 4 rfl rfl)
theorem dX8_rounded_145 : decode cX8_rounded 145 = .ok (.land, 1) := dk_127 (dk_at dksX8_rounded_6 7 rfl rfl)
theorem dX8_rounded_146 : decode cX8_rounded 146 = .ok (.lor, 1) := dk_129 (dk_at dksX8_rounded_6 8 rfl rfl)
theorem dX8_rounded_147 : decode cX8_rounded 147 = .ok (.lreturn, 1) := dk_173 (dk_at dksX8_rounded_6 9 rfl rfl)
abbrev cX8_front : ByteArray := prog_11_method_58_code
def yX8_front : MethodName := ⟨RX8, "front", "(J)J"⟩
def dkwX8_front_4 : List UInt8 := [167, 0, 4, 6, 181, 0, 194, 22, 4, 29, 116, 123, 173]
abbrev dktX8_front_4 : List UInt8 := dkwX8_front_4 ++ []
def dkwX8_front_3 : List UInt8 := [167, 0, 28, 22, 6, 22, 8, 148, 156, 0, 7, 4, 167, 0, 16, 22, 6, 22, 8, 148, 154, 0, 7, 5]
abbrev dktX8_front_3 : List UInt8 := dkwX8_front_3 ++ dktX8_front_4
def dkwX8_front_2 : List UInt8 := [121, 10, 101, 127, 55, 6, 10, 29, 116, 4, 100, 121, 55, 8, 42, 22, 6, 9, 148, 154, 0, 7, 3]
abbrev dktX8_front_2 : List UInt8 := dkwX8_front_2 ++ dktX8_front_3
def dkwX8_front_1 : List UInt8 := [154, 0, 6, 22, 4, 173, 29, 16, 203, 162, 0, 10, 42, 4, 181, 0, 194, 9, 173, 22, 4, 10, 29, 116]
abbrev dktX8_front_1 : List UInt8 := dkwX8_front_1 ++ dktX8_front_2
def dkwX8_front_0 : List UInt8 := [31, 184, 0, 105, 62, 31, 184, 0, 102, 55, 4, 42, 3, 181, 0, 194, 29, 156, 0, 10, 22, 4, 9, 148]
abbrev dktX8_front_0 : List UInt8 := dkwX8_front_0 ++ dktX8_front_1
theorem dksX8_front_0 : cX8_front.data.toList.drop 0 = dktX8_front_0 := by decide +kernel
theorem dksX8_front_1 : cX8_front.data.toList.drop 24 = dktX8_front_1 := dk_seg dksX8_front_0 24 rfl rfl
theorem dksX8_front_2 : cX8_front.data.toList.drop 48 = dktX8_front_2 := dk_seg dksX8_front_1 24 rfl rfl
theorem dksX8_front_3 : cX8_front.data.toList.drop 71 = dktX8_front_3 := dk_seg dksX8_front_2 23 rfl rfl
theorem dksX8_front_4 : cX8_front.data.toList.drop 95 = dktX8_front_4 := dk_seg dksX8_front_3 24 rfl rfl
theorem dX8_front_0 : decode cX8_front 0 = .ok (.lload_n 1, 1) := dk_31 (dk_at dksX8_front_0 0 rfl rfl)
theorem dX8_front_1 : decode cX8_front 1 = .ok (.invokestatic 105, 3) := dk_184 0 105 (dk_at dksX8_front_0 1 rfl rfl)
theorem dX8_front_4 : decode cX8_front 4 = .ok (.istore_n 3, 1) := dk_62 (dk_at dksX8_front_0 4 rfl rfl)
theorem dX8_front_5 : decode cX8_front 5 = .ok (.lload_n 1, 1) := dk_31 (dk_at dksX8_front_0 5 rfl rfl)
theorem dX8_front_6 : decode cX8_front 6 = .ok (.invokestatic 102, 3) := dk_184 0 102 (dk_at dksX8_front_0 6 rfl rfl)
theorem dX8_front_9 : decode cX8_front 9 = .ok (.lstore 4, 2) := dk_55 4 (dk_at dksX8_front_0 9 rfl rfl)
theorem dX8_front_11 : decode cX8_front 11 = .ok (.aload_n 0, 1) := dk_42 (dk_at dksX8_front_0 11 rfl rfl)
theorem dX8_front_12 : decode cX8_front 12 = .ok (.iconst 0, 1) := dk_3 (dk_at dksX8_front_0 12 rfl rfl)
theorem dX8_front_13 : decode cX8_front 13 = .ok (.putfield 194, 3) := dk_181 0 194 (dk_at dksX8_front_0 13 rfl rfl)
theorem dX8_front_16 : decode cX8_front 16 = .ok (.iload_n 3, 1) := dk_29 (dk_at dksX8_front_0 16 rfl rfl)
theorem dX8_front_17 : decode cX8_front 17 = .ok (.ifCond .ge 10, 3) := dk_156 0 10 (dk_at dksX8_front_0 17 rfl rfl)
theorem dX8_front_20 : decode cX8_front 20 = .ok (.lload 4, 2) := dk_22 4 (dk_at dksX8_front_0 20 rfl rfl)
theorem dX8_front_22 : decode cX8_front 22 = .ok (.lconst 0, 1) := dk_9 (dk_at dksX8_front_0 22 rfl rfl)
theorem dX8_front_23 : decode cX8_front 23 = .ok (.lcmp, 1) := dk_148 (dk_at dksX8_front_0 23 rfl rfl)
theorem dX8_front_24 : decode cX8_front 24 = .ok (.ifCond .ne 6, 3) := dk_154 0 6 (dk_at dksX8_front_1 0 rfl rfl)
theorem dX8_front_27 : decode cX8_front 27 = .ok (.lload 4, 2) := dk_22 4 (dk_at dksX8_front_1 3 rfl rfl)
theorem dX8_front_29 : decode cX8_front 29 = .ok (.lreturn, 1) := dk_173 (dk_at dksX8_front_1 5 rfl rfl)
theorem dX8_front_30 : decode cX8_front 30 = .ok (.iload_n 3, 1) := dk_29 (dk_at dksX8_front_1 6 rfl rfl)
theorem dX8_front_31 : decode cX8_front 31 = .ok (.bipush (-53), 2) := dk_16 203 (dk_at dksX8_front_1 7 rfl rfl)
theorem dX8_front_33 : decode cX8_front 33 = .ok (.if_icmp .ge 10, 3) := dk_162 0 10 (dk_at dksX8_front_1 9 rfl rfl)
theorem dX8_front_36 : decode cX8_front 36 = .ok (.aload_n 0, 1) := dk_42 (dk_at dksX8_front_1 12 rfl rfl)
theorem dX8_front_37 : decode cX8_front 37 = .ok (.iconst 1, 1) := dk_4 (dk_at dksX8_front_1 13 rfl rfl)
theorem dX8_front_38 : decode cX8_front 38 = .ok (.putfield 194, 3) := dk_181 0 194 (dk_at dksX8_front_1 14 rfl rfl)
theorem dX8_front_41 : decode cX8_front 41 = .ok (.lconst 0, 1) := dk_9 (dk_at dksX8_front_1 17 rfl rfl)
theorem dX8_front_42 : decode cX8_front 42 = .ok (.lreturn, 1) := dk_173 (dk_at dksX8_front_1 18 rfl rfl)
theorem dX8_front_43 : decode cX8_front 43 = .ok (.lload 4, 2) := dk_22 4 (dk_at dksX8_front_1 19 rfl rfl)
theorem dX8_front_45 : decode cX8_front 45 = .ok (.lconst 1, 1) := dk_10 (dk_at dksX8_front_1 21 rfl rfl)
theorem dX8_front_46 : decode cX8_front 46 = .ok (.iload_n 3, 1) := dk_29 (dk_at dksX8_front_1 22 rfl rfl)
theorem dX8_front_47 : decode cX8_front 47 = .ok (.ineg, 1) := dk_116 (dk_at dksX8_front_1 23 rfl rfl)
theorem dX8_front_48 : decode cX8_front 48 = .ok (.lshl, 1) := dk_121 (dk_at dksX8_front_2 0 rfl rfl)
theorem dX8_front_49 : decode cX8_front 49 = .ok (.lconst 1, 1) := dk_10 (dk_at dksX8_front_2 1 rfl rfl)
theorem dX8_front_50 : decode cX8_front 50 = .ok (.lsub, 1) := dk_101 (dk_at dksX8_front_2 2 rfl rfl)
theorem dX8_front_51 : decode cX8_front 51 = .ok (.land, 1) := dk_127 (dk_at dksX8_front_2 3 rfl rfl)
theorem dX8_front_52 : decode cX8_front 52 = .ok (.lstore 6, 2) := dk_55 6 (dk_at dksX8_front_2 4 rfl rfl)
theorem dX8_front_54 : decode cX8_front 54 = .ok (.lconst 1, 1) := dk_10 (dk_at dksX8_front_2 6 rfl rfl)
theorem dX8_front_55 : decode cX8_front 55 = .ok (.iload_n 3, 1) := dk_29 (dk_at dksX8_front_2 7 rfl rfl)
theorem dX8_front_56 : decode cX8_front 56 = .ok (.ineg, 1) := dk_116 (dk_at dksX8_front_2 8 rfl rfl)
theorem dX8_front_57 : decode cX8_front 57 = .ok (.iconst 1, 1) := dk_4 (dk_at dksX8_front_2 9 rfl rfl)
theorem dX8_front_58 : decode cX8_front 58 = .ok (.isub, 1) := dk_100 (dk_at dksX8_front_2 10 rfl rfl)
theorem dX8_front_59 : decode cX8_front 59 = .ok (.lshl, 1) := dk_121 (dk_at dksX8_front_2 11 rfl rfl)
theorem dX8_front_60 : decode cX8_front 60 = .ok (.lstore 8, 2) := dk_55 8 (dk_at dksX8_front_2 12 rfl rfl)
theorem dX8_front_62 : decode cX8_front 62 = .ok (.aload_n 0, 1) := dk_42 (dk_at dksX8_front_2 14 rfl rfl)
theorem dX8_front_63 : decode cX8_front 63 = .ok (.lload 6, 2) := dk_22 6 (dk_at dksX8_front_2 15 rfl rfl)
theorem dX8_front_65 : decode cX8_front 65 = .ok (.lconst 0, 1) := dk_9 (dk_at dksX8_front_2 17 rfl rfl)
theorem dX8_front_66 : decode cX8_front 66 = .ok (.lcmp, 1) := dk_148 (dk_at dksX8_front_2 18 rfl rfl)
theorem dX8_front_67 : decode cX8_front 67 = .ok (.ifCond .ne 7, 3) := dk_154 0 7 (dk_at dksX8_front_2 19 rfl rfl)
theorem dX8_front_70 : decode cX8_front 70 = .ok (.iconst 0, 1) := dk_3 (dk_at dksX8_front_2 22 rfl rfl)
theorem dX8_front_71 : decode cX8_front 71 = .ok (.goto 28, 3) := dk_167 0 28 (dk_at dksX8_front_3 0 rfl rfl)
theorem dX8_front_74 : decode cX8_front 74 = .ok (.lload 6, 2) := dk_22 6 (dk_at dksX8_front_3 3 rfl rfl)
theorem dX8_front_76 : decode cX8_front 76 = .ok (.lload 8, 2) := dk_22 8 (dk_at dksX8_front_3 5 rfl rfl)
theorem dX8_front_78 : decode cX8_front 78 = .ok (.lcmp, 1) := dk_148 (dk_at dksX8_front_3 7 rfl rfl)
theorem dX8_front_79 : decode cX8_front 79 = .ok (.ifCond .ge 7, 3) := dk_156 0 7 (dk_at dksX8_front_3 8 rfl rfl)
theorem dX8_front_82 : decode cX8_front 82 = .ok (.iconst 1, 1) := dk_4 (dk_at dksX8_front_3 11 rfl rfl)
theorem dX8_front_83 : decode cX8_front 83 = .ok (.goto 16, 3) := dk_167 0 16 (dk_at dksX8_front_3 12 rfl rfl)
theorem dX8_front_86 : decode cX8_front 86 = .ok (.lload 6, 2) := dk_22 6 (dk_at dksX8_front_3 15 rfl rfl)
theorem dX8_front_88 : decode cX8_front 88 = .ok (.lload 8, 2) := dk_22 8 (dk_at dksX8_front_3 17 rfl rfl)
theorem dX8_front_90 : decode cX8_front 90 = .ok (.lcmp, 1) := dk_148 (dk_at dksX8_front_3 19 rfl rfl)
theorem dX8_front_91 : decode cX8_front 91 = .ok (.ifCond .ne 7, 3) := dk_154 0 7 (dk_at dksX8_front_3 20 rfl rfl)
theorem dX8_front_94 : decode cX8_front 94 = .ok (.iconst 2, 1) := dk_5 (dk_at dksX8_front_3 23 rfl rfl)
theorem dX8_front_95 : decode cX8_front 95 = .ok (.goto 4, 3) := dk_167 0 4 (dk_at dksX8_front_4 0 rfl rfl)
theorem dX8_front_98 : decode cX8_front 98 = .ok (.iconst 3, 1) := dk_6 (dk_at dksX8_front_4 3 rfl rfl)
theorem dX8_front_99 : decode cX8_front 99 = .ok (.putfield 194, 3) := dk_181 0 194 (dk_at dksX8_front_4 4 rfl rfl)
theorem dX8_front_102 : decode cX8_front 102 = .ok (.lload 4, 2) := dk_22 4 (dk_at dksX8_front_4 7 rfl rfl)
theorem dX8_front_104 : decode cX8_front 104 = .ok (.iload_n 3, 1) := dk_29 (dk_at dksX8_front_4 9 rfl rfl)
theorem dX8_front_105 : decode cX8_front 105 = .ok (.ineg, 1) := dk_116 (dk_at dksX8_front_4 10 rfl rfl)
theorem dX8_front_106 : decode cX8_front 106 = .ok (.lshr, 1) := dk_123 (dk_at dksX8_front_4 11 rfl rfl)
theorem dX8_front_107 : decode cX8_front 107 = .ok (.lreturn, 1) := dk_173 (dk_at dksX8_front_4 12 rfl rfl)
abbrev cX8_rank : ByteArray := prog_11_method_60_code
def yX8_rank : MethodName := ⟨RX8, "rank", "(J)J"⟩
def dkwX8_rank_0 : List UInt8 := [30, 9, 148, 156, 0, 15, 30, 20, 0, 200, 127, 20, 0, 202, 131, 167, 0, 4, 30, 173]
abbrev dktX8_rank_0 : List UInt8 := dkwX8_rank_0 ++ []
theorem dksX8_rank_0 : cX8_rank.data.toList.drop 0 = dktX8_rank_0 := by decide +kernel
theorem dX8_rank_0 : decode cX8_rank 0 = .ok (.lload_n 0, 1) := dk_30 (dk_at dksX8_rank_0 0 rfl rfl)
theorem dX8_rank_1 : decode cX8_rank 1 = .ok (.lconst 0, 1) := dk_9 (dk_at dksX8_rank_0 1 rfl rfl)
theorem dX8_rank_2 : decode cX8_rank 2 = .ok (.lcmp, 1) := dk_148 (dk_at dksX8_rank_0 2 rfl rfl)
theorem dX8_rank_3 : decode cX8_rank 3 = .ok (.ifCond .ge 15, 3) := dk_156 0 15 (dk_at dksX8_rank_0 3 rfl rfl)
theorem dX8_rank_6 : decode cX8_rank 6 = .ok (.lload_n 0, 1) := dk_30 (dk_at dksX8_rank_0 6 rfl rfl)
theorem dX8_rank_7 : decode cX8_rank 7 = .ok (.ldc2_w 200, 3) := dk_20 0 200 (dk_at dksX8_rank_0 7 rfl rfl)
theorem dX8_rank_10 : decode cX8_rank 10 = .ok (.land, 1) := dk_127 (dk_at dksX8_rank_0 10 rfl rfl)
theorem dX8_rank_11 : decode cX8_rank 11 = .ok (.ldc2_w 202, 3) := dk_20 0 202 (dk_at dksX8_rank_0 11 rfl rfl)
theorem dX8_rank_14 : decode cX8_rank 14 = .ok (.lxor, 1) := dk_131 (dk_at dksX8_rank_0 14 rfl rfl)
theorem dX8_rank_15 : decode cX8_rank 15 = .ok (.goto 4, 3) := dk_167 0 4 (dk_at dksX8_rank_0 15 rfl rfl)
theorem dX8_rank_18 : decode cX8_rank 18 = .ok (.lload_n 0, 1) := dk_30 (dk_at dksX8_rank_0 18 rfl rfl)
theorem dX8_rank_19 : decode cX8_rank 19 = .ok (.lreturn, 1) := dk_173 (dk_at dksX8_rank_0 19 rfl rfl)
abbrev cX8_machineMore : ByteArray := prog_11_method_61_code
def yX8_machineMore : MethodName := ⟨RX8, "machineMore", "(IJJ)J"⟩
def dkwX8_machineMore_13 : List UInt8 := [167, 0, 23, 32, 184, 0, 212, 22, 4, 184, 0, 212, 148, 156, 0, 7, 10, 167, 0, 6, 20, 0, 215, 173]
abbrev dktX8_machineMore_13 : List UInt8 := dkwX8_machineMore_13 ++ []
def dkwX8_machineMore_12 : List UInt8 := [4, 167, 0, 4, 3, 54, 7, 21, 7, 154, 0, 10, 32, 22, 4, 148, 154, 0, 9, 20, 0, 189]
abbrev dktX8_machineMore_12 : List UInt8 := dkwX8_machineMore_12 ++ dktX8_machineMore_13
def dkwX8_machineMore_11 : List UInt8 := [153, 0, 7, 20, 0, 210, 173, 32, 4, 121, 9, 148, 154, 0, 16, 22, 4, 4, 121, 9, 148, 154, 0, 7]
abbrev dktX8_machineMore_11 : List UInt8 := dkwX8_machineMore_11 ++ dktX8_machineMore_12
def dkwX8_machineMore_10 : List UInt8 := [96, 4, 182, 0, 191, 32, 20, 0, 183, 127, 129, 173, 32, 184, 0, 153, 154, 0, 11, 22, 4, 184, 0, 153]
abbrev dktX8_machineMore_10 : List UInt8 := dkwX8_machineMore_10 ++ dktX8_machineMore_11
def dkwX8_machineMore_9 : List UInt8 := [54, 6, 32, 184, 0, 157, 153, 0, 7, 32, 167, 0, 25, 42, 32, 184, 0, 102, 32, 184, 0, 105, 21, 6]
abbrev dktX8_machineMore_9 : List UInt8 := dkwX8_machineMore_9 ++ dktX8_machineMore_10
def dkwX8_machineMore_8 : List UInt8 := [17, 244, 72, 167, 0, 21, 22, 4, 20, 0, 208, 148, 158, 0, 9, 17, 11, 184, 167, 0, 6, 22, 4, 136]
abbrev dktX8_machineMore_8 : List UInt8 := dkwX8_machineMore_8 ++ dktX8_machineMore_9
def dkwX8_machineMore_7 : List UInt8 := [182, 0, 191, 173, 32, 184, 0, 153, 153, 0, 7, 20, 0, 187, 173, 22, 4, 20, 0, 206, 148, 156, 0, 9]
abbrev dktX8_machineMore_7 : List UInt8 := dkwX8_machineMore_7 ++ dktX8_machineMore_8
def dkwX8_machineMore_6 : List UInt8 := [167, 0, 26, 32, 184, 0, 157, 153, 0, 9, 20, 0, 204, 167, 0, 13, 42, 10, 32, 184, 0, 105, 4]
abbrev dktX8_machineMore_6 : List UInt8 := dkwX8_machineMore_6 ++ dktX8_machineMore_7
def dkwX8_machineMore_5 : List UInt8 := [156, 0, 9, 32, 10, 101, 167, 0, 6, 32, 10, 97, 173, 32, 184, 0, 153, 153, 0, 9, 20, 0, 187]
abbrev dktX8_machineMore_5 : List UInt8 := dkwX8_machineMore_5 ++ dktX8_machineMore_6
def dkwX8_machineMore_4 : List UInt8 := [167, 0, 36, 32, 9, 148, 153, 0, 11, 32, 20, 0, 183, 148, 154, 0, 7, 10, 167, 0, 18, 32, 9, 148]
abbrev dktX8_machineMore_4 : List UInt8 := dkwX8_machineMore_4 ++ dktX8_machineMore_5
def dkwX8_machineMore_3 : List UInt8 := [129, 173, 32, 184, 0, 153, 153, 0, 9, 20, 0, 187, 167, 0, 48, 32, 20, 0, 204, 148, 154, 0, 7, 32]
abbrev dktX8_machineMore_3 : List UInt8 := dkwX8_machineMore_3 ++ dktX8_machineMore_4
def dkwX8_machineMore_2 : List UInt8 := [32, 184, 0, 153, 153, 0, 9, 20, 0, 187, 167, 0, 15, 32, 20, 0, 200, 127, 22, 4, 20, 0, 183, 127]
abbrev dktX8_machineMore_2 : List UInt8 := dkwX8_machineMore_2 ++ dktX8_machineMore_3
def dkwX8_machineMore_1 : List UInt8 := [170, 0, 0, 0, 0, 0, 233, 0, 0, 0, 6, 0, 0, 0, 9, 0, 0, 0, 31, 0, 0, 0, 57, 0, 0, 0, 116, 0, 0, 0, 153]
abbrev dktX8_machineMore_1 : List UInt8 := dkwX8_machineMore_1 ++ dktX8_machineMore_2
def dkwX8_machineMore_0 : List UInt8 := [27]
abbrev dktX8_machineMore_0 : List UInt8 := dkwX8_machineMore_0 ++ dktX8_machineMore_1
theorem dksX8_machineMore_0 : cX8_machineMore.data.toList.drop 0 = dktX8_machineMore_0 := by decide +kernel
theorem dksX8_machineMore_1 : cX8_machineMore.data.toList.drop 1 = dktX8_machineMore_1 := dk_seg dksX8_machineMore_0 1 rfl rfl
theorem dksX8_machineMore_2 : cX8_machineMore.data.toList.drop 32 = dktX8_machineMore_2 := dk_seg dksX8_machineMore_1 31 rfl rfl
theorem dksX8_machineMore_3 : cX8_machineMore.data.toList.drop 56 = dktX8_machineMore_3 := dk_seg dksX8_machineMore_2 24 rfl rfl
theorem dksX8_machineMore_4 : cX8_machineMore.data.toList.drop 80 = dktX8_machineMore_4 := dk_seg dksX8_machineMore_3 24 rfl rfl
theorem dksX8_machineMore_5 : cX8_machineMore.data.toList.drop 104 = dktX8_machineMore_5 := dk_seg dksX8_machineMore_4 24 rfl rfl
theorem dksX8_machineMore_6 : cX8_machineMore.data.toList.drop 127 = dktX8_machineMore_6 := dk_seg dksX8_machineMore_5 23 rfl rfl
theorem dksX8_machineMore_7 : cX8_machineMore.data.toList.drop 150 = dktX8_machineMore_7 := dk_seg dksX8_machineMore_6 23 rfl rfl
theorem dksX8_machineMore_8 : cX8_machineMore.data.toList.drop 174 = dktX8_machineMore_8 := dk_seg dksX8_machineMore_7 24 rfl rfl
theorem dksX8_machineMore_9 : cX8_machineMore.data.toList.drop 198 = dktX8_machineMore_9 := dk_seg dksX8_machineMore_8 24 rfl rfl
theorem dksX8_machineMore_10 : cX8_machineMore.data.toList.drop 222 = dktX8_machineMore_10 := dk_seg dksX8_machineMore_9 24 rfl rfl
theorem dksX8_machineMore_11 : cX8_machineMore.data.toList.drop 246 = dktX8_machineMore_11 := dk_seg dksX8_machineMore_10 24 rfl rfl
theorem dksX8_machineMore_12 : cX8_machineMore.data.toList.drop 270 = dktX8_machineMore_12 := dk_seg dksX8_machineMore_11 24 rfl rfl
theorem dksX8_machineMore_13 : cX8_machineMore.data.toList.drop 292 = dktX8_machineMore_13 := dk_seg dksX8_machineMore_12 22 rfl rfl
theorem dX8_machineMore_0 : decode cX8_machineMore 0 = .ok (.iload_n 1, 1) := dk_27 (dk_at dksX8_machineMore_0 0 rfl rfl)
theorem dX8_machineMore_1 : decode cX8_machineMore 1 = .ok (.tableswitch 233 6 9 #[31, 57, 116, 153], 31) := by decide +kernel
theorem dX8_machineMore_32 : decode cX8_machineMore 32 = .ok (.lload_n 2, 1) := dk_32 (dk_at dksX8_machineMore_2 0 rfl rfl)
theorem dX8_machineMore_33 : decode cX8_machineMore 33 = .ok (.invokestatic 153, 3) := dk_184 0 153 (dk_at dksX8_machineMore_2 1 rfl rfl)
theorem dX8_machineMore_36 : decode cX8_machineMore 36 = .ok (.ifCond .eq 9, 3) := dk_153 0 9 (dk_at dksX8_machineMore_2 4 rfl rfl)
theorem dX8_machineMore_39 : decode cX8_machineMore 39 = .ok (.ldc2_w 187, 3) := dk_20 0 187 (dk_at dksX8_machineMore_2 7 rfl rfl)
theorem dX8_machineMore_42 : decode cX8_machineMore 42 = .ok (.goto 15, 3) := dk_167 0 15 (dk_at dksX8_machineMore_2 10 rfl rfl)
theorem dX8_machineMore_45 : decode cX8_machineMore 45 = .ok (.lload_n 2, 1) := dk_32 (dk_at dksX8_machineMore_2 13 rfl rfl)
theorem dX8_machineMore_46 : decode cX8_machineMore 46 = .ok (.ldc2_w 200, 3) := dk_20 0 200 (dk_at dksX8_machineMore_2 14 rfl rfl)
theorem dX8_machineMore_49 : decode cX8_machineMore 49 = .ok (.land, 1) := dk_127 (dk_at dksX8_machineMore_2 17 rfl rfl)
theorem dX8_machineMore_50 : decode cX8_machineMore 50 = .ok (.lload 4, 2) := dk_22 4 (dk_at dksX8_machineMore_2 18 rfl rfl)
theorem dX8_machineMore_52 : decode cX8_machineMore 52 = .ok (.ldc2_w 183, 3) := dk_20 0 183 (dk_at dksX8_machineMore_2 20 rfl rfl)
theorem dX8_machineMore_55 : decode cX8_machineMore 55 = .ok (.land, 1) := dk_127 (dk_at dksX8_machineMore_2 23 rfl rfl)
theorem dX8_machineMore_56 : decode cX8_machineMore 56 = .ok (.lor, 1) := dk_129 (dk_at dksX8_machineMore_3 0 rfl rfl)
theorem dX8_machineMore_57 : decode cX8_machineMore 57 = .ok (.lreturn, 1) := dk_173 (dk_at dksX8_machineMore_3 1 rfl rfl)
theorem dX8_machineMore_58 : decode cX8_machineMore 58 = .ok (.lload_n 2, 1) := dk_32 (dk_at dksX8_machineMore_3 2 rfl rfl)
theorem dX8_machineMore_59 : decode cX8_machineMore 59 = .ok (.invokestatic 153, 3) := dk_184 0 153 (dk_at dksX8_machineMore_3 3 rfl rfl)
theorem dX8_machineMore_62 : decode cX8_machineMore 62 = .ok (.ifCond .eq 9, 3) := dk_153 0 9 (dk_at dksX8_machineMore_3 6 rfl rfl)
theorem dX8_machineMore_65 : decode cX8_machineMore 65 = .ok (.ldc2_w 187, 3) := dk_20 0 187 (dk_at dksX8_machineMore_3 9 rfl rfl)
theorem dX8_machineMore_68 : decode cX8_machineMore 68 = .ok (.goto 48, 3) := dk_167 0 48 (dk_at dksX8_machineMore_3 12 rfl rfl)
theorem dX8_machineMore_71 : decode cX8_machineMore 71 = .ok (.lload_n 2, 1) := dk_32 (dk_at dksX8_machineMore_3 15 rfl rfl)
theorem dX8_machineMore_72 : decode cX8_machineMore 72 = .ok (.ldc2_w 204, 3) := dk_20 0 204 (dk_at dksX8_machineMore_3 16 rfl rfl)
theorem dX8_machineMore_75 : decode cX8_machineMore 75 = .ok (.lcmp, 1) := dk_148 (dk_at dksX8_machineMore_3 19 rfl rfl)
theorem dX8_machineMore_76 : decode cX8_machineMore 76 = .ok (.ifCond .ne 7, 3) := dk_154 0 7 (dk_at dksX8_machineMore_3 20 rfl rfl)
theorem dX8_machineMore_79 : decode cX8_machineMore 79 = .ok (.lload_n 2, 1) := dk_32 (dk_at dksX8_machineMore_3 23 rfl rfl)
theorem dX8_machineMore_80 : decode cX8_machineMore 80 = .ok (.goto 36, 3) := dk_167 0 36 (dk_at dksX8_machineMore_4 0 rfl rfl)
theorem dX8_machineMore_83 : decode cX8_machineMore 83 = .ok (.lload_n 2, 1) := dk_32 (dk_at dksX8_machineMore_4 3 rfl rfl)
theorem dX8_machineMore_84 : decode cX8_machineMore 84 = .ok (.lconst 0, 1) := dk_9 (dk_at dksX8_machineMore_4 4 rfl rfl)
theorem dX8_machineMore_85 : decode cX8_machineMore 85 = .ok (.lcmp, 1) := dk_148 (dk_at dksX8_machineMore_4 5 rfl rfl)
theorem dX8_machineMore_86 : decode cX8_machineMore 86 = .ok (.ifCond .eq 11, 3) := dk_153 0 11 (dk_at dksX8_machineMore_4 6 rfl rfl)
theorem dX8_machineMore_89 : decode cX8_machineMore 89 = .ok (.lload_n 2, 1) := dk_32 (dk_at dksX8_machineMore_4 9 rfl rfl)
theorem dX8_machineMore_90 : decode cX8_machineMore 90 = .ok (.ldc2_w 183, 3) := dk_20 0 183 (dk_at dksX8_machineMore_4 10 rfl rfl)
theorem dX8_machineMore_93 : decode cX8_machineMore 93 = .ok (.lcmp, 1) := dk_148 (dk_at dksX8_machineMore_4 13 rfl rfl)
theorem dX8_machineMore_94 : decode cX8_machineMore 94 = .ok (.ifCond .ne 7, 3) := dk_154 0 7 (dk_at dksX8_machineMore_4 14 rfl rfl)
theorem dX8_machineMore_97 : decode cX8_machineMore 97 = .ok (.lconst 1, 1) := dk_10 (dk_at dksX8_machineMore_4 17 rfl rfl)
theorem dX8_machineMore_98 : decode cX8_machineMore 98 = .ok (.goto 18, 3) := dk_167 0 18 (dk_at dksX8_machineMore_4 18 rfl rfl)
theorem dX8_machineMore_101 : decode cX8_machineMore 101 = .ok (.lload_n 2, 1) := dk_32 (dk_at dksX8_machineMore_4 21 rfl rfl)
theorem dX8_machineMore_102 : decode cX8_machineMore 102 = .ok (.lconst 0, 1) := dk_9 (dk_at dksX8_machineMore_4 22 rfl rfl)
theorem dX8_machineMore_103 : decode cX8_machineMore 103 = .ok (.lcmp, 1) := dk_148 (dk_at dksX8_machineMore_4 23 rfl rfl)
theorem dX8_machineMore_104 : decode cX8_machineMore 104 = .ok (.ifCond .ge 9, 3) := dk_156 0 9 (dk_at dksX8_machineMore_5 0 rfl rfl)
theorem dX8_machineMore_107 : decode cX8_machineMore 107 = .ok (.lload_n 2, 1) := dk_32 (dk_at dksX8_machineMore_5 3 rfl rfl)
theorem dX8_machineMore_108 : decode cX8_machineMore 108 = .ok (.lconst 1, 1) := dk_10 (dk_at dksX8_machineMore_5 4 rfl rfl)
theorem dX8_machineMore_109 : decode cX8_machineMore 109 = .ok (.lsub, 1) := dk_101 (dk_at dksX8_machineMore_5 5 rfl rfl)
theorem dX8_machineMore_110 : decode cX8_machineMore 110 = .ok (.goto 6, 3) := dk_167 0 6 (dk_at dksX8_machineMore_5 6 rfl rfl)
theorem dX8_machineMore_113 : decode cX8_machineMore 113 = .ok (.lload_n 2, 1) := dk_32 (dk_at dksX8_machineMore_5 9 rfl rfl)
theorem dX8_machineMore_114 : decode cX8_machineMore 114 = .ok (.lconst 1, 1) := dk_10 (dk_at dksX8_machineMore_5 10 rfl rfl)
theorem dX8_machineMore_115 : decode cX8_machineMore 115 = .ok (.ladd, 1) := dk_97 (dk_at dksX8_machineMore_5 11 rfl rfl)
theorem dX8_machineMore_116 : decode cX8_machineMore 116 = .ok (.lreturn, 1) := dk_173 (dk_at dksX8_machineMore_5 12 rfl rfl)
theorem dX8_machineMore_117 : decode cX8_machineMore 117 = .ok (.lload_n 2, 1) := dk_32 (dk_at dksX8_machineMore_5 13 rfl rfl)
theorem dX8_machineMore_118 : decode cX8_machineMore 118 = .ok (.invokestatic 153, 3) := dk_184 0 153 (dk_at dksX8_machineMore_5 14 rfl rfl)
theorem dX8_machineMore_121 : decode cX8_machineMore 121 = .ok (.ifCond .eq 9, 3) := dk_153 0 9 (dk_at dksX8_machineMore_5 17 rfl rfl)
theorem dX8_machineMore_124 : decode cX8_machineMore 124 = .ok (.ldc2_w 187, 3) := dk_20 0 187 (dk_at dksX8_machineMore_5 20 rfl rfl)
theorem dX8_machineMore_127 : decode cX8_machineMore 127 = .ok (.goto 26, 3) := dk_167 0 26 (dk_at dksX8_machineMore_6 0 rfl rfl)
theorem dX8_machineMore_130 : decode cX8_machineMore 130 = .ok (.lload_n 2, 1) := dk_32 (dk_at dksX8_machineMore_6 3 rfl rfl)
theorem dX8_machineMore_131 : decode cX8_machineMore 131 = .ok (.invokestatic 157, 3) := dk_184 0 157 (dk_at dksX8_machineMore_6 4 rfl rfl)
theorem dX8_machineMore_134 : decode cX8_machineMore 134 = .ok (.ifCond .eq 9, 3) := dk_153 0 9 (dk_at dksX8_machineMore_6 7 rfl rfl)
theorem dX8_machineMore_137 : decode cX8_machineMore 137 = .ok (.ldc2_w 204, 3) := dk_20 0 204 (dk_at dksX8_machineMore_6 10 rfl rfl)
theorem dX8_machineMore_140 : decode cX8_machineMore 140 = .ok (.goto 13, 3) := dk_167 0 13 (dk_at dksX8_machineMore_6 13 rfl rfl)
theorem dX8_machineMore_143 : decode cX8_machineMore 143 = .ok (.aload_n 0, 1) := dk_42 (dk_at dksX8_machineMore_6 16 rfl rfl)
theorem dX8_machineMore_144 : decode cX8_machineMore 144 = .ok (.lconst 1, 1) := dk_10 (dk_at dksX8_machineMore_6 17 rfl rfl)
theorem dX8_machineMore_145 : decode cX8_machineMore 145 = .ok (.lload_n 2, 1) := dk_32 (dk_at dksX8_machineMore_6 18 rfl rfl)
theorem dX8_machineMore_146 : decode cX8_machineMore 146 = .ok (.invokestatic 105, 3) := dk_184 0 105 (dk_at dksX8_machineMore_6 19 rfl rfl)
theorem dX8_machineMore_149 : decode cX8_machineMore 149 = .ok (.iconst 1, 1) := dk_4 (dk_at dksX8_machineMore_6 22 rfl rfl)
theorem dX8_machineMore_150 : decode cX8_machineMore 150 = .ok (.invokevirtual 191, 3) := dk_182 0 191 (dk_at dksX8_machineMore_7 0 rfl rfl)
theorem dX8_machineMore_153 : decode cX8_machineMore 153 = .ok (.lreturn, 1) := dk_173 (dk_at dksX8_machineMore_7 3 rfl rfl)
theorem dX8_machineMore_154 : decode cX8_machineMore 154 = .ok (.lload_n 2, 1) := dk_32 (dk_at dksX8_machineMore_7 4 rfl rfl)
theorem dX8_machineMore_155 : decode cX8_machineMore 155 = .ok (.invokestatic 153, 3) := dk_184 0 153 (dk_at dksX8_machineMore_7 5 rfl rfl)
theorem dX8_machineMore_158 : decode cX8_machineMore 158 = .ok (.ifCond .eq 7, 3) := dk_153 0 7 (dk_at dksX8_machineMore_7 8 rfl rfl)
theorem dX8_machineMore_161 : decode cX8_machineMore 161 = .ok (.ldc2_w 187, 3) := dk_20 0 187 (dk_at dksX8_machineMore_7 11 rfl rfl)
theorem dX8_machineMore_164 : decode cX8_machineMore 164 = .ok (.lreturn, 1) := dk_173 (dk_at dksX8_machineMore_7 14 rfl rfl)
theorem dX8_machineMore_165 : decode cX8_machineMore 165 = .ok (.lload 4, 2) := dk_22 4 (dk_at dksX8_machineMore_7 15 rfl rfl)
theorem dX8_machineMore_167 : decode cX8_machineMore 167 = .ok (.ldc2_w 206, 3) := dk_20 0 206 (dk_at dksX8_machineMore_7 17 rfl rfl)
theorem dX8_machineMore_170 : decode cX8_machineMore 170 = .ok (.lcmp, 1) := dk_148 (dk_at dksX8_machineMore_7 20 rfl rfl)
theorem dX8_machineMore_171 : decode cX8_machineMore 171 = .ok (.ifCond .ge 9, 3) := dk_156 0 9 (dk_at dksX8_machineMore_7 21 rfl rfl)
theorem dX8_machineMore_174 : decode cX8_machineMore 174 = .ok (.sipush (-3000), 3) := dk_17 244 72 (dk_at dksX8_machineMore_8 0 rfl rfl)
theorem dX8_machineMore_177 : decode cX8_machineMore 177 = .ok (.goto 21, 3) := dk_167 0 21 (dk_at dksX8_machineMore_8 3 rfl rfl)
theorem dX8_machineMore_180 : decode cX8_machineMore 180 = .ok (.lload 4, 2) := dk_22 4 (dk_at dksX8_machineMore_8 6 rfl rfl)
theorem dX8_machineMore_182 : decode cX8_machineMore 182 = .ok (.ldc2_w 208, 3) := dk_20 0 208 (dk_at dksX8_machineMore_8 8 rfl rfl)
theorem dX8_machineMore_185 : decode cX8_machineMore 185 = .ok (.lcmp, 1) := dk_148 (dk_at dksX8_machineMore_8 11 rfl rfl)
theorem dX8_machineMore_186 : decode cX8_machineMore 186 = .ok (.ifCond .le 9, 3) := dk_158 0 9 (dk_at dksX8_machineMore_8 12 rfl rfl)
theorem dX8_machineMore_189 : decode cX8_machineMore 189 = .ok (.sipush 3000, 3) := dk_17 11 184 (dk_at dksX8_machineMore_8 15 rfl rfl)
theorem dX8_machineMore_192 : decode cX8_machineMore 192 = .ok (.goto 6, 3) := dk_167 0 6 (dk_at dksX8_machineMore_8 18 rfl rfl)
theorem dX8_machineMore_195 : decode cX8_machineMore 195 = .ok (.lload 4, 2) := dk_22 4 (dk_at dksX8_machineMore_8 21 rfl rfl)
theorem dX8_machineMore_197 : decode cX8_machineMore 197 = .ok (.l2i, 1) := dk_136 (dk_at dksX8_machineMore_8 23 rfl rfl)
theorem dX8_machineMore_198 : decode cX8_machineMore 198 = .ok (.istore 6, 2) := dk_54 6 (dk_at dksX8_machineMore_9 0 rfl rfl)
theorem dX8_machineMore_200 : decode cX8_machineMore 200 = .ok (.lload_n 2, 1) := dk_32 (dk_at dksX8_machineMore_9 2 rfl rfl)
theorem dX8_machineMore_201 : decode cX8_machineMore 201 = .ok (.invokestatic 157, 3) := dk_184 0 157 (dk_at dksX8_machineMore_9 3 rfl rfl)
theorem dX8_machineMore_204 : decode cX8_machineMore 204 = .ok (.ifCond .eq 7, 3) := dk_153 0 7 (dk_at dksX8_machineMore_9 6 rfl rfl)
theorem dX8_machineMore_207 : decode cX8_machineMore 207 = .ok (.lload_n 2, 1) := dk_32 (dk_at dksX8_machineMore_9 9 rfl rfl)
theorem dX8_machineMore_208 : decode cX8_machineMore 208 = .ok (.goto 25, 3) := dk_167 0 25 (dk_at dksX8_machineMore_9 10 rfl rfl)
theorem dX8_machineMore_211 : decode cX8_machineMore 211 = .ok (.aload_n 0, 1) := dk_42 (dk_at dksX8_machineMore_9 13 rfl rfl)
theorem dX8_machineMore_212 : decode cX8_machineMore 212 = .ok (.lload_n 2, 1) := dk_32 (dk_at dksX8_machineMore_9 14 rfl rfl)
theorem dX8_machineMore_213 : decode cX8_machineMore 213 = .ok (.invokestatic 102, 3) := dk_184 0 102 (dk_at dksX8_machineMore_9 15 rfl rfl)
theorem dX8_machineMore_216 : decode cX8_machineMore 216 = .ok (.lload_n 2, 1) := dk_32 (dk_at dksX8_machineMore_9 18 rfl rfl)
theorem dX8_machineMore_217 : decode cX8_machineMore 217 = .ok (.invokestatic 105, 3) := dk_184 0 105 (dk_at dksX8_machineMore_9 19 rfl rfl)
theorem dX8_machineMore_220 : decode cX8_machineMore 220 = .ok (.iload 6, 2) := dk_21 6 (dk_at dksX8_machineMore_9 22 rfl rfl)
theorem dX8_machineMore_222 : decode cX8_machineMore 222 = .ok (.iadd, 1) := dk_96 (dk_at dksX8_machineMore_10 0 rfl rfl)
theorem dX8_machineMore_223 : decode cX8_machineMore 223 = .ok (.iconst 1, 1) := dk_4 (dk_at dksX8_machineMore_10 1 rfl rfl)
theorem dX8_machineMore_224 : decode cX8_machineMore 224 = .ok (.invokevirtual 191, 3) := dk_182 0 191 (dk_at dksX8_machineMore_10 2 rfl rfl)
theorem dX8_machineMore_227 : decode cX8_machineMore 227 = .ok (.lload_n 2, 1) := dk_32 (dk_at dksX8_machineMore_10 5 rfl rfl)
theorem dX8_machineMore_228 : decode cX8_machineMore 228 = .ok (.ldc2_w 183, 3) := dk_20 0 183 (dk_at dksX8_machineMore_10 6 rfl rfl)
theorem dX8_machineMore_231 : decode cX8_machineMore 231 = .ok (.land, 1) := dk_127 (dk_at dksX8_machineMore_10 9 rfl rfl)
theorem dX8_machineMore_232 : decode cX8_machineMore 232 = .ok (.lor, 1) := dk_129 (dk_at dksX8_machineMore_10 10 rfl rfl)
theorem dX8_machineMore_233 : decode cX8_machineMore 233 = .ok (.lreturn, 1) := dk_173 (dk_at dksX8_machineMore_10 11 rfl rfl)
theorem dX8_machineMore_234 : decode cX8_machineMore 234 = .ok (.lload_n 2, 1) := dk_32 (dk_at dksX8_machineMore_10 12 rfl rfl)
theorem dX8_machineMore_235 : decode cX8_machineMore 235 = .ok (.invokestatic 153, 3) := dk_184 0 153 (dk_at dksX8_machineMore_10 13 rfl rfl)
theorem dX8_machineMore_238 : decode cX8_machineMore 238 = .ok (.ifCond .ne 11, 3) := dk_154 0 11 (dk_at dksX8_machineMore_10 16 rfl rfl)
theorem dX8_machineMore_241 : decode cX8_machineMore 241 = .ok (.lload 4, 2) := dk_22 4 (dk_at dksX8_machineMore_10 19 rfl rfl)
theorem dX8_machineMore_243 : decode cX8_machineMore 243 = .ok (.invokestatic 153, 3) := dk_184 0 153 (dk_at dksX8_machineMore_10 21 rfl rfl)
theorem dX8_machineMore_246 : decode cX8_machineMore 246 = .ok (.ifCond .eq 7, 3) := dk_153 0 7 (dk_at dksX8_machineMore_11 0 rfl rfl)
theorem dX8_machineMore_249 : decode cX8_machineMore 249 = .ok (.ldc2_w 210, 3) := dk_20 0 210 (dk_at dksX8_machineMore_11 3 rfl rfl)
theorem dX8_machineMore_252 : decode cX8_machineMore 252 = .ok (.lreturn, 1) := dk_173 (dk_at dksX8_machineMore_11 6 rfl rfl)
theorem dX8_machineMore_253 : decode cX8_machineMore 253 = .ok (.lload_n 2, 1) := dk_32 (dk_at dksX8_machineMore_11 7 rfl rfl)
theorem dX8_machineMore_254 : decode cX8_machineMore 254 = .ok (.iconst 1, 1) := dk_4 (dk_at dksX8_machineMore_11 8 rfl rfl)
theorem dX8_machineMore_255 : decode cX8_machineMore 255 = .ok (.lshl, 1) := dk_121 (dk_at dksX8_machineMore_11 9 rfl rfl)
theorem dX8_machineMore_256 : decode cX8_machineMore 256 = .ok (.lconst 0, 1) := dk_9 (dk_at dksX8_machineMore_11 10 rfl rfl)
theorem dX8_machineMore_257 : decode cX8_machineMore 257 = .ok (.lcmp, 1) := dk_148 (dk_at dksX8_machineMore_11 11 rfl rfl)
theorem dX8_machineMore_258 : decode cX8_machineMore 258 = .ok (.ifCond .ne 16, 3) := dk_154 0 16 (dk_at dksX8_machineMore_11 12 rfl rfl)
theorem dX8_machineMore_261 : decode cX8_machineMore 261 = .ok (.lload 4, 2) := dk_22 4 (dk_at dksX8_machineMore_11 15 rfl rfl)
theorem dX8_machineMore_263 : decode cX8_machineMore 263 = .ok (.iconst 1, 1) := dk_4 (dk_at dksX8_machineMore_11 17 rfl rfl)
theorem dX8_machineMore_264 : decode cX8_machineMore 264 = .ok (.lshl, 1) := dk_121 (dk_at dksX8_machineMore_11 18 rfl rfl)
theorem dX8_machineMore_265 : decode cX8_machineMore 265 = .ok (.lconst 0, 1) := dk_9 (dk_at dksX8_machineMore_11 19 rfl rfl)
theorem dX8_machineMore_266 : decode cX8_machineMore 266 = .ok (.lcmp, 1) := dk_148 (dk_at dksX8_machineMore_11 20 rfl rfl)
theorem dX8_machineMore_267 : decode cX8_machineMore 267 = .ok (.ifCond .ne 7, 3) := dk_154 0 7 (dk_at dksX8_machineMore_11 21 rfl rfl)
theorem dX8_machineMore_270 : decode cX8_machineMore 270 = .ok (.iconst 1, 1) := dk_4 (dk_at dksX8_machineMore_12 0 rfl rfl)
theorem dX8_machineMore_271 : decode cX8_machineMore 271 = .ok (.goto 4, 3) := dk_167 0 4 (dk_at dksX8_machineMore_12 1 rfl rfl)
theorem dX8_machineMore_274 : decode cX8_machineMore 274 = .ok (.iconst 0, 1) := dk_3 (dk_at dksX8_machineMore_12 4 rfl rfl)
theorem dX8_machineMore_275 : decode cX8_machineMore 275 = .ok (.istore 7, 2) := dk_54 7 (dk_at dksX8_machineMore_12 5 rfl rfl)
theorem dX8_machineMore_277 : decode cX8_machineMore 277 = .ok (.iload 7, 2) := dk_21 7 (dk_at dksX8_machineMore_12 7 rfl rfl)
theorem dX8_machineMore_279 : decode cX8_machineMore 279 = .ok (.ifCond .ne 10, 3) := dk_154 0 10 (dk_at dksX8_machineMore_12 9 rfl rfl)
theorem dX8_machineMore_282 : decode cX8_machineMore 282 = .ok (.lload_n 2, 1) := dk_32 (dk_at dksX8_machineMore_12 12 rfl rfl)
theorem dX8_machineMore_283 : decode cX8_machineMore 283 = .ok (.lload 4, 2) := dk_22 4 (dk_at dksX8_machineMore_12 13 rfl rfl)
theorem dX8_machineMore_285 : decode cX8_machineMore 285 = .ok (.lcmp, 1) := dk_148 (dk_at dksX8_machineMore_12 15 rfl rfl)
theorem dX8_machineMore_286 : decode cX8_machineMore 286 = .ok (.ifCond .ne 9, 3) := dk_154 0 9 (dk_at dksX8_machineMore_12 16 rfl rfl)
theorem dX8_machineMore_289 : decode cX8_machineMore 289 = .ok (.ldc2_w 189, 3) := dk_20 0 189 (dk_at dksX8_machineMore_12 19 rfl rfl)
theorem dX8_machineMore_292 : decode cX8_machineMore 292 = .ok (.goto 23, 3) := dk_167 0 23 (dk_at dksX8_machineMore_13 0 rfl rfl)
theorem dX8_machineMore_295 : decode cX8_machineMore 295 = .ok (.lload_n 2, 1) := dk_32 (dk_at dksX8_machineMore_13 3 rfl rfl)
theorem dX8_machineMore_296 : decode cX8_machineMore 296 = .ok (.invokestatic 212, 3) := dk_184 0 212 (dk_at dksX8_machineMore_13 4 rfl rfl)
theorem dX8_machineMore_299 : decode cX8_machineMore 299 = .ok (.lload 4, 2) := dk_22 4 (dk_at dksX8_machineMore_13 7 rfl rfl)
theorem dX8_machineMore_301 : decode cX8_machineMore 301 = .ok (.invokestatic 212, 3) := dk_184 0 212 (dk_at dksX8_machineMore_13 9 rfl rfl)
theorem dX8_machineMore_304 : decode cX8_machineMore 304 = .ok (.lcmp, 1) := dk_148 (dk_at dksX8_machineMore_13 12 rfl rfl)
theorem dX8_machineMore_305 : decode cX8_machineMore 305 = .ok (.ifCond .ge 7, 3) := dk_156 0 7 (dk_at dksX8_machineMore_13 13 rfl rfl)
theorem dX8_machineMore_308 : decode cX8_machineMore 308 = .ok (.lconst 1, 1) := dk_10 (dk_at dksX8_machineMore_13 16 rfl rfl)
theorem dX8_machineMore_309 : decode cX8_machineMore 309 = .ok (.goto 6, 3) := dk_167 0 6 (dk_at dksX8_machineMore_13 17 rfl rfl)
theorem dX8_machineMore_312 : decode cX8_machineMore 312 = .ok (.ldc2_w 215, 3) := dk_20 0 215 (dk_at dksX8_machineMore_13 20 rfl rfl)
theorem dX8_machineMore_315 : decode cX8_machineMore 315 = .ok (.lreturn, 1) := dk_173 (dk_at dksX8_machineMore_13 23 rfl rfl)
abbrev cX8_cast : ByteArray := prog_11_method_66_code
def yX8_cast : MethodName := ⟨RX8, "cast", "(IJ)J"⟩
def dkwX8_cast_4 : List UInt8 := [133, 173, 42, 32, 182, 0, 241, 173, 42, 32, 136, 182, 0, 244, 173]
abbrev dktX8_cast_4 : List UInt8 := dkwX8_cast_4 ++ []
def dkwX8_cast_3 : List UInt8 := [42, 32, 4, 182, 0, 237, 173, 21, 4, 133, 173, 21, 4, 147, 133, 173, 21, 4, 145, 133, 173, 21, 4, 146]
abbrev dktX8_cast_3 : List UInt8 := dkwX8_cast_3 ++ dktX8_cast_4
def dkwX8_cast_2 : List UInt8 := [170, 0, 0, 0, 0, 0, 0, 72, 0, 0, 0, 0, 0, 0, 0, 5, 0, 0, 0, 40, 0, 0, 0, 47, 0, 0, 0, 51, 0, 0, 0, 56, 0, 0, 0, 61, 0, 0, 0, 66]
abbrev dktX8_cast_2 : List UInt8 := dkwX8_cast_2 ++ dktX8_cast_3
def dkwX8_cast_1 : List UInt8 := [3, 182, 0, 237, 136, 54, 4, 27]
abbrev dktX8_cast_1 : List UInt8 := dkwX8_cast_1 ++ dktX8_cast_2
def dkwX8_cast_0 : List UInt8 := [27, 155, 0, 9, 27, 16, 6, 164, 0, 10, 42, 4, 182, 0, 79, 133, 173, 42, 3, 181, 0, 20, 42, 32]
abbrev dktX8_cast_0 : List UInt8 := dkwX8_cast_0 ++ dktX8_cast_1
theorem dksX8_cast_0 : cX8_cast.data.toList.drop 0 = dktX8_cast_0 := by decide +kernel
theorem dksX8_cast_1 : cX8_cast.data.toList.drop 24 = dktX8_cast_1 := dk_seg dksX8_cast_0 24 rfl rfl
theorem dksX8_cast_2 : cX8_cast.data.toList.drop 32 = dktX8_cast_2 := dk_seg dksX8_cast_1 8 rfl rfl
theorem dksX8_cast_3 : cX8_cast.data.toList.drop 72 = dktX8_cast_3 := dk_seg dksX8_cast_2 40 rfl rfl
theorem dksX8_cast_4 : cX8_cast.data.toList.drop 96 = dktX8_cast_4 := dk_seg dksX8_cast_3 24 rfl rfl
theorem dX8_cast_0 : decode cX8_cast 0 = .ok (.iload_n 1, 1) := dk_27 (dk_at dksX8_cast_0 0 rfl rfl)
theorem dX8_cast_1 : decode cX8_cast 1 = .ok (.ifCond .lt 9, 3) := dk_155 0 9 (dk_at dksX8_cast_0 1 rfl rfl)
theorem dX8_cast_4 : decode cX8_cast 4 = .ok (.iload_n 1, 1) := dk_27 (dk_at dksX8_cast_0 4 rfl rfl)
theorem dX8_cast_5 : decode cX8_cast 5 = .ok (.bipush 6, 2) := dk_16 6 (dk_at dksX8_cast_0 5 rfl rfl)
theorem dX8_cast_7 : decode cX8_cast 7 = .ok (.if_icmp .le 10, 3) := dk_164 0 10 (dk_at dksX8_cast_0 7 rfl rfl)
theorem dX8_cast_10 : decode cX8_cast 10 = .ok (.aload_n 0, 1) := dk_42 (dk_at dksX8_cast_0 10 rfl rfl)
theorem dX8_cast_11 : decode cX8_cast 11 = .ok (.iconst 1, 1) := dk_4 (dk_at dksX8_cast_0 11 rfl rfl)
theorem dX8_cast_12 : decode cX8_cast 12 = .ok (.invokevirtual 79, 3) := dk_182 0 79 (dk_at dksX8_cast_0 12 rfl rfl)
theorem dX8_cast_15 : decode cX8_cast 15 = .ok (.i2l, 1) := dk_133 (dk_at dksX8_cast_0 15 rfl rfl)
theorem dX8_cast_16 : decode cX8_cast 16 = .ok (.lreturn, 1) := dk_173 (dk_at dksX8_cast_0 16 rfl rfl)
theorem dX8_cast_17 : decode cX8_cast 17 = .ok (.aload_n 0, 1) := dk_42 (dk_at dksX8_cast_0 17 rfl rfl)
theorem dX8_cast_18 : decode cX8_cast 18 = .ok (.iconst 0, 1) := dk_3 (dk_at dksX8_cast_0 18 rfl rfl)
theorem dX8_cast_19 : decode cX8_cast 19 = .ok (.putfield 20, 3) := dk_181 0 20 (dk_at dksX8_cast_0 19 rfl rfl)
theorem dX8_cast_22 : decode cX8_cast 22 = .ok (.aload_n 0, 1) := dk_42 (dk_at dksX8_cast_0 22 rfl rfl)
theorem dX8_cast_23 : decode cX8_cast 23 = .ok (.lload_n 2, 1) := dk_32 (dk_at dksX8_cast_0 23 rfl rfl)
theorem dX8_cast_24 : decode cX8_cast 24 = .ok (.iconst 0, 1) := dk_3 (dk_at dksX8_cast_1 0 rfl rfl)
theorem dX8_cast_25 : decode cX8_cast 25 = .ok (.invokevirtual 237, 3) := dk_182 0 237 (dk_at dksX8_cast_1 1 rfl rfl)
theorem dX8_cast_28 : decode cX8_cast 28 = .ok (.l2i, 1) := dk_136 (dk_at dksX8_cast_1 4 rfl rfl)
theorem dX8_cast_29 : decode cX8_cast 29 = .ok (.istore 4, 2) := dk_54 4 (dk_at dksX8_cast_1 5 rfl rfl)
theorem dX8_cast_31 : decode cX8_cast 31 = .ok (.iload_n 1, 1) := dk_27 (dk_at dksX8_cast_1 7 rfl rfl)
theorem dX8_cast_32 : decode cX8_cast 32 = .ok (.tableswitch 72 0 5 #[40, 47, 51, 56, 61, 66], 40) := by decide +kernel
theorem dX8_cast_72 : decode cX8_cast 72 = .ok (.aload_n 0, 1) := dk_42 (dk_at dksX8_cast_3 0 rfl rfl)
theorem dX8_cast_73 : decode cX8_cast 73 = .ok (.lload_n 2, 1) := dk_32 (dk_at dksX8_cast_3 1 rfl rfl)
theorem dX8_cast_74 : decode cX8_cast 74 = .ok (.iconst 1, 1) := dk_4 (dk_at dksX8_cast_3 2 rfl rfl)
theorem dX8_cast_75 : decode cX8_cast 75 = .ok (.invokevirtual 237, 3) := dk_182 0 237 (dk_at dksX8_cast_3 3 rfl rfl)
theorem dX8_cast_78 : decode cX8_cast 78 = .ok (.lreturn, 1) := dk_173 (dk_at dksX8_cast_3 6 rfl rfl)
theorem dX8_cast_79 : decode cX8_cast 79 = .ok (.iload 4, 2) := dk_21 4 (dk_at dksX8_cast_3 7 rfl rfl)
theorem dX8_cast_81 : decode cX8_cast 81 = .ok (.i2l, 1) := dk_133 (dk_at dksX8_cast_3 9 rfl rfl)
theorem dX8_cast_82 : decode cX8_cast 82 = .ok (.lreturn, 1) := dk_173 (dk_at dksX8_cast_3 10 rfl rfl)
theorem dX8_cast_83 : decode cX8_cast 83 = .ok (.iload 4, 2) := dk_21 4 (dk_at dksX8_cast_3 11 rfl rfl)
theorem dX8_cast_85 : decode cX8_cast 85 = .ok (.i2s, 1) := dk_147 (dk_at dksX8_cast_3 13 rfl rfl)
theorem dX8_cast_86 : decode cX8_cast 86 = .ok (.i2l, 1) := dk_133 (dk_at dksX8_cast_3 14 rfl rfl)
theorem dX8_cast_87 : decode cX8_cast 87 = .ok (.lreturn, 1) := dk_173 (dk_at dksX8_cast_3 15 rfl rfl)
theorem dX8_cast_88 : decode cX8_cast 88 = .ok (.iload 4, 2) := dk_21 4 (dk_at dksX8_cast_3 16 rfl rfl)
theorem dX8_cast_90 : decode cX8_cast 90 = .ok (.i2b, 1) := dk_145 (dk_at dksX8_cast_3 18 rfl rfl)
theorem dX8_cast_91 : decode cX8_cast 91 = .ok (.i2l, 1) := dk_133 (dk_at dksX8_cast_3 19 rfl rfl)
theorem dX8_cast_92 : decode cX8_cast 92 = .ok (.lreturn, 1) := dk_173 (dk_at dksX8_cast_3 20 rfl rfl)
theorem dX8_cast_93 : decode cX8_cast 93 = .ok (.iload 4, 2) := dk_21 4 (dk_at dksX8_cast_3 21 rfl rfl)
theorem dX8_cast_95 : decode cX8_cast 95 = .ok (.i2c, 1) := dk_146 (dk_at dksX8_cast_3 23 rfl rfl)
theorem dX8_cast_96 : decode cX8_cast 96 = .ok (.i2l, 1) := dk_133 (dk_at dksX8_cast_4 0 rfl rfl)
theorem dX8_cast_97 : decode cX8_cast 97 = .ok (.lreturn, 1) := dk_173 (dk_at dksX8_cast_4 1 rfl rfl)
theorem dX8_cast_98 : decode cX8_cast 98 = .ok (.aload_n 0, 1) := dk_42 (dk_at dksX8_cast_4 2 rfl rfl)
theorem dX8_cast_99 : decode cX8_cast 99 = .ok (.lload_n 2, 1) := dk_32 (dk_at dksX8_cast_4 3 rfl rfl)
theorem dX8_cast_100 : decode cX8_cast 100 = .ok (.invokevirtual 241, 3) := dk_182 0 241 (dk_at dksX8_cast_4 4 rfl rfl)
theorem dX8_cast_103 : decode cX8_cast 103 = .ok (.lreturn, 1) := dk_173 (dk_at dksX8_cast_4 7 rfl rfl)
theorem dX8_cast_104 : decode cX8_cast 104 = .ok (.aload_n 0, 1) := dk_42 (dk_at dksX8_cast_4 8 rfl rfl)
theorem dX8_cast_105 : decode cX8_cast 105 = .ok (.lload_n 2, 1) := dk_32 (dk_at dksX8_cast_4 9 rfl rfl)
theorem dX8_cast_106 : decode cX8_cast 106 = .ok (.l2i, 1) := dk_136 (dk_at dksX8_cast_4 10 rfl rfl)
theorem dX8_cast_107 : decode cX8_cast 107 = .ok (.invokevirtual 244, 3) := dk_182 0 244 (dk_at dksX8_cast_4 11 rfl rfl)
theorem dX8_cast_110 : decode cX8_cast 110 = .ok (.lreturn, 1) := dk_173 (dk_at dksX8_cast_4 14 rfl rfl)
abbrev cX8_cut : ByteArray := prog_11_method_63_code
def yX8_cut : MethodName := ⟨RX8, "cut", "(JZ)J"⟩
def dkwX8_cut_6 : List UInt8 := [167, 0, 5, 22, 4, 173, 31, 9, 148, 156, 0, 9, 22, 7, 117, 167, 0, 5, 22, 7, 173]
abbrev dktX8_cut_6 : List UInt8 := dkwX8_cut_6 ++ []
def dkwX8_cut_5 : List UInt8 := [167, 0, 4, 3, 54, 6, 21, 6, 153, 0, 20, 31, 9, 148, 156, 0, 11, 22, 4, 117, 10, 101]
abbrev dktX8_cut_5 : List UInt8 := dkwX8_cut_5 ++ dktX8_cut_6
def dkwX8_cut_4 : List UInt8 := [16, 53, 123, 9, 148, 157, 0, 18, 22, 7, 9, 148, 155, 0, 11, 22, 7, 22, 4, 148, 158, 0, 7, 4]
abbrev dktX8_cut_4 : List UInt8 := dkwX8_cut_4 ++ dktX8_cut_5
def dkwX8_cut_3 : List UInt8 := [167, 0, 8, 42, 31, 182, 0, 197, 55, 7, 31, 184, 0, 105, 16, 10, 160, 0, 15, 31, 184, 0, 102]
abbrev dktX8_cut_3 : List UInt8 := dkwX8_cut_3 ++ dktX8_cut_4
def dkwX8_cut_2 : List UInt8 := [55, 7, 21, 6, 154, 0, 72, 31, 184, 0, 105, 158, 0, 15, 31, 184, 0, 102, 31, 184, 0, 105, 121]
abbrev dktX8_cut_2 : List UInt8 := dkwX8_cut_2 ++ dktX8_cut_3
def dkwX8_cut_1 : List UInt8 := [31, 184, 0, 157, 154, 0, 12, 31, 184, 0, 105, 16, 10, 164, 0, 7, 4, 167, 0, 4, 3, 54, 6, 9]
abbrev dktX8_cut_1 : List UInt8 := dkwX8_cut_1 ++ dktX8_cut_2
def dkwX8_cut_0 : List UInt8 := [31, 184, 0, 153, 153, 0, 5, 9, 173, 29, 153, 0, 9, 20, 0, 200, 167, 0, 6, 20, 0, 229, 55, 4]
abbrev dktX8_cut_0 : List UInt8 := dkwX8_cut_0 ++ dktX8_cut_1
theorem dksX8_cut_0 : cX8_cut.data.toList.drop 0 = dktX8_cut_0 := by decide +kernel
theorem dksX8_cut_1 : cX8_cut.data.toList.drop 24 = dktX8_cut_1 := dk_seg dksX8_cut_0 24 rfl rfl
theorem dksX8_cut_2 : cX8_cut.data.toList.drop 48 = dktX8_cut_2 := dk_seg dksX8_cut_1 24 rfl rfl
theorem dksX8_cut_3 : cX8_cut.data.toList.drop 71 = dktX8_cut_3 := dk_seg dksX8_cut_2 23 rfl rfl
theorem dksX8_cut_4 : cX8_cut.data.toList.drop 94 = dktX8_cut_4 := dk_seg dksX8_cut_3 23 rfl rfl
theorem dksX8_cut_5 : cX8_cut.data.toList.drop 118 = dktX8_cut_5 := dk_seg dksX8_cut_4 24 rfl rfl
theorem dksX8_cut_6 : cX8_cut.data.toList.drop 140 = dktX8_cut_6 := dk_seg dksX8_cut_5 22 rfl rfl
theorem dX8_cut_0 : decode cX8_cut 0 = .ok (.lload_n 1, 1) := dk_31 (dk_at dksX8_cut_0 0 rfl rfl)
theorem dX8_cut_1 : decode cX8_cut 1 = .ok (.invokestatic 153, 3) := dk_184 0 153 (dk_at dksX8_cut_0 1 rfl rfl)
theorem dX8_cut_4 : decode cX8_cut 4 = .ok (.ifCond .eq 5, 3) := dk_153 0 5 (dk_at dksX8_cut_0 4 rfl rfl)
theorem dX8_cut_7 : decode cX8_cut 7 = .ok (.lconst 0, 1) := dk_9 (dk_at dksX8_cut_0 7 rfl rfl)
theorem dX8_cut_8 : decode cX8_cut 8 = .ok (.lreturn, 1) := dk_173 (dk_at dksX8_cut_0 8 rfl rfl)
theorem dX8_cut_9 : decode cX8_cut 9 = .ok (.iload_n 3, 1) := dk_29 (dk_at dksX8_cut_0 9 rfl rfl)
theorem dX8_cut_10 : decode cX8_cut 10 = .ok (.ifCond .eq 9, 3) := dk_153 0 9 (dk_at dksX8_cut_0 10 rfl rfl)
theorem dX8_cut_13 : decode cX8_cut 13 = .ok (.ldc2_w 200, 3) := dk_20 0 200 (dk_at dksX8_cut_0 13 rfl rfl)
theorem dX8_cut_16 : decode cX8_cut 16 = .ok (.goto 6, 3) := dk_167 0 6 (dk_at dksX8_cut_0 16 rfl rfl)
theorem dX8_cut_19 : decode cX8_cut 19 = .ok (.ldc2_w 229, 3) := dk_20 0 229 (dk_at dksX8_cut_0 19 rfl rfl)
theorem dX8_cut_22 : decode cX8_cut 22 = .ok (.lstore 4, 2) := dk_55 4 (dk_at dksX8_cut_0 22 rfl rfl)
theorem dX8_cut_24 : decode cX8_cut 24 = .ok (.lload_n 1, 1) := dk_31 (dk_at dksX8_cut_1 0 rfl rfl)
theorem dX8_cut_25 : decode cX8_cut 25 = .ok (.invokestatic 157, 3) := dk_184 0 157 (dk_at dksX8_cut_1 1 rfl rfl)
theorem dX8_cut_28 : decode cX8_cut 28 = .ok (.ifCond .ne 12, 3) := dk_154 0 12 (dk_at dksX8_cut_1 4 rfl rfl)
theorem dX8_cut_31 : decode cX8_cut 31 = .ok (.lload_n 1, 1) := dk_31 (dk_at dksX8_cut_1 7 rfl rfl)
theorem dX8_cut_32 : decode cX8_cut 32 = .ok (.invokestatic 105, 3) := dk_184 0 105 (dk_at dksX8_cut_1 8 rfl rfl)
theorem dX8_cut_35 : decode cX8_cut 35 = .ok (.bipush 10, 2) := dk_16 10 (dk_at dksX8_cut_1 11 rfl rfl)
theorem dX8_cut_37 : decode cX8_cut 37 = .ok (.if_icmp .le 7, 3) := dk_164 0 7 (dk_at dksX8_cut_1 13 rfl rfl)
theorem dX8_cut_40 : decode cX8_cut 40 = .ok (.iconst 1, 1) := dk_4 (dk_at dksX8_cut_1 16 rfl rfl)
theorem dX8_cut_41 : decode cX8_cut 41 = .ok (.goto 4, 3) := dk_167 0 4 (dk_at dksX8_cut_1 17 rfl rfl)
theorem dX8_cut_44 : decode cX8_cut 44 = .ok (.iconst 0, 1) := dk_3 (dk_at dksX8_cut_1 20 rfl rfl)
theorem dX8_cut_45 : decode cX8_cut 45 = .ok (.istore 6, 2) := dk_54 6 (dk_at dksX8_cut_1 21 rfl rfl)
theorem dX8_cut_47 : decode cX8_cut 47 = .ok (.lconst 0, 1) := dk_9 (dk_at dksX8_cut_1 23 rfl rfl)
theorem dX8_cut_48 : decode cX8_cut 48 = .ok (.lstore 7, 2) := dk_55 7 (dk_at dksX8_cut_2 0 rfl rfl)
theorem dX8_cut_50 : decode cX8_cut 50 = .ok (.iload 6, 2) := dk_21 6 (dk_at dksX8_cut_2 2 rfl rfl)
theorem dX8_cut_52 : decode cX8_cut 52 = .ok (.ifCond .ne 72, 3) := dk_154 0 72 (dk_at dksX8_cut_2 4 rfl rfl)
theorem dX8_cut_55 : decode cX8_cut 55 = .ok (.lload_n 1, 1) := dk_31 (dk_at dksX8_cut_2 7 rfl rfl)
theorem dX8_cut_56 : decode cX8_cut 56 = .ok (.invokestatic 105, 3) := dk_184 0 105 (dk_at dksX8_cut_2 8 rfl rfl)
theorem dX8_cut_59 : decode cX8_cut 59 = .ok (.ifCond .le 15, 3) := dk_158 0 15 (dk_at dksX8_cut_2 11 rfl rfl)
theorem dX8_cut_62 : decode cX8_cut 62 = .ok (.lload_n 1, 1) := dk_31 (dk_at dksX8_cut_2 14 rfl rfl)
theorem dX8_cut_63 : decode cX8_cut 63 = .ok (.invokestatic 102, 3) := dk_184 0 102 (dk_at dksX8_cut_2 15 rfl rfl)
theorem dX8_cut_66 : decode cX8_cut 66 = .ok (.lload_n 1, 1) := dk_31 (dk_at dksX8_cut_2 18 rfl rfl)
theorem dX8_cut_67 : decode cX8_cut 67 = .ok (.invokestatic 105, 3) := dk_184 0 105 (dk_at dksX8_cut_2 19 rfl rfl)
theorem dX8_cut_70 : decode cX8_cut 70 = .ok (.lshl, 1) := dk_121 (dk_at dksX8_cut_2 22 rfl rfl)
theorem dX8_cut_71 : decode cX8_cut 71 = .ok (.goto 8, 3) := dk_167 0 8 (dk_at dksX8_cut_3 0 rfl rfl)
theorem dX8_cut_74 : decode cX8_cut 74 = .ok (.aload_n 0, 1) := dk_42 (dk_at dksX8_cut_3 3 rfl rfl)
theorem dX8_cut_75 : decode cX8_cut 75 = .ok (.lload_n 1, 1) := dk_31 (dk_at dksX8_cut_3 4 rfl rfl)
theorem dX8_cut_76 : decode cX8_cut 76 = .ok (.invokevirtual 197, 3) := dk_182 0 197 (dk_at dksX8_cut_3 5 rfl rfl)
theorem dX8_cut_79 : decode cX8_cut 79 = .ok (.lstore 7, 2) := dk_55 7 (dk_at dksX8_cut_3 8 rfl rfl)
theorem dX8_cut_81 : decode cX8_cut 81 = .ok (.lload_n 1, 1) := dk_31 (dk_at dksX8_cut_3 10 rfl rfl)
theorem dX8_cut_82 : decode cX8_cut 82 = .ok (.invokestatic 105, 3) := dk_184 0 105 (dk_at dksX8_cut_3 11 rfl rfl)
theorem dX8_cut_85 : decode cX8_cut 85 = .ok (.bipush 10, 2) := dk_16 10 (dk_at dksX8_cut_3 14 rfl rfl)
theorem dX8_cut_87 : decode cX8_cut 87 = .ok (.if_icmp .ne 15, 3) := dk_160 0 15 (dk_at dksX8_cut_3 16 rfl rfl)
theorem dX8_cut_90 : decode cX8_cut 90 = .ok (.lload_n 1, 1) := dk_31 (dk_at dksX8_cut_3 19 rfl rfl)
theorem dX8_cut_91 : decode cX8_cut 91 = .ok (.invokestatic 102, 3) := dk_184 0 102 (dk_at dksX8_cut_3 20 rfl rfl)
theorem dX8_cut_94 : decode cX8_cut 94 = .ok (.bipush 53, 2) := dk_16 53 (dk_at dksX8_cut_4 0 rfl rfl)
theorem dX8_cut_96 : decode cX8_cut 96 = .ok (.lshr, 1) := dk_123 (dk_at dksX8_cut_4 2 rfl rfl)
theorem dX8_cut_97 : decode cX8_cut 97 = .ok (.lconst 0, 1) := dk_9 (dk_at dksX8_cut_4 3 rfl rfl)
theorem dX8_cut_98 : decode cX8_cut 98 = .ok (.lcmp, 1) := dk_148 (dk_at dksX8_cut_4 4 rfl rfl)
theorem dX8_cut_99 : decode cX8_cut 99 = .ok (.ifCond .gt 18, 3) := dk_157 0 18 (dk_at dksX8_cut_4 5 rfl rfl)
theorem dX8_cut_102 : decode cX8_cut 102 = .ok (.lload 7, 2) := dk_22 7 (dk_at dksX8_cut_4 8 rfl rfl)
theorem dX8_cut_104 : decode cX8_cut 104 = .ok (.lconst 0, 1) := dk_9 (dk_at dksX8_cut_4 10 rfl rfl)
theorem dX8_cut_105 : decode cX8_cut 105 = .ok (.lcmp, 1) := dk_148 (dk_at dksX8_cut_4 11 rfl rfl)
theorem dX8_cut_106 : decode cX8_cut 106 = .ok (.ifCond .lt 11, 3) := dk_155 0 11 (dk_at dksX8_cut_4 12 rfl rfl)
theorem dX8_cut_109 : decode cX8_cut 109 = .ok (.lload 7, 2) := dk_22 7 (dk_at dksX8_cut_4 15 rfl rfl)
theorem dX8_cut_111 : decode cX8_cut 111 = .ok (.lload 4, 2) := dk_22 4 (dk_at dksX8_cut_4 17 rfl rfl)
theorem dX8_cut_113 : decode cX8_cut 113 = .ok (.lcmp, 1) := dk_148 (dk_at dksX8_cut_4 19 rfl rfl)
theorem dX8_cut_114 : decode cX8_cut 114 = .ok (.ifCond .le 7, 3) := dk_158 0 7 (dk_at dksX8_cut_4 20 rfl rfl)
theorem dX8_cut_117 : decode cX8_cut 117 = .ok (.iconst 1, 1) := dk_4 (dk_at dksX8_cut_4 23 rfl rfl)
theorem dX8_cut_118 : decode cX8_cut 118 = .ok (.goto 4, 3) := dk_167 0 4 (dk_at dksX8_cut_5 0 rfl rfl)
theorem dX8_cut_121 : decode cX8_cut 121 = .ok (.iconst 0, 1) := dk_3 (dk_at dksX8_cut_5 3 rfl rfl)
theorem dX8_cut_122 : decode cX8_cut 122 = .ok (.istore 6, 2) := dk_54 6 (dk_at dksX8_cut_5 4 rfl rfl)
theorem dX8_cut_124 : decode cX8_cut 124 = .ok (.iload 6, 2) := dk_21 6 (dk_at dksX8_cut_5 6 rfl rfl)
theorem dX8_cut_126 : decode cX8_cut 126 = .ok (.ifCond .eq 20, 3) := dk_153 0 20 (dk_at dksX8_cut_5 8 rfl rfl)
theorem dX8_cut_129 : decode cX8_cut 129 = .ok (.lload_n 1, 1) := dk_31 (dk_at dksX8_cut_5 11 rfl rfl)
theorem dX8_cut_130 : decode cX8_cut 130 = .ok (.lconst 0, 1) := dk_9 (dk_at dksX8_cut_5 12 rfl rfl)
theorem dX8_cut_131 : decode cX8_cut 131 = .ok (.lcmp, 1) := dk_148 (dk_at dksX8_cut_5 13 rfl rfl)
theorem dX8_cut_132 : decode cX8_cut 132 = .ok (.ifCond .ge 11, 3) := dk_156 0 11 (dk_at dksX8_cut_5 14 rfl rfl)
theorem dX8_cut_135 : decode cX8_cut 135 = .ok (.lload 4, 2) := dk_22 4 (dk_at dksX8_cut_5 17 rfl rfl)
theorem dX8_cut_137 : decode cX8_cut 137 = .ok (.lneg, 1) := dk_117 (dk_at dksX8_cut_5 19 rfl rfl)
theorem dX8_cut_138 : decode cX8_cut 138 = .ok (.lconst 1, 1) := dk_10 (dk_at dksX8_cut_5 20 rfl rfl)
theorem dX8_cut_139 : decode cX8_cut 139 = .ok (.lsub, 1) := dk_101 (dk_at dksX8_cut_5 21 rfl rfl)
theorem dX8_cut_140 : decode cX8_cut 140 = .ok (.goto 5, 3) := dk_167 0 5 (dk_at dksX8_cut_6 0 rfl rfl)
theorem dX8_cut_143 : decode cX8_cut 143 = .ok (.lload 4, 2) := dk_22 4 (dk_at dksX8_cut_6 3 rfl rfl)
theorem dX8_cut_145 : decode cX8_cut 145 = .ok (.lreturn, 1) := dk_173 (dk_at dksX8_cut_6 5 rfl rfl)
theorem dX8_cut_146 : decode cX8_cut 146 = .ok (.lload_n 1, 1) := dk_31 (dk_at dksX8_cut_6 6 rfl rfl)
theorem dX8_cut_147 : decode cX8_cut 147 = .ok (.lconst 0, 1) := dk_9 (dk_at dksX8_cut_6 7 rfl rfl)
theorem dX8_cut_148 : decode cX8_cut 148 = .ok (.lcmp, 1) := dk_148 (dk_at dksX8_cut_6 8 rfl rfl)
theorem dX8_cut_149 : decode cX8_cut 149 = .ok (.ifCond .ge 9, 3) := dk_156 0 9 (dk_at dksX8_cut_6 9 rfl rfl)
theorem dX8_cut_152 : decode cX8_cut 152 = .ok (.lload 7, 2) := dk_22 7 (dk_at dksX8_cut_6 12 rfl rfl)
theorem dX8_cut_154 : decode cX8_cut 154 = .ok (.lneg, 1) := dk_117 (dk_at dksX8_cut_6 14 rfl rfl)
theorem dX8_cut_155 : decode cX8_cut 155 = .ok (.goto 5, 3) := dk_167 0 5 (dk_at dksX8_cut_6 15 rfl rfl)
theorem dX8_cut_158 : decode cX8_cut 158 = .ok (.lload 7, 2) := dk_22 7 (dk_at dksX8_cut_6 18 rfl rfl)
theorem dX8_cut_160 : decode cX8_cut 160 = .ok (.lreturn, 1) := dk_173 (dk_at dksX8_cut_6 20 rfl rfl)
abbrev cX8_floatBits : ByteArray := prog_11_method_64_code
def yX8_floatBits : MethodName := ⟨RX8, "floatBits", "(J)J"⟩
def dkwX8_floatBits_2 : List UInt8 := [184, 0, 105, 3, 182, 0, 191, 33, 129, 136, 133, 173]
abbrev dktX8_floatBits_2 : List UInt8 := dkwX8_floatBits_2 ++ []
def dkwX8_floatBits_1 : List UInt8 := [66, 31, 184, 0, 157, 153, 0, 11, 20, 0, 233, 33, 129, 136, 133, 173, 42, 31, 184, 0, 102, 31]
abbrev dktX8_floatBits_1 : List UInt8 := dkwX8_floatBits_1 ++ dktX8_floatBits_2
def dkwX8_floatBits_0 : List UInt8 := [31, 184, 0, 153, 153, 0, 7, 20, 0, 231, 173, 31, 9, 148, 156, 0, 9, 20, 0, 185, 167, 0, 4, 9]
abbrev dktX8_floatBits_0 : List UInt8 := dkwX8_floatBits_0 ++ dktX8_floatBits_1
theorem dksX8_floatBits_0 : cX8_floatBits.data.toList.drop 0 = dktX8_floatBits_0 := by decide +kernel
theorem dksX8_floatBits_1 : cX8_floatBits.data.toList.drop 24 = dktX8_floatBits_1 := dk_seg dksX8_floatBits_0 24 rfl rfl
theorem dksX8_floatBits_2 : cX8_floatBits.data.toList.drop 46 = dktX8_floatBits_2 := dk_seg dksX8_floatBits_1 22 rfl rfl
theorem dX8_floatBits_0 : decode cX8_floatBits 0 = .ok (.lload_n 1, 1) := dk_31 (dk_at dksX8_floatBits_0 0 rfl rfl)
theorem dX8_floatBits_1 : decode cX8_floatBits 1 = .ok (.invokestatic 153, 3) := dk_184 0 153 (dk_at dksX8_floatBits_0 1 rfl rfl)
theorem dX8_floatBits_4 : decode cX8_floatBits 4 = .ok (.ifCond .eq 7, 3) := dk_153 0 7 (dk_at dksX8_floatBits_0 4 rfl rfl)
theorem dX8_floatBits_7 : decode cX8_floatBits 7 = .ok (.ldc2_w 231, 3) := dk_20 0 231 (dk_at dksX8_floatBits_0 7 rfl rfl)
theorem dX8_floatBits_10 : decode cX8_floatBits 10 = .ok (.lreturn, 1) := dk_173 (dk_at dksX8_floatBits_0 10 rfl rfl)
theorem dX8_floatBits_11 : decode cX8_floatBits 11 = .ok (.lload_n 1, 1) := dk_31 (dk_at dksX8_floatBits_0 11 rfl rfl)
theorem dX8_floatBits_12 : decode cX8_floatBits 12 = .ok (.lconst 0, 1) := dk_9 (dk_at dksX8_floatBits_0 12 rfl rfl)
theorem dX8_floatBits_13 : decode cX8_floatBits 13 = .ok (.lcmp, 1) := dk_148 (dk_at dksX8_floatBits_0 13 rfl rfl)
theorem dX8_floatBits_14 : decode cX8_floatBits 14 = .ok (.ifCond .ge 9, 3) := dk_156 0 9 (dk_at dksX8_floatBits_0 14 rfl rfl)
theorem dX8_floatBits_17 : decode cX8_floatBits 17 = .ok (.ldc2_w 185, 3) := dk_20 0 185 (dk_at dksX8_floatBits_0 17 rfl rfl)
theorem dX8_floatBits_20 : decode cX8_floatBits 20 = .ok (.goto 4, 3) := dk_167 0 4 (dk_at dksX8_floatBits_0 20 rfl rfl)
theorem dX8_floatBits_23 : decode cX8_floatBits 23 = .ok (.lconst 0, 1) := dk_9 (dk_at dksX8_floatBits_0 23 rfl rfl)
theorem dX8_floatBits_24 : decode cX8_floatBits 24 = .ok (.lstore_n 3, 1) := dk_66 (dk_at dksX8_floatBits_1 0 rfl rfl)
theorem dX8_floatBits_25 : decode cX8_floatBits 25 = .ok (.lload_n 1, 1) := dk_31 (dk_at dksX8_floatBits_1 1 rfl rfl)
theorem dX8_floatBits_26 : decode cX8_floatBits 26 = .ok (.invokestatic 157, 3) := dk_184 0 157 (dk_at dksX8_floatBits_1 2 rfl rfl)
theorem dX8_floatBits_29 : decode cX8_floatBits 29 = .ok (.ifCond .eq 11, 3) := dk_153 0 11 (dk_at dksX8_floatBits_1 5 rfl rfl)
theorem dX8_floatBits_32 : decode cX8_floatBits 32 = .ok (.ldc2_w 233, 3) := dk_20 0 233 (dk_at dksX8_floatBits_1 8 rfl rfl)
theorem dX8_floatBits_35 : decode cX8_floatBits 35 = .ok (.lload_n 3, 1) := dk_33 (dk_at dksX8_floatBits_1 11 rfl rfl)
theorem dX8_floatBits_36 : decode cX8_floatBits 36 = .ok (.lor, 1) := dk_129 (dk_at dksX8_floatBits_1 12 rfl rfl)
theorem dX8_floatBits_37 : decode cX8_floatBits 37 = .ok (.l2i, 1) := dk_136 (dk_at dksX8_floatBits_1 13 rfl rfl)
theorem dX8_floatBits_38 : decode cX8_floatBits 38 = .ok (.i2l, 1) := dk_133 (dk_at dksX8_floatBits_1 14 rfl rfl)
theorem dX8_floatBits_39 : decode cX8_floatBits 39 = .ok (.lreturn, 1) := dk_173 (dk_at dksX8_floatBits_1 15 rfl rfl)
theorem dX8_floatBits_40 : decode cX8_floatBits 40 = .ok (.aload_n 0, 1) := dk_42 (dk_at dksX8_floatBits_1 16 rfl rfl)
theorem dX8_floatBits_41 : decode cX8_floatBits 41 = .ok (.lload_n 1, 1) := dk_31 (dk_at dksX8_floatBits_1 17 rfl rfl)
theorem dX8_floatBits_42 : decode cX8_floatBits 42 = .ok (.invokestatic 102, 3) := dk_184 0 102 (dk_at dksX8_floatBits_1 18 rfl rfl)
theorem dX8_floatBits_45 : decode cX8_floatBits 45 = .ok (.lload_n 1, 1) := dk_31 (dk_at dksX8_floatBits_1 21 rfl rfl)
theorem dX8_floatBits_46 : decode cX8_floatBits 46 = .ok (.invokestatic 105, 3) := dk_184 0 105 (dk_at dksX8_floatBits_2 0 rfl rfl)
theorem dX8_floatBits_49 : decode cX8_floatBits 49 = .ok (.iconst 0, 1) := dk_3 (dk_at dksX8_floatBits_2 3 rfl rfl)
theorem dX8_floatBits_50 : decode cX8_floatBits 50 = .ok (.invokevirtual 191, 3) := dk_182 0 191 (dk_at dksX8_floatBits_2 4 rfl rfl)
theorem dX8_floatBits_53 : decode cX8_floatBits 53 = .ok (.lload_n 3, 1) := dk_33 (dk_at dksX8_floatBits_2 7 rfl rfl)
theorem dX8_floatBits_54 : decode cX8_floatBits 54 = .ok (.lor, 1) := dk_129 (dk_at dksX8_floatBits_2 8 rfl rfl)
theorem dX8_floatBits_55 : decode cX8_floatBits 55 = .ok (.l2i, 1) := dk_136 (dk_at dksX8_floatBits_2 9 rfl rfl)
theorem dX8_floatBits_56 : decode cX8_floatBits 56 = .ok (.i2l, 1) := dk_133 (dk_at dksX8_floatBits_2 10 rfl rfl)
theorem dX8_floatBits_57 : decode cX8_floatBits 57 = .ok (.lreturn, 1) := dk_173 (dk_at dksX8_floatBits_2 11 rfl rfl)
abbrev cX8_fromFloat : ByteArray := prog_11_method_65_code
def yX8_fromFloat : MethodName := ⟨RX8, "fromFloat", "(I)J"⟩
def dkwX8_fromFloat_3 : List UInt8 := [154, 0, 9, 17, 255, 107, 167, 0, 8, 28, 17, 0, 150, 100, 4, 182, 0, 191, 22, 4, 129, 173]
abbrev dktX8_fromFloat_3 : List UInt8 := dkwX8_fromFloat_3 ++ []
def dkwX8_fromFloat_2 : List UInt8 := [20, 0, 187, 173, 28, 154, 0, 8, 29, 133, 167, 0, 8, 29, 18, 236, 128, 133, 55, 6, 42, 22, 6, 28]
abbrev dktX8_fromFloat_2 : List UInt8 := dkwX8_fromFloat_2 ++ dktX8_fromFloat_3
def dkwX8_fromFloat_1 : List UInt8 := [9, 55, 4, 28, 17, 0, 255, 160, 0, 20, 29, 154, 0, 12, 20, 0, 204, 22, 4, 129, 167, 0, 6]
abbrev dktX8_fromFloat_1 : List UInt8 := dkwX8_fromFloat_1 ++ dktX8_fromFloat_2
def dkwX8_fromFloat_0 : List UInt8 := [27, 16, 23, 122, 17, 0, 255, 126, 61, 27, 18, 235, 126, 62, 27, 156, 0, 9, 20, 0, 183, 167, 0, 4]
abbrev dktX8_fromFloat_0 : List UInt8 := dkwX8_fromFloat_0 ++ dktX8_fromFloat_1
theorem dksX8_fromFloat_0 : cX8_fromFloat.data.toList.drop 0 = dktX8_fromFloat_0 := by decide +kernel
theorem dksX8_fromFloat_1 : cX8_fromFloat.data.toList.drop 24 = dktX8_fromFloat_1 := dk_seg dksX8_fromFloat_0 24 rfl rfl
theorem dksX8_fromFloat_2 : cX8_fromFloat.data.toList.drop 47 = dktX8_fromFloat_2 := dk_seg dksX8_fromFloat_1 23 rfl rfl
theorem dksX8_fromFloat_3 : cX8_fromFloat.data.toList.drop 71 = dktX8_fromFloat_3 := dk_seg dksX8_fromFloat_2 24 rfl rfl
theorem dX8_fromFloat_0 : decode cX8_fromFloat 0 = .ok (.iload_n 1, 1) := dk_27 (dk_at dksX8_fromFloat_0 0 rfl rfl)
theorem dX8_fromFloat_1 : decode cX8_fromFloat 1 = .ok (.bipush 23, 2) := dk_16 23 (dk_at dksX8_fromFloat_0 1 rfl rfl)
theorem dX8_fromFloat_3 : decode cX8_fromFloat 3 = .ok (.ishr, 1) := dk_122 (dk_at dksX8_fromFloat_0 3 rfl rfl)
theorem dX8_fromFloat_4 : decode cX8_fromFloat 4 = .ok (.sipush 255, 3) := dk_17 0 255 (dk_at dksX8_fromFloat_0 4 rfl rfl)
theorem dX8_fromFloat_7 : decode cX8_fromFloat 7 = .ok (.iand, 1) := dk_126 (dk_at dksX8_fromFloat_0 7 rfl rfl)
theorem dX8_fromFloat_8 : decode cX8_fromFloat 8 = .ok (.istore_n 2, 1) := dk_61 (dk_at dksX8_fromFloat_0 8 rfl rfl)
theorem dX8_fromFloat_9 : decode cX8_fromFloat 9 = .ok (.iload_n 1, 1) := dk_27 (dk_at dksX8_fromFloat_0 9 rfl rfl)
theorem dX8_fromFloat_10 : decode cX8_fromFloat 10 = .ok (.ldc 235, 2) := dk_18 235 (dk_at dksX8_fromFloat_0 10 rfl rfl)
theorem dX8_fromFloat_12 : decode cX8_fromFloat 12 = .ok (.iand, 1) := dk_126 (dk_at dksX8_fromFloat_0 12 rfl rfl)
theorem dX8_fromFloat_13 : decode cX8_fromFloat 13 = .ok (.istore_n 3, 1) := dk_62 (dk_at dksX8_fromFloat_0 13 rfl rfl)
theorem dX8_fromFloat_14 : decode cX8_fromFloat 14 = .ok (.iload_n 1, 1) := dk_27 (dk_at dksX8_fromFloat_0 14 rfl rfl)
theorem dX8_fromFloat_15 : decode cX8_fromFloat 15 = .ok (.ifCond .ge 9, 3) := dk_156 0 9 (dk_at dksX8_fromFloat_0 15 rfl rfl)
theorem dX8_fromFloat_18 : decode cX8_fromFloat 18 = .ok (.ldc2_w 183, 3) := dk_20 0 183 (dk_at dksX8_fromFloat_0 18 rfl rfl)
theorem dX8_fromFloat_21 : decode cX8_fromFloat 21 = .ok (.goto 4, 3) := dk_167 0 4 (dk_at dksX8_fromFloat_0 21 rfl rfl)
theorem dX8_fromFloat_24 : decode cX8_fromFloat 24 = .ok (.lconst 0, 1) := dk_9 (dk_at dksX8_fromFloat_1 0 rfl rfl)
theorem dX8_fromFloat_25 : decode cX8_fromFloat 25 = .ok (.lstore 4, 2) := dk_55 4 (dk_at dksX8_fromFloat_1 1 rfl rfl)
theorem dX8_fromFloat_27 : decode cX8_fromFloat 27 = .ok (.iload_n 2, 1) := dk_28 (dk_at dksX8_fromFloat_1 3 rfl rfl)
theorem dX8_fromFloat_28 : decode cX8_fromFloat 28 = .ok (.sipush 255, 3) := dk_17 0 255 (dk_at dksX8_fromFloat_1 4 rfl rfl)
theorem dX8_fromFloat_31 : decode cX8_fromFloat 31 = .ok (.if_icmp .ne 20, 3) := dk_160 0 20 (dk_at dksX8_fromFloat_1 7 rfl rfl)
theorem dX8_fromFloat_34 : decode cX8_fromFloat 34 = .ok (.iload_n 3, 1) := dk_29 (dk_at dksX8_fromFloat_1 10 rfl rfl)
theorem dX8_fromFloat_35 : decode cX8_fromFloat 35 = .ok (.ifCond .ne 12, 3) := dk_154 0 12 (dk_at dksX8_fromFloat_1 11 rfl rfl)
theorem dX8_fromFloat_38 : decode cX8_fromFloat 38 = .ok (.ldc2_w 204, 3) := dk_20 0 204 (dk_at dksX8_fromFloat_1 14 rfl rfl)
theorem dX8_fromFloat_41 : decode cX8_fromFloat 41 = .ok (.lload 4, 2) := dk_22 4 (dk_at dksX8_fromFloat_1 17 rfl rfl)
theorem dX8_fromFloat_43 : decode cX8_fromFloat 43 = .ok (.lor, 1) := dk_129 (dk_at dksX8_fromFloat_1 19 rfl rfl)
theorem dX8_fromFloat_44 : decode cX8_fromFloat 44 = .ok (.goto 6, 3) := dk_167 0 6 (dk_at dksX8_fromFloat_1 20 rfl rfl)
theorem dX8_fromFloat_47 : decode cX8_fromFloat 47 = .ok (.ldc2_w 187, 3) := dk_20 0 187 (dk_at dksX8_fromFloat_2 0 rfl rfl)
theorem dX8_fromFloat_50 : decode cX8_fromFloat 50 = .ok (.lreturn, 1) := dk_173 (dk_at dksX8_fromFloat_2 3 rfl rfl)
theorem dX8_fromFloat_51 : decode cX8_fromFloat 51 = .ok (.iload_n 2, 1) := dk_28 (dk_at dksX8_fromFloat_2 4 rfl rfl)
theorem dX8_fromFloat_52 : decode cX8_fromFloat 52 = .ok (.ifCond .ne 8, 3) := dk_154 0 8 (dk_at dksX8_fromFloat_2 5 rfl rfl)
theorem dX8_fromFloat_55 : decode cX8_fromFloat 55 = .ok (.iload_n 3, 1) := dk_29 (dk_at dksX8_fromFloat_2 8 rfl rfl)
theorem dX8_fromFloat_56 : decode cX8_fromFloat 56 = .ok (.i2l, 1) := dk_133 (dk_at dksX8_fromFloat_2 9 rfl rfl)
theorem dX8_fromFloat_57 : decode cX8_fromFloat 57 = .ok (.goto 8, 3) := dk_167 0 8 (dk_at dksX8_fromFloat_2 10 rfl rfl)
theorem dX8_fromFloat_60 : decode cX8_fromFloat 60 = .ok (.iload_n 3, 1) := dk_29 (dk_at dksX8_fromFloat_2 13 rfl rfl)
theorem dX8_fromFloat_61 : decode cX8_fromFloat 61 = .ok (.ldc 236, 2) := dk_18 236 (dk_at dksX8_fromFloat_2 14 rfl rfl)
theorem dX8_fromFloat_63 : decode cX8_fromFloat 63 = .ok (.ior, 1) := dk_128 (dk_at dksX8_fromFloat_2 16 rfl rfl)
theorem dX8_fromFloat_64 : decode cX8_fromFloat 64 = .ok (.i2l, 1) := dk_133 (dk_at dksX8_fromFloat_2 17 rfl rfl)
theorem dX8_fromFloat_65 : decode cX8_fromFloat 65 = .ok (.lstore 6, 2) := dk_55 6 (dk_at dksX8_fromFloat_2 18 rfl rfl)
theorem dX8_fromFloat_67 : decode cX8_fromFloat 67 = .ok (.aload_n 0, 1) := dk_42 (dk_at dksX8_fromFloat_2 20 rfl rfl)
theorem dX8_fromFloat_68 : decode cX8_fromFloat 68 = .ok (.lload 6, 2) := dk_22 6 (dk_at dksX8_fromFloat_2 21 rfl rfl)
theorem dX8_fromFloat_70 : decode cX8_fromFloat 70 = .ok (.iload_n 2, 1) := dk_28 (dk_at dksX8_fromFloat_2 23 rfl rfl)
theorem dX8_fromFloat_71 : decode cX8_fromFloat 71 = .ok (.ifCond .ne 9, 3) := dk_154 0 9 (dk_at dksX8_fromFloat_3 0 rfl rfl)
theorem dX8_fromFloat_74 : decode cX8_fromFloat 74 = .ok (.sipush (-149), 3) := dk_17 255 107 (dk_at dksX8_fromFloat_3 3 rfl rfl)
theorem dX8_fromFloat_77 : decode cX8_fromFloat 77 = .ok (.goto 8, 3) := dk_167 0 8 (dk_at dksX8_fromFloat_3 6 rfl rfl)
theorem dX8_fromFloat_80 : decode cX8_fromFloat 80 = .ok (.iload_n 2, 1) := dk_28 (dk_at dksX8_fromFloat_3 9 rfl rfl)
theorem dX8_fromFloat_81 : decode cX8_fromFloat 81 = .ok (.sipush 150, 3) := dk_17 0 150 (dk_at dksX8_fromFloat_3 10 rfl rfl)
theorem dX8_fromFloat_84 : decode cX8_fromFloat 84 = .ok (.isub, 1) := dk_100 (dk_at dksX8_fromFloat_3 13 rfl rfl)
theorem dX8_fromFloat_85 : decode cX8_fromFloat 85 = .ok (.iconst 1, 1) := dk_4 (dk_at dksX8_fromFloat_3 14 rfl rfl)
theorem dX8_fromFloat_86 : decode cX8_fromFloat 86 = .ok (.invokevirtual 191, 3) := dk_182 0 191 (dk_at dksX8_fromFloat_3 15 rfl rfl)
theorem dX8_fromFloat_89 : decode cX8_fromFloat 89 = .ok (.lload 4, 2) := dk_22 4 (dk_at dksX8_fromFloat_3 18 rfl rfl)
theorem dX8_fromFloat_91 : decode cX8_fromFloat 91 = .ok (.lor, 1) := dk_129 (dk_at dksX8_fromFloat_3 20 rfl rfl)
theorem dX8_fromFloat_92 : decode cX8_fromFloat 92 = .ok (.lreturn, 1) := dk_173 (dk_at dksX8_fromFloat_3 21 rfl rfl)
theorem q66 : (Jvm.Cond.initialized "NumberModelsModel") ∈ lw_all := lw_g (lw_at lw_m1 8 rfl) rfl
theorem q908 : (Jvm.Cond.instantiable "NumberModelsModel" (10 : Nat)) ∈ lw_all := lw_g (lw_at lw_m4 130 rfl) rfl
theorem q910 : (Jvm.Cond.instanceMethod ({ cls := "NumberModelsModel", name := "<init>", desc := "()V" } : Jvm.MethodName)) ∈ lw_all := lw_g (lw_at lw_m4 132 rfl) rfl
theorem q911 : (Jvm.Cond.code ({ cls := "NumberModelsModel", name := "<init>", desc := "()V" } : Jvm.MethodName) prog_11_method_1_code (1 : Nat) (Option.none : Option Jvm.ClassFile.FieldType)) ∈ lw_all := lw_g (lw_at lw_m4 133 rfl) rfl
theorem q912 : (Jvm.Cond.methodLink "NumberModelsModel" (1 : Nat) ({ cls := "java/lang/Object", name := "<init>", desc := "()V" } : Jvm.MethodName)) ∈ lw_all := lw_g (lw_at lw_m4 134 rfl) rfl
theorem q913 : (Jvm.Cond.fieldLink "NumberModelsModel" (20 : Nat) "NumberModelsModel" "thrown" "I") ∈ lw_all := lw_g (lw_at lw_m4 135 rfl) rfl
theorem q914 : (Jvm.Cond.fieldLink "NumberModelsModel" (65 : Nat) "NumberModelsModel" "many" "I") ∈ lw_all := lw_g (lw_at lw_m4 136 rfl) rfl
theorem q915 : (Jvm.Cond.fieldLink "NumberModelsModel" (7 : Nat) "NumberModelsModel" "sign" "[I") ∈ lw_all := lw_g (lw_at lw_m4 137 rfl) rfl
theorem q916 : (Jvm.Cond.fieldLink "NumberModelsModel" (13 : Nat) "NumberModelsModel" "value" "[J") ∈ lw_all := lw_g (lw_at lw_m4 138 rfl) rfl
theorem q917 : (Jvm.Cond.fieldLink "NumberModelsModel" (17 : Nat) "NumberModelsModel" "w" "[J") ∈ lw_all := lw_g (lw_at lw_m4 139 rfl) rfl
theorem q918 : (Jvm.Cond.fieldLink "NumberModelsModel" (114 : Nat) "NumberModelsModel" "small" "I") ∈ lw_all := lw_g (lw_at lw_m4 140 rfl) rfl
theorem q919 : (Jvm.Cond.fieldLink "NumberModelsModel" (160 : Nat) "NumberModelsModel" "wide" "I") ∈ lw_all := lw_g (lw_at lw_m4 141 rfl) rfl
theorem q920 : (Jvm.Cond.fieldLink "NumberModelsModel" (163 : Nat) "NumberModelsModel" "leastPlace" "I") ∈ lw_all := lw_g (lw_at lw_m4 142 rfl) rfl
theorem q921 : (Jvm.Cond.fieldLink "NumberModelsModel" (166 : Nat) "NumberModelsModel" "mostPlace" "I") ∈ lw_all := lw_g (lw_at lw_m4 143 rfl) rfl
theorem q922 : (Jvm.Cond.fieldLink "NumberModelsModel" (194 : Nat) "NumberModelsModel" "rest" "I") ∈ lw_all := lw_g (lw_at lw_m4 144 rfl) rfl
theorem q923 : (Jvm.Cond.lays "NumberModelsModel" "NumberModelsModel" "thrown" "I") ∈ lw_all := lw_g (lw_at lw_m4 145 rfl) rfl
theorem q924 : (Jvm.Cond.soleField "NumberModelsModel" "thrown") ∈ lw_all := lw_g (lw_at lw_m4 146 rfl) rfl
theorem q925 : (Jvm.Cond.lays "NumberModelsModel" "NumberModelsModel" "many" "I") ∈ lw_all := lw_g (lw_at lw_m4 147 rfl) rfl
theorem q926 : (Jvm.Cond.soleField "NumberModelsModel" "many") ∈ lw_all := lw_g (lw_at lw_m4 148 rfl) rfl
theorem q927 : (Jvm.Cond.laysFinal "NumberModelsModel" "NumberModelsModel" "sign" "[I") ∈ lw_all := lw_g (lw_at lw_m4 149 rfl) rfl
theorem q928 : (Jvm.Cond.soleField "NumberModelsModel" "sign") ∈ lw_all := lw_g (lw_at lw_m4 150 rfl) rfl
theorem q929 : (Jvm.Cond.laysFinal "NumberModelsModel" "NumberModelsModel" "value" "[J") ∈ lw_all := lw_g (lw_at lw_m4 151 rfl) rfl
theorem q930 : (Jvm.Cond.soleField "NumberModelsModel" "value") ∈ lw_all := lw_g (lw_at lw_m4 152 rfl) rfl
theorem q931 : (Jvm.Cond.laysFinal "NumberModelsModel" "NumberModelsModel" "w" "[J") ∈ lw_all := lw_g (lw_at lw_m4 153 rfl) rfl
theorem q932 : (Jvm.Cond.soleField "NumberModelsModel" "w") ∈ lw_all := lw_g (lw_at lw_m4 154 rfl) rfl
theorem q933 : (Jvm.Cond.lays "NumberModelsModel" "NumberModelsModel" "small" "I") ∈ lw_all := lw_g (lw_at lw_m4 155 rfl) rfl
theorem q934 : (Jvm.Cond.soleField "NumberModelsModel" "small") ∈ lw_all := lw_g (lw_at lw_m4 156 rfl) rfl
theorem q935 : (Jvm.Cond.lays "NumberModelsModel" "NumberModelsModel" "wide" "I") ∈ lw_all := lw_g (lw_at lw_m4 157 rfl) rfl
theorem q936 : (Jvm.Cond.soleField "NumberModelsModel" "wide") ∈ lw_all := lw_g (lw_at lw_m4 158 rfl) rfl
theorem q937 : (Jvm.Cond.lays "NumberModelsModel" "NumberModelsModel" "leastPlace" "I") ∈ lw_all := lw_g (lw_at lw_m4 159 rfl) rfl
theorem q938 : (Jvm.Cond.soleField "NumberModelsModel" "leastPlace") ∈ lw_all := lw_g (lw_at lw_m4 160 rfl) rfl
theorem q939 : (Jvm.Cond.lays "NumberModelsModel" "NumberModelsModel" "mostPlace" "I") ∈ lw_all := lw_g (lw_at lw_m4 161 rfl) rfl
theorem q940 : (Jvm.Cond.soleField "NumberModelsModel" "mostPlace") ∈ lw_all := lw_g (lw_at lw_m4 162 rfl) rfl
theorem q941 : (Jvm.Cond.lays "NumberModelsModel" "NumberModelsModel" "rest" "I") ∈ lw_all := lw_g (lw_at lw_m4 163 rfl) rfl
theorem q942 : (Jvm.Cond.soleField "NumberModelsModel" "rest") ∈ lw_all := lw_g (lw_at lw_m4 164 rfl) rfl
theorem q943 : (Jvm.Cond.superclass "NumberModelsModel" "java/lang/Object") ∈ lw_all := lw_g (lw_at lw_m4 165 rfl) rfl
theorem q945 : (Jvm.Cond.instanceMethod ({ cls := "NumberModelsModel", name := "thrown", desc := "()I" } : Jvm.MethodName)) ∈ lw_all := lw_g (lw_at lw_m4 167 rfl) rfl
theorem q946 : (Jvm.Cond.selects "NumberModelsModel" ({ cls := "NumberModelsModel", name := "thrown", desc := "()I" } : Jvm.MethodName) ({ cls := "NumberModelsModel", name := "thrown", desc := "()I" } : Jvm.MethodName)) ∈ lw_all := lw_g (lw_at lw_m4 168 rfl) rfl
theorem q947 : (Jvm.Cond.code ({ cls := "NumberModelsModel", name := "thrown", desc := "()I" } : Jvm.MethodName) prog_11_method_2_code (1 : Nat) (Option.some Jvm.ClassFile.FieldType.int)) ∈ lw_all := lw_g (lw_at lw_m4 169 rfl) rfl
theorem q949 : (Jvm.Cond.instanceMethod ({ cls := "NumberModelsModel", name := "whole", desc := "(J)I" } : Jvm.MethodName)) ∈ lw_all := lw_g (lw_at lw_m4 171 rfl) rfl
theorem q950 : (Jvm.Cond.selects "NumberModelsModel" ({ cls := "NumberModelsModel", name := "whole", desc := "(J)I" } : Jvm.MethodName) ({ cls := "NumberModelsModel", name := "whole", desc := "(J)I" } : Jvm.MethodName)) ∈ lw_all := lw_g (lw_at lw_m4 172 rfl) rfl
theorem q951 : (Jvm.Cond.code ({ cls := "NumberModelsModel", name := "whole", desc := "(J)I" } : Jvm.MethodName) prog_11_method_25_code (3 : Nat) (Option.some Jvm.ClassFile.FieldType.int)) ∈ lw_all := lw_g (lw_at lw_m4 173 rfl) rfl
theorem q952 : (Jvm.Cond.methodLink "NumberModelsModel" (82 : Nat) ({ cls := "NumberModelsModel", name := "size", desc := "(J)J" } : Jvm.MethodName)) ∈ lw_all := lw_g (lw_at lw_m4 174 rfl) rfl
theorem q953 : (Jvm.Cond.static ({ cls := "NumberModelsModel", name := "size", desc := "(J)J" } : Jvm.MethodName)) ∈ lw_all := lw_g (lw_at lw_m4 175 rfl) rfl
theorem q954 : (Jvm.Cond.code ({ cls := "NumberModelsModel", name := "size", desc := "(J)J" } : Jvm.MethodName) prog_11_method_24_code (2 : Nat) (Option.some Jvm.ClassFile.FieldType.long)) ∈ lw_all := lw_g (lw_at lw_m4 176 rfl) rfl
theorem q955 : (Jvm.Cond.methodLink "NumberModelsModel" (68 : Nat) ({ cls := "NumberModelsModel", name := "set", desc := "(IJ)V" } : Jvm.MethodName)) ∈ lw_all := lw_g (lw_at lw_m4 177 rfl) rfl
theorem q956 : (Jvm.Cond.privateMethod ({ cls := "NumberModelsModel", name := "set", desc := "(IJ)V" } : Jvm.MethodName)) ∈ lw_tbl := lw_at lw_m4 178 rfl
theorem q957 : (Jvm.Cond.instanceMethod ({ cls := "NumberModelsModel", name := "set", desc := "(IJ)V" } : Jvm.MethodName)) ∈ lw_all := lw_g (lw_at lw_m4 179 rfl) rfl
theorem q958 : (Jvm.Cond.code ({ cls := "NumberModelsModel", name := "set", desc := "(IJ)V" } : Jvm.MethodName) prog_11_method_5_code (4 : Nat) (Option.none : Option Jvm.ClassFile.FieldType)) ∈ lw_all := lw_g (lw_at lw_m4 180 rfl) rfl
theorem q959 : (Jvm.Cond.methodLink "NumberModelsModel" (24 : Nat) ({ cls := "NumberModelsModel", name := "zero", desc := "(I)V" } : Jvm.MethodName)) ∈ lw_all := lw_g (lw_at lw_m4 181 rfl) rfl
theorem q960 : (Jvm.Cond.privateMethod ({ cls := "NumberModelsModel", name := "zero", desc := "(I)V" } : Jvm.MethodName)) ∈ lw_tbl := lw_at lw_m4 182 rfl
theorem q961 : (Jvm.Cond.instanceMethod ({ cls := "NumberModelsModel", name := "zero", desc := "(I)V" } : Jvm.MethodName)) ∈ lw_all := lw_g (lw_at lw_m4 183 rfl) rfl
theorem q962 : (Jvm.Cond.code ({ cls := "NumberModelsModel", name := "zero", desc := "(I)V" } : Jvm.MethodName) prog_11_method_4_code (3 : Nat) (Option.none : Option Jvm.ClassFile.FieldType)) ∈ lw_all := lw_g (lw_at lw_m4 184 rfl) rfl
theorem q963 : (Jvm.Cond.constantLong "NumberModelsModel" (28 : Nat) (4294967295 : Int64)) ∈ lw_all := lw_g (lw_at lw_m4 185 rfl) rfl
theorem q964 : (Jvm.Cond.methodLink "NumberModelsModel" (86 : Nat) ({ cls := "NumberModelsModel", name := "make", desc := "(II)I" } : Jvm.MethodName)) ∈ lw_all := lw_g (lw_at lw_m4 186 rfl) rfl
theorem q965 : (Jvm.Cond.privateMethod ({ cls := "NumberModelsModel", name := "make", desc := "(II)I" } : Jvm.MethodName)) ∈ lw_tbl := lw_at lw_m4 187 rfl
theorem q966 : (Jvm.Cond.instanceMethod ({ cls := "NumberModelsModel", name := "make", desc := "(II)I" } : Jvm.MethodName)) ∈ lw_all := lw_g (lw_at lw_m4 188 rfl) rfl
theorem q967 : (Jvm.Cond.code ({ cls := "NumberModelsModel", name := "make", desc := "(II)I" } : Jvm.MethodName) prog_11_method_23_code (4 : Nat) (Option.some Jvm.ClassFile.FieldType.int)) ∈ lw_all := lw_g (lw_at lw_m4 189 rfl) rfl
theorem q968 : (Jvm.Cond.methodLink "NumberModelsModel" (52 : Nat) ({ cls := "NumberModelsModel", name := "isZero", desc := "(I)Z" } : Jvm.MethodName)) ∈ lw_all := lw_g (lw_at lw_m4 190 rfl) rfl
theorem q969 : (Jvm.Cond.privateMethod ({ cls := "NumberModelsModel", name := "isZero", desc := "(I)Z" } : Jvm.MethodName)) ∈ lw_tbl := lw_at lw_m4 191 rfl
theorem q970 : (Jvm.Cond.instanceMethod ({ cls := "NumberModelsModel", name := "isZero", desc := "(I)Z" } : Jvm.MethodName)) ∈ lw_all := lw_g (lw_at lw_m4 192 rfl) rfl
theorem q971 : (Jvm.Cond.code ({ cls := "NumberModelsModel", name := "isZero", desc := "(I)Z" } : Jvm.MethodName) prog_11_method_7_code (3 : Nat) (Option.some Jvm.ClassFile.FieldType.boolean)) ∈ lw_all := lw_g (lw_at lw_m4 193 rfl) rfl
theorem q972 : (Jvm.Cond.methodLink "NumberModelsModel" (72 : Nat) ({ cls := "NumberModelsModel", name := "greatest", desc := "(II)V" } : Jvm.MethodName)) ∈ lw_all := lw_g (lw_at lw_m4 194 rfl) rfl
theorem q973 : (Jvm.Cond.privateMethod ({ cls := "NumberModelsModel", name := "greatest", desc := "(II)V" } : Jvm.MethodName)) ∈ lw_tbl := lw_at lw_m4 195 rfl
theorem q974 : (Jvm.Cond.instanceMethod ({ cls := "NumberModelsModel", name := "greatest", desc := "(II)V" } : Jvm.MethodName)) ∈ lw_all := lw_g (lw_at lw_m4 196 rfl) rfl
theorem q975 : (Jvm.Cond.code ({ cls := "NumberModelsModel", name := "greatest", desc := "(II)V" } : Jvm.MethodName) prog_11_method_18_code (4 : Nat) (Option.none : Option Jvm.ClassFile.FieldType)) ∈ lw_all := lw_g (lw_at lw_m4 197 rfl) rfl
theorem q976 : (Jvm.Cond.methodLink "NumberModelsModel" (49 : Nat) ({ cls := "NumberModelsModel", name := "copy", desc := "(II)V" } : Jvm.MethodName)) ∈ lw_all := lw_g (lw_at lw_m4 198 rfl) rfl
theorem q977 : (Jvm.Cond.privateMethod ({ cls := "NumberModelsModel", name := "copy", desc := "(II)V" } : Jvm.MethodName)) ∈ lw_tbl := lw_at lw_m4 199 rfl
theorem q978 : (Jvm.Cond.instanceMethod ({ cls := "NumberModelsModel", name := "copy", desc := "(II)V" } : Jvm.MethodName)) ∈ lw_all := lw_g (lw_at lw_m4 200 rfl) rfl
theorem q979 : (Jvm.Cond.code ({ cls := "NumberModelsModel", name := "copy", desc := "(II)V" } : Jvm.MethodName) prog_11_method_6_code (4 : Nat) (Option.none : Option Jvm.ClassFile.FieldType)) ∈ lw_all := lw_g (lw_at lw_m4 201 rfl) rfl
theorem q980 : (Jvm.Cond.methodLink "NumberModelsModel" (56 : Nat) ({ cls := "NumberModelsModel", name := "isEven", desc := "(I)Z" } : Jvm.MethodName)) ∈ lw_all := lw_g (lw_at lw_m4 202 rfl) rfl
theorem q981 : (Jvm.Cond.privateMethod ({ cls := "NumberModelsModel", name := "isEven", desc := "(I)Z" } : Jvm.MethodName)) ∈ lw_tbl := lw_at lw_m4 203 rfl
theorem q982 : (Jvm.Cond.instanceMethod ({ cls := "NumberModelsModel", name := "isEven", desc := "(I)Z" } : Jvm.MethodName)) ∈ lw_all := lw_g (lw_at lw_m4 204 rfl) rfl
theorem q983 : (Jvm.Cond.code ({ cls := "NumberModelsModel", name := "isEven", desc := "(I)Z" } : Jvm.MethodName) prog_11_method_16_code (2 : Nat) (Option.some Jvm.ClassFile.FieldType.boolean)) ∈ lw_all := lw_g (lw_at lw_m4 205 rfl) rfl
theorem q984 : (Jvm.Cond.methodLink "NumberModelsModel" (59 : Nat) ({ cls := "NumberModelsModel", name := "halve", desc := "(I)V" } : Jvm.MethodName)) ∈ lw_all := lw_g (lw_at lw_m4 206 rfl) rfl
theorem q985 : (Jvm.Cond.privateMethod ({ cls := "NumberModelsModel", name := "halve", desc := "(I)V" } : Jvm.MethodName)) ∈ lw_tbl := lw_at lw_m4 207 rfl
theorem q986 : (Jvm.Cond.instanceMethod ({ cls := "NumberModelsModel", name := "halve", desc := "(I)V" } : Jvm.MethodName)) ∈ lw_all := lw_g (lw_at lw_m4 208 rfl) rfl
theorem q987 : (Jvm.Cond.code ({ cls := "NumberModelsModel", name := "halve", desc := "(I)V" } : Jvm.MethodName) prog_11_method_15_code (7 : Nat) (Option.none : Option Jvm.ClassFile.FieldType)) ∈ lw_all := lw_g (lw_at lw_m4 209 rfl) rfl
theorem q988 : (Jvm.Cond.methodLink "NumberModelsModel" (42 : Nat) ({ cls := "NumberModelsModel", name := "compare", desc := "(II)I" } : Jvm.MethodName)) ∈ lw_all := lw_g (lw_at lw_m4 210 rfl) rfl
theorem q989 : (Jvm.Cond.privateMethod ({ cls := "NumberModelsModel", name := "compare", desc := "(II)I" } : Jvm.MethodName)) ∈ lw_tbl := lw_at lw_m4 211 rfl
theorem q990 : (Jvm.Cond.instanceMethod ({ cls := "NumberModelsModel", name := "compare", desc := "(II)I" } : Jvm.MethodName)) ∈ lw_all := lw_g (lw_at lw_m4 212 rfl) rfl
theorem q991 : (Jvm.Cond.code ({ cls := "NumberModelsModel", name := "compare", desc := "(II)I" } : Jvm.MethodName) prog_11_method_8_code (4 : Nat) (Option.some Jvm.ClassFile.FieldType.int)) ∈ lw_all := lw_g (lw_at lw_m4 213 rfl) rfl
theorem q992 : (Jvm.Cond.methodLink "NumberModelsModel" (62 : Nat) ({ cls := "NumberModelsModel", name := "swap", desc := "(II)V" } : Jvm.MethodName)) ∈ lw_all := lw_g (lw_at lw_m4 214 rfl) rfl
theorem q993 : (Jvm.Cond.privateMethod ({ cls := "NumberModelsModel", name := "swap", desc := "(II)V" } : Jvm.MethodName)) ∈ lw_tbl := lw_at lw_m4 215 rfl
theorem q994 : (Jvm.Cond.instanceMethod ({ cls := "NumberModelsModel", name := "swap", desc := "(II)V" } : Jvm.MethodName)) ∈ lw_all := lw_g (lw_at lw_m4 216 rfl) rfl
theorem q995 : (Jvm.Cond.code ({ cls := "NumberModelsModel", name := "swap", desc := "(II)V" } : Jvm.MethodName) prog_11_method_19_code (6 : Nat) (Option.none : Option Jvm.ClassFile.FieldType)) ∈ lw_all := lw_g (lw_at lw_m4 217 rfl) rfl
theorem q996 : (Jvm.Cond.methodLink "NumberModelsModel" (46 : Nat) ({ cls := "NumberModelsModel", name := "take", desc := "(II)V" } : Jvm.MethodName)) ∈ lw_all := lw_g (lw_at lw_m4 218 rfl) rfl
theorem q997 : (Jvm.Cond.privateMethod ({ cls := "NumberModelsModel", name := "take", desc := "(II)V" } : Jvm.MethodName)) ∈ lw_tbl := lw_at lw_m4 219 rfl
theorem q998 : (Jvm.Cond.instanceMethod ({ cls := "NumberModelsModel", name := "take", desc := "(II)V" } : Jvm.MethodName)) ∈ lw_all := lw_g (lw_at lw_m4 220 rfl) rfl
theorem q999 : (Jvm.Cond.code ({ cls := "NumberModelsModel", name := "take", desc := "(II)V" } : Jvm.MethodName) prog_11_method_10_code (8 : Nat) (Option.none : Option Jvm.ClassFile.FieldType)) ∈ lw_all := lw_g (lw_at lw_m4 221 rfl) rfl
theorem q1000 : (Jvm.Cond.methodLink "NumberModelsModel" (34 : Nat) ({ cls := "NumberModelsModel", name := "up", desc := "(II)V" } : Jvm.MethodName)) ∈ lw_all := lw_g (lw_at lw_m4 222 rfl) rfl
theorem q1001 : (Jvm.Cond.privateMethod ({ cls := "NumberModelsModel", name := "up", desc := "(II)V" } : Jvm.MethodName)) ∈ lw_tbl := lw_at lw_m4 223 rfl
theorem q1002 : (Jvm.Cond.instanceMethod ({ cls := "NumberModelsModel", name := "up", desc := "(II)V" } : Jvm.MethodName)) ∈ lw_all := lw_g (lw_at lw_m4 224 rfl) rfl
theorem q1003 : (Jvm.Cond.code ({ cls := "NumberModelsModel", name := "up", desc := "(II)V" } : Jvm.MethodName) prog_11_method_14_code (10 : Nat) (Option.none : Option Jvm.ClassFile.FieldType)) ∈ lw_all := lw_g (lw_at lw_m4 225 rfl) rfl
theorem q1004 : (Jvm.Cond.methodLink "NumberModelsModel" (75 : Nat) ({ cls := "NumberModelsModel", name := "divide", desc := "(IIII)V" } : Jvm.MethodName)) ∈ lw_all := lw_g (lw_at lw_m4 226 rfl) rfl
theorem q1005 : (Jvm.Cond.privateMethod ({ cls := "NumberModelsModel", name := "divide", desc := "(IIII)V" } : Jvm.MethodName)) ∈ lw_tbl := lw_at lw_m4 227 rfl
theorem q1006 : (Jvm.Cond.instanceMethod ({ cls := "NumberModelsModel", name := "divide", desc := "(IIII)V" } : Jvm.MethodName)) ∈ lw_all := lw_g (lw_at lw_m4 228 rfl) rfl
theorem q1007 : (Jvm.Cond.code ({ cls := "NumberModelsModel", name := "divide", desc := "(IIII)V" } : Jvm.MethodName) prog_11_method_17_code (6 : Nat) (Option.none : Option Jvm.ClassFile.FieldType)) ∈ lw_all := lw_g (lw_at lw_m4 229 rfl) rfl
theorem q1008 : (Jvm.Cond.methodLink "NumberModelsModel" (30 : Nat) ({ cls := "NumberModelsModel", name := "length", desc := "(I)I" } : Jvm.MethodName)) ∈ lw_all := lw_g (lw_at lw_m4 230 rfl) rfl
theorem q1009 : (Jvm.Cond.privateMethod ({ cls := "NumberModelsModel", name := "length", desc := "(I)I" } : Jvm.MethodName)) ∈ lw_tbl := lw_at lw_m4 231 rfl
theorem q1010 : (Jvm.Cond.instanceMethod ({ cls := "NumberModelsModel", name := "length", desc := "(I)I" } : Jvm.MethodName)) ∈ lw_all := lw_g (lw_at lw_m4 232 rfl) rfl
theorem q1011 : (Jvm.Cond.code ({ cls := "NumberModelsModel", name := "length", desc := "(I)I" } : Jvm.MethodName) prog_11_method_12_code (4 : Nat) (Option.some Jvm.ClassFile.FieldType.int)) ∈ lw_all := lw_g (lw_at lw_m4 233 rfl) rfl
theorem q1012 : (Jvm.Cond.methodLink "NumberModelsModel" (38 : Nat) ({ cls := "NumberModelsModel", name := "bit", desc := "(II)J" } : Jvm.MethodName)) ∈ lw_all := lw_g (lw_at lw_m4 234 rfl) rfl
theorem q1013 : (Jvm.Cond.privateMethod ({ cls := "NumberModelsModel", name := "bit", desc := "(II)J" } : Jvm.MethodName)) ∈ lw_tbl := lw_at lw_m4 235 rfl
theorem q1014 : (Jvm.Cond.instanceMethod ({ cls := "NumberModelsModel", name := "bit", desc := "(II)J" } : Jvm.MethodName)) ∈ lw_all := lw_g (lw_at lw_m4 236 rfl) rfl
theorem q1015 : (Jvm.Cond.code ({ cls := "NumberModelsModel", name := "bit", desc := "(II)J" } : Jvm.MethodName) prog_11_method_13_code (3 : Nat) (Option.some Jvm.ClassFile.FieldType.long)) ∈ lw_all := lw_g (lw_at lw_m4 237 rfl) rfl
theorem q1016 : (Jvm.Cond.methodLink "NumberModelsModel" (79 : Nat) ({ cls := "NumberModelsModel", name := "fails", desc := "(I)I" } : Jvm.MethodName)) ∈ lw_all := lw_g (lw_at lw_m4 238 rfl) rfl
theorem q1017 : (Jvm.Cond.privateMethod ({ cls := "NumberModelsModel", name := "fails", desc := "(I)I" } : Jvm.MethodName)) ∈ lw_tbl := lw_at lw_m4 239 rfl
theorem q1018 : (Jvm.Cond.instanceMethod ({ cls := "NumberModelsModel", name := "fails", desc := "(I)I" } : Jvm.MethodName)) ∈ lw_all := lw_g (lw_at lw_m5 0 rfl) rfl
theorem q1019 : (Jvm.Cond.code ({ cls := "NumberModelsModel", name := "fails", desc := "(I)I" } : Jvm.MethodName) prog_11_method_3_code (2 : Nat) (Option.some Jvm.ClassFile.FieldType.int)) ∈ lw_all := lw_g (lw_at lw_m5 1 rfl) rfl
theorem q1021 : (Jvm.Cond.instanceMethod ({ cls := "NumberModelsModel", name := "fraction", desc := "(JJ)I" } : Jvm.MethodName)) ∈ lw_all := lw_g (lw_at lw_m5 3 rfl) rfl
theorem q1022 : (Jvm.Cond.selects "NumberModelsModel" ({ cls := "NumberModelsModel", name := "fraction", desc := "(JJ)I" } : Jvm.MethodName) ({ cls := "NumberModelsModel", name := "fraction", desc := "(JJ)I" } : Jvm.MethodName)) ∈ lw_all := lw_g (lw_at lw_m5 4 rfl) rfl
theorem q1023 : (Jvm.Cond.code ({ cls := "NumberModelsModel", name := "fraction", desc := "(JJ)I" } : Jvm.MethodName) prog_11_method_26_code (5 : Nat) (Option.some Jvm.ClassFile.FieldType.int)) ∈ lw_all := lw_g (lw_at lw_m5 5 rfl) rfl
theorem q1025 : (Jvm.Cond.instanceMethod ({ cls := "NumberModelsModel", name := "real", desc := "(J)I" } : Jvm.MethodName)) ∈ lw_all := lw_g (lw_at lw_m5 7 rfl) rfl
theorem q1026 : (Jvm.Cond.selects "NumberModelsModel" ({ cls := "NumberModelsModel", name := "real", desc := "(J)I" } : Jvm.MethodName) ({ cls := "NumberModelsModel", name := "real", desc := "(J)I" } : Jvm.MethodName)) ∈ lw_all := lw_g (lw_at lw_m5 8 rfl) rfl
theorem q1027 : (Jvm.Cond.code ({ cls := "NumberModelsModel", name := "real", desc := "(J)I" } : Jvm.MethodName) prog_11_method_34_code (4 : Nat) (Option.some Jvm.ClassFile.FieldType.int)) ∈ lw_all := lw_g (lw_at lw_m5 9 rfl) rfl
theorem q1028 : (Jvm.Cond.methodLink "NumberModelsModel" (93 : Nat) ({ cls := "NumberModelsModel", name := "exponent", desc := "(J)I" } : Jvm.MethodName)) ∈ lw_all := lw_g (lw_at lw_m5 10 rfl) rfl
theorem q1029 : (Jvm.Cond.static ({ cls := "NumberModelsModel", name := "exponent", desc := "(J)I" } : Jvm.MethodName)) ∈ lw_all := lw_g (lw_at lw_m5 11 rfl) rfl
theorem q1030 : (Jvm.Cond.code ({ cls := "NumberModelsModel", name := "exponent", desc := "(J)I" } : Jvm.MethodName) prog_11_method_27_code (2 : Nat) (Option.some Jvm.ClassFile.FieldType.int)) ∈ lw_all := lw_g (lw_at lw_m5 12 rfl) rfl
theorem q1031 : (Jvm.Cond.constantLong "NumberModelsModel" (89 : Nat) (2047 : Int64)) ∈ lw_all := lw_g (lw_at lw_m5 13 rfl) rfl
theorem q1032 : (Jvm.Cond.methodLink "NumberModelsModel" (102 : Nat) ({ cls := "NumberModelsModel", name := "facto\x72", desc := "(J)J" } : Jvm.MethodName)) ∈ lw_all := lw_g (lw_at lw_m5 14 rfl) rfl
theorem q1033 : (Jvm.Cond.static ({ cls := "NumberModelsModel", name := "facto\x72", desc := "(J)J" } : Jvm.MethodName)) ∈ lw_all := lw_g (lw_at lw_m5 15 rfl) rfl
theorem q1034 : (Jvm.Cond.code ({ cls := "NumberModelsModel", name := "facto\x72", desc := "(J)J" } : Jvm.MethodName) prog_11_method_31_code (2 : Nat) (Option.some Jvm.ClassFile.FieldType.long)) ∈ lw_all := lw_g (lw_at lw_m5 16 rfl) rfl
theorem q1035 : (Jvm.Cond.methodLink "NumberModelsModel" (97 : Nat) ({ cls := "NumberModelsModel", name := "part", desc := "(J)J" } : Jvm.MethodName)) ∈ lw_all := lw_g (lw_at lw_m5 17 rfl) rfl
theorem q1036 : (Jvm.Cond.static ({ cls := "NumberModelsModel", name := "part", desc := "(J)J" } : Jvm.MethodName)) ∈ lw_all := lw_g (lw_at lw_m5 18 rfl) rfl
theorem q1037 : (Jvm.Cond.code ({ cls := "NumberModelsModel", name := "part", desc := "(J)J" } : Jvm.MethodName) prog_11_method_28_code (2 : Nat) (Option.some Jvm.ClassFile.FieldType.long)) ∈ lw_all := lw_g (lw_at lw_m5 19 rfl) rfl
theorem q1038 : (Jvm.Cond.constantLong "NumberModelsModel" (91 : Nat) (4503599627370495 : Int64)) ∈ lw_all := lw_g (lw_at lw_m5 20 rfl) rfl
theorem q1039 : (Jvm.Cond.constantLong "NumberModelsModel" (100 : Nat) (4503599627370496 : Int64)) ∈ lw_all := lw_g (lw_at lw_m5 21 rfl) rfl
theorem q1040 : (Jvm.Cond.methodLink "NumberModelsModel" (105 : Nat) ({ cls := "NumberModelsModel", name := "place", desc := "(J)I" } : Jvm.MethodName)) ∈ lw_all := lw_g (lw_at lw_m5 22 rfl) rfl
theorem q1041 : (Jvm.Cond.static ({ cls := "NumberModelsModel", name := "place", desc := "(J)I" } : Jvm.MethodName)) ∈ lw_all := lw_g (lw_at lw_m5 23 rfl) rfl
theorem q1042 : (Jvm.Cond.code ({ cls := "NumberModelsModel", name := "place", desc := "(J)I" } : Jvm.MethodName) prog_11_method_32_code (2 : Nat) (Option.some Jvm.ClassFile.FieldType.int)) ∈ lw_all := lw_g (lw_at lw_m5 24 rfl) rfl
theorem q1043 : (Jvm.Cond.methodLink "NumberModelsModel" (108 : Nat) ({ cls := "NumberModelsModel", name := "signOf", desc := "(J)I" } : Jvm.MethodName)) ∈ lw_all := lw_g (lw_at lw_m5 25 rfl) rfl
theorem q1044 : (Jvm.Cond.static ({ cls := "NumberModelsModel", name := "signOf", desc := "(J)I" } : Jvm.MethodName)) ∈ lw_all := lw_g (lw_at lw_m5 26 rfl) rfl
theorem q1045 : (Jvm.Cond.code ({ cls := "NumberModelsModel", name := "signOf", desc := "(J)I" } : Jvm.MethodName) prog_11_method_33_code (2 : Nat) (Option.some Jvm.ClassFile.FieldType.int)) ∈ lw_all := lw_g (lw_at lw_m5 27 rfl) rfl
theorem q1047 : (Jvm.Cond.instanceMethod ({ cls := "NumberModelsModel", name := "act", desc := "(III)I" } : Jvm.MethodName)) ∈ lw_all := lw_g (lw_at lw_m5 29 rfl) rfl
theorem q1048 : (Jvm.Cond.selects "NumberModelsModel" ({ cls := "NumberModelsModel", name := "act", desc := "(III)I" } : Jvm.MethodName) ({ cls := "NumberModelsModel", name := "act", desc := "(III)I" } : Jvm.MethodName)) ∈ lw_all := lw_g (lw_at lw_m5 30 rfl) rfl
theorem q1049 : (Jvm.Cond.code ({ cls := "NumberModelsModel", name := "act", desc := "(III)I" } : Jvm.MethodName) prog_11_method_37_code (6 : Nat) (Option.some Jvm.ClassFile.FieldType.int)) ∈ lw_all := lw_g (lw_at lw_m5 31 rfl) rfl
theorem q1050 : (Jvm.Cond.methodLink "NumberModelsModel" (117 : Nat) ({ cls := "NumberModelsModel", name := "isNumbe\x72", desc := "(I)Z" } : Jvm.MethodName)) ∈ lw_all := lw_g (lw_at lw_m5 32 rfl) rfl
theorem q1051 : (Jvm.Cond.privateMethod ({ cls := "NumberModelsModel", name := "isNumbe\x72", desc := "(I)Z" } : Jvm.MethodName)) ∈ lw_tbl := lw_at lw_m5 33 rfl
theorem q1052 : (Jvm.Cond.instanceMethod ({ cls := "NumberModelsModel", name := "isNumbe\x72", desc := "(I)Z" } : Jvm.MethodName)) ∈ lw_all := lw_g (lw_at lw_m5 34 rfl) rfl
theorem q1053 : (Jvm.Cond.code ({ cls := "NumberModelsModel", name := "isNumbe\x72", desc := "(I)Z" } : Jvm.MethodName) prog_11_method_20_code (2 : Nat) (Option.some Jvm.ClassFile.FieldType.boolean)) ∈ lw_all := lw_g (lw_at lw_m5 35 rfl) rfl
theorem q1054 : (Jvm.Cond.methodLink "NumberModelsModel" (111 : Nat) ({ cls := "NumberModelsModel", name := "isWhole", desc := "(I)Z" } : Jvm.MethodName)) ∈ lw_all := lw_g (lw_at lw_m5 36 rfl) rfl
theorem q1055 : (Jvm.Cond.privateMethod ({ cls := "NumberModelsModel", name := "isWhole", desc := "(I)Z" } : Jvm.MethodName)) ∈ lw_tbl := lw_at lw_m5 37 rfl
theorem q1056 : (Jvm.Cond.instanceMethod ({ cls := "NumberModelsModel", name := "isWhole", desc := "(I)Z" } : Jvm.MethodName)) ∈ lw_all := lw_g (lw_at lw_m5 38 rfl) rfl
theorem q1057 : (Jvm.Cond.code ({ cls := "NumberModelsModel", name := "isWhole", desc := "(I)Z" } : Jvm.MethodName) prog_11_method_35_code (4 : Nat) (Option.some Jvm.ClassFile.FieldType.boolean)) ∈ lw_all := lw_g (lw_at lw_m5 39 rfl) rfl
theorem q1058 : (Jvm.Cond.methodLink "NumberModelsModel" (120 : Nat) ({ cls := "NumberModelsModel", name := "isSmall", desc := "(II)Z" } : Jvm.MethodName)) ∈ lw_all := lw_g (lw_at lw_m5 40 rfl) rfl
theorem q1059 : (Jvm.Cond.privateMethod ({ cls := "NumberModelsModel", name := "isSmall", desc := "(II)Z" } : Jvm.MethodName)) ∈ lw_tbl := lw_at lw_m5 41 rfl
theorem q1060 : (Jvm.Cond.instanceMethod ({ cls := "NumberModelsModel", name := "isSmall", desc := "(II)Z" } : Jvm.MethodName)) ∈ lw_all := lw_g (lw_at lw_m5 42 rfl) rfl
theorem q1061 : (Jvm.Cond.code ({ cls := "NumberModelsModel", name := "isSmall", desc := "(II)Z" } : Jvm.MethodName) prog_11_method_36_code (5 : Nat) (Option.some Jvm.ClassFile.FieldType.boolean)) ∈ lw_all := lw_g (lw_at lw_m5 43 rfl) rfl
theorem q1062 : (Jvm.Cond.methodLink "NumberModelsModel" (124 : Nat) ({ cls := "NumberModelsModel", name := "powe\x72", desc := "(II)I" } : Jvm.MethodName)) ∈ lw_all := lw_g (lw_at lw_m5 44 rfl) rfl
theorem q1063 : (Jvm.Cond.privateMethod ({ cls := "NumberModelsModel", name := "powe\x72", desc := "(II)I" } : Jvm.MethodName)) ∈ lw_tbl := lw_at lw_m5 45 rfl
theorem q1064 : (Jvm.Cond.instanceMethod ({ cls := "NumberModelsModel", name := "powe\x72", desc := "(II)I" } : Jvm.MethodName)) ∈ lw_all := lw_g (lw_at lw_m5 46 rfl) rfl
theorem q1065 : (Jvm.Cond.code ({ cls := "NumberModelsModel", name := "powe\x72", desc := "(II)I" } : Jvm.MethodName) prog_11_method_41_code (6 : Nat) (Option.some Jvm.ClassFile.FieldType.int)) ∈ lw_all := lw_g (lw_at lw_m5 47 rfl) rfl
theorem q1066 : (Jvm.Cond.methodLink "NumberModelsModel" (130 : Nat) ({ cls := "NumberModelsModel", name := "loadP", desc := "(II)V" } : Jvm.MethodName)) ∈ lw_all := lw_g (lw_at lw_m5 48 rfl) rfl
theorem q1067 : (Jvm.Cond.privateMethod ({ cls := "NumberModelsModel", name := "loadP", desc := "(II)V" } : Jvm.MethodName)) ∈ lw_tbl := lw_at lw_m5 49 rfl
theorem q1068 : (Jvm.Cond.instanceMethod ({ cls := "NumberModelsModel", name := "loadP", desc := "(II)V" } : Jvm.MethodName)) ∈ lw_all := lw_g (lw_at lw_m5 50 rfl) rfl
theorem q1069 : (Jvm.Cond.code ({ cls := "NumberModelsModel", name := "loadP", desc := "(II)V" } : Jvm.MethodName) prog_11_method_21_code (4 : Nat) (Option.none : Option Jvm.ClassFile.FieldType)) ∈ lw_all := lw_g (lw_at lw_m5 51 rfl) rfl
theorem q1070 : (Jvm.Cond.methodLink "NumberModelsModel" (133 : Nat) ({ cls := "NumberModelsModel", name := "loadQ", desc := "(II)V" } : Jvm.MethodName)) ∈ lw_all := lw_g (lw_at lw_m5 52 rfl) rfl
theorem q1071 : (Jvm.Cond.privateMethod ({ cls := "NumberModelsModel", name := "loadQ", desc := "(II)V" } : Jvm.MethodName)) ∈ lw_tbl := lw_at lw_m5 53 rfl
theorem q1072 : (Jvm.Cond.instanceMethod ({ cls := "NumberModelsModel", name := "loadQ", desc := "(II)V" } : Jvm.MethodName)) ∈ lw_all := lw_g (lw_at lw_m5 54 rfl) rfl
theorem q1073 : (Jvm.Cond.code ({ cls := "NumberModelsModel", name := "loadQ", desc := "(II)V" } : Jvm.MethodName) prog_11_method_22_code (4 : Nat) (Option.none : Option Jvm.ClassFile.FieldType)) ∈ lw_all := lw_g (lw_at lw_m5 55 rfl) rfl
theorem q1074 : (Jvm.Cond.methodLink "NumberModelsModel" (140 : Nat) ({ cls := "NumberModelsModel", name := "times", desc := "(III)V" } : Jvm.MethodName)) ∈ lw_all := lw_g (lw_at lw_m5 56 rfl) rfl
theorem q1075 : (Jvm.Cond.privateMethod ({ cls := "NumberModelsModel", name := "times", desc := "(III)V" } : Jvm.MethodName)) ∈ lw_tbl := lw_at lw_m5 57 rfl
theorem q1076 : (Jvm.Cond.instanceMethod ({ cls := "NumberModelsModel", name := "times", desc := "(III)V" } : Jvm.MethodName)) ∈ lw_all := lw_g (lw_at lw_m5 58 rfl) rfl
theorem q1077 : (Jvm.Cond.code ({ cls := "NumberModelsModel", name := "times", desc := "(III)V" } : Jvm.MethodName) prog_11_method_11_code (14 : Nat) (Option.none : Option Jvm.ClassFile.FieldType)) ∈ lw_all := lw_g (lw_at lw_m5 59 rfl) rfl
theorem q1078 : (Jvm.Cond.methodLink "NumberModelsModel" (127 : Nat) ({ cls := "NumberModelsModel", name := "orde\x72", desc := "(II)I" } : Jvm.MethodName)) ∈ lw_all := lw_g (lw_at lw_m5 60 rfl) rfl
theorem q1079 : (Jvm.Cond.instanceMethod ({ cls := "NumberModelsModel", name := "orde\x72", desc := "(II)I" } : Jvm.MethodName)) ∈ lw_all := lw_g (lw_at lw_m5 61 rfl) rfl
theorem q1080 : (Jvm.Cond.selects "NumberModelsModel" ({ cls := "NumberModelsModel", name := "orde\x72", desc := "(II)I" } : Jvm.MethodName) ({ cls := "NumberModelsModel", name := "orde\x72", desc := "(II)I" } : Jvm.MethodName)) ∈ lw_all := lw_g (lw_at lw_m5 62 rfl) rfl
theorem q1081 : (Jvm.Cond.code ({ cls := "NumberModelsModel", name := "orde\x72", desc := "(II)I" } : Jvm.MethodName) prog_11_method_48_code (3 : Nat) (Option.some Jvm.ClassFile.FieldType.int)) ∈ lw_all := lw_g (lw_at lw_m5 63 rfl) rfl
theorem q1082 : (Jvm.Cond.methodLink "NumberModelsModel" (144 : Nat) ({ cls := "NumberModelsModel", name := "level", desc := "(II)V" } : Jvm.MethodName)) ∈ lw_all := lw_g (lw_at lw_m5 64 rfl) rfl
theorem q1083 : (Jvm.Cond.privateMethod ({ cls := "NumberModelsModel", name := "level", desc := "(II)V" } : Jvm.MethodName)) ∈ lw_tbl := lw_at lw_m5 65 rfl
theorem q1084 : (Jvm.Cond.instanceMethod ({ cls := "NumberModelsModel", name := "level", desc := "(II)V" } : Jvm.MethodName)) ∈ lw_all := lw_g (lw_at lw_m5 66 rfl) rfl
theorem q1085 : (Jvm.Cond.code ({ cls := "NumberModelsModel", name := "level", desc := "(II)V" } : Jvm.MethodName) prog_11_method_38_code (3 : Nat) (Option.none : Option Jvm.ClassFile.FieldType)) ∈ lw_all := lw_g (lw_at lw_m5 67 rfl) rfl
theorem q1086 : (Jvm.Cond.methodLink "NumberModelsModel" (136 : Nat) ({ cls := "NumberModelsModel", name := "reckon", desc := "(III)I" } : Jvm.MethodName)) ∈ lw_all := lw_g (lw_at lw_m5 68 rfl) rfl
theorem q1087 : (Jvm.Cond.privateMethod ({ cls := "NumberModelsModel", name := "reckon", desc := "(III)I" } : Jvm.MethodName)) ∈ lw_tbl := lw_at lw_m5 69 rfl
theorem q1088 : (Jvm.Cond.instanceMethod ({ cls := "NumberModelsModel", name := "reckon", desc := "(III)I" } : Jvm.MethodName)) ∈ lw_all := lw_g (lw_at lw_m5 70 rfl) rfl
theorem q1089 : (Jvm.Cond.code ({ cls := "NumberModelsModel", name := "reckon", desc := "(III)I" } : Jvm.MethodName) prog_11_method_39_code (7 : Nat) (Option.some Jvm.ClassFile.FieldType.int)) ∈ lw_all := lw_g (lw_at lw_m5 71 rfl) rfl
theorem q1090 : (Jvm.Cond.methodLink "NumberModelsModel" (147 : Nat) ({ cls := "NumberModelsModel", name := "sum", desc := "(II)I" } : Jvm.MethodName)) ∈ lw_all := lw_g (lw_at lw_m5 72 rfl) rfl
theorem q1091 : (Jvm.Cond.privateMethod ({ cls := "NumberModelsModel", name := "sum", desc := "(II)I" } : Jvm.MethodName)) ∈ lw_tbl := lw_at lw_m5 73 rfl
theorem q1092 : (Jvm.Cond.instanceMethod ({ cls := "NumberModelsModel", name := "sum", desc := "(II)I" } : Jvm.MethodName)) ∈ lw_all := lw_g (lw_at lw_m5 74 rfl) rfl
theorem q1093 : (Jvm.Cond.code ({ cls := "NumberModelsModel", name := "sum", desc := "(II)I" } : Jvm.MethodName) prog_11_method_40_code (4 : Nat) (Option.some Jvm.ClassFile.FieldType.int)) ∈ lw_all := lw_g (lw_at lw_m5 75 rfl) rfl
theorem q1094 : (Jvm.Cond.methodLink "NumberModelsModel" (150 : Nat) ({ cls := "NumberModelsModel", name := "add", desc := "(II)V" } : Jvm.MethodName)) ∈ lw_all := lw_g (lw_at lw_m5 76 rfl) rfl
theorem q1095 : (Jvm.Cond.privateMethod ({ cls := "NumberModelsModel", name := "add", desc := "(II)V" } : Jvm.MethodName)) ∈ lw_tbl := lw_at lw_m5 77 rfl
theorem q1096 : (Jvm.Cond.instanceMethod ({ cls := "NumberModelsModel", name := "add", desc := "(II)V" } : Jvm.MethodName)) ∈ lw_all := lw_g (lw_at lw_m5 78 rfl) rfl
theorem q1097 : (Jvm.Cond.code ({ cls := "NumberModelsModel", name := "add", desc := "(II)V" } : Jvm.MethodName) prog_11_method_9_code (8 : Nat) (Option.none : Option Jvm.ClassFile.FieldType)) ∈ lw_all := lw_g (lw_at lw_m5 79 rfl) rfl
theorem q1099 : (Jvm.Cond.instanceMethod ({ cls := "NumberModelsModel", name := "clea\x72", desc := "()I" } : Jvm.MethodName)) ∈ lw_all := lw_g (lw_at lw_m5 81 rfl) rfl
theorem q1100 : (Jvm.Cond.selects "NumberModelsModel" ({ cls := "NumberModelsModel", name := "clea\x72", desc := "()I" } : Jvm.MethodName) ({ cls := "NumberModelsModel", name := "clea\x72", desc := "()I" } : Jvm.MethodName)) ∈ lw_all := lw_g (lw_at lw_m5 82 rfl) rfl
theorem q1101 : (Jvm.Cond.code ({ cls := "NumberModelsModel", name := "clea\x72", desc := "()I" } : Jvm.MethodName) prog_11_method_42_code (2 : Nat) (Option.some Jvm.ClassFile.FieldType.int)) ∈ lw_all := lw_g (lw_at lw_m5 83 rfl) rfl
theorem q1103 : (Jvm.Cond.instanceMethod ({ cls := "NumberModelsModel", name := "count", desc := "()I" } : Jvm.MethodName)) ∈ lw_all := lw_g (lw_at lw_m5 85 rfl) rfl
theorem q1104 : (Jvm.Cond.selects "NumberModelsModel" ({ cls := "NumberModelsModel", name := "count", desc := "()I" } : Jvm.MethodName) ({ cls := "NumberModelsModel", name := "count", desc := "()I" } : Jvm.MethodName)) ∈ lw_all := lw_g (lw_at lw_m5 86 rfl) rfl
theorem q1105 : (Jvm.Cond.code ({ cls := "NumberModelsModel", name := "count", desc := "()I" } : Jvm.MethodName) prog_11_method_43_code (1 : Nat) (Option.some Jvm.ClassFile.FieldType.int)) ∈ lw_all := lw_g (lw_at lw_m5 87 rfl) rfl
theorem q1107 : (Jvm.Cond.instanceMethod ({ cls := "NumberModelsModel", name := "word", desc := "(II)J" } : Jvm.MethodName)) ∈ lw_all := lw_g (lw_at lw_m5 89 rfl) rfl
theorem q1108 : (Jvm.Cond.selects "NumberModelsModel" ({ cls := "NumberModelsModel", name := "word", desc := "(II)J" } : Jvm.MethodName) ({ cls := "NumberModelsModel", name := "word", desc := "(II)J" } : Jvm.MethodName)) ∈ lw_all := lw_g (lw_at lw_m5 90 rfl) rfl
theorem q1109 : (Jvm.Cond.code ({ cls := "NumberModelsModel", name := "word", desc := "(II)J" } : Jvm.MethodName) prog_11_method_44_code (3 : Nat) (Option.some Jvm.ClassFile.FieldType.long)) ∈ lw_all := lw_g (lw_at lw_m5 91 rfl) rfl
theorem q1111 : (Jvm.Cond.instanceMethod ({ cls := "NumberModelsModel", name := "sign", desc := "(I)I" } : Jvm.MethodName)) ∈ lw_all := lw_g (lw_at lw_m5 93 rfl) rfl
theorem q1112 : (Jvm.Cond.selects "NumberModelsModel" ({ cls := "NumberModelsModel", name := "sign", desc := "(I)I" } : Jvm.MethodName) ({ cls := "NumberModelsModel", name := "sign", desc := "(I)I" } : Jvm.MethodName)) ∈ lw_all := lw_g (lw_at lw_m5 94 rfl) rfl
theorem q1113 : (Jvm.Cond.code ({ cls := "NumberModelsModel", name := "sign", desc := "(I)I" } : Jvm.MethodName) prog_11_method_45_code (2 : Nat) (Option.some Jvm.ClassFile.FieldType.int)) ∈ lw_all := lw_g (lw_at lw_m5 95 rfl) rfl
theorem q1115 : (Jvm.Cond.instanceMethod ({ cls := "NumberModelsModel", name := "bits", desc := "(IZ)I" } : Jvm.MethodName)) ∈ lw_all := lw_g (lw_at lw_m5 97 rfl) rfl
theorem q1116 : (Jvm.Cond.selects "NumberModelsModel" ({ cls := "NumberModelsModel", name := "bits", desc := "(IZ)I" } : Jvm.MethodName) ({ cls := "NumberModelsModel", name := "bits", desc := "(IZ)I" } : Jvm.MethodName)) ∈ lw_all := lw_g (lw_at lw_m5 98 rfl) rfl
theorem q1117 : (Jvm.Cond.code ({ cls := "NumberModelsModel", name := "bits", desc := "(IZ)I" } : Jvm.MethodName) prog_11_method_46_code (3 : Nat) (Option.some Jvm.ClassFile.FieldType.int)) ∈ lw_all := lw_g (lw_at lw_m5 99 rfl) rfl
theorem q1119 : (Jvm.Cond.instanceMethod ({ cls := "NumberModelsModel", name := "wrap", desc := "(IIZ)J" } : Jvm.MethodName)) ∈ lw_all := lw_g (lw_at lw_m5 101 rfl) rfl
theorem q1120 : (Jvm.Cond.selects "NumberModelsModel" ({ cls := "NumberModelsModel", name := "wrap", desc := "(IIZ)J" } : Jvm.MethodName) ({ cls := "NumberModelsModel", name := "wrap", desc := "(IIZ)J" } : Jvm.MethodName)) ∈ lw_all := lw_g (lw_at lw_m5 102 rfl) rfl
theorem q1121 : (Jvm.Cond.code ({ cls := "NumberModelsModel", name := "wrap", desc := "(IIZ)J" } : Jvm.MethodName) prog_11_method_47_code (8 : Nat) (Option.some Jvm.ClassFile.FieldType.long)) ∈ lw_all := lw_g (lw_at lw_m5 103 rfl) rfl
theorem q1124 : (Jvm.Cond.instanceMethod ({ cls := "NumberModelsModel", name := "meets", desc := "(IJ)I" } : Jvm.MethodName)) ∈ lw_all := lw_g (lw_at lw_m5 106 rfl) rfl
theorem q1125 : (Jvm.Cond.selects "NumberModelsModel" ({ cls := "NumberModelsModel", name := "meets", desc := "(IJ)I" } : Jvm.MethodName) ({ cls := "NumberModelsModel", name := "meets", desc := "(IJ)I" } : Jvm.MethodName)) ∈ lw_all := lw_g (lw_at lw_m5 107 rfl) rfl
theorem q1126 : (Jvm.Cond.code ({ cls := "NumberModelsModel", name := "meets", desc := "(IJ)I" } : Jvm.MethodName) prog_11_method_49_code (6 : Nat) (Option.some Jvm.ClassFile.FieldType.int)) ∈ lw_all := lw_g (lw_at lw_m5 108 rfl) rfl
theorem q1127 : (Jvm.Cond.methodLink "NumberModelsModel" (153 : Nat) ({ cls := "NumberModelsModel", name := "isNo", desc := "(J)Z" } : Jvm.MethodName)) ∈ lw_all := lw_g (lw_at lw_m5 109 rfl) rfl
theorem q1128 : (Jvm.Cond.static ({ cls := "NumberModelsModel", name := "isNo", desc := "(J)Z" } : Jvm.MethodName)) ∈ lw_all := lw_g (lw_at lw_m5 110 rfl) rfl
theorem q1129 : (Jvm.Cond.code ({ cls := "NumberModelsModel", name := "isNo", desc := "(J)Z" } : Jvm.MethodName) prog_11_method_29_code (2 : Nat) (Option.some Jvm.ClassFile.FieldType.boolean)) ∈ lw_all := lw_g (lw_at lw_m5 111 rfl) rfl
theorem q1130 : (Jvm.Cond.methodLink "NumberModelsModel" (157 : Nat) ({ cls := "NumberModelsModel", name := "isInfinite", desc := "(J)Z" } : Jvm.MethodName)) ∈ lw_all := lw_g (lw_at lw_m5 112 rfl) rfl
theorem q1131 : (Jvm.Cond.static ({ cls := "NumberModelsModel", name := "isInfinite", desc := "(J)Z" } : Jvm.MethodName)) ∈ lw_all := lw_g (lw_at lw_m5 113 rfl) rfl
theorem q1132 : (Jvm.Cond.code ({ cls := "NumberModelsModel", name := "isInfinite", desc := "(J)Z" } : Jvm.MethodName) prog_11_method_30_code (2 : Nat) (Option.some Jvm.ClassFile.FieldType.boolean)) ∈ lw_all := lw_g (lw_at lw_m5 114 rfl) rfl
theorem q1134 : (Jvm.Cond.instanceMethod ({ cls := "NumberModelsModel", name := "nearest", desc := "(II)J" } : Jvm.MethodName)) ∈ lw_all := lw_g (lw_at lw_m5 116 rfl) rfl
theorem q1135 : (Jvm.Cond.selects "NumberModelsModel" ({ cls := "NumberModelsModel", name := "nearest", desc := "(II)J" } : Jvm.MethodName) ({ cls := "NumberModelsModel", name := "nearest", desc := "(II)J" } : Jvm.MethodName)) ∈ lw_all := lw_g (lw_at lw_m5 117 rfl) rfl
theorem q1136 : (Jvm.Cond.code ({ cls := "NumberModelsModel", name := "nearest", desc := "(II)J" } : Jvm.MethodName) prog_11_method_54_code (3 : Nat) (Option.some Jvm.ClassFile.FieldType.long)) ∈ lw_all := lw_g (lw_at lw_m5 118 rfl) rfl
theorem q1137 : (Jvm.Cond.methodLink "NumberModelsModel" (173 : Nat) ({ cls := "NumberModelsModel", name := "isDirection", desc := "(II)Z" } : Jvm.MethodName)) ∈ lw_all := lw_g (lw_at lw_m5 119 rfl) rfl
theorem q1138 : (Jvm.Cond.privateMethod ({ cls := "NumberModelsModel", name := "isDirection", desc := "(II)Z" } : Jvm.MethodName)) ∈ lw_tbl := lw_at lw_m5 120 rfl
theorem q1139 : (Jvm.Cond.instanceMethod ({ cls := "NumberModelsModel", name := "isDirection", desc := "(II)Z" } : Jvm.MethodName)) ∈ lw_all := lw_g (lw_at lw_m5 121 rfl) rfl
theorem q1140 : (Jvm.Cond.code ({ cls := "NumberModelsModel", name := "isDirection", desc := "(II)Z" } : Jvm.MethodName) prog_11_method_53_code (3 : Nat) (Option.some Jvm.ClassFile.FieldType.boolean)) ∈ lw_all := lw_g (lw_at lw_m5 122 rfl) rfl
theorem q1141 : (Jvm.Cond.methodLink "NumberModelsModel" (176 : Nat) ({ cls := "NumberModelsModel", name := "form", desc := "(Z)V" } : Jvm.MethodName)) ∈ lw_all := lw_g (lw_at lw_m5 123 rfl) rfl
theorem q1142 : (Jvm.Cond.privateMethod ({ cls := "NumberModelsModel", name := "form", desc := "(Z)V" } : Jvm.MethodName)) ∈ lw_tbl := lw_at lw_m5 124 rfl
theorem q1143 : (Jvm.Cond.instanceMethod ({ cls := "NumberModelsModel", name := "form", desc := "(Z)V" } : Jvm.MethodName)) ∈ lw_all := lw_g (lw_at lw_m5 125 rfl) rfl
theorem q1144 : (Jvm.Cond.code ({ cls := "NumberModelsModel", name := "form", desc := "(Z)V" } : Jvm.MethodName) prog_11_method_50_code (2 : Nat) (Option.none : Option Jvm.ClassFile.FieldType)) ∈ lw_all := lw_g (lw_at lw_m5 126 rfl) rfl
theorem q1145 : (Jvm.Cond.methodLink "NumberModelsModel" (180 : Nat) ({ cls := "NumberModelsModel", name := "round", desc := "(II)J" } : Jvm.MethodName)) ∈ lw_all := lw_g (lw_at lw_m5 127 rfl) rfl
theorem q1146 : (Jvm.Cond.privateMethod ({ cls := "NumberModelsModel", name := "round", desc := "(II)J" } : Jvm.MethodName)) ∈ lw_tbl := lw_at lw_m5 128 rfl
theorem q1147 : (Jvm.Cond.instanceMethod ({ cls := "NumberModelsModel", name := "round", desc := "(II)J" } : Jvm.MethodName)) ∈ lw_all := lw_g (lw_at lw_m5 129 rfl) rfl
theorem q1148 : (Jvm.Cond.code ({ cls := "NumberModelsModel", name := "round", desc := "(II)J" } : Jvm.MethodName) prog_11_method_51_code (10 : Nat) (Option.some Jvm.ClassFile.FieldType.long)) ∈ lw_all := lw_g (lw_at lw_m5 130 rfl) rfl
theorem q1149 : (Jvm.Cond.methodLink "NumberModelsModel" (169 : Nat) ({ cls := "NumberModelsModel", name := "encode", desc := "(JIZ)J" } : Jvm.MethodName)) ∈ lw_all := lw_g (lw_at lw_m5 131 rfl) rfl
theorem q1150 : (Jvm.Cond.privateMethod ({ cls := "NumberModelsModel", name := "encode", desc := "(JIZ)J" } : Jvm.MethodName)) ∈ lw_tbl := lw_at lw_m5 132 rfl
theorem q1151 : (Jvm.Cond.instanceMethod ({ cls := "NumberModelsModel", name := "encode", desc := "(JIZ)J" } : Jvm.MethodName)) ∈ lw_all := lw_g (lw_at lw_m5 133 rfl) rfl
theorem q1152 : (Jvm.Cond.code ({ cls := "NumberModelsModel", name := "encode", desc := "(JIZ)J" } : Jvm.MethodName) prog_11_method_52_code (12 : Nat) (Option.some Jvm.ClassFile.FieldType.long)) ∈ lw_all := lw_g (lw_at lw_m5 134 rfl) rfl
theorem q1153 : (Jvm.Cond.constantLong "NumberModelsModel" (183 : Nat) (-9223372036854775808 : Int64)) ∈ lw_all := lw_g (lw_at lw_m5 135 rfl) rfl
theorem q1155 : (Jvm.Cond.instanceMethod ({ cls := "NumberModelsModel", name := "single", desc := "(II)I" } : Jvm.MethodName)) ∈ lw_all := lw_g (lw_at lw_m5 137 rfl) rfl
theorem q1156 : (Jvm.Cond.selects "NumberModelsModel" ({ cls := "NumberModelsModel", name := "single", desc := "(II)I" } : Jvm.MethodName) ({ cls := "NumberModelsModel", name := "single", desc := "(II)I" } : Jvm.MethodName)) ∈ lw_all := lw_g (lw_at lw_m5 138 rfl) rfl
theorem q1157 : (Jvm.Cond.code ({ cls := "NumberModelsModel", name := "single", desc := "(II)I" } : Jvm.MethodName) prog_11_method_55_code (3 : Nat) (Option.some Jvm.ClassFile.FieldType.int)) ∈ lw_all := lw_g (lw_at lw_m5 139 rfl) rfl
theorem q1158 : (Jvm.Cond.constantLong "NumberModelsModel" (185 : Nat) (2147483648 : Int64)) ∈ lw_all := lw_g (lw_at lw_m5 140 rfl) rfl
theorem q1160 : (Jvm.Cond.instanceMethod ({ cls := "NumberModelsModel", name := "machine", desc := "(IJJ)J" } : Jvm.MethodName)) ∈ lw_all := lw_g (lw_at lw_m5 142 rfl) rfl
theorem q1161 : (Jvm.Cond.selects "NumberModelsModel" ({ cls := "NumberModelsModel", name := "machine", desc := "(IJJ)J" } : Jvm.MethodName) ({ cls := "NumberModelsModel", name := "machine", desc := "(IJJ)J" } : Jvm.MethodName)) ∈ lw_all := lw_g (lw_at lw_m5 143 rfl) rfl
theorem q1162 : (Jvm.Cond.code ({ cls := "NumberModelsModel", name := "machine", desc := "(IJJ)J" } : Jvm.MethodName) prog_11_method_62_code (6 : Nat) (Option.some Jvm.ClassFile.FieldType.long)) ∈ lw_all := lw_g (lw_at lw_m5 144 rfl) rfl
theorem q1163 : (Jvm.Cond.methodLink "NumberModelsModel" (217 : Nat) ({ cls := "NumberModelsModel", name := "remainde\x72", desc := "(JJ)J" } : Jvm.MethodName)) ∈ lw_all := lw_g (lw_at lw_m5 145 rfl) rfl
theorem q1164 : (Jvm.Cond.privateMethod ({ cls := "NumberModelsModel", name := "remainde\x72", desc := "(JJ)J" } : Jvm.MethodName)) ∈ lw_tbl := lw_at lw_m5 146 rfl
theorem q1165 : (Jvm.Cond.instanceMethod ({ cls := "NumberModelsModel", name := "remainde\x72", desc := "(JJ)J" } : Jvm.MethodName)) ∈ lw_all := lw_g (lw_at lw_m5 147 rfl) rfl
theorem q1166 : (Jvm.Cond.code ({ cls := "NumberModelsModel", name := "remainde\x72", desc := "(JJ)J" } : Jvm.MethodName) prog_11_method_57_code (14 : Nat) (Option.some Jvm.ClassFile.FieldType.long)) ∈ lw_all := lw_g (lw_at lw_m5 148 rfl) rfl
theorem q1167 : (Jvm.Cond.constantLong "NumberModelsModel" (187 : Nat) (9221120237041090560 : Int64)) ∈ lw_all := lw_g (lw_at lw_m5 149 rfl) rfl
theorem q1168 : (Jvm.Cond.constantLong "NumberModelsModel" (189 : Nat) (2 : Int64)) ∈ lw_all := lw_g (lw_at lw_m5 150 rfl) rfl
theorem q1169 : (Jvm.Cond.methodLink "NumberModelsModel" (191 : Nat) ({ cls := "NumberModelsModel", name := "scaled", desc := "(JIZ)J" } : Jvm.MethodName)) ∈ lw_all := lw_g (lw_at lw_m5 151 rfl) rfl
theorem q1170 : (Jvm.Cond.privateMethod ({ cls := "NumberModelsModel", name := "scaled", desc := "(JIZ)J" } : Jvm.MethodName)) ∈ lw_tbl := lw_at lw_m5 152 rfl
theorem q1171 : (Jvm.Cond.instanceMethod ({ cls := "NumberModelsModel", name := "scaled", desc := "(JIZ)J" } : Jvm.MethodName)) ∈ lw_all := lw_g (lw_at lw_m5 153 rfl) rfl
theorem q1172 : (Jvm.Cond.code ({ cls := "NumberModelsModel", name := "scaled", desc := "(JIZ)J" } : Jvm.MethodName) prog_11_method_56_code (5 : Nat) (Option.some Jvm.ClassFile.FieldType.long)) ∈ lw_all := lw_g (lw_at lw_m5 154 rfl) rfl
theorem q1173 : (Jvm.Cond.methodLink "NumberModelsModel" (221 : Nat) ({ cls := "NumberModelsModel", name := "rounded", desc := "(IJ)J" } : Jvm.MethodName)) ∈ lw_all := lw_g (lw_at lw_m5 155 rfl) rfl
theorem q1174 : (Jvm.Cond.privateMethod ({ cls := "NumberModelsModel", name := "rounded", desc := "(IJ)J" } : Jvm.MethodName)) ∈ lw_tbl := lw_at lw_m5 156 rfl
theorem q1175 : (Jvm.Cond.instanceMethod ({ cls := "NumberModelsModel", name := "rounded", desc := "(IJ)J" } : Jvm.MethodName)) ∈ lw_all := lw_g (lw_at lw_m5 157 rfl) rfl
theorem q1176 : (Jvm.Cond.code ({ cls := "NumberModelsModel", name := "rounded", desc := "(IJ)J" } : Jvm.MethodName) prog_11_method_59_code (7 : Nat) (Option.some Jvm.ClassFile.FieldType.long)) ∈ lw_all := lw_g (lw_at lw_m5 158 rfl) rfl
theorem q1177 : (Jvm.Cond.methodLink "NumberModelsModel" (197 : Nat) ({ cls := "NumberModelsModel", name := "front", desc := "(J)J" } : Jvm.MethodName)) ∈ lw_all := lw_g (lw_at lw_m5 159 rfl) rfl
theorem q1178 : (Jvm.Cond.privateMethod ({ cls := "NumberModelsModel", name := "front", desc := "(J)J" } : Jvm.MethodName)) ∈ lw_tbl := lw_at lw_m5 160 rfl
theorem q1179 : (Jvm.Cond.instanceMethod ({ cls := "NumberModelsModel", name := "front", desc := "(J)J" } : Jvm.MethodName)) ∈ lw_all := lw_g (lw_at lw_m5 161 rfl) rfl
theorem q1180 : (Jvm.Cond.code ({ cls := "NumberModelsModel", name := "front", desc := "(J)J" } : Jvm.MethodName) prog_11_method_58_code (10 : Nat) (Option.some Jvm.ClassFile.FieldType.long)) ∈ lw_all := lw_g (lw_at lw_m5 162 rfl) rfl
theorem q1181 : (Jvm.Cond.methodLink "NumberModelsModel" (212 : Nat) ({ cls := "NumberModelsModel", name := "rank", desc := "(J)J" } : Jvm.MethodName)) ∈ lw_all := lw_g (lw_at lw_m5 163 rfl) rfl
theorem q1182 : (Jvm.Cond.static ({ cls := "NumberModelsModel", name := "rank", desc := "(J)J" } : Jvm.MethodName)) ∈ lw_all := lw_g (lw_at lw_m5 164 rfl) rfl
theorem q1183 : (Jvm.Cond.code ({ cls := "NumberModelsModel", name := "rank", desc := "(J)J" } : Jvm.MethodName) prog_11_method_60_code (2 : Nat) (Option.some Jvm.ClassFile.FieldType.long)) ∈ lw_all := lw_g (lw_at lw_m5 165 rfl) rfl
theorem q1184 : (Jvm.Cond.constantLong "NumberModelsModel" (200 : Nat) (9223372036854775807 : Int64)) ∈ lw_all := lw_g (lw_at lw_m5 166 rfl) rfl
theorem q1185 : (Jvm.Cond.constantLong "NumberModelsModel" (202 : Nat) (-1 : Int64)) ∈ lw_all := lw_g (lw_at lw_m5 167 rfl) rfl
theorem q1186 : (Jvm.Cond.methodLink "NumberModelsModel" (225 : Nat) ({ cls := "NumberModelsModel", name := "machineMore", desc := "(IJJ)J" } : Jvm.MethodName)) ∈ lw_all := lw_g (lw_at lw_m5 168 rfl) rfl
theorem q1187 : (Jvm.Cond.privateMethod ({ cls := "NumberModelsModel", name := "machineMore", desc := "(IJJ)J" } : Jvm.MethodName)) ∈ lw_tbl := lw_at lw_m5 169 rfl
theorem q1188 : (Jvm.Cond.instanceMethod ({ cls := "NumberModelsModel", name := "machineMore", desc := "(IJJ)J" } : Jvm.MethodName)) ∈ lw_all := lw_g (lw_at lw_m5 170 rfl) rfl
theorem q1189 : (Jvm.Cond.code ({ cls := "NumberModelsModel", name := "machineMore", desc := "(IJJ)J" } : Jvm.MethodName) prog_11_method_61_code (8 : Nat) (Option.some Jvm.ClassFile.FieldType.long)) ∈ lw_all := lw_g (lw_at lw_m5 171 rfl) rfl
theorem q1190 : (Jvm.Cond.constantLong "NumberModelsModel" (204 : Nat) (9218868437227405312 : Int64)) ∈ lw_all := lw_g (lw_at lw_m5 172 rfl) rfl
theorem q1191 : (Jvm.Cond.constantLong "NumberModelsModel" (206 : Nat) (-3000 : Int64)) ∈ lw_all := lw_g (lw_at lw_m5 173 rfl) rfl
theorem q1192 : (Jvm.Cond.constantLong "NumberModelsModel" (208 : Nat) (3000 : Int64)) ∈ lw_all := lw_g (lw_at lw_m5 174 rfl) rfl
theorem q1193 : (Jvm.Cond.constantLong "NumberModelsModel" (210 : Nat) (4 : Int64)) ∈ lw_all := lw_g (lw_at lw_m5 175 rfl) rfl
theorem q1194 : (Jvm.Cond.constantLong "NumberModelsModel" (215 : Nat) (3 : Int64)) ∈ lw_all := lw_g (lw_at lw_m5 176 rfl) rfl
theorem q1196 : (Jvm.Cond.instanceMethod ({ cls := "NumberModelsModel", name := "cast", desc := "(IJ)J" } : Jvm.MethodName)) ∈ lw_all := lw_g (lw_at lw_m5 178 rfl) rfl
theorem q1197 : (Jvm.Cond.selects "NumberModelsModel" ({ cls := "NumberModelsModel", name := "cast", desc := "(IJ)J" } : Jvm.MethodName) ({ cls := "NumberModelsModel", name := "cast", desc := "(IJ)J" } : Jvm.MethodName)) ∈ lw_all := lw_g (lw_at lw_m5 179 rfl) rfl
theorem q1198 : (Jvm.Cond.code ({ cls := "NumberModelsModel", name := "cast", desc := "(IJ)J" } : Jvm.MethodName) prog_11_method_66_code (5 : Nat) (Option.some Jvm.ClassFile.FieldType.long)) ∈ lw_all := lw_g (lw_at lw_m5 180 rfl) rfl
theorem q1199 : (Jvm.Cond.methodLink "NumberModelsModel" (237 : Nat) ({ cls := "NumberModelsModel", name := "cut", desc := "(JZ)J" } : Jvm.MethodName)) ∈ lw_all := lw_g (lw_at lw_m5 181 rfl) rfl
theorem q1200 : (Jvm.Cond.privateMethod ({ cls := "NumberModelsModel", name := "cut", desc := "(JZ)J" } : Jvm.MethodName)) ∈ lw_tbl := lw_at lw_m5 182 rfl
theorem q1201 : (Jvm.Cond.instanceMethod ({ cls := "NumberModelsModel", name := "cut", desc := "(JZ)J" } : Jvm.MethodName)) ∈ lw_all := lw_g (lw_at lw_m5 183 rfl) rfl
theorem q1202 : (Jvm.Cond.code ({ cls := "NumberModelsModel", name := "cut", desc := "(JZ)J" } : Jvm.MethodName) prog_11_method_63_code (9 : Nat) (Option.some Jvm.ClassFile.FieldType.long)) ∈ lw_all := lw_g (lw_at lw_m5 184 rfl) rfl
theorem q1203 : (Jvm.Cond.constantLong "NumberModelsModel" (229 : Nat) (2147483647 : Int64)) ∈ lw_all := lw_g (lw_at lw_m5 185 rfl) rfl
theorem q1204 : (Jvm.Cond.methodLink "NumberModelsModel" (241 : Nat) ({ cls := "NumberModelsModel", name := "floatBits", desc := "(J)J" } : Jvm.MethodName)) ∈ lw_all := lw_g (lw_at lw_m5 186 rfl) rfl
theorem q1205 : (Jvm.Cond.privateMethod ({ cls := "NumberModelsModel", name := "floatBits", desc := "(J)J" } : Jvm.MethodName)) ∈ lw_tbl := lw_at lw_m5 187 rfl
theorem q1206 : (Jvm.Cond.instanceMethod ({ cls := "NumberModelsModel", name := "floatBits", desc := "(J)J" } : Jvm.MethodName)) ∈ lw_all := lw_g (lw_at lw_m5 188 rfl) rfl
theorem q1207 : (Jvm.Cond.code ({ cls := "NumberModelsModel", name := "floatBits", desc := "(J)J" } : Jvm.MethodName) prog_11_method_64_code (5 : Nat) (Option.some Jvm.ClassFile.FieldType.long)) ∈ lw_all := lw_g (lw_at lw_m5 189 rfl) rfl
theorem q1208 : (Jvm.Cond.constantLong "NumberModelsModel" (231 : Nat) (2143289344 : Int64)) ∈ lw_all := lw_g (lw_at lw_m5 190 rfl) rfl
theorem q1209 : (Jvm.Cond.constantLong "NumberModelsModel" (233 : Nat) (2139095040 : Int64)) ∈ lw_all := lw_g (lw_at lw_m5 191 rfl) rfl
theorem q1210 : (Jvm.Cond.methodLink "NumberModelsModel" (244 : Nat) ({ cls := "NumberModelsModel", name := "fromFloat", desc := "(I)J" } : Jvm.MethodName)) ∈ lw_all := lw_g (lw_at lw_m5 192 rfl) rfl
theorem q1211 : (Jvm.Cond.privateMethod ({ cls := "NumberModelsModel", name := "fromFloat", desc := "(I)J" } : Jvm.MethodName)) ∈ lw_tbl := lw_at lw_m5 193 rfl
theorem q1212 : (Jvm.Cond.instanceMethod ({ cls := "NumberModelsModel", name := "fromFloat", desc := "(I)J" } : Jvm.MethodName)) ∈ lw_all := lw_g (lw_at lw_m5 194 rfl) rfl
theorem q1213 : (Jvm.Cond.code ({ cls := "NumberModelsModel", name := "fromFloat", desc := "(I)J" } : Jvm.MethodName) prog_11_method_65_code (8 : Nat) (Option.some Jvm.ClassFile.FieldType.long)) ∈ lw_all := lw_g (lw_at lw_m5 195 rfl) rfl
theorem q1214 : (Jvm.Cond.constant "NumberModelsModel" (235 : Nat) (8388607 : Int32)) ∈ lw_all := lw_g (lw_at lw_m5 196 rfl) rfl
theorem q1215 : (Jvm.Cond.constant "NumberModelsModel" (236 : Nat) (8388608 : Int32)) ∈ lw_all := lw_g (lw_at lw_m5 197 rfl) rfl
theorem in_X8 : ∀ w ∈ wsX80, w ∈ lw_all := lw_in wsX80 [923, 925, 927, 929, 931, 933, 935, 937, 939, 941] (by decide +kernel) (by decide +kernel)
