/-! NumberModelsLaw -/
set_option maxRecDepth 100000
def RX0 : String := "NumberModelsLaw"
abbrev cX0_whole : ByteArray := method_3_code
def yX0_whole : MethodName := ⟨RX0, "whole", "(LNumberModels;J[J)I"⟩
def dkwX0_whole_0 : List UInt8 := [45, 3, 42, 31, 182, 0, 7, 133, 80, 167, 0, 7, 58, 4, 4, 172, 3, 172]
abbrev dktX0_whole_0 : List UInt8 := dkwX0_whole_0 ++ []
theorem dksX0_whole_0 : cX0_whole.data.toList.drop 0 = dktX0_whole_0 := by decide +kernel
theorem dX0_whole_0 : decode cX0_whole 0 = .ok (.aload_n 3, 1) := dk_45 (dk_at dksX0_whole_0 0 rfl rfl)
theorem dX0_whole_1 : decode cX0_whole 1 = .ok (.iconst 0, 1) := dk_3 (dk_at dksX0_whole_0 1 rfl rfl)
theorem dX0_whole_2 : decode cX0_whole 2 = .ok (.aload_n 0, 1) := dk_42 (dk_at dksX0_whole_0 2 rfl rfl)
theorem dX0_whole_3 : decode cX0_whole 3 = .ok (.lload_n 1, 1) := dk_31 (dk_at dksX0_whole_0 3 rfl rfl)
theorem dX0_whole_4 : decode cX0_whole 4 = .ok (.invokevirtual 7, 3) := dk_182 0 7 (dk_at dksX0_whole_0 4 rfl rfl)
theorem dX0_whole_7 : decode cX0_whole 7 = .ok (.i2l, 1) := dk_133 (dk_at dksX0_whole_0 7 rfl rfl)
theorem dX0_whole_8 : decode cX0_whole 8 = .ok (.lastore, 1) := dk_80 (dk_at dksX0_whole_0 8 rfl rfl)
theorem dX0_whole_9 : decode cX0_whole 9 = .ok (.goto 7, 3) := dk_167 0 7 (dk_at dksX0_whole_0 9 rfl rfl)
theorem dX0_whole_12 : decode cX0_whole 12 = .ok (.astore 4, 2) := dk_58 4 (dk_at dksX0_whole_0 12 rfl rfl)
theorem dX0_whole_14 : decode cX0_whole 14 = .ok (.iconst 1, 1) := dk_4 (dk_at dksX0_whole_0 14 rfl rfl)
theorem dX0_whole_15 : decode cX0_whole 15 = .ok (.ireturn, 1) := dk_172 (dk_at dksX0_whole_0 15 rfl rfl)
theorem dX0_whole_16 : decode cX0_whole 16 = .ok (.iconst 0, 1) := dk_3 (dk_at dksX0_whole_0 16 rfl rfl)
theorem dX0_whole_17 : decode cX0_whole 17 = .ok (.ireturn, 1) := dk_172 (dk_at dksX0_whole_0 17 rfl rfl)
abbrev cX0_fraction : ByteArray := method_4_code
def yX0_fraction : MethodName := ⟨RX0, "fraction", "(LNumberModels;JJ[J)I"⟩
def dkwX0_fraction_0 : List UInt8 := [25, 5, 3, 42, 31, 33, 182, 0, 15, 133, 80, 167, 0, 11, 58, 6, 4, 172, 58, 6, 5, 172, 3, 172]
abbrev dktX0_fraction_0 : List UInt8 := dkwX0_fraction_0 ++ []
theorem dksX0_fraction_0 : cX0_fraction.data.toList.drop 0 = dktX0_fraction_0 := by decide +kernel
theorem dX0_fraction_0 : decode cX0_fraction 0 = .ok (.aload 5, 2) := dk_25 5 (dk_at dksX0_fraction_0 0 rfl rfl)
theorem dX0_fraction_2 : decode cX0_fraction 2 = .ok (.iconst 0, 1) := dk_3 (dk_at dksX0_fraction_0 2 rfl rfl)
theorem dX0_fraction_3 : decode cX0_fraction 3 = .ok (.aload_n 0, 1) := dk_42 (dk_at dksX0_fraction_0 3 rfl rfl)
theorem dX0_fraction_4 : decode cX0_fraction 4 = .ok (.lload_n 1, 1) := dk_31 (dk_at dksX0_fraction_0 4 rfl rfl)
theorem dX0_fraction_5 : decode cX0_fraction 5 = .ok (.lload_n 3, 1) := dk_33 (dk_at dksX0_fraction_0 5 rfl rfl)
theorem dX0_fraction_6 : decode cX0_fraction 6 = .ok (.invokevirtual 15, 3) := dk_182 0 15 (dk_at dksX0_fraction_0 6 rfl rfl)
theorem dX0_fraction_9 : decode cX0_fraction 9 = .ok (.i2l, 1) := dk_133 (dk_at dksX0_fraction_0 9 rfl rfl)
theorem dX0_fraction_10 : decode cX0_fraction 10 = .ok (.lastore, 1) := dk_80 (dk_at dksX0_fraction_0 10 rfl rfl)
theorem dX0_fraction_11 : decode cX0_fraction 11 = .ok (.goto 11, 3) := dk_167 0 11 (dk_at dksX0_fraction_0 11 rfl rfl)
theorem dX0_fraction_14 : decode cX0_fraction 14 = .ok (.astore 6, 2) := dk_58 6 (dk_at dksX0_fraction_0 14 rfl rfl)
theorem dX0_fraction_16 : decode cX0_fraction 16 = .ok (.iconst 1, 1) := dk_4 (dk_at dksX0_fraction_0 16 rfl rfl)
theorem dX0_fraction_17 : decode cX0_fraction 17 = .ok (.ireturn, 1) := dk_172 (dk_at dksX0_fraction_0 17 rfl rfl)
theorem dX0_fraction_18 : decode cX0_fraction 18 = .ok (.astore 6, 2) := dk_58 6 (dk_at dksX0_fraction_0 18 rfl rfl)
theorem dX0_fraction_20 : decode cX0_fraction 20 = .ok (.iconst 2, 1) := dk_5 (dk_at dksX0_fraction_0 20 rfl rfl)
theorem dX0_fraction_21 : decode cX0_fraction 21 = .ok (.ireturn, 1) := dk_172 (dk_at dksX0_fraction_0 21 rfl rfl)
theorem dX0_fraction_22 : decode cX0_fraction 22 = .ok (.iconst 0, 1) := dk_3 (dk_at dksX0_fraction_0 22 rfl rfl)
theorem dX0_fraction_23 : decode cX0_fraction 23 = .ok (.ireturn, 1) := dk_172 (dk_at dksX0_fraction_0 23 rfl rfl)
abbrev cX0_real : ByteArray := method_5_code
def yX0_real : MethodName := ⟨RX0, "real", "(LNumberModels;J[J)I"⟩
def dkwX0_real_0 : List UInt8 := [45, 3, 42, 31, 182, 0, 21, 133, 80, 167, 0, 11, 58, 4, 4, 172, 58, 4, 5, 172, 3, 172]
abbrev dktX0_real_0 : List UInt8 := dkwX0_real_0 ++ []
theorem dksX0_real_0 : cX0_real.data.toList.drop 0 = dktX0_real_0 := by decide +kernel
theorem dX0_real_0 : decode cX0_real 0 = .ok (.aload_n 3, 1) := dk_45 (dk_at dksX0_real_0 0 rfl rfl)
theorem dX0_real_1 : decode cX0_real 1 = .ok (.iconst 0, 1) := dk_3 (dk_at dksX0_real_0 1 rfl rfl)
theorem dX0_real_2 : decode cX0_real 2 = .ok (.aload_n 0, 1) := dk_42 (dk_at dksX0_real_0 2 rfl rfl)
theorem dX0_real_3 : decode cX0_real 3 = .ok (.lload_n 1, 1) := dk_31 (dk_at dksX0_real_0 3 rfl rfl)
theorem dX0_real_4 : decode cX0_real 4 = .ok (.invokevirtual 21, 3) := dk_182 0 21 (dk_at dksX0_real_0 4 rfl rfl)
theorem dX0_real_7 : decode cX0_real 7 = .ok (.i2l, 1) := dk_133 (dk_at dksX0_real_0 7 rfl rfl)
theorem dX0_real_8 : decode cX0_real 8 = .ok (.lastore, 1) := dk_80 (dk_at dksX0_real_0 8 rfl rfl)
theorem dX0_real_9 : decode cX0_real 9 = .ok (.goto 11, 3) := dk_167 0 11 (dk_at dksX0_real_0 9 rfl rfl)
theorem dX0_real_12 : decode cX0_real 12 = .ok (.astore 4, 2) := dk_58 4 (dk_at dksX0_real_0 12 rfl rfl)
theorem dX0_real_14 : decode cX0_real 14 = .ok (.iconst 1, 1) := dk_4 (dk_at dksX0_real_0 14 rfl rfl)
theorem dX0_real_15 : decode cX0_real 15 = .ok (.ireturn, 1) := dk_172 (dk_at dksX0_real_0 15 rfl rfl)
theorem dX0_real_16 : decode cX0_real 16 = .ok (.astore 4, 2) := dk_58 4 (dk_at dksX0_real_0 16 rfl rfl)
theorem dX0_real_18 : decode cX0_real 18 = .ok (.iconst 2, 1) := dk_5 (dk_at dksX0_real_0 18 rfl rfl)
theorem dX0_real_19 : decode cX0_real 19 = .ok (.ireturn, 1) := dk_172 (dk_at dksX0_real_0 19 rfl rfl)
theorem dX0_real_20 : decode cX0_real 20 = .ok (.iconst 0, 1) := dk_3 (dk_at dksX0_real_0 20 rfl rfl)
theorem dX0_real_21 : decode cX0_real 21 = .ok (.ireturn, 1) := dk_172 (dk_at dksX0_real_0 21 rfl rfl)
abbrev cX0_act : ByteArray := method_6_code
def yX0_act : MethodName := ⟨RX0, "act", "(LNumberModels;III[J)I"⟩
def dkwX0_act_1 : List UInt8 := [58, 5, 6, 172, 58, 5, 7, 172, 3, 172]
abbrev dktX0_act_1 : List UInt8 := dkwX0_act_1 ++ []
def dkwX0_act_0 : List UInt8 := [25, 4, 3, 42, 27, 28, 29, 182, 0, 24, 133, 80, 167, 0, 19, 58, 5, 4, 172, 58, 5, 5, 172]
abbrev dktX0_act_0 : List UInt8 := dkwX0_act_0 ++ dktX0_act_1
theorem dksX0_act_0 : cX0_act.data.toList.drop 0 = dktX0_act_0 := by decide +kernel
theorem dksX0_act_1 : cX0_act.data.toList.drop 23 = dktX0_act_1 := dk_seg dksX0_act_0 23 rfl rfl
theorem dX0_act_0 : decode cX0_act 0 = .ok (.aload 4, 2) := dk_25 4 (dk_at dksX0_act_0 0 rfl rfl)
theorem dX0_act_2 : decode cX0_act 2 = .ok (.iconst 0, 1) := dk_3 (dk_at dksX0_act_0 2 rfl rfl)
theorem dX0_act_3 : decode cX0_act 3 = .ok (.aload_n 0, 1) := dk_42 (dk_at dksX0_act_0 3 rfl rfl)
theorem dX0_act_4 : decode cX0_act 4 = .ok (.iload_n 1, 1) := dk_27 (dk_at dksX0_act_0 4 rfl rfl)
theorem dX0_act_5 : decode cX0_act 5 = .ok (.iload_n 2, 1) := dk_28 (dk_at dksX0_act_0 5 rfl rfl)
theorem dX0_act_6 : decode cX0_act 6 = .ok (.iload_n 3, 1) := dk_29 (dk_at dksX0_act_0 6 rfl rfl)
theorem dX0_act_7 : decode cX0_act 7 = .ok (.invokevirtual 24, 3) := dk_182 0 24 (dk_at dksX0_act_0 7 rfl rfl)
theorem dX0_act_10 : decode cX0_act 10 = .ok (.i2l, 1) := dk_133 (dk_at dksX0_act_0 10 rfl rfl)
theorem dX0_act_11 : decode cX0_act 11 = .ok (.lastore, 1) := dk_80 (dk_at dksX0_act_0 11 rfl rfl)
theorem dX0_act_12 : decode cX0_act 12 = .ok (.goto 19, 3) := dk_167 0 19 (dk_at dksX0_act_0 12 rfl rfl)
theorem dX0_act_15 : decode cX0_act 15 = .ok (.astore 5, 2) := dk_58 5 (dk_at dksX0_act_0 15 rfl rfl)
theorem dX0_act_17 : decode cX0_act 17 = .ok (.iconst 1, 1) := dk_4 (dk_at dksX0_act_0 17 rfl rfl)
theorem dX0_act_18 : decode cX0_act 18 = .ok (.ireturn, 1) := dk_172 (dk_at dksX0_act_0 18 rfl rfl)
theorem dX0_act_19 : decode cX0_act 19 = .ok (.astore 5, 2) := dk_58 5 (dk_at dksX0_act_0 19 rfl rfl)
theorem dX0_act_21 : decode cX0_act 21 = .ok (.iconst 2, 1) := dk_5 (dk_at dksX0_act_0 21 rfl rfl)
theorem dX0_act_22 : decode cX0_act 22 = .ok (.ireturn, 1) := dk_172 (dk_at dksX0_act_0 22 rfl rfl)
theorem dX0_act_23 : decode cX0_act 23 = .ok (.astore 5, 2) := dk_58 5 (dk_at dksX0_act_1 0 rfl rfl)
theorem dX0_act_25 : decode cX0_act 25 = .ok (.iconst 3, 1) := dk_6 (dk_at dksX0_act_1 2 rfl rfl)
theorem dX0_act_26 : decode cX0_act 26 = .ok (.ireturn, 1) := dk_172 (dk_at dksX0_act_1 3 rfl rfl)
theorem dX0_act_27 : decode cX0_act 27 = .ok (.astore 5, 2) := dk_58 5 (dk_at dksX0_act_1 4 rfl rfl)
theorem dX0_act_29 : decode cX0_act 29 = .ok (.iconst 4, 1) := dk_7 (dk_at dksX0_act_1 6 rfl rfl)
theorem dX0_act_30 : decode cX0_act 30 = .ok (.ireturn, 1) := dk_172 (dk_at dksX0_act_1 7 rfl rfl)
theorem dX0_act_31 : decode cX0_act 31 = .ok (.iconst 0, 1) := dk_3 (dk_at dksX0_act_1 8 rfl rfl)
theorem dX0_act_32 : decode cX0_act 32 = .ok (.ireturn, 1) := dk_172 (dk_at dksX0_act_1 9 rfl rfl)
abbrev cX0_word : ByteArray := method_7_code
def yX0_word : MethodName := ⟨RX0, "word", "(LNumberModels;II[J)I"⟩
def dkwX0_word_0 : List UInt8 := [45, 3, 42, 27, 28, 182, 0, 32, 80, 167, 0, 7, 58, 4, 4, 172, 3, 172]
abbrev dktX0_word_0 : List UInt8 := dkwX0_word_0 ++ []
theorem dksX0_word_0 : cX0_word.data.toList.drop 0 = dktX0_word_0 := by decide +kernel
theorem dX0_word_0 : decode cX0_word 0 = .ok (.aload_n 3, 1) := dk_45 (dk_at dksX0_word_0 0 rfl rfl)
theorem dX0_word_1 : decode cX0_word 1 = .ok (.iconst 0, 1) := dk_3 (dk_at dksX0_word_0 1 rfl rfl)
theorem dX0_word_2 : decode cX0_word 2 = .ok (.aload_n 0, 1) := dk_42 (dk_at dksX0_word_0 2 rfl rfl)
theorem dX0_word_3 : decode cX0_word 3 = .ok (.iload_n 1, 1) := dk_27 (dk_at dksX0_word_0 3 rfl rfl)
theorem dX0_word_4 : decode cX0_word 4 = .ok (.iload_n 2, 1) := dk_28 (dk_at dksX0_word_0 4 rfl rfl)
theorem dX0_word_5 : decode cX0_word 5 = .ok (.invokevirtual 32, 3) := dk_182 0 32 (dk_at dksX0_word_0 5 rfl rfl)
theorem dX0_word_8 : decode cX0_word 8 = .ok (.lastore, 1) := dk_80 (dk_at dksX0_word_0 8 rfl rfl)
theorem dX0_word_9 : decode cX0_word 9 = .ok (.goto 7, 3) := dk_167 0 7 (dk_at dksX0_word_0 9 rfl rfl)
theorem dX0_word_12 : decode cX0_word 12 = .ok (.astore 4, 2) := dk_58 4 (dk_at dksX0_word_0 12 rfl rfl)
theorem dX0_word_14 : decode cX0_word 14 = .ok (.iconst 1, 1) := dk_4 (dk_at dksX0_word_0 14 rfl rfl)
theorem dX0_word_15 : decode cX0_word 15 = .ok (.ireturn, 1) := dk_172 (dk_at dksX0_word_0 15 rfl rfl)
theorem dX0_word_16 : decode cX0_word 16 = .ok (.iconst 0, 1) := dk_3 (dk_at dksX0_word_0 16 rfl rfl)
theorem dX0_word_17 : decode cX0_word 17 = .ok (.ireturn, 1) := dk_172 (dk_at dksX0_word_0 17 rfl rfl)
abbrev cX0_sign : ByteArray := method_8_code
def yX0_sign : MethodName := ⟨RX0, "sign", "(LNumberModels;I[J)I"⟩
def dkwX0_sign_0 : List UInt8 := [44, 3, 42, 27, 182, 0, 36, 133, 80, 167, 0, 6, 78, 4, 172, 3, 172]
abbrev dktX0_sign_0 : List UInt8 := dkwX0_sign_0 ++ []
theorem dksX0_sign_0 : cX0_sign.data.toList.drop 0 = dktX0_sign_0 := by decide +kernel
theorem dX0_sign_0 : decode cX0_sign 0 = .ok (.aload_n 2, 1) := dk_44 (dk_at dksX0_sign_0 0 rfl rfl)
theorem dX0_sign_1 : decode cX0_sign 1 = .ok (.iconst 0, 1) := dk_3 (dk_at dksX0_sign_0 1 rfl rfl)
theorem dX0_sign_2 : decode cX0_sign 2 = .ok (.aload_n 0, 1) := dk_42 (dk_at dksX0_sign_0 2 rfl rfl)
theorem dX0_sign_3 : decode cX0_sign 3 = .ok (.iload_n 1, 1) := dk_27 (dk_at dksX0_sign_0 3 rfl rfl)
theorem dX0_sign_4 : decode cX0_sign 4 = .ok (.invokevirtual 36, 3) := dk_182 0 36 (dk_at dksX0_sign_0 4 rfl rfl)
theorem dX0_sign_7 : decode cX0_sign 7 = .ok (.i2l, 1) := dk_133 (dk_at dksX0_sign_0 7 rfl rfl)
theorem dX0_sign_8 : decode cX0_sign 8 = .ok (.lastore, 1) := dk_80 (dk_at dksX0_sign_0 8 rfl rfl)
theorem dX0_sign_9 : decode cX0_sign 9 = .ok (.goto 6, 3) := dk_167 0 6 (dk_at dksX0_sign_0 9 rfl rfl)
theorem dX0_sign_12 : decode cX0_sign 12 = .ok (.astore_n 3, 1) := dk_78 (dk_at dksX0_sign_0 12 rfl rfl)
theorem dX0_sign_13 : decode cX0_sign 13 = .ok (.iconst 1, 1) := dk_4 (dk_at dksX0_sign_0 13 rfl rfl)
theorem dX0_sign_14 : decode cX0_sign 14 = .ok (.ireturn, 1) := dk_172 (dk_at dksX0_sign_0 14 rfl rfl)
theorem dX0_sign_15 : decode cX0_sign 15 = .ok (.iconst 0, 1) := dk_3 (dk_at dksX0_sign_0 15 rfl rfl)
theorem dX0_sign_16 : decode cX0_sign 16 = .ok (.ireturn, 1) := dk_172 (dk_at dksX0_sign_0 16 rfl rfl)
abbrev cX0_bits : ByteArray := method_9_code
def yX0_bits : MethodName := ⟨RX0, "bits", "(LNumberModels;IZ[J)I"⟩
def dkwX0_bits_0 : List UInt8 := [45, 3, 42, 27, 28, 182, 0, 40, 133, 80, 167, 0, 7, 58, 4, 4, 172, 3, 172]
abbrev dktX0_bits_0 : List UInt8 := dkwX0_bits_0 ++ []
theorem dksX0_bits_0 : cX0_bits.data.toList.drop 0 = dktX0_bits_0 := by decide +kernel
theorem dX0_bits_0 : decode cX0_bits 0 = .ok (.aload_n 3, 1) := dk_45 (dk_at dksX0_bits_0 0 rfl rfl)
theorem dX0_bits_1 : decode cX0_bits 1 = .ok (.iconst 0, 1) := dk_3 (dk_at dksX0_bits_0 1 rfl rfl)
theorem dX0_bits_2 : decode cX0_bits 2 = .ok (.aload_n 0, 1) := dk_42 (dk_at dksX0_bits_0 2 rfl rfl)
theorem dX0_bits_3 : decode cX0_bits 3 = .ok (.iload_n 1, 1) := dk_27 (dk_at dksX0_bits_0 3 rfl rfl)
theorem dX0_bits_4 : decode cX0_bits 4 = .ok (.iload_n 2, 1) := dk_28 (dk_at dksX0_bits_0 4 rfl rfl)
theorem dX0_bits_5 : decode cX0_bits 5 = .ok (.invokevirtual 40, 3) := dk_182 0 40 (dk_at dksX0_bits_0 5 rfl rfl)
theorem dX0_bits_8 : decode cX0_bits 8 = .ok (.i2l, 1) := dk_133 (dk_at dksX0_bits_0 8 rfl rfl)
theorem dX0_bits_9 : decode cX0_bits 9 = .ok (.lastore, 1) := dk_80 (dk_at dksX0_bits_0 9 rfl rfl)
theorem dX0_bits_10 : decode cX0_bits 10 = .ok (.goto 7, 3) := dk_167 0 7 (dk_at dksX0_bits_0 10 rfl rfl)
theorem dX0_bits_13 : decode cX0_bits 13 = .ok (.astore 4, 2) := dk_58 4 (dk_at dksX0_bits_0 13 rfl rfl)
theorem dX0_bits_15 : decode cX0_bits 15 = .ok (.iconst 1, 1) := dk_4 (dk_at dksX0_bits_0 15 rfl rfl)
theorem dX0_bits_16 : decode cX0_bits 16 = .ok (.ireturn, 1) := dk_172 (dk_at dksX0_bits_0 16 rfl rfl)
theorem dX0_bits_17 : decode cX0_bits 17 = .ok (.iconst 0, 1) := dk_3 (dk_at dksX0_bits_0 17 rfl rfl)
theorem dX0_bits_18 : decode cX0_bits 18 = .ok (.ireturn, 1) := dk_172 (dk_at dksX0_bits_0 18 rfl rfl)
abbrev cX0_wrap : ByteArray := method_10_code
def yX0_wrap : MethodName := ⟨RX0, "wrap", "(LNumberModels;IIZ[J)I"⟩
def dkwX0_wrap_0 : List UInt8 := [25, 4, 3, 42, 27, 28, 29, 182, 0, 44, 80, 167, 0, 11, 58, 5, 4, 172, 58, 5, 5, 172, 3, 172]
abbrev dktX0_wrap_0 : List UInt8 := dkwX0_wrap_0 ++ []
theorem dksX0_wrap_0 : cX0_wrap.data.toList.drop 0 = dktX0_wrap_0 := by decide +kernel
theorem dX0_wrap_0 : decode cX0_wrap 0 = .ok (.aload 4, 2) := dk_25 4 (dk_at dksX0_wrap_0 0 rfl rfl)
theorem dX0_wrap_2 : decode cX0_wrap 2 = .ok (.iconst 0, 1) := dk_3 (dk_at dksX0_wrap_0 2 rfl rfl)
theorem dX0_wrap_3 : decode cX0_wrap 3 = .ok (.aload_n 0, 1) := dk_42 (dk_at dksX0_wrap_0 3 rfl rfl)
theorem dX0_wrap_4 : decode cX0_wrap 4 = .ok (.iload_n 1, 1) := dk_27 (dk_at dksX0_wrap_0 4 rfl rfl)
theorem dX0_wrap_5 : decode cX0_wrap 5 = .ok (.iload_n 2, 1) := dk_28 (dk_at dksX0_wrap_0 5 rfl rfl)
theorem dX0_wrap_6 : decode cX0_wrap 6 = .ok (.iload_n 3, 1) := dk_29 (dk_at dksX0_wrap_0 6 rfl rfl)
theorem dX0_wrap_7 : decode cX0_wrap 7 = .ok (.invokevirtual 44, 3) := dk_182 0 44 (dk_at dksX0_wrap_0 7 rfl rfl)
theorem dX0_wrap_10 : decode cX0_wrap 10 = .ok (.lastore, 1) := dk_80 (dk_at dksX0_wrap_0 10 rfl rfl)
theorem dX0_wrap_11 : decode cX0_wrap 11 = .ok (.goto 11, 3) := dk_167 0 11 (dk_at dksX0_wrap_0 11 rfl rfl)
theorem dX0_wrap_14 : decode cX0_wrap 14 = .ok (.astore 5, 2) := dk_58 5 (dk_at dksX0_wrap_0 14 rfl rfl)
theorem dX0_wrap_16 : decode cX0_wrap 16 = .ok (.iconst 1, 1) := dk_4 (dk_at dksX0_wrap_0 16 rfl rfl)
theorem dX0_wrap_17 : decode cX0_wrap 17 = .ok (.ireturn, 1) := dk_172 (dk_at dksX0_wrap_0 17 rfl rfl)
theorem dX0_wrap_18 : decode cX0_wrap 18 = .ok (.astore 5, 2) := dk_58 5 (dk_at dksX0_wrap_0 18 rfl rfl)
theorem dX0_wrap_20 : decode cX0_wrap 20 = .ok (.iconst 2, 1) := dk_5 (dk_at dksX0_wrap_0 20 rfl rfl)
theorem dX0_wrap_21 : decode cX0_wrap 21 = .ok (.ireturn, 1) := dk_172 (dk_at dksX0_wrap_0 21 rfl rfl)
theorem dX0_wrap_22 : decode cX0_wrap 22 = .ok (.iconst 0, 1) := dk_3 (dk_at dksX0_wrap_0 22 rfl rfl)
theorem dX0_wrap_23 : decode cX0_wrap 23 = .ok (.ireturn, 1) := dk_172 (dk_at dksX0_wrap_0 23 rfl rfl)
abbrev cX0_order : ByteArray := method_11_code
def yX0_order : MethodName := ⟨RX0, "orde\x72", "(LNumberModels;II[J)I"⟩
def dkwX0_order_0 : List UInt8 := [45, 3, 42, 27, 28, 182, 0, 48, 133, 80, 167, 0, 7, 58, 4, 4, 172, 3, 172]
abbrev dktX0_order_0 : List UInt8 := dkwX0_order_0 ++ []
theorem dksX0_order_0 : cX0_order.data.toList.drop 0 = dktX0_order_0 := by decide +kernel
theorem dX0_order_0 : decode cX0_order 0 = .ok (.aload_n 3, 1) := dk_45 (dk_at dksX0_order_0 0 rfl rfl)
theorem dX0_order_1 : decode cX0_order 1 = .ok (.iconst 0, 1) := dk_3 (dk_at dksX0_order_0 1 rfl rfl)
theorem dX0_order_2 : decode cX0_order 2 = .ok (.aload_n 0, 1) := dk_42 (dk_at dksX0_order_0 2 rfl rfl)
theorem dX0_order_3 : decode cX0_order 3 = .ok (.iload_n 1, 1) := dk_27 (dk_at dksX0_order_0 3 rfl rfl)
theorem dX0_order_4 : decode cX0_order 4 = .ok (.iload_n 2, 1) := dk_28 (dk_at dksX0_order_0 4 rfl rfl)
theorem dX0_order_5 : decode cX0_order 5 = .ok (.invokevirtual 48, 3) := dk_182 0 48 (dk_at dksX0_order_0 5 rfl rfl)
theorem dX0_order_8 : decode cX0_order 8 = .ok (.i2l, 1) := dk_133 (dk_at dksX0_order_0 8 rfl rfl)
theorem dX0_order_9 : decode cX0_order 9 = .ok (.lastore, 1) := dk_80 (dk_at dksX0_order_0 9 rfl rfl)
theorem dX0_order_10 : decode cX0_order 10 = .ok (.goto 7, 3) := dk_167 0 7 (dk_at dksX0_order_0 10 rfl rfl)
theorem dX0_order_13 : decode cX0_order 13 = .ok (.astore 4, 2) := dk_58 4 (dk_at dksX0_order_0 13 rfl rfl)
theorem dX0_order_15 : decode cX0_order 15 = .ok (.iconst 1, 1) := dk_4 (dk_at dksX0_order_0 15 rfl rfl)
theorem dX0_order_16 : decode cX0_order 16 = .ok (.ireturn, 1) := dk_172 (dk_at dksX0_order_0 16 rfl rfl)
theorem dX0_order_17 : decode cX0_order 17 = .ok (.iconst 0, 1) := dk_3 (dk_at dksX0_order_0 17 rfl rfl)
theorem dX0_order_18 : decode cX0_order 18 = .ok (.ireturn, 1) := dk_172 (dk_at dksX0_order_0 18 rfl rfl)
abbrev cX0_meets : ByteArray := method_12_code
def yX0_meets : MethodName := ⟨RX0, "meets", "(LNumberModels;IJ[J)I"⟩
def dkwX0_meets_0 : List UInt8 := [25, 4, 3, 42, 27, 32, 182, 0, 52, 133, 80, 167, 0, 7, 58, 5, 4, 172, 3, 172]
abbrev dktX0_meets_0 : List UInt8 := dkwX0_meets_0 ++ []
theorem dksX0_meets_0 : cX0_meets.data.toList.drop 0 = dktX0_meets_0 := by decide +kernel
theorem dX0_meets_0 : decode cX0_meets 0 = .ok (.aload 4, 2) := dk_25 4 (dk_at dksX0_meets_0 0 rfl rfl)
theorem dX0_meets_2 : decode cX0_meets 2 = .ok (.iconst 0, 1) := dk_3 (dk_at dksX0_meets_0 2 rfl rfl)
theorem dX0_meets_3 : decode cX0_meets 3 = .ok (.aload_n 0, 1) := dk_42 (dk_at dksX0_meets_0 3 rfl rfl)
theorem dX0_meets_4 : decode cX0_meets 4 = .ok (.iload_n 1, 1) := dk_27 (dk_at dksX0_meets_0 4 rfl rfl)
theorem dX0_meets_5 : decode cX0_meets 5 = .ok (.lload_n 2, 1) := dk_32 (dk_at dksX0_meets_0 5 rfl rfl)
theorem dX0_meets_6 : decode cX0_meets 6 = .ok (.invokevirtual 52, 3) := dk_182 0 52 (dk_at dksX0_meets_0 6 rfl rfl)
theorem dX0_meets_9 : decode cX0_meets 9 = .ok (.i2l, 1) := dk_133 (dk_at dksX0_meets_0 9 rfl rfl)
theorem dX0_meets_10 : decode cX0_meets 10 = .ok (.lastore, 1) := dk_80 (dk_at dksX0_meets_0 10 rfl rfl)
theorem dX0_meets_11 : decode cX0_meets 11 = .ok (.goto 7, 3) := dk_167 0 7 (dk_at dksX0_meets_0 11 rfl rfl)
theorem dX0_meets_14 : decode cX0_meets 14 = .ok (.astore 5, 2) := dk_58 5 (dk_at dksX0_meets_0 14 rfl rfl)
theorem dX0_meets_16 : decode cX0_meets 16 = .ok (.iconst 1, 1) := dk_4 (dk_at dksX0_meets_0 16 rfl rfl)
theorem dX0_meets_17 : decode cX0_meets 17 = .ok (.ireturn, 1) := dk_172 (dk_at dksX0_meets_0 17 rfl rfl)
theorem dX0_meets_18 : decode cX0_meets 18 = .ok (.iconst 0, 1) := dk_3 (dk_at dksX0_meets_0 18 rfl rfl)
theorem dX0_meets_19 : decode cX0_meets 19 = .ok (.ireturn, 1) := dk_172 (dk_at dksX0_meets_0 19 rfl rfl)
abbrev cX0_nearest : ByteArray := method_13_code
def yX0_nearest : MethodName := ⟨RX0, "nearest", "(LNumberModels;II[J)I"⟩
def dkwX0_nearest_0 : List UInt8 := [45, 3, 42, 27, 28, 182, 0, 56, 80, 167, 0, 11, 58, 4, 4, 172, 58, 4, 5, 172, 3, 172]
abbrev dktX0_nearest_0 : List UInt8 := dkwX0_nearest_0 ++ []
theorem dksX0_nearest_0 : cX0_nearest.data.toList.drop 0 = dktX0_nearest_0 := by decide +kernel
theorem dX0_nearest_0 : decode cX0_nearest 0 = .ok (.aload_n 3, 1) := dk_45 (dk_at dksX0_nearest_0 0 rfl rfl)
theorem dX0_nearest_1 : decode cX0_nearest 1 = .ok (.iconst 0, 1) := dk_3 (dk_at dksX0_nearest_0 1 rfl rfl)
theorem dX0_nearest_2 : decode cX0_nearest 2 = .ok (.aload_n 0, 1) := dk_42 (dk_at dksX0_nearest_0 2 rfl rfl)
theorem dX0_nearest_3 : decode cX0_nearest 3 = .ok (.iload_n 1, 1) := dk_27 (dk_at dksX0_nearest_0 3 rfl rfl)
theorem dX0_nearest_4 : decode cX0_nearest 4 = .ok (.iload_n 2, 1) := dk_28 (dk_at dksX0_nearest_0 4 rfl rfl)
theorem dX0_nearest_5 : decode cX0_nearest 5 = .ok (.invokevirtual 56, 3) := dk_182 0 56 (dk_at dksX0_nearest_0 5 rfl rfl)
theorem dX0_nearest_8 : decode cX0_nearest 8 = .ok (.lastore, 1) := dk_80 (dk_at dksX0_nearest_0 8 rfl rfl)
theorem dX0_nearest_9 : decode cX0_nearest 9 = .ok (.goto 11, 3) := dk_167 0 11 (dk_at dksX0_nearest_0 9 rfl rfl)
theorem dX0_nearest_12 : decode cX0_nearest 12 = .ok (.astore 4, 2) := dk_58 4 (dk_at dksX0_nearest_0 12 rfl rfl)
theorem dX0_nearest_14 : decode cX0_nearest 14 = .ok (.iconst 1, 1) := dk_4 (dk_at dksX0_nearest_0 14 rfl rfl)
theorem dX0_nearest_15 : decode cX0_nearest 15 = .ok (.ireturn, 1) := dk_172 (dk_at dksX0_nearest_0 15 rfl rfl)
theorem dX0_nearest_16 : decode cX0_nearest 16 = .ok (.astore 4, 2) := dk_58 4 (dk_at dksX0_nearest_0 16 rfl rfl)
theorem dX0_nearest_18 : decode cX0_nearest 18 = .ok (.iconst 2, 1) := dk_5 (dk_at dksX0_nearest_0 18 rfl rfl)
theorem dX0_nearest_19 : decode cX0_nearest 19 = .ok (.ireturn, 1) := dk_172 (dk_at dksX0_nearest_0 19 rfl rfl)
theorem dX0_nearest_20 : decode cX0_nearest 20 = .ok (.iconst 0, 1) := dk_3 (dk_at dksX0_nearest_0 20 rfl rfl)
theorem dX0_nearest_21 : decode cX0_nearest 21 = .ok (.ireturn, 1) := dk_172 (dk_at dksX0_nearest_0 21 rfl rfl)
abbrev cX0_single : ByteArray := method_14_code
def yX0_single : MethodName := ⟨RX0, "single", "(LNumberModels;II[J)I"⟩
def dkwX0_single_0 : List UInt8 := [45, 3, 42, 27, 28, 182, 0, 59, 133, 80, 167, 0, 11, 58, 4, 4, 172, 58, 4, 5, 172, 3, 172]
abbrev dktX0_single_0 : List UInt8 := dkwX0_single_0 ++ []
theorem dksX0_single_0 : cX0_single.data.toList.drop 0 = dktX0_single_0 := by decide +kernel
theorem dX0_single_0 : decode cX0_single 0 = .ok (.aload_n 3, 1) := dk_45 (dk_at dksX0_single_0 0 rfl rfl)
theorem dX0_single_1 : decode cX0_single 1 = .ok (.iconst 0, 1) := dk_3 (dk_at dksX0_single_0 1 rfl rfl)
theorem dX0_single_2 : decode cX0_single 2 = .ok (.aload_n 0, 1) := dk_42 (dk_at dksX0_single_0 2 rfl rfl)
theorem dX0_single_3 : decode cX0_single 3 = .ok (.iload_n 1, 1) := dk_27 (dk_at dksX0_single_0 3 rfl rfl)
theorem dX0_single_4 : decode cX0_single 4 = .ok (.iload_n 2, 1) := dk_28 (dk_at dksX0_single_0 4 rfl rfl)
theorem dX0_single_5 : decode cX0_single 5 = .ok (.invokevirtual 59, 3) := dk_182 0 59 (dk_at dksX0_single_0 5 rfl rfl)
theorem dX0_single_8 : decode cX0_single 8 = .ok (.i2l, 1) := dk_133 (dk_at dksX0_single_0 8 rfl rfl)
theorem dX0_single_9 : decode cX0_single 9 = .ok (.lastore, 1) := dk_80 (dk_at dksX0_single_0 9 rfl rfl)
theorem dX0_single_10 : decode cX0_single 10 = .ok (.goto 11, 3) := dk_167 0 11 (dk_at dksX0_single_0 10 rfl rfl)
theorem dX0_single_13 : decode cX0_single 13 = .ok (.astore 4, 2) := dk_58 4 (dk_at dksX0_single_0 13 rfl rfl)
theorem dX0_single_15 : decode cX0_single 15 = .ok (.iconst 1, 1) := dk_4 (dk_at dksX0_single_0 15 rfl rfl)
theorem dX0_single_16 : decode cX0_single 16 = .ok (.ireturn, 1) := dk_172 (dk_at dksX0_single_0 16 rfl rfl)
theorem dX0_single_17 : decode cX0_single 17 = .ok (.astore 4, 2) := dk_58 4 (dk_at dksX0_single_0 17 rfl rfl)
theorem dX0_single_19 : decode cX0_single 19 = .ok (.iconst 2, 1) := dk_5 (dk_at dksX0_single_0 19 rfl rfl)
theorem dX0_single_20 : decode cX0_single 20 = .ok (.ireturn, 1) := dk_172 (dk_at dksX0_single_0 20 rfl rfl)
theorem dX0_single_21 : decode cX0_single 21 = .ok (.iconst 0, 1) := dk_3 (dk_at dksX0_single_0 21 rfl rfl)
theorem dX0_single_22 : decode cX0_single 22 = .ok (.ireturn, 1) := dk_172 (dk_at dksX0_single_0 22 rfl rfl)
abbrev cX0_machine : ByteArray := method_15_code
def yX0_machine : MethodName := ⟨RX0, "machine", "(LNumberModels;IJJ[J)I"⟩
def dkwX0_machine_0 : List UInt8 := [25, 6, 3, 42, 27, 32, 22, 4, 182, 0, 62, 80, 167, 0, 7, 58, 7, 4, 172, 3, 172]
abbrev dktX0_machine_0 : List UInt8 := dkwX0_machine_0 ++ []
theorem dksX0_machine_0 : cX0_machine.data.toList.drop 0 = dktX0_machine_0 := by decide +kernel
theorem dX0_machine_0 : decode cX0_machine 0 = .ok (.aload 6, 2) := dk_25 6 (dk_at dksX0_machine_0 0 rfl rfl)
theorem dX0_machine_2 : decode cX0_machine 2 = .ok (.iconst 0, 1) := dk_3 (dk_at dksX0_machine_0 2 rfl rfl)
theorem dX0_machine_3 : decode cX0_machine 3 = .ok (.aload_n 0, 1) := dk_42 (dk_at dksX0_machine_0 3 rfl rfl)
theorem dX0_machine_4 : decode cX0_machine 4 = .ok (.iload_n 1, 1) := dk_27 (dk_at dksX0_machine_0 4 rfl rfl)
theorem dX0_machine_5 : decode cX0_machine 5 = .ok (.lload_n 2, 1) := dk_32 (dk_at dksX0_machine_0 5 rfl rfl)
theorem dX0_machine_6 : decode cX0_machine 6 = .ok (.lload 4, 2) := dk_22 4 (dk_at dksX0_machine_0 6 rfl rfl)
theorem dX0_machine_8 : decode cX0_machine 8 = .ok (.invokevirtual 62, 3) := dk_182 0 62 (dk_at dksX0_machine_0 8 rfl rfl)
theorem dX0_machine_11 : decode cX0_machine 11 = .ok (.lastore, 1) := dk_80 (dk_at dksX0_machine_0 11 rfl rfl)
theorem dX0_machine_12 : decode cX0_machine 12 = .ok (.goto 7, 3) := dk_167 0 7 (dk_at dksX0_machine_0 12 rfl rfl)
theorem dX0_machine_15 : decode cX0_machine 15 = .ok (.astore 7, 2) := dk_58 7 (dk_at dksX0_machine_0 15 rfl rfl)
theorem dX0_machine_17 : decode cX0_machine 17 = .ok (.iconst 1, 1) := dk_4 (dk_at dksX0_machine_0 17 rfl rfl)
theorem dX0_machine_18 : decode cX0_machine 18 = .ok (.ireturn, 1) := dk_172 (dk_at dksX0_machine_0 18 rfl rfl)
theorem dX0_machine_19 : decode cX0_machine 19 = .ok (.iconst 0, 1) := dk_3 (dk_at dksX0_machine_0 19 rfl rfl)
theorem dX0_machine_20 : decode cX0_machine 20 = .ok (.ireturn, 1) := dk_172 (dk_at dksX0_machine_0 20 rfl rfl)
abbrev cX0_cast : ByteArray := method_16_code
def yX0_cast : MethodName := ⟨RX0, "cast", "(LNumberModels;IJ[J)I"⟩
def dkwX0_cast_0 : List UInt8 := [25, 4, 3, 42, 27, 32, 182, 0, 66, 80, 167, 0, 7, 58, 5, 4, 172, 3, 172]
abbrev dktX0_cast_0 : List UInt8 := dkwX0_cast_0 ++ []
theorem dksX0_cast_0 : cX0_cast.data.toList.drop 0 = dktX0_cast_0 := by decide +kernel
theorem dX0_cast_0 : decode cX0_cast 0 = .ok (.aload 4, 2) := dk_25 4 (dk_at dksX0_cast_0 0 rfl rfl)
theorem dX0_cast_2 : decode cX0_cast 2 = .ok (.iconst 0, 1) := dk_3 (dk_at dksX0_cast_0 2 rfl rfl)
theorem dX0_cast_3 : decode cX0_cast 3 = .ok (.aload_n 0, 1) := dk_42 (dk_at dksX0_cast_0 3 rfl rfl)
theorem dX0_cast_4 : decode cX0_cast 4 = .ok (.iload_n 1, 1) := dk_27 (dk_at dksX0_cast_0 4 rfl rfl)
theorem dX0_cast_5 : decode cX0_cast 5 = .ok (.lload_n 2, 1) := dk_32 (dk_at dksX0_cast_0 5 rfl rfl)
theorem dX0_cast_6 : decode cX0_cast 6 = .ok (.invokevirtual 66, 3) := dk_182 0 66 (dk_at dksX0_cast_0 6 rfl rfl)
theorem dX0_cast_9 : decode cX0_cast 9 = .ok (.lastore, 1) := dk_80 (dk_at dksX0_cast_0 9 rfl rfl)
theorem dX0_cast_10 : decode cX0_cast 10 = .ok (.goto 7, 3) := dk_167 0 7 (dk_at dksX0_cast_0 10 rfl rfl)
theorem dX0_cast_13 : decode cX0_cast 13 = .ok (.astore 5, 2) := dk_58 5 (dk_at dksX0_cast_0 13 rfl rfl)
theorem dX0_cast_15 : decode cX0_cast 15 = .ok (.iconst 1, 1) := dk_4 (dk_at dksX0_cast_0 15 rfl rfl)
theorem dX0_cast_16 : decode cX0_cast 16 = .ok (.ireturn, 1) := dk_172 (dk_at dksX0_cast_0 16 rfl rfl)
theorem dX0_cast_17 : decode cX0_cast 17 = .ok (.iconst 0, 1) := dk_3 (dk_at dksX0_cast_0 17 rfl rfl)
theorem dX0_cast_18 : decode cX0_cast 18 = .ok (.ireturn, 1) := dk_172 (dk_at dksX0_cast_0 18 rfl rfl)
theorem q58 : (Jvm.Cond.initialized "NumberModelsLaw") ∈ lw_all := lw_g (lw_at lw_m1 0 rfl) rfl
theorem q86 : (Jvm.Cond.classLink "NumberModelsLaw" (8 : Nat) "NumberModels") ∈ lw_all := lw_g (lw_at lw_m1 28 rfl) rfl
theorem q88 : (Jvm.Cond.methodLink "NumberModelsLaw" (70 : Nat) ({ cls := "NumberModels", name := "<init>", desc := "()V" } : Jvm.MethodName)) ∈ lw_all := lw_g (lw_at lw_m1 30 rfl) rfl
theorem q197 : (Jvm.Cond.methodLink "NumberModelsLaw" (97 : Nat) ({ cls := "NumberModels", name := "clea\x72", desc := "()I" } : Jvm.MethodName)) ∈ lw_all := lw_g (lw_at lw_m1 139 rfl) rfl
theorem q201 : (Jvm.Cond.methodLink "NumberModelsLaw" (101 : Nat) ({ cls := "NumberModels", name := "count", desc := "()I" } : Jvm.MethodName)) ∈ lw_all := lw_g (lw_at lw_m1 143 rfl) rfl
theorem q205 : (Jvm.Cond.methodLink "NumberModelsLaw" (76 : Nat) ({ cls := "NumberModelsLaw", name := "whole", desc := "(LNumberModels;J[J)I" } : Jvm.MethodName)) ∈ lw_all := lw_g (lw_at lw_m1 147 rfl) rfl
theorem q206 : (Jvm.Cond.static ({ cls := "NumberModelsLaw", name := "whole", desc := "(LNumberModels;J[J)I" } : Jvm.MethodName)) ∈ lw_all := lw_g (lw_at lw_m1 148 rfl) rfl
theorem q207 : (Jvm.Cond.codeWith ({ cls := "NumberModelsLaw", name := "whole", desc := "(LNumberModels;J[J)I" } : Jvm.MethodName) method_3_code (5 : Nat) (Option.some Jvm.ClassFile.FieldType.int) [((0 : Nat), (9 : Nat), (12 : Nat), (13 : Nat))]) ∈ lw_all := lw_g (lw_at lw_m1 149 rfl) rfl
theorem q208 : (Jvm.Cond.classLink "NumberModelsLaw" (13 : Nat) "java/lang/IllegalStateException") ∈ lw_all := lw_g (lw_at lw_m1 150 rfl) rfl
theorem q209 : (Jvm.Cond.methodLink "NumberModelsLaw" (7 : Nat) ({ cls := "NumberModels", name := "whole", desc := "(J)I" } : Jvm.MethodName)) ∈ lw_all := lw_g (lw_at lw_m1 151 rfl) rfl
theorem q446 : (Jvm.Cond.methodLink "NumberModelsLaw" (86 : Nat) ({ cls := "NumberModelsLaw", name := "fraction", desc := "(LNumberModels;JJ[J)I" } : Jvm.MethodName)) ∈ lw_all := lw_g (lw_at lw_m2 148 rfl) rfl
theorem q447 : (Jvm.Cond.static ({ cls := "NumberModelsLaw", name := "fraction", desc := "(LNumberModels;JJ[J)I" } : Jvm.MethodName)) ∈ lw_all := lw_g (lw_at lw_m2 149 rfl) rfl
theorem q448 : (Jvm.Cond.codeWith ({ cls := "NumberModelsLaw", name := "fraction", desc := "(LNumberModels;JJ[J)I" } : Jvm.MethodName) method_4_code (7 : Nat) (Option.some Jvm.ClassFile.FieldType.int) [((0 : Nat), (11 : Nat), (14 : Nat), (19 : Nat)), ((0 : Nat), (11 : Nat), (18 : Nat), (13 : Nat))]) ∈ lw_all := lw_g (lw_at lw_m2 150 rfl) rfl
theorem q449 : (Jvm.Cond.classLink "NumberModelsLaw" (19 : Nat) "java/lang/ArithmeticException") ∈ lw_all := lw_g (lw_at lw_m2 151 rfl) rfl
theorem q463 : (Jvm.Cond.methodLink "NumberModelsLaw" (15 : Nat) ({ cls := "NumberModels", name := "fraction", desc := "(JJ)I" } : Jvm.MethodName)) ∈ lw_all := lw_g (lw_at lw_m2 165 rfl) rfl
theorem q475 : (Jvm.Cond.methodLink "NumberModelsLaw" (90 : Nat) ({ cls := "NumberModelsLaw", name := "real", desc := "(LNumberModels;J[J)I" } : Jvm.MethodName)) ∈ lw_all := lw_g (lw_at lw_m2 177 rfl) rfl
theorem q476 : (Jvm.Cond.static ({ cls := "NumberModelsLaw", name := "real", desc := "(LNumberModels;J[J)I" } : Jvm.MethodName)) ∈ lw_all := lw_g (lw_at lw_m2 178 rfl) rfl
theorem q477 : (Jvm.Cond.codeWith ({ cls := "NumberModelsLaw", name := "real", desc := "(LNumberModels;J[J)I" } : Jvm.MethodName) method_5_code (5 : Nat) (Option.some Jvm.ClassFile.FieldType.int) [((0 : Nat), (9 : Nat), (12 : Nat), (19 : Nat)), ((0 : Nat), (9 : Nat), (16 : Nat), (13 : Nat))]) ∈ lw_all := lw_g (lw_at lw_m2 179 rfl) rfl
theorem q478 : (Jvm.Cond.methodLink "NumberModelsLaw" (21 : Nat) ({ cls := "NumberModels", name := "real", desc := "(J)I" } : Jvm.MethodName)) ∈ lw_all := lw_g (lw_at lw_m2 180 rfl) rfl
theorem q525 : (Jvm.Cond.methodLink "NumberModelsLaw" (93 : Nat) ({ cls := "NumberModelsLaw", name := "act", desc := "(LNumberModels;III[J)I" } : Jvm.MethodName)) ∈ lw_all := lw_g (lw_at lw_m2 227 rfl) rfl
theorem q526 : (Jvm.Cond.static ({ cls := "NumberModelsLaw", name := "act", desc := "(LNumberModels;III[J)I" } : Jvm.MethodName)) ∈ lw_all := lw_g (lw_at lw_m2 228 rfl) rfl
theorem q527 : (Jvm.Cond.codeWith ({ cls := "NumberModelsLaw", name := "act", desc := "(LNumberModels;III[J)I" } : Jvm.MethodName) method_6_code (6 : Nat) (Option.some Jvm.ClassFile.FieldType.int) [((0 : Nat), (12 : Nat), (15 : Nat), (28 : Nat)), ((0 : Nat), (12 : Nat), (19 : Nat), (30 : Nat)), ((0 : Nat), (12 : Nat), (23 : Nat), (19 : Nat)), ((0 : Nat), (12 : Nat), (27 : Nat), (13 : Nat))]) ∈ lw_all := lw_g (lw_at lw_m2 229 rfl) rfl
theorem q528 : (Jvm.Cond.classLink "NumberModelsLaw" (28 : Nat) "java/lang/IndexOutOfBoundsException") ∈ lw_all := lw_g (lw_at lw_m2 230 rfl) rfl
theorem q529 : (Jvm.Cond.classLink "NumberModelsLaw" (30 : Nat) "java/lang/IllegalArgumentException") ∈ lw_all := lw_g (lw_at lw_m2 231 rfl) rfl
theorem q530 : (Jvm.Cond.methodLink "NumberModelsLaw" (24 : Nat) ({ cls := "NumberModels", name := "act", desc := "(III)I" } : Jvm.MethodName)) ∈ lw_all := lw_g (lw_at lw_m2 232 rfl) rfl
theorem q661 : (Jvm.Cond.methodLink "NumberModelsLaw" (105 : Nat) ({ cls := "NumberModelsLaw", name := "word", desc := "(LNumberModels;II[J)I" } : Jvm.MethodName)) ∈ lw_all := lw_g (lw_at lw_m3 123 rfl) rfl
theorem q662 : (Jvm.Cond.static ({ cls := "NumberModelsLaw", name := "word", desc := "(LNumberModels;II[J)I" } : Jvm.MethodName)) ∈ lw_all := lw_g (lw_at lw_m3 124 rfl) rfl
theorem q663 : (Jvm.Cond.codeWith ({ cls := "NumberModelsLaw", name := "word", desc := "(LNumberModels;II[J)I" } : Jvm.MethodName) method_7_code (5 : Nat) (Option.some Jvm.ClassFile.FieldType.int) [((0 : Nat), (9 : Nat), (12 : Nat), (28 : Nat))]) ∈ lw_all := lw_g (lw_at lw_m3 125 rfl) rfl
theorem q664 : (Jvm.Cond.methodLink "NumberModelsLaw" (32 : Nat) ({ cls := "NumberModels", name := "word", desc := "(II)J" } : Jvm.MethodName)) ∈ lw_all := lw_g (lw_at lw_m3 126 rfl) rfl
theorem q669 : (Jvm.Cond.methodLink "NumberModelsLaw" (109 : Nat) ({ cls := "NumberModelsLaw", name := "sign", desc := "(LNumberModels;I[J)I" } : Jvm.MethodName)) ∈ lw_all := lw_g (lw_at lw_m3 131 rfl) rfl
theorem q670 : (Jvm.Cond.static ({ cls := "NumberModelsLaw", name := "sign", desc := "(LNumberModels;I[J)I" } : Jvm.MethodName)) ∈ lw_all := lw_g (lw_at lw_m3 132 rfl) rfl
theorem q671 : (Jvm.Cond.codeWith ({ cls := "NumberModelsLaw", name := "sign", desc := "(LNumberModels;I[J)I" } : Jvm.MethodName) method_8_code (4 : Nat) (Option.some Jvm.ClassFile.FieldType.int) [((0 : Nat), (9 : Nat), (12 : Nat), (28 : Nat))]) ∈ lw_all := lw_g (lw_at lw_m3 133 rfl) rfl
theorem q672 : (Jvm.Cond.methodLink "NumberModelsLaw" (36 : Nat) ({ cls := "NumberModels", name := "sign", desc := "(I)I" } : Jvm.MethodName)) ∈ lw_all := lw_g (lw_at lw_m3 134 rfl) rfl
theorem q676 : (Jvm.Cond.methodLink "NumberModelsLaw" (113 : Nat) ({ cls := "NumberModelsLaw", name := "bits", desc := "(LNumberModels;IZ[J)I" } : Jvm.MethodName)) ∈ lw_all := lw_g (lw_at lw_m3 138 rfl) rfl
theorem q677 : (Jvm.Cond.static ({ cls := "NumberModelsLaw", name := "bits", desc := "(LNumberModels;IZ[J)I" } : Jvm.MethodName)) ∈ lw_all := lw_g (lw_at lw_m3 139 rfl) rfl
theorem q678 : (Jvm.Cond.codeWith ({ cls := "NumberModelsLaw", name := "bits", desc := "(LNumberModels;IZ[J)I" } : Jvm.MethodName) method_9_code (5 : Nat) (Option.some Jvm.ClassFile.FieldType.int) [((0 : Nat), (10 : Nat), (13 : Nat), (28 : Nat))]) ∈ lw_all := lw_g (lw_at lw_m3 140 rfl) rfl
theorem q679 : (Jvm.Cond.methodLink "NumberModelsLaw" (40 : Nat) ({ cls := "NumberModels", name := "bits", desc := "(IZ)I" } : Jvm.MethodName)) ∈ lw_all := lw_g (lw_at lw_m3 141 rfl) rfl
theorem q683 : (Jvm.Cond.methodLink "NumberModelsLaw" (117 : Nat) ({ cls := "NumberModelsLaw", name := "wrap", desc := "(LNumberModels;IIZ[J)I" } : Jvm.MethodName)) ∈ lw_all := lw_g (lw_at lw_m3 145 rfl) rfl
theorem q684 : (Jvm.Cond.static ({ cls := "NumberModelsLaw", name := "wrap", desc := "(LNumberModels;IIZ[J)I" } : Jvm.MethodName)) ∈ lw_all := lw_g (lw_at lw_m3 146 rfl) rfl
theorem q685 : (Jvm.Cond.codeWith ({ cls := "NumberModelsLaw", name := "wrap", desc := "(LNumberModels;IIZ[J)I" } : Jvm.MethodName) method_10_code (6 : Nat) (Option.some Jvm.ClassFile.FieldType.int) [((0 : Nat), (11 : Nat), (14 : Nat), (28 : Nat)), ((0 : Nat), (11 : Nat), (18 : Nat), (30 : Nat))]) ∈ lw_all := lw_g (lw_at lw_m3 147 rfl) rfl
theorem q686 : (Jvm.Cond.methodLink "NumberModelsLaw" (44 : Nat) ({ cls := "NumberModels", name := "wrap", desc := "(IIZ)J" } : Jvm.MethodName)) ∈ lw_all := lw_g (lw_at lw_m3 148 rfl) rfl
theorem q690 : (Jvm.Cond.methodLink "NumberModelsLaw" (121 : Nat) ({ cls := "NumberModelsLaw", name := "orde\x72", desc := "(LNumberModels;II[J)I" } : Jvm.MethodName)) ∈ lw_all := lw_g (lw_at lw_m3 152 rfl) rfl
theorem q691 : (Jvm.Cond.static ({ cls := "NumberModelsLaw", name := "orde\x72", desc := "(LNumberModels;II[J)I" } : Jvm.MethodName)) ∈ lw_all := lw_g (lw_at lw_m3 153 rfl) rfl
theorem q692 : (Jvm.Cond.codeWith ({ cls := "NumberModelsLaw", name := "orde\x72", desc := "(LNumberModels;II[J)I" } : Jvm.MethodName) method_11_code (5 : Nat) (Option.some Jvm.ClassFile.FieldType.int) [((0 : Nat), (10 : Nat), (13 : Nat), (28 : Nat))]) ∈ lw_all := lw_g (lw_at lw_m3 154 rfl) rfl
theorem q693 : (Jvm.Cond.methodLink "NumberModelsLaw" (48 : Nat) ({ cls := "NumberModels", name := "orde\x72", desc := "(II)I" } : Jvm.MethodName)) ∈ lw_all := lw_g (lw_at lw_m3 155 rfl) rfl
theorem q697 : (Jvm.Cond.methodLink "NumberModelsLaw" (124 : Nat) ({ cls := "NumberModelsLaw", name := "meets", desc := "(LNumberModels;IJ[J)I" } : Jvm.MethodName)) ∈ lw_all := lw_g (lw_at lw_m3 159 rfl) rfl
theorem q698 : (Jvm.Cond.static ({ cls := "NumberModelsLaw", name := "meets", desc := "(LNumberModels;IJ[J)I" } : Jvm.MethodName)) ∈ lw_all := lw_g (lw_at lw_m3 160 rfl) rfl
theorem q699 : (Jvm.Cond.codeWith ({ cls := "NumberModelsLaw", name := "meets", desc := "(LNumberModels;IJ[J)I" } : Jvm.MethodName) method_12_code (6 : Nat) (Option.some Jvm.ClassFile.FieldType.int) [((0 : Nat), (11 : Nat), (14 : Nat), (28 : Nat))]) ∈ lw_all := lw_g (lw_at lw_m3 161 rfl) rfl
theorem q700 : (Jvm.Cond.methodLink "NumberModelsLaw" (52 : Nat) ({ cls := "NumberModels", name := "meets", desc := "(IJ)I" } : Jvm.MethodName)) ∈ lw_all := lw_g (lw_at lw_m3 162 rfl) rfl
theorem q714 : (Jvm.Cond.methodLink "NumberModelsLaw" (128 : Nat) ({ cls := "NumberModelsLaw", name := "nearest", desc := "(LNumberModels;II[J)I" } : Jvm.MethodName)) ∈ lw_all := lw_g (lw_at lw_m3 176 rfl) rfl
theorem q715 : (Jvm.Cond.static ({ cls := "NumberModelsLaw", name := "nearest", desc := "(LNumberModels;II[J)I" } : Jvm.MethodName)) ∈ lw_all := lw_g (lw_at lw_m3 177 rfl) rfl
theorem q716 : (Jvm.Cond.codeWith ({ cls := "NumberModelsLaw", name := "nearest", desc := "(LNumberModels;II[J)I" } : Jvm.MethodName) method_13_code (5 : Nat) (Option.some Jvm.ClassFile.FieldType.int) [((0 : Nat), (9 : Nat), (12 : Nat), (28 : Nat)), ((0 : Nat), (9 : Nat), (16 : Nat), (30 : Nat))]) ∈ lw_all := lw_g (lw_at lw_m3 178 rfl) rfl
theorem q717 : (Jvm.Cond.methodLink "NumberModelsLaw" (56 : Nat) ({ cls := "NumberModels", name := "nearest", desc := "(II)J" } : Jvm.MethodName)) ∈ lw_all := lw_g (lw_at lw_m3 179 rfl) rfl
theorem q782 : (Jvm.Cond.methodLink "NumberModelsLaw" (131 : Nat) ({ cls := "NumberModelsLaw", name := "single", desc := "(LNumberModels;II[J)I" } : Jvm.MethodName)) ∈ lw_all := lw_g (lw_at lw_m4 4 rfl) rfl
theorem q783 : (Jvm.Cond.static ({ cls := "NumberModelsLaw", name := "single", desc := "(LNumberModels;II[J)I" } : Jvm.MethodName)) ∈ lw_all := lw_g (lw_at lw_m4 5 rfl) rfl
theorem q784 : (Jvm.Cond.codeWith ({ cls := "NumberModelsLaw", name := "single", desc := "(LNumberModels;II[J)I" } : Jvm.MethodName) method_14_code (5 : Nat) (Option.some Jvm.ClassFile.FieldType.int) [((0 : Nat), (10 : Nat), (13 : Nat), (28 : Nat)), ((0 : Nat), (10 : Nat), (17 : Nat), (30 : Nat))]) ∈ lw_all := lw_g (lw_at lw_m4 6 rfl) rfl
theorem q785 : (Jvm.Cond.methodLink "NumberModelsLaw" (59 : Nat) ({ cls := "NumberModels", name := "single", desc := "(II)I" } : Jvm.MethodName)) ∈ lw_all := lw_g (lw_at lw_m4 7 rfl) rfl
theorem q816 : (Jvm.Cond.methodLink "NumberModelsLaw" (134 : Nat) ({ cls := "NumberModelsLaw", name := "machine", desc := "(LNumberModels;IJJ[J)I" } : Jvm.MethodName)) ∈ lw_all := lw_g (lw_at lw_m4 38 rfl) rfl
theorem q817 : (Jvm.Cond.static ({ cls := "NumberModelsLaw", name := "machine", desc := "(LNumberModels;IJJ[J)I" } : Jvm.MethodName)) ∈ lw_all := lw_g (lw_at lw_m4 39 rfl) rfl
theorem q818 : (Jvm.Cond.codeWith ({ cls := "NumberModelsLaw", name := "machine", desc := "(LNumberModels;IJJ[J)I" } : Jvm.MethodName) method_15_code (8 : Nat) (Option.some Jvm.ClassFile.FieldType.int) [((0 : Nat), (12 : Nat), (15 : Nat), (30 : Nat))]) ∈ lw_all := lw_g (lw_at lw_m4 40 rfl) rfl
theorem q819 : (Jvm.Cond.methodLink "NumberModelsLaw" (62 : Nat) ({ cls := "NumberModels", name := "machine", desc := "(IJJ)J" } : Jvm.MethodName)) ∈ lw_all := lw_g (lw_at lw_m4 41 rfl) rfl
theorem q887 : (Jvm.Cond.methodLink "NumberModelsLaw" (138 : Nat) ({ cls := "NumberModelsLaw", name := "cast", desc := "(LNumberModels;IJ[J)I" } : Jvm.MethodName)) ∈ lw_all := lw_g (lw_at lw_m4 109 rfl) rfl
theorem q888 : (Jvm.Cond.static ({ cls := "NumberModelsLaw", name := "cast", desc := "(LNumberModels;IJ[J)I" } : Jvm.MethodName)) ∈ lw_all := lw_g (lw_at lw_m4 110 rfl) rfl
theorem q889 : (Jvm.Cond.codeWith ({ cls := "NumberModelsLaw", name := "cast", desc := "(LNumberModels;IJ[J)I" } : Jvm.MethodName) method_16_code (6 : Nat) (Option.some Jvm.ClassFile.FieldType.int) [((0 : Nat), (10 : Nat), (13 : Nat), (30 : Nat))]) ∈ lw_all := lw_g (lw_at lw_m4 111 rfl) rfl
theorem q890 : (Jvm.Cond.methodLink "NumberModelsLaw" (66 : Nat) ({ cls := "NumberModels", name := "cast", desc := "(IJ)J" } : Jvm.MethodName)) ∈ lw_all := lw_g (lw_at lw_m4 112 rfl) rfl
theorem q907 : (Jvm.Cond.classLink "NumberModelsLaw" (71 : Nat) "NumberModelsModel") ∈ lw_all := lw_g (lw_at lw_m4 129 rfl) rfl
theorem q909 : (Jvm.Cond.methodLink "NumberModelsLaw" (73 : Nat) ({ cls := "NumberModelsModel", name := "<init>", desc := "()V" } : Jvm.MethodName)) ∈ lw_all := lw_g (lw_at lw_m4 131 rfl) rfl
theorem q944 : (Jvm.Cond.methodLink "NumberModelsLaw" (82 : Nat) ({ cls := "NumberModelsModel", name := "thrown", desc := "()I" } : Jvm.MethodName)) ∈ lw_all := lw_g (lw_at lw_m4 166 rfl) rfl
theorem q948 : (Jvm.Cond.methodLink "NumberModelsLaw" (81 : Nat) ({ cls := "NumberModelsModel", name := "whole", desc := "(J)I" } : Jvm.MethodName)) ∈ lw_all := lw_g (lw_at lw_m4 170 rfl) rfl
theorem q1020 : (Jvm.Cond.methodLink "NumberModelsLaw" (89 : Nat) ({ cls := "NumberModelsModel", name := "fraction", desc := "(JJ)I" } : Jvm.MethodName)) ∈ lw_all := lw_g (lw_at lw_m5 2 rfl) rfl
theorem q1024 : (Jvm.Cond.methodLink "NumberModelsLaw" (92 : Nat) ({ cls := "NumberModelsModel", name := "real", desc := "(J)I" } : Jvm.MethodName)) ∈ lw_all := lw_g (lw_at lw_m5 6 rfl) rfl
theorem q1046 : (Jvm.Cond.methodLink "NumberModelsLaw" (96 : Nat) ({ cls := "NumberModelsModel", name := "act", desc := "(III)I" } : Jvm.MethodName)) ∈ lw_all := lw_g (lw_at lw_m5 28 rfl) rfl
theorem q1098 : (Jvm.Cond.methodLink "NumberModelsLaw" (100 : Nat) ({ cls := "NumberModelsModel", name := "clea\x72", desc := "()I" } : Jvm.MethodName)) ∈ lw_all := lw_g (lw_at lw_m5 80 rfl) rfl
theorem q1102 : (Jvm.Cond.methodLink "NumberModelsLaw" (104 : Nat) ({ cls := "NumberModelsModel", name := "count", desc := "()I" } : Jvm.MethodName)) ∈ lw_all := lw_g (lw_at lw_m5 84 rfl) rfl
theorem q1106 : (Jvm.Cond.methodLink "NumberModelsLaw" (108 : Nat) ({ cls := "NumberModelsModel", name := "word", desc := "(II)J" } : Jvm.MethodName)) ∈ lw_all := lw_g (lw_at lw_m5 88 rfl) rfl
theorem q1110 : (Jvm.Cond.methodLink "NumberModelsLaw" (112 : Nat) ({ cls := "NumberModelsModel", name := "sign", desc := "(I)I" } : Jvm.MethodName)) ∈ lw_all := lw_g (lw_at lw_m5 92 rfl) rfl
theorem q1114 : (Jvm.Cond.methodLink "NumberModelsLaw" (116 : Nat) ({ cls := "NumberModelsModel", name := "bits", desc := "(IZ)I" } : Jvm.MethodName)) ∈ lw_all := lw_g (lw_at lw_m5 96 rfl) rfl
theorem q1118 : (Jvm.Cond.methodLink "NumberModelsLaw" (120 : Nat) ({ cls := "NumberModelsModel", name := "wrap", desc := "(IIZ)J" } : Jvm.MethodName)) ∈ lw_all := lw_g (lw_at lw_m5 100 rfl) rfl
theorem q1122 : (Jvm.Cond.methodLink "NumberModelsLaw" (123 : Nat) ({ cls := "NumberModelsModel", name := "orde\x72", desc := "(II)I" } : Jvm.MethodName)) ∈ lw_all := lw_g (lw_at lw_m5 104 rfl) rfl
theorem q1123 : (Jvm.Cond.methodLink "NumberModelsLaw" (127 : Nat) ({ cls := "NumberModelsModel", name := "meets", desc := "(IJ)I" } : Jvm.MethodName)) ∈ lw_all := lw_g (lw_at lw_m5 105 rfl) rfl
theorem q1133 : (Jvm.Cond.methodLink "NumberModelsLaw" (130 : Nat) ({ cls := "NumberModelsModel", name := "nearest", desc := "(II)J" } : Jvm.MethodName)) ∈ lw_all := lw_g (lw_at lw_m5 115 rfl) rfl
theorem q1154 : (Jvm.Cond.methodLink "NumberModelsLaw" (133 : Nat) ({ cls := "NumberModelsModel", name := "single", desc := "(II)I" } : Jvm.MethodName)) ∈ lw_all := lw_g (lw_at lw_m5 136 rfl) rfl
theorem q1159 : (Jvm.Cond.methodLink "NumberModelsLaw" (137 : Nat) ({ cls := "NumberModelsModel", name := "machine", desc := "(IJJ)J" } : Jvm.MethodName)) ∈ lw_all := lw_g (lw_at lw_m5 141 rfl) rfl
theorem q1195 : (Jvm.Cond.methodLink "NumberModelsLaw" (140 : Nat) ({ cls := "NumberModelsModel", name := "cast", desc := "(IJ)J" } : Jvm.MethodName)) ∈ lw_all := lw_g (lw_at lw_m5 177 rfl) rfl
theorem q1216 : (Jvm.Cond.constantLong "NumberModelsLaw" (74 : Nat) (4294967295 : Int64)) ∈ lw_all := lw_g (lw_at lw_m5 198 rfl) rfl
/-! the law's own entry -/
set_option maxRecDepth 100000
abbrev cL_law : ByteArray := code
def dkwL_law_56 : List UInt8 := [22, 6, 148, 153, 0, 5, 3, 172, 167, 0, 3, 132, 4, 6, 167, 250, 175, 4, 172]
abbrev dktL_law_56 : List UInt8 := dkwL_law_56 ++ []
def dkwL_law_55 : List UInt8 := [182, 0, 140, 55, 6, 44, 182, 0, 82, 21, 5, 159, 0, 5, 3, 172, 21, 5, 154, 0, 14, 45, 3, 47]
abbrev dktL_law_55 : List UInt8 := dkwL_law_55 ++ dktL_law_56
def dkwL_law_54 : List UInt8 := [96, 46, 42, 21, 4, 5, 96, 46, 133, 16, 32, 121, 42, 21, 4, 6, 96, 46, 133, 20, 0, 74, 127, 129]
abbrev dktL_law_54 : List UInt8 := dkwL_law_54 ++ dktL_law_55
def dkwL_law_53 : List UInt8 := [121, 42, 21, 4, 6, 96, 46, 133, 20, 0, 74, 127, 129, 45, 184, 0, 138, 54, 5, 44, 42, 21, 4, 4]
abbrev dktL_law_53 : List UInt8 := dkwL_law_53 ++ dktL_law_54
def dkwL_law_52 : List UInt8 := [153, 0, 5, 3, 172, 167, 0, 102, 43, 42, 21, 4, 4, 96, 46, 42, 21, 4, 5, 96, 46, 133, 16, 32]
abbrev dktL_law_52 : List UInt8 := dkwL_law_52 ++ dktL_law_53
def dkwL_law_51 : List UInt8 := [55, 6, 44, 182, 0, 82, 21, 5, 159, 0, 5, 3, 172, 21, 5, 154, 0, 14, 45, 3, 47, 22, 6, 148]
abbrev dktL_law_51 : List UInt8 := dkwL_law_51 ++ dktL_law_52
def dkwL_law_50 : List UInt8 := [21, 4, 7, 96, 46, 133, 16, 32, 121, 42, 21, 4, 8, 96, 46, 133, 20, 0, 74, 127, 129, 182, 0, 137]
abbrev dktL_law_50 : List UInt8 := dkwL_law_50 ++ dktL_law_51
def dkwL_law_49 : List UInt8 := [42, 21, 4, 5, 96, 46, 133, 16, 32, 121, 42, 21, 4, 6, 96, 46, 133, 20, 0, 74, 127, 129, 42]
abbrev dktL_law_49 : List UInt8 := dkwL_law_49 ++ dktL_law_50
def dkwL_law_48 : List UInt8 := [21, 4, 8, 96, 46, 133, 20, 0, 74, 127, 129, 45, 184, 0, 134, 54, 5, 44, 42, 21, 4, 4, 96, 46]
abbrev dktL_law_48 : List UInt8 := dkwL_law_48 ++ dktL_law_49
def dkwL_law_47 : List UInt8 := [121, 42, 21, 4, 6, 96, 46, 133, 20, 0, 74, 127, 129, 42, 21, 4, 7, 96, 46, 133, 16, 32, 121, 42]
abbrev dktL_law_47 : List UInt8 := dkwL_law_47 ++ dktL_law_48
def dkwL_law_46 : List UInt8 := [153, 0, 5, 3, 172, 167, 0, 245, 43, 42, 21, 4, 4, 96, 46, 42, 21, 4, 5, 96, 46, 133, 16, 32]
abbrev dktL_law_46 : List UInt8 := dkwL_law_46 ++ dktL_law_47
def dkwL_law_45 : List UInt8 := [182, 0, 82, 21, 5, 159, 0, 5, 3, 172, 21, 5, 154, 0, 15, 45, 3, 47, 21, 6, 133, 148]
abbrev dktL_law_45 : List UInt8 := dkwL_law_45 ++ dktL_law_46
def dkwL_law_44 : List UInt8 := [184, 0, 131, 54, 5, 44, 42, 21, 4, 4, 96, 46, 42, 21, 4, 5, 96, 46, 182, 0, 133, 54, 6, 44]
abbrev dktL_law_44 : List UInt8 := dkwL_law_44 ++ dktL_law_45
def dkwL_law_43 : List UInt8 := [153, 0, 5, 3, 172, 167, 1, 57, 43, 42, 21, 4, 4, 96, 46, 42, 21, 4, 5, 96, 46, 45]
abbrev dktL_law_43 : List UInt8 := dkwL_law_43 ++ dktL_law_44
def dkwL_law_42 : List UInt8 := [55, 6, 44, 182, 0, 82, 21, 5, 159, 0, 5, 3, 172, 21, 5, 154, 0, 14, 45, 3, 47, 22, 6, 148]
abbrev dktL_law_42 : List UInt8 := dkwL_law_42 ++ dktL_law_43
def dkwL_law_41 : List UInt8 := [46, 45, 184, 0, 128, 54, 5, 44, 42, 21, 4, 4, 96, 46, 42, 21, 4, 5, 96, 46, 182, 0, 130]
abbrev dktL_law_41 : List UInt8 := dkwL_law_41 ++ dktL_law_42
def dkwL_law_40 : List UInt8 := [21, 6, 133, 148, 153, 0, 5, 3, 172, 167, 1, 124, 43, 42, 21, 4, 4, 96, 46, 42, 21, 4, 5, 96]
abbrev dktL_law_40 : List UInt8 := dkwL_law_40 ++ dktL_law_41
def dkwL_law_39 : List UInt8 := [182, 0, 127, 54, 6, 44, 182, 0, 82, 21, 5, 159, 0, 5, 3, 172, 21, 5, 154, 0, 15, 45, 3, 47]
abbrev dktL_law_39 : List UInt8 := dkwL_law_39 ++ dktL_law_40
def dkwL_law_38 : List UInt8 := [96, 46, 42, 21, 4, 5, 96, 46, 133, 16, 32, 121, 42, 21, 4, 6, 96, 46, 133, 20, 0, 74, 127, 129]
abbrev dktL_law_38 : List UInt8 := dkwL_law_38 ++ dktL_law_39
def dkwL_law_37 : List UInt8 := [121, 42, 21, 4, 6, 96, 46, 133, 20, 0, 74, 127, 129, 45, 184, 0, 124, 54, 5, 44, 42, 21, 4, 4]
abbrev dktL_law_37 : List UInt8 := dkwL_law_37 ++ dktL_law_38
def dkwL_law_36 : List UInt8 := [153, 0, 5, 3, 172, 167, 1, 224, 43, 42, 21, 4, 4, 96, 46, 42, 21, 4, 5, 96, 46, 133, 16, 32]
abbrev dktL_law_36 : List UInt8 := dkwL_law_36 ++ dktL_law_37
def dkwL_law_35 : List UInt8 := [44, 182, 0, 82, 21, 5, 159, 0, 5, 3, 172, 21, 5, 154, 0, 15, 45, 3, 47, 21, 6, 133, 148]
abbrev dktL_law_35 : List UInt8 := dkwL_law_35 ++ dktL_law_36
def dkwL_law_34 : List UInt8 := [45, 184, 0, 121, 54, 5, 44, 42, 21, 4, 4, 96, 46, 42, 21, 4, 5, 96, 46, 182, 0, 123, 54, 6]
abbrev dktL_law_34 : List UInt8 := dkwL_law_34 ++ dktL_law_35
def dkwL_law_33 : List UInt8 := [22, 6, 148, 153, 0, 5, 3, 172, 167, 2, 36, 43, 42, 21, 4, 4, 96, 46, 42, 21, 4, 5, 96, 46]
abbrev dktL_law_33 : List UInt8 := dkwL_law_33 ++ dktL_law_34
def dkwL_law_32 : List UInt8 := [182, 0, 120, 55, 6, 44, 182, 0, 82, 21, 5, 159, 0, 5, 3, 172, 21, 5, 154, 0, 14, 45, 3, 47]
abbrev dktL_law_32 : List UInt8 := dkwL_law_32 ++ dktL_law_33
def dkwL_law_31 : List UInt8 := [96, 46, 42, 21, 4, 5, 96, 46, 42, 21, 4, 6, 96, 46, 153, 0, 7, 4, 167, 0, 4, 3]
abbrev dktL_law_31 : List UInt8 := dkwL_law_31 ++ dktL_law_32
def dkwL_law_30 : List UInt8 := [21, 4, 6, 96, 46, 153, 0, 7, 4, 167, 0, 4, 3, 45, 184, 0, 117, 54, 5, 44, 42, 21, 4, 4]
abbrev dktL_law_30 : List UInt8 := dkwL_law_30 ++ dktL_law_31
def dkwL_law_29 : List UInt8 := [148, 153, 0, 5, 3, 172, 167, 2, 131, 43, 42, 21, 4, 4, 96, 46, 42, 21, 4, 5, 96, 46, 42]
abbrev dktL_law_29 : List UInt8 := dkwL_law_29 ++ dktL_law_30
def dkwL_law_28 : List UInt8 := [54, 6, 44, 182, 0, 82, 21, 5, 159, 0, 5, 3, 172, 21, 5, 154, 0, 15, 45, 3, 47, 21, 6, 133]
abbrev dktL_law_28 : List UInt8 := dkwL_law_28 ++ dktL_law_29
def dkwL_law_27 : List UInt8 := [42, 21, 4, 4, 96, 46, 42, 21, 4, 5, 96, 46, 153, 0, 7, 4, 167, 0, 4, 3, 182, 0, 116]
abbrev dktL_law_27 : List UInt8 := dkwL_law_27 ++ dktL_law_28
def dkwL_law_26 : List UInt8 := [4, 96, 46, 42, 21, 4, 5, 96, 46, 153, 0, 7, 4, 167, 0, 4, 3, 45, 184, 0, 113, 54, 5, 44]
abbrev dktL_law_26 : List UInt8 := dkwL_law_26 ++ dktL_law_27
def dkwL_law_25 : List UInt8 := [21, 5, 154, 0, 15, 45, 3, 47, 21, 6, 133, 148, 153, 0, 5, 3, 172, 167, 2, 215, 43, 42, 21, 4]
abbrev dktL_law_25 : List UInt8 := dkwL_law_25 ++ dktL_law_26
def dkwL_law_24 : List UInt8 := [44, 42, 21, 4, 4, 96, 46, 182, 0, 112, 54, 6, 44, 182, 0, 82, 21, 5, 159, 0, 5, 3, 172]
abbrev dktL_law_24 : List UInt8 := dkwL_law_24 ++ dktL_law_25
def dkwL_law_23 : List UInt8 := [22, 6, 148, 153, 0, 5, 3, 172, 167, 3, 15, 43, 42, 21, 4, 4, 96, 46, 45, 184, 0, 109, 54, 5]
abbrev dktL_law_23 : List UInt8 := dkwL_law_23 ++ dktL_law_24
def dkwL_law_22 : List UInt8 := [182, 0, 108, 55, 6, 44, 182, 0, 82, 21, 5, 159, 0, 5, 3, 172, 21, 5, 154, 0, 14, 45, 3, 47]
abbrev dktL_law_22 : List UInt8 := dkwL_law_22 ++ dktL_law_23
def dkwL_law_21 : List UInt8 := [5, 96, 46, 45, 184, 0, 105, 54, 5, 44, 42, 21, 4, 4, 96, 46, 42, 21, 4, 5, 96, 46]
abbrev dktL_law_21 : List UInt8 := dkwL_law_21 ++ dktL_law_22
def dkwL_law_20 : List UInt8 := [172, 43, 182, 0, 101, 44, 182, 0, 104, 159, 3, 84, 3, 172, 43, 42, 21, 4, 4, 96, 46, 42, 21, 4]
abbrev dktL_law_20 : List UInt8 := dkwL_law_20 ++ dktL_law_21
def dkwL_law_19 : List UInt8 := [21, 6, 133, 148, 153, 0, 5, 3, 172, 167, 3, 108, 43, 182, 0, 97, 44, 182, 0, 100, 159, 3, 97, 3]
abbrev dktL_law_19 : List UInt8 := dkwL_law_19 ++ dktL_law_20
def dkwL_law_18 : List UInt8 := [182, 0, 96, 54, 6, 44, 182, 0, 82, 21, 5, 159, 0, 5, 3, 172, 21, 5, 154, 0, 15, 45, 3, 47]
abbrev dktL_law_18 : List UInt8 := dkwL_law_18 ++ dktL_law_19
def dkwL_law_17 : List UInt8 := [184, 0, 93, 54, 5, 44, 42, 21, 4, 4, 96, 46, 42, 21, 4, 5, 96, 46, 42, 21, 4, 6, 96, 46]
abbrev dktL_law_17 : List UInt8 := dkwL_law_17 ++ dktL_law_18
def dkwL_law_16 : List UInt8 := [167, 3, 188, 43, 42, 21, 4, 4, 96, 46, 42, 21, 4, 5, 96, 46, 42, 21, 4, 6, 96, 46, 45]
abbrev dktL_law_16 : List UInt8 := dkwL_law_16 ++ dktL_law_17
def dkwL_law_15 : List UInt8 := [159, 0, 5, 3, 172, 21, 5, 154, 0, 15, 45, 3, 47, 21, 6, 133, 148, 153, 0, 5, 3, 172]
abbrev dktL_law_15 : List UInt8 := dkwL_law_15 ++ dktL_law_16
def dkwL_law_14 : List UInt8 := [42, 21, 4, 5, 96, 46, 133, 20, 0, 74, 127, 129, 182, 0, 92, 54, 6, 44, 182, 0, 82, 21, 5]
abbrev dktL_law_14 : List UInt8 := dkwL_law_14 ++ dktL_law_15
def dkwL_law_13 : List UInt8 := [46, 133, 20, 0, 74, 127, 129, 45, 184, 0, 90, 54, 5, 44, 42, 21, 4, 4, 96, 46, 133, 16, 32, 121]
abbrev dktL_law_13 : List UInt8 := dkwL_law_13 ++ dktL_law_14
def dkwL_law_12 : List UInt8 := [153, 0, 5, 3, 172, 167, 4, 20, 43, 42, 21, 4, 4, 96, 46, 133, 16, 32, 121, 42, 21, 4, 5, 96]
abbrev dktL_law_12 : List UInt8 := dkwL_law_12 ++ dktL_law_13
def dkwL_law_11 : List UInt8 := [44, 182, 0, 82, 21, 5, 159, 0, 5, 3, 172, 21, 5, 154, 0, 15, 45, 3, 47, 21, 6, 133, 148]
abbrev dktL_law_11 : List UInt8 := dkwL_law_11 ++ dktL_law_12
def dkwL_law_10 : List UInt8 := [6, 96, 46, 133, 16, 32, 121, 42, 21, 4, 7, 96, 46, 133, 20, 0, 74, 127, 129, 182, 0, 89, 54, 6]
abbrev dktL_law_10 : List UInt8 := dkwL_law_10 ++ dktL_law_11
def dkwL_law_9 : List UInt8 := [21, 4, 4, 96, 46, 133, 16, 32, 121, 42, 21, 4, 5, 96, 46, 133, 20, 0, 74, 127, 129, 42, 21, 4]
abbrev dktL_law_9 : List UInt8 := dkwL_law_9 ++ dktL_law_10
def dkwL_law_8 : List UInt8 := [16, 32, 121, 42, 21, 4, 7, 96, 46, 133, 20, 0, 74, 127, 129, 45, 184, 0, 86, 54, 5, 44, 42]
abbrev dktL_law_8 : List UInt8 := dkwL_law_8 ++ dktL_law_9
def dkwL_law_7 : List UInt8 := [46, 133, 16, 32, 121, 42, 21, 4, 5, 96, 46, 133, 20, 0, 74, 127, 129, 42, 21, 4, 6, 96, 46, 133]
abbrev dktL_law_7 : List UInt8 := dkwL_law_7 ++ dktL_law_8
def dkwL_law_6 : List UInt8 := [154, 0, 15, 45, 3, 47, 21, 6, 133, 148, 153, 0, 5, 3, 172, 167, 4, 152, 43, 42, 21, 4, 4, 96]
abbrev dktL_law_6 : List UInt8 := dkwL_law_6 ++ dktL_law_7
def dkwL_law_5 : List UInt8 := [20, 0, 74, 127, 129, 182, 0, 81, 54, 6, 44, 182, 0, 82, 21, 5, 159, 0, 5, 3, 172, 21, 5]
abbrev dktL_law_5 : List UInt8 := dkwL_law_5 ++ dktL_law_6
def dkwL_law_4 : List UInt8 := [184, 0, 76, 54, 5, 44, 42, 21, 4, 4, 96, 46, 133, 16, 32, 121, 42, 21, 4, 5, 96, 46, 133]
abbrev dktL_law_4 : List UInt8 := dkwL_law_4 ++ dktL_law_5
def dkwL_law_3 : List UInt8 := [43, 42, 21, 4, 4, 96, 46, 133, 16, 32, 121, 42, 21, 4, 5, 96, 46, 133, 20, 0, 74, 127, 129, 45]
abbrev dktL_law_3 : List UInt8 := dkwL_law_3 ++ dktL_law_4
def dkwL_law_2 : List UInt8 := [170, 0, 0, 0, 0, 0, 5, 61, 0, 0, 0, 0, 0, 0, 0, 15, 0, 0, 0, 80, 0, 0, 0, 168, 0, 0, 1, 44, 0, 0, 1, 132, 0, 0, 1, 212, 0, 0, 1, 225, 0, 0, 1, 238, 0, 0, 2, 49, 0, 0, 2, 105, 0, 0, 2, 189, 0, 0, 3, 28, 0, 0, 3, 96, 0, 0, 3, 196, 0, 0, 4, 7, 0, 0, 4, 75, 0, 0, 4, 218]
abbrev dktL_law_2 : List UInt8 := dkwL_law_2 ++ dktL_law_3
def dkwL_law_1 : List UInt8 := [21, 4, 42, 190, 16, 6, 100, 163, 5, 77, 42, 21, 4, 46, 16, 15, 126]
abbrev dktL_law_1 : List UInt8 := dkwL_law_1 ++ dktL_law_2
def dkwL_law_0 : List UInt8 := [187, 0, 8, 89, 183, 0, 70, 76, 187, 0, 71, 89, 183, 0, 73, 77, 4, 188, 11, 78, 3, 54, 4]
abbrev dktL_law_0 : List UInt8 := dkwL_law_0 ++ dktL_law_1
theorem dksL_law_0 : cL_law.data.toList.drop 0 = dktL_law_0 := by decide +kernel
theorem dksL_law_1 : cL_law.data.toList.drop 23 = dktL_law_1 := dk_seg dksL_law_0 23 rfl rfl
theorem dksL_law_2 : cL_law.data.toList.drop 40 = dktL_law_2 := dk_seg dksL_law_1 17 rfl rfl
theorem dksL_law_3 : cL_law.data.toList.drop 120 = dktL_law_3 := dk_seg dksL_law_2 80 rfl rfl
theorem dksL_law_4 : cL_law.data.toList.drop 144 = dktL_law_4 := dk_seg dksL_law_3 24 rfl rfl
theorem dksL_law_5 : cL_law.data.toList.drop 167 = dktL_law_5 := dk_seg dksL_law_4 23 rfl rfl
theorem dksL_law_6 : cL_law.data.toList.drop 190 = dktL_law_6 := dk_seg dksL_law_5 23 rfl rfl
theorem dksL_law_7 : cL_law.data.toList.drop 214 = dktL_law_7 := dk_seg dksL_law_6 24 rfl rfl
theorem dksL_law_8 : cL_law.data.toList.drop 238 = dktL_law_8 := dk_seg dksL_law_7 24 rfl rfl
theorem dksL_law_9 : cL_law.data.toList.drop 261 = dktL_law_9 := dk_seg dksL_law_8 23 rfl rfl
theorem dksL_law_10 : cL_law.data.toList.drop 285 = dktL_law_10 := dk_seg dksL_law_9 24 rfl rfl
theorem dksL_law_11 : cL_law.data.toList.drop 309 = dktL_law_11 := dk_seg dksL_law_10 24 rfl rfl
theorem dksL_law_12 : cL_law.data.toList.drop 332 = dktL_law_12 := dk_seg dksL_law_11 23 rfl rfl
theorem dksL_law_13 : cL_law.data.toList.drop 356 = dktL_law_13 := dk_seg dksL_law_12 24 rfl rfl
theorem dksL_law_14 : cL_law.data.toList.drop 380 = dktL_law_14 := dk_seg dksL_law_13 24 rfl rfl
theorem dksL_law_15 : cL_law.data.toList.drop 403 = dktL_law_15 := dk_seg dksL_law_14 23 rfl rfl
theorem dksL_law_16 : cL_law.data.toList.drop 425 = dktL_law_16 := dk_seg dksL_law_15 22 rfl rfl
theorem dksL_law_17 : cL_law.data.toList.drop 448 = dktL_law_17 := dk_seg dksL_law_16 23 rfl rfl
theorem dksL_law_18 : cL_law.data.toList.drop 472 = dktL_law_18 := dk_seg dksL_law_17 24 rfl rfl
theorem dksL_law_19 : cL_law.data.toList.drop 496 = dktL_law_19 := dk_seg dksL_law_18 24 rfl rfl
theorem dksL_law_20 : cL_law.data.toList.drop 520 = dktL_law_20 := dk_seg dksL_law_19 24 rfl rfl
theorem dksL_law_21 : cL_law.data.toList.drop 544 = dktL_law_21 := dk_seg dksL_law_20 24 rfl rfl
theorem dksL_law_22 : cL_law.data.toList.drop 566 = dktL_law_22 := dk_seg dksL_law_21 22 rfl rfl
theorem dksL_law_23 : cL_law.data.toList.drop 590 = dktL_law_23 := dk_seg dksL_law_22 24 rfl rfl
theorem dksL_law_24 : cL_law.data.toList.drop 614 = dktL_law_24 := dk_seg dksL_law_23 24 rfl rfl
theorem dksL_law_25 : cL_law.data.toList.drop 637 = dktL_law_25 := dk_seg dksL_law_24 23 rfl rfl
theorem dksL_law_26 : cL_law.data.toList.drop 661 = dktL_law_26 := dk_seg dksL_law_25 24 rfl rfl
theorem dksL_law_27 : cL_law.data.toList.drop 685 = dktL_law_27 := dk_seg dksL_law_26 24 rfl rfl
theorem dksL_law_28 : cL_law.data.toList.drop 708 = dktL_law_28 := dk_seg dksL_law_27 23 rfl rfl
theorem dksL_law_29 : cL_law.data.toList.drop 732 = dktL_law_29 := dk_seg dksL_law_28 24 rfl rfl
theorem dksL_law_30 : cL_law.data.toList.drop 755 = dktL_law_30 := dk_seg dksL_law_29 23 rfl rfl
theorem dksL_law_31 : cL_law.data.toList.drop 779 = dktL_law_31 := dk_seg dksL_law_30 24 rfl rfl
theorem dksL_law_32 : cL_law.data.toList.drop 801 = dktL_law_32 := dk_seg dksL_law_31 22 rfl rfl
theorem dksL_law_33 : cL_law.data.toList.drop 825 = dktL_law_33 := dk_seg dksL_law_32 24 rfl rfl
theorem dksL_law_34 : cL_law.data.toList.drop 849 = dktL_law_34 := dk_seg dksL_law_33 24 rfl rfl
theorem dksL_law_35 : cL_law.data.toList.drop 873 = dktL_law_35 := dk_seg dksL_law_34 24 rfl rfl
theorem dksL_law_36 : cL_law.data.toList.drop 896 = dktL_law_36 := dk_seg dksL_law_35 23 rfl rfl
theorem dksL_law_37 : cL_law.data.toList.drop 920 = dktL_law_37 := dk_seg dksL_law_36 24 rfl rfl
theorem dksL_law_38 : cL_law.data.toList.drop 944 = dktL_law_38 := dk_seg dksL_law_37 24 rfl rfl
theorem dksL_law_39 : cL_law.data.toList.drop 968 = dktL_law_39 := dk_seg dksL_law_38 24 rfl rfl
theorem dksL_law_40 : cL_law.data.toList.drop 992 = dktL_law_40 := dk_seg dksL_law_39 24 rfl rfl
theorem dksL_law_41 : cL_law.data.toList.drop 1016 = dktL_law_41 := dk_seg dksL_law_40 24 rfl rfl
theorem dksL_law_42 : cL_law.data.toList.drop 1039 = dktL_law_42 := dk_seg dksL_law_41 23 rfl rfl
theorem dksL_law_43 : cL_law.data.toList.drop 1063 = dktL_law_43 := dk_seg dksL_law_42 24 rfl rfl
theorem dksL_law_44 : cL_law.data.toList.drop 1085 = dktL_law_44 := dk_seg dksL_law_43 22 rfl rfl
theorem dksL_law_45 : cL_law.data.toList.drop 1109 = dktL_law_45 := dk_seg dksL_law_44 24 rfl rfl
theorem dksL_law_46 : cL_law.data.toList.drop 1131 = dktL_law_46 := dk_seg dksL_law_45 22 rfl rfl
theorem dksL_law_47 : cL_law.data.toList.drop 1155 = dktL_law_47 := dk_seg dksL_law_46 24 rfl rfl
theorem dksL_law_48 : cL_law.data.toList.drop 1179 = dktL_law_48 := dk_seg dksL_law_47 24 rfl rfl
theorem dksL_law_49 : cL_law.data.toList.drop 1203 = dktL_law_49 := dk_seg dksL_law_48 24 rfl rfl
theorem dksL_law_50 : cL_law.data.toList.drop 1226 = dktL_law_50 := dk_seg dksL_law_49 23 rfl rfl
theorem dksL_law_51 : cL_law.data.toList.drop 1250 = dktL_law_51 := dk_seg dksL_law_50 24 rfl rfl
theorem dksL_law_52 : cL_law.data.toList.drop 1274 = dktL_law_52 := dk_seg dksL_law_51 24 rfl rfl
theorem dksL_law_53 : cL_law.data.toList.drop 1298 = dktL_law_53 := dk_seg dksL_law_52 24 rfl rfl
theorem dksL_law_54 : cL_law.data.toList.drop 1322 = dktL_law_54 := dk_seg dksL_law_53 24 rfl rfl
theorem dksL_law_55 : cL_law.data.toList.drop 1346 = dktL_law_55 := dk_seg dksL_law_54 24 rfl rfl
theorem dksL_law_56 : cL_law.data.toList.drop 1370 = dktL_law_56 := dk_seg dksL_law_55 24 rfl rfl
theorem dL_law_0 : decode cL_law 0 = .ok (.new 8, 3) := dk_187 0 8 (dk_at dksL_law_0 0 rfl rfl)
theorem dL_law_3 : decode cL_law 3 = .ok (.dup, 1) := dk_89 (dk_at dksL_law_0 3 rfl rfl)
theorem dL_law_4 : decode cL_law 4 = .ok (.invokespecial 70, 3) := dk_183 0 70 (dk_at dksL_law_0 4 rfl rfl)
theorem dL_law_7 : decode cL_law 7 = .ok (.astore_n 1, 1) := dk_76 (dk_at dksL_law_0 7 rfl rfl)
theorem dL_law_8 : decode cL_law 8 = .ok (.new 71, 3) := dk_187 0 71 (dk_at dksL_law_0 8 rfl rfl)
theorem dL_law_11 : decode cL_law 11 = .ok (.dup, 1) := dk_89 (dk_at dksL_law_0 11 rfl rfl)
theorem dL_law_12 : decode cL_law 12 = .ok (.invokespecial 73, 3) := dk_183 0 73 (dk_at dksL_law_0 12 rfl rfl)
theorem dL_law_15 : decode cL_law 15 = .ok (.astore_n 2, 1) := dk_77 (dk_at dksL_law_0 15 rfl rfl)
theorem dL_law_16 : decode cL_law 16 = .ok (.iconst 1, 1) := dk_4 (dk_at dksL_law_0 16 rfl rfl)
theorem dL_law_17 : decode cL_law 17 = .ok (.newarray .long, 2) := dk_188_11 (dk_at dksL_law_0 17 rfl rfl)
theorem dL_law_19 : decode cL_law 19 = .ok (.astore_n 3, 1) := dk_78 (dk_at dksL_law_0 19 rfl rfl)
theorem dL_law_20 : decode cL_law 20 = .ok (.iconst 0, 1) := dk_3 (dk_at dksL_law_0 20 rfl rfl)
theorem dL_law_21 : decode cL_law 21 = .ok (.istore 4, 2) := dk_54 4 (dk_at dksL_law_0 21 rfl rfl)
theorem dL_law_23 : decode cL_law 23 = .ok (.iload 4, 2) := dk_21 4 (dk_at dksL_law_1 0 rfl rfl)
theorem dL_law_25 : decode cL_law 25 = .ok (.aload_n 0, 1) := dk_42 (dk_at dksL_law_1 2 rfl rfl)
theorem dL_law_26 : decode cL_law 26 = .ok (.arraylength, 1) := dk_190 (dk_at dksL_law_1 3 rfl rfl)
theorem dL_law_27 : decode cL_law 27 = .ok (.bipush 6, 2) := dk_16 6 (dk_at dksL_law_1 4 rfl rfl)
theorem dL_law_29 : decode cL_law 29 = .ok (.isub, 1) := dk_100 (dk_at dksL_law_1 6 rfl rfl)
theorem dL_law_30 : decode cL_law 30 = .ok (.if_icmp .gt 1357, 3) := dk_163 5 77 (dk_at dksL_law_1 7 rfl rfl)
theorem dL_law_33 : decode cL_law 33 = .ok (.aload_n 0, 1) := dk_42 (dk_at dksL_law_1 10 rfl rfl)
theorem dL_law_34 : decode cL_law 34 = .ok (.iload 4, 2) := dk_21 4 (dk_at dksL_law_1 11 rfl rfl)
theorem dL_law_36 : decode cL_law 36 = .ok (.iaload, 1) := dk_46 (dk_at dksL_law_1 13 rfl rfl)
theorem dL_law_37 : decode cL_law 37 = .ok (.bipush 15, 2) := dk_16 15 (dk_at dksL_law_1 14 rfl rfl)
theorem dL_law_39 : decode cL_law 39 = .ok (.iand, 1) := dk_126 (dk_at dksL_law_1 16 rfl rfl)
theorem dL_law_40 : decode cL_law 40 = .ok (.tableswitch 1341 0 15 #[80, 168, 300, 388, 468, 481, 494, 561, 617, 701, 796, 864, 964, 1031, 1099, 1242], 80) := by decide +kernel
theorem dL_law_120 : decode cL_law 120 = .ok (.aload_n 1, 1) := dk_43 (dk_at dksL_law_3 0 rfl rfl)
theorem dL_law_121 : decode cL_law 121 = .ok (.aload_n 0, 1) := dk_42 (dk_at dksL_law_3 1 rfl rfl)
theorem dL_law_122 : decode cL_law 122 = .ok (.iload 4, 2) := dk_21 4 (dk_at dksL_law_3 2 rfl rfl)
theorem dL_law_124 : decode cL_law 124 = .ok (.iconst 1, 1) := dk_4 (dk_at dksL_law_3 4 rfl rfl)
theorem dL_law_125 : decode cL_law 125 = .ok (.iadd, 1) := dk_96 (dk_at dksL_law_3 5 rfl rfl)
theorem dL_law_126 : decode cL_law 126 = .ok (.iaload, 1) := dk_46 (dk_at dksL_law_3 6 rfl rfl)
theorem dL_law_127 : decode cL_law 127 = .ok (.i2l, 1) := dk_133 (dk_at dksL_law_3 7 rfl rfl)
theorem dL_law_128 : decode cL_law 128 = .ok (.bipush 32, 2) := dk_16 32 (dk_at dksL_law_3 8 rfl rfl)
theorem dL_law_130 : decode cL_law 130 = .ok (.lshl, 1) := dk_121 (dk_at dksL_law_3 10 rfl rfl)
theorem dL_law_131 : decode cL_law 131 = .ok (.aload_n 0, 1) := dk_42 (dk_at dksL_law_3 11 rfl rfl)
theorem dL_law_132 : decode cL_law 132 = .ok (.iload 4, 2) := dk_21 4 (dk_at dksL_law_3 12 rfl rfl)
theorem dL_law_134 : decode cL_law 134 = .ok (.iconst 2, 1) := dk_5 (dk_at dksL_law_3 14 rfl rfl)
theorem dL_law_135 : decode cL_law 135 = .ok (.iadd, 1) := dk_96 (dk_at dksL_law_3 15 rfl rfl)
theorem dL_law_136 : decode cL_law 136 = .ok (.iaload, 1) := dk_46 (dk_at dksL_law_3 16 rfl rfl)
theorem dL_law_137 : decode cL_law 137 = .ok (.i2l, 1) := dk_133 (dk_at dksL_law_3 17 rfl rfl)
theorem dL_law_138 : decode cL_law 138 = .ok (.ldc2_w 74, 3) := dk_20 0 74 (dk_at dksL_law_3 18 rfl rfl)
theorem dL_law_141 : decode cL_law 141 = .ok (.land, 1) := dk_127 (dk_at dksL_law_3 21 rfl rfl)
theorem dL_law_142 : decode cL_law 142 = .ok (.lor, 1) := dk_129 (dk_at dksL_law_3 22 rfl rfl)
theorem dL_law_143 : decode cL_law 143 = .ok (.aload_n 3, 1) := dk_45 (dk_at dksL_law_3 23 rfl rfl)
theorem dL_law_144 : decode cL_law 144 = .ok (.invokestatic 76, 3) := dk_184 0 76 (dk_at dksL_law_4 0 rfl rfl)
theorem dL_law_147 : decode cL_law 147 = .ok (.istore 5, 2) := dk_54 5 (dk_at dksL_law_4 3 rfl rfl)
theorem dL_law_149 : decode cL_law 149 = .ok (.aload_n 2, 1) := dk_44 (dk_at dksL_law_4 5 rfl rfl)
theorem dL_law_150 : decode cL_law 150 = .ok (.aload_n 0, 1) := dk_42 (dk_at dksL_law_4 6 rfl rfl)
theorem dL_law_151 : decode cL_law 151 = .ok (.iload 4, 2) := dk_21 4 (dk_at dksL_law_4 7 rfl rfl)
theorem dL_law_153 : decode cL_law 153 = .ok (.iconst 1, 1) := dk_4 (dk_at dksL_law_4 9 rfl rfl)
theorem dL_law_154 : decode cL_law 154 = .ok (.iadd, 1) := dk_96 (dk_at dksL_law_4 10 rfl rfl)
theorem dL_law_155 : decode cL_law 155 = .ok (.iaload, 1) := dk_46 (dk_at dksL_law_4 11 rfl rfl)
theorem dL_law_156 : decode cL_law 156 = .ok (.i2l, 1) := dk_133 (dk_at dksL_law_4 12 rfl rfl)
theorem dL_law_157 : decode cL_law 157 = .ok (.bipush 32, 2) := dk_16 32 (dk_at dksL_law_4 13 rfl rfl)
theorem dL_law_159 : decode cL_law 159 = .ok (.lshl, 1) := dk_121 (dk_at dksL_law_4 15 rfl rfl)
theorem dL_law_160 : decode cL_law 160 = .ok (.aload_n 0, 1) := dk_42 (dk_at dksL_law_4 16 rfl rfl)
theorem dL_law_161 : decode cL_law 161 = .ok (.iload 4, 2) := dk_21 4 (dk_at dksL_law_4 17 rfl rfl)
theorem dL_law_163 : decode cL_law 163 = .ok (.iconst 2, 1) := dk_5 (dk_at dksL_law_4 19 rfl rfl)
theorem dL_law_164 : decode cL_law 164 = .ok (.iadd, 1) := dk_96 (dk_at dksL_law_4 20 rfl rfl)
theorem dL_law_165 : decode cL_law 165 = .ok (.iaload, 1) := dk_46 (dk_at dksL_law_4 21 rfl rfl)
theorem dL_law_166 : decode cL_law 166 = .ok (.i2l, 1) := dk_133 (dk_at dksL_law_4 22 rfl rfl)
theorem dL_law_167 : decode cL_law 167 = .ok (.ldc2_w 74, 3) := dk_20 0 74 (dk_at dksL_law_5 0 rfl rfl)
theorem dL_law_170 : decode cL_law 170 = .ok (.land, 1) := dk_127 (dk_at dksL_law_5 3 rfl rfl)
theorem dL_law_171 : decode cL_law 171 = .ok (.lor, 1) := dk_129 (dk_at dksL_law_5 4 rfl rfl)
theorem dL_law_172 : decode cL_law 172 = .ok (.invokevirtual 81, 3) := dk_182 0 81 (dk_at dksL_law_5 5 rfl rfl)
theorem dL_law_175 : decode cL_law 175 = .ok (.istore 6, 2) := dk_54 6 (dk_at dksL_law_5 8 rfl rfl)
theorem dL_law_177 : decode cL_law 177 = .ok (.aload_n 2, 1) := dk_44 (dk_at dksL_law_5 10 rfl rfl)
theorem dL_law_178 : decode cL_law 178 = .ok (.invokevirtual 82, 3) := dk_182 0 82 (dk_at dksL_law_5 11 rfl rfl)
theorem dL_law_181 : decode cL_law 181 = .ok (.iload 5, 2) := dk_21 5 (dk_at dksL_law_5 14 rfl rfl)
theorem dL_law_183 : decode cL_law 183 = .ok (.if_icmp .eq 5, 3) := dk_159 0 5 (dk_at dksL_law_5 16 rfl rfl)
theorem dL_law_186 : decode cL_law 186 = .ok (.iconst 0, 1) := dk_3 (dk_at dksL_law_5 19 rfl rfl)
theorem dL_law_187 : decode cL_law 187 = .ok (.ireturn, 1) := dk_172 (dk_at dksL_law_5 20 rfl rfl)
theorem dL_law_188 : decode cL_law 188 = .ok (.iload 5, 2) := dk_21 5 (dk_at dksL_law_5 21 rfl rfl)
theorem dL_law_190 : decode cL_law 190 = .ok (.ifCond .ne 15, 3) := dk_154 0 15 (dk_at dksL_law_6 0 rfl rfl)
theorem dL_law_193 : decode cL_law 193 = .ok (.aload_n 3, 1) := dk_45 (dk_at dksL_law_6 3 rfl rfl)
theorem dL_law_194 : decode cL_law 194 = .ok (.iconst 0, 1) := dk_3 (dk_at dksL_law_6 4 rfl rfl)
theorem dL_law_195 : decode cL_law 195 = .ok (.laload, 1) := dk_47 (dk_at dksL_law_6 5 rfl rfl)
theorem dL_law_196 : decode cL_law 196 = .ok (.iload 6, 2) := dk_21 6 (dk_at dksL_law_6 6 rfl rfl)
theorem dL_law_198 : decode cL_law 198 = .ok (.i2l, 1) := dk_133 (dk_at dksL_law_6 8 rfl rfl)
theorem dL_law_199 : decode cL_law 199 = .ok (.lcmp, 1) := dk_148 (dk_at dksL_law_6 9 rfl rfl)
theorem dL_law_200 : decode cL_law 200 = .ok (.ifCond .eq 5, 3) := dk_153 0 5 (dk_at dksL_law_6 10 rfl rfl)
theorem dL_law_203 : decode cL_law 203 = .ok (.iconst 0, 1) := dk_3 (dk_at dksL_law_6 13 rfl rfl)
theorem dL_law_204 : decode cL_law 204 = .ok (.ireturn, 1) := dk_172 (dk_at dksL_law_6 14 rfl rfl)
theorem dL_law_205 : decode cL_law 205 = .ok (.goto 1176, 3) := dk_167 4 152 (dk_at dksL_law_6 15 rfl rfl)
theorem dL_law_208 : decode cL_law 208 = .ok (.aload_n 1, 1) := dk_43 (dk_at dksL_law_6 18 rfl rfl)
theorem dL_law_209 : decode cL_law 209 = .ok (.aload_n 0, 1) := dk_42 (dk_at dksL_law_6 19 rfl rfl)
theorem dL_law_210 : decode cL_law 210 = .ok (.iload 4, 2) := dk_21 4 (dk_at dksL_law_6 20 rfl rfl)
theorem dL_law_212 : decode cL_law 212 = .ok (.iconst 1, 1) := dk_4 (dk_at dksL_law_6 22 rfl rfl)
theorem dL_law_213 : decode cL_law 213 = .ok (.iadd, 1) := dk_96 (dk_at dksL_law_6 23 rfl rfl)
theorem dL_law_214 : decode cL_law 214 = .ok (.iaload, 1) := dk_46 (dk_at dksL_law_7 0 rfl rfl)
theorem dL_law_215 : decode cL_law 215 = .ok (.i2l, 1) := dk_133 (dk_at dksL_law_7 1 rfl rfl)
theorem dL_law_216 : decode cL_law 216 = .ok (.bipush 32, 2) := dk_16 32 (dk_at dksL_law_7 2 rfl rfl)
theorem dL_law_218 : decode cL_law 218 = .ok (.lshl, 1) := dk_121 (dk_at dksL_law_7 4 rfl rfl)
theorem dL_law_219 : decode cL_law 219 = .ok (.aload_n 0, 1) := dk_42 (dk_at dksL_law_7 5 rfl rfl)
theorem dL_law_220 : decode cL_law 220 = .ok (.iload 4, 2) := dk_21 4 (dk_at dksL_law_7 6 rfl rfl)
theorem dL_law_222 : decode cL_law 222 = .ok (.iconst 2, 1) := dk_5 (dk_at dksL_law_7 8 rfl rfl)
theorem dL_law_223 : decode cL_law 223 = .ok (.iadd, 1) := dk_96 (dk_at dksL_law_7 9 rfl rfl)
theorem dL_law_224 : decode cL_law 224 = .ok (.iaload, 1) := dk_46 (dk_at dksL_law_7 10 rfl rfl)
theorem dL_law_225 : decode cL_law 225 = .ok (.i2l, 1) := dk_133 (dk_at dksL_law_7 11 rfl rfl)
theorem dL_law_226 : decode cL_law 226 = .ok (.ldc2_w 74, 3) := dk_20 0 74 (dk_at dksL_law_7 12 rfl rfl)
theorem dL_law_229 : decode cL_law 229 = .ok (.land, 1) := dk_127 (dk_at dksL_law_7 15 rfl rfl)
theorem dL_law_230 : decode cL_law 230 = .ok (.lor, 1) := dk_129 (dk_at dksL_law_7 16 rfl rfl)
theorem dL_law_231 : decode cL_law 231 = .ok (.aload_n 0, 1) := dk_42 (dk_at dksL_law_7 17 rfl rfl)
theorem dL_law_232 : decode cL_law 232 = .ok (.iload 4, 2) := dk_21 4 (dk_at dksL_law_7 18 rfl rfl)
theorem dL_law_234 : decode cL_law 234 = .ok (.iconst 3, 1) := dk_6 (dk_at dksL_law_7 20 rfl rfl)
theorem dL_law_235 : decode cL_law 235 = .ok (.iadd, 1) := dk_96 (dk_at dksL_law_7 21 rfl rfl)
theorem dL_law_236 : decode cL_law 236 = .ok (.iaload, 1) := dk_46 (dk_at dksL_law_7 22 rfl rfl)
theorem dL_law_237 : decode cL_law 237 = .ok (.i2l, 1) := dk_133 (dk_at dksL_law_7 23 rfl rfl)
theorem dL_law_238 : decode cL_law 238 = .ok (.bipush 32, 2) := dk_16 32 (dk_at dksL_law_8 0 rfl rfl)
theorem dL_law_240 : decode cL_law 240 = .ok (.lshl, 1) := dk_121 (dk_at dksL_law_8 2 rfl rfl)
theorem dL_law_241 : decode cL_law 241 = .ok (.aload_n 0, 1) := dk_42 (dk_at dksL_law_8 3 rfl rfl)
theorem dL_law_242 : decode cL_law 242 = .ok (.iload 4, 2) := dk_21 4 (dk_at dksL_law_8 4 rfl rfl)
theorem dL_law_244 : decode cL_law 244 = .ok (.iconst 4, 1) := dk_7 (dk_at dksL_law_8 6 rfl rfl)
theorem dL_law_245 : decode cL_law 245 = .ok (.iadd, 1) := dk_96 (dk_at dksL_law_8 7 rfl rfl)
theorem dL_law_246 : decode cL_law 246 = .ok (.iaload, 1) := dk_46 (dk_at dksL_law_8 8 rfl rfl)
theorem dL_law_247 : decode cL_law 247 = .ok (.i2l, 1) := dk_133 (dk_at dksL_law_8 9 rfl rfl)
theorem dL_law_248 : decode cL_law 248 = .ok (.ldc2_w 74, 3) := dk_20 0 74 (dk_at dksL_law_8 10 rfl rfl)
theorem dL_law_251 : decode cL_law 251 = .ok (.land, 1) := dk_127 (dk_at dksL_law_8 13 rfl rfl)
theorem dL_law_252 : decode cL_law 252 = .ok (.lor, 1) := dk_129 (dk_at dksL_law_8 14 rfl rfl)
theorem dL_law_253 : decode cL_law 253 = .ok (.aload_n 3, 1) := dk_45 (dk_at dksL_law_8 15 rfl rfl)
theorem dL_law_254 : decode cL_law 254 = .ok (.invokestatic 86, 3) := dk_184 0 86 (dk_at dksL_law_8 16 rfl rfl)
theorem dL_law_257 : decode cL_law 257 = .ok (.istore 5, 2) := dk_54 5 (dk_at dksL_law_8 19 rfl rfl)
theorem dL_law_259 : decode cL_law 259 = .ok (.aload_n 2, 1) := dk_44 (dk_at dksL_law_8 21 rfl rfl)
theorem dL_law_260 : decode cL_law 260 = .ok (.aload_n 0, 1) := dk_42 (dk_at dksL_law_8 22 rfl rfl)
theorem dL_law_261 : decode cL_law 261 = .ok (.iload 4, 2) := dk_21 4 (dk_at dksL_law_9 0 rfl rfl)
theorem dL_law_263 : decode cL_law 263 = .ok (.iconst 1, 1) := dk_4 (dk_at dksL_law_9 2 rfl rfl)
theorem dL_law_264 : decode cL_law 264 = .ok (.iadd, 1) := dk_96 (dk_at dksL_law_9 3 rfl rfl)
theorem dL_law_265 : decode cL_law 265 = .ok (.iaload, 1) := dk_46 (dk_at dksL_law_9 4 rfl rfl)
theorem dL_law_266 : decode cL_law 266 = .ok (.i2l, 1) := dk_133 (dk_at dksL_law_9 5 rfl rfl)
theorem dL_law_267 : decode cL_law 267 = .ok (.bipush 32, 2) := dk_16 32 (dk_at dksL_law_9 6 rfl rfl)
theorem dL_law_269 : decode cL_law 269 = .ok (.lshl, 1) := dk_121 (dk_at dksL_law_9 8 rfl rfl)
theorem dL_law_270 : decode cL_law 270 = .ok (.aload_n 0, 1) := dk_42 (dk_at dksL_law_9 9 rfl rfl)
theorem dL_law_271 : decode cL_law 271 = .ok (.iload 4, 2) := dk_21 4 (dk_at dksL_law_9 10 rfl rfl)
theorem dL_law_273 : decode cL_law 273 = .ok (.iconst 2, 1) := dk_5 (dk_at dksL_law_9 12 rfl rfl)
theorem dL_law_274 : decode cL_law 274 = .ok (.iadd, 1) := dk_96 (dk_at dksL_law_9 13 rfl rfl)
theorem dL_law_275 : decode cL_law 275 = .ok (.iaload, 1) := dk_46 (dk_at dksL_law_9 14 rfl rfl)
theorem dL_law_276 : decode cL_law 276 = .ok (.i2l, 1) := dk_133 (dk_at dksL_law_9 15 rfl rfl)
theorem dL_law_277 : decode cL_law 277 = .ok (.ldc2_w 74, 3) := dk_20 0 74 (dk_at dksL_law_9 16 rfl rfl)
theorem dL_law_280 : decode cL_law 280 = .ok (.land, 1) := dk_127 (dk_at dksL_law_9 19 rfl rfl)
theorem dL_law_281 : decode cL_law 281 = .ok (.lor, 1) := dk_129 (dk_at dksL_law_9 20 rfl rfl)
theorem dL_law_282 : decode cL_law 282 = .ok (.aload_n 0, 1) := dk_42 (dk_at dksL_law_9 21 rfl rfl)
theorem dL_law_283 : decode cL_law 283 = .ok (.iload 4, 2) := dk_21 4 (dk_at dksL_law_9 22 rfl rfl)
theorem dL_law_285 : decode cL_law 285 = .ok (.iconst 3, 1) := dk_6 (dk_at dksL_law_10 0 rfl rfl)
theorem dL_law_286 : decode cL_law 286 = .ok (.iadd, 1) := dk_96 (dk_at dksL_law_10 1 rfl rfl)
theorem dL_law_287 : decode cL_law 287 = .ok (.iaload, 1) := dk_46 (dk_at dksL_law_10 2 rfl rfl)
theorem dL_law_288 : decode cL_law 288 = .ok (.i2l, 1) := dk_133 (dk_at dksL_law_10 3 rfl rfl)
theorem dL_law_289 : decode cL_law 289 = .ok (.bipush 32, 2) := dk_16 32 (dk_at dksL_law_10 4 rfl rfl)
theorem dL_law_291 : decode cL_law 291 = .ok (.lshl, 1) := dk_121 (dk_at dksL_law_10 6 rfl rfl)
theorem dL_law_292 : decode cL_law 292 = .ok (.aload_n 0, 1) := dk_42 (dk_at dksL_law_10 7 rfl rfl)
theorem dL_law_293 : decode cL_law 293 = .ok (.iload 4, 2) := dk_21 4 (dk_at dksL_law_10 8 rfl rfl)
theorem dL_law_295 : decode cL_law 295 = .ok (.iconst 4, 1) := dk_7 (dk_at dksL_law_10 10 rfl rfl)
theorem dL_law_296 : decode cL_law 296 = .ok (.iadd, 1) := dk_96 (dk_at dksL_law_10 11 rfl rfl)
theorem dL_law_297 : decode cL_law 297 = .ok (.iaload, 1) := dk_46 (dk_at dksL_law_10 12 rfl rfl)
theorem dL_law_298 : decode cL_law 298 = .ok (.i2l, 1) := dk_133 (dk_at dksL_law_10 13 rfl rfl)
theorem dL_law_299 : decode cL_law 299 = .ok (.ldc2_w 74, 3) := dk_20 0 74 (dk_at dksL_law_10 14 rfl rfl)
theorem dL_law_302 : decode cL_law 302 = .ok (.land, 1) := dk_127 (dk_at dksL_law_10 17 rfl rfl)
theorem dL_law_303 : decode cL_law 303 = .ok (.lor, 1) := dk_129 (dk_at dksL_law_10 18 rfl rfl)
theorem dL_law_304 : decode cL_law 304 = .ok (.invokevirtual 89, 3) := dk_182 0 89 (dk_at dksL_law_10 19 rfl rfl)
theorem dL_law_307 : decode cL_law 307 = .ok (.istore 6, 2) := dk_54 6 (dk_at dksL_law_10 22 rfl rfl)
theorem dL_law_309 : decode cL_law 309 = .ok (.aload_n 2, 1) := dk_44 (dk_at dksL_law_11 0 rfl rfl)
theorem dL_law_310 : decode cL_law 310 = .ok (.invokevirtual 82, 3) := dk_182 0 82 (dk_at dksL_law_11 1 rfl rfl)
theorem dL_law_313 : decode cL_law 313 = .ok (.iload 5, 2) := dk_21 5 (dk_at dksL_law_11 4 rfl rfl)
theorem dL_law_315 : decode cL_law 315 = .ok (.if_icmp .eq 5, 3) := dk_159 0 5 (dk_at dksL_law_11 6 rfl rfl)
theorem dL_law_318 : decode cL_law 318 = .ok (.iconst 0, 1) := dk_3 (dk_at dksL_law_11 9 rfl rfl)
theorem dL_law_319 : decode cL_law 319 = .ok (.ireturn, 1) := dk_172 (dk_at dksL_law_11 10 rfl rfl)
theorem dL_law_320 : decode cL_law 320 = .ok (.iload 5, 2) := dk_21 5 (dk_at dksL_law_11 11 rfl rfl)
theorem dL_law_322 : decode cL_law 322 = .ok (.ifCond .ne 15, 3) := dk_154 0 15 (dk_at dksL_law_11 13 rfl rfl)
theorem dL_law_325 : decode cL_law 325 = .ok (.aload_n 3, 1) := dk_45 (dk_at dksL_law_11 16 rfl rfl)
theorem dL_law_326 : decode cL_law 326 = .ok (.iconst 0, 1) := dk_3 (dk_at dksL_law_11 17 rfl rfl)
theorem dL_law_327 : decode cL_law 327 = .ok (.laload, 1) := dk_47 (dk_at dksL_law_11 18 rfl rfl)
theorem dL_law_328 : decode cL_law 328 = .ok (.iload 6, 2) := dk_21 6 (dk_at dksL_law_11 19 rfl rfl)
theorem dL_law_330 : decode cL_law 330 = .ok (.i2l, 1) := dk_133 (dk_at dksL_law_11 21 rfl rfl)
theorem dL_law_331 : decode cL_law 331 = .ok (.lcmp, 1) := dk_148 (dk_at dksL_law_11 22 rfl rfl)
theorem dL_law_332 : decode cL_law 332 = .ok (.ifCond .eq 5, 3) := dk_153 0 5 (dk_at dksL_law_12 0 rfl rfl)
theorem dL_law_335 : decode cL_law 335 = .ok (.iconst 0, 1) := dk_3 (dk_at dksL_law_12 3 rfl rfl)
theorem dL_law_336 : decode cL_law 336 = .ok (.ireturn, 1) := dk_172 (dk_at dksL_law_12 4 rfl rfl)
theorem dL_law_337 : decode cL_law 337 = .ok (.goto 1044, 3) := dk_167 4 20 (dk_at dksL_law_12 5 rfl rfl)
theorem dL_law_340 : decode cL_law 340 = .ok (.aload_n 1, 1) := dk_43 (dk_at dksL_law_12 8 rfl rfl)
theorem dL_law_341 : decode cL_law 341 = .ok (.aload_n 0, 1) := dk_42 (dk_at dksL_law_12 9 rfl rfl)
theorem dL_law_342 : decode cL_law 342 = .ok (.iload 4, 2) := dk_21 4 (dk_at dksL_law_12 10 rfl rfl)
theorem dL_law_344 : decode cL_law 344 = .ok (.iconst 1, 1) := dk_4 (dk_at dksL_law_12 12 rfl rfl)
theorem dL_law_345 : decode cL_law 345 = .ok (.iadd, 1) := dk_96 (dk_at dksL_law_12 13 rfl rfl)
theorem dL_law_346 : decode cL_law 346 = .ok (.iaload, 1) := dk_46 (dk_at dksL_law_12 14 rfl rfl)
theorem dL_law_347 : decode cL_law 347 = .ok (.i2l, 1) := dk_133 (dk_at dksL_law_12 15 rfl rfl)
theorem dL_law_348 : decode cL_law 348 = .ok (.bipush 32, 2) := dk_16 32 (dk_at dksL_law_12 16 rfl rfl)
theorem dL_law_350 : decode cL_law 350 = .ok (.lshl, 1) := dk_121 (dk_at dksL_law_12 18 rfl rfl)
theorem dL_law_351 : decode cL_law 351 = .ok (.aload_n 0, 1) := dk_42 (dk_at dksL_law_12 19 rfl rfl)
theorem dL_law_352 : decode cL_law 352 = .ok (.iload 4, 2) := dk_21 4 (dk_at dksL_law_12 20 rfl rfl)
theorem dL_law_354 : decode cL_law 354 = .ok (.iconst 2, 1) := dk_5 (dk_at dksL_law_12 22 rfl rfl)
theorem dL_law_355 : decode cL_law 355 = .ok (.iadd, 1) := dk_96 (dk_at dksL_law_12 23 rfl rfl)
theorem dL_law_356 : decode cL_law 356 = .ok (.iaload, 1) := dk_46 (dk_at dksL_law_13 0 rfl rfl)
theorem dL_law_357 : decode cL_law 357 = .ok (.i2l, 1) := dk_133 (dk_at dksL_law_13 1 rfl rfl)
theorem dL_law_358 : decode cL_law 358 = .ok (.ldc2_w 74, 3) := dk_20 0 74 (dk_at dksL_law_13 2 rfl rfl)
theorem dL_law_361 : decode cL_law 361 = .ok (.land, 1) := dk_127 (dk_at dksL_law_13 5 rfl rfl)
theorem dL_law_362 : decode cL_law 362 = .ok (.lor, 1) := dk_129 (dk_at dksL_law_13 6 rfl rfl)
theorem dL_law_363 : decode cL_law 363 = .ok (.aload_n 3, 1) := dk_45 (dk_at dksL_law_13 7 rfl rfl)
theorem dL_law_364 : decode cL_law 364 = .ok (.invokestatic 90, 3) := dk_184 0 90 (dk_at dksL_law_13 8 rfl rfl)
theorem dL_law_367 : decode cL_law 367 = .ok (.istore 5, 2) := dk_54 5 (dk_at dksL_law_13 11 rfl rfl)
theorem dL_law_369 : decode cL_law 369 = .ok (.aload_n 2, 1) := dk_44 (dk_at dksL_law_13 13 rfl rfl)
theorem dL_law_370 : decode cL_law 370 = .ok (.aload_n 0, 1) := dk_42 (dk_at dksL_law_13 14 rfl rfl)
theorem dL_law_371 : decode cL_law 371 = .ok (.iload 4, 2) := dk_21 4 (dk_at dksL_law_13 15 rfl rfl)
theorem dL_law_373 : decode cL_law 373 = .ok (.iconst 1, 1) := dk_4 (dk_at dksL_law_13 17 rfl rfl)
theorem dL_law_374 : decode cL_law 374 = .ok (.iadd, 1) := dk_96 (dk_at dksL_law_13 18 rfl rfl)
theorem dL_law_375 : decode cL_law 375 = .ok (.iaload, 1) := dk_46 (dk_at dksL_law_13 19 rfl rfl)
theorem dL_law_376 : decode cL_law 376 = .ok (.i2l, 1) := dk_133 (dk_at dksL_law_13 20 rfl rfl)
theorem dL_law_377 : decode cL_law 377 = .ok (.bipush 32, 2) := dk_16 32 (dk_at dksL_law_13 21 rfl rfl)
theorem dL_law_379 : decode cL_law 379 = .ok (.lshl, 1) := dk_121 (dk_at dksL_law_13 23 rfl rfl)
theorem dL_law_380 : decode cL_law 380 = .ok (.aload_n 0, 1) := dk_42 (dk_at dksL_law_14 0 rfl rfl)
theorem dL_law_381 : decode cL_law 381 = .ok (.iload 4, 2) := dk_21 4 (dk_at dksL_law_14 1 rfl rfl)
theorem dL_law_383 : decode cL_law 383 = .ok (.iconst 2, 1) := dk_5 (dk_at dksL_law_14 3 rfl rfl)
theorem dL_law_384 : decode cL_law 384 = .ok (.iadd, 1) := dk_96 (dk_at dksL_law_14 4 rfl rfl)
theorem dL_law_385 : decode cL_law 385 = .ok (.iaload, 1) := dk_46 (dk_at dksL_law_14 5 rfl rfl)
theorem dL_law_386 : decode cL_law 386 = .ok (.i2l, 1) := dk_133 (dk_at dksL_law_14 6 rfl rfl)
theorem dL_law_387 : decode cL_law 387 = .ok (.ldc2_w 74, 3) := dk_20 0 74 (dk_at dksL_law_14 7 rfl rfl)
theorem dL_law_390 : decode cL_law 390 = .ok (.land, 1) := dk_127 (dk_at dksL_law_14 10 rfl rfl)
theorem dL_law_391 : decode cL_law 391 = .ok (.lor, 1) := dk_129 (dk_at dksL_law_14 11 rfl rfl)
theorem dL_law_392 : decode cL_law 392 = .ok (.invokevirtual 92, 3) := dk_182 0 92 (dk_at dksL_law_14 12 rfl rfl)
theorem dL_law_395 : decode cL_law 395 = .ok (.istore 6, 2) := dk_54 6 (dk_at dksL_law_14 15 rfl rfl)
theorem dL_law_397 : decode cL_law 397 = .ok (.aload_n 2, 1) := dk_44 (dk_at dksL_law_14 17 rfl rfl)
theorem dL_law_398 : decode cL_law 398 = .ok (.invokevirtual 82, 3) := dk_182 0 82 (dk_at dksL_law_14 18 rfl rfl)
theorem dL_law_401 : decode cL_law 401 = .ok (.iload 5, 2) := dk_21 5 (dk_at dksL_law_14 21 rfl rfl)
theorem dL_law_403 : decode cL_law 403 = .ok (.if_icmp .eq 5, 3) := dk_159 0 5 (dk_at dksL_law_15 0 rfl rfl)
theorem dL_law_406 : decode cL_law 406 = .ok (.iconst 0, 1) := dk_3 (dk_at dksL_law_15 3 rfl rfl)
theorem dL_law_407 : decode cL_law 407 = .ok (.ireturn, 1) := dk_172 (dk_at dksL_law_15 4 rfl rfl)
theorem dL_law_408 : decode cL_law 408 = .ok (.iload 5, 2) := dk_21 5 (dk_at dksL_law_15 5 rfl rfl)
theorem dL_law_410 : decode cL_law 410 = .ok (.ifCond .ne 15, 3) := dk_154 0 15 (dk_at dksL_law_15 7 rfl rfl)
theorem dL_law_413 : decode cL_law 413 = .ok (.aload_n 3, 1) := dk_45 (dk_at dksL_law_15 10 rfl rfl)
theorem dL_law_414 : decode cL_law 414 = .ok (.iconst 0, 1) := dk_3 (dk_at dksL_law_15 11 rfl rfl)
theorem dL_law_415 : decode cL_law 415 = .ok (.laload, 1) := dk_47 (dk_at dksL_law_15 12 rfl rfl)
theorem dL_law_416 : decode cL_law 416 = .ok (.iload 6, 2) := dk_21 6 (dk_at dksL_law_15 13 rfl rfl)
theorem dL_law_418 : decode cL_law 418 = .ok (.i2l, 1) := dk_133 (dk_at dksL_law_15 15 rfl rfl)
theorem dL_law_419 : decode cL_law 419 = .ok (.lcmp, 1) := dk_148 (dk_at dksL_law_15 16 rfl rfl)
theorem dL_law_420 : decode cL_law 420 = .ok (.ifCond .eq 5, 3) := dk_153 0 5 (dk_at dksL_law_15 17 rfl rfl)
theorem dL_law_423 : decode cL_law 423 = .ok (.iconst 0, 1) := dk_3 (dk_at dksL_law_15 20 rfl rfl)
theorem dL_law_424 : decode cL_law 424 = .ok (.ireturn, 1) := dk_172 (dk_at dksL_law_15 21 rfl rfl)
theorem dL_law_425 : decode cL_law 425 = .ok (.goto 956, 3) := dk_167 3 188 (dk_at dksL_law_16 0 rfl rfl)
theorem dL_law_428 : decode cL_law 428 = .ok (.aload_n 1, 1) := dk_43 (dk_at dksL_law_16 3 rfl rfl)
theorem dL_law_429 : decode cL_law 429 = .ok (.aload_n 0, 1) := dk_42 (dk_at dksL_law_16 4 rfl rfl)
theorem dL_law_430 : decode cL_law 430 = .ok (.iload 4, 2) := dk_21 4 (dk_at dksL_law_16 5 rfl rfl)
theorem dL_law_432 : decode cL_law 432 = .ok (.iconst 1, 1) := dk_4 (dk_at dksL_law_16 7 rfl rfl)
theorem dL_law_433 : decode cL_law 433 = .ok (.iadd, 1) := dk_96 (dk_at dksL_law_16 8 rfl rfl)
theorem dL_law_434 : decode cL_law 434 = .ok (.iaload, 1) := dk_46 (dk_at dksL_law_16 9 rfl rfl)
theorem dL_law_435 : decode cL_law 435 = .ok (.aload_n 0, 1) := dk_42 (dk_at dksL_law_16 10 rfl rfl)
theorem dL_law_436 : decode cL_law 436 = .ok (.iload 4, 2) := dk_21 4 (dk_at dksL_law_16 11 rfl rfl)
theorem dL_law_438 : decode cL_law 438 = .ok (.iconst 2, 1) := dk_5 (dk_at dksL_law_16 13 rfl rfl)
theorem dL_law_439 : decode cL_law 439 = .ok (.iadd, 1) := dk_96 (dk_at dksL_law_16 14 rfl rfl)
theorem dL_law_440 : decode cL_law 440 = .ok (.iaload, 1) := dk_46 (dk_at dksL_law_16 15 rfl rfl)
theorem dL_law_441 : decode cL_law 441 = .ok (.aload_n 0, 1) := dk_42 (dk_at dksL_law_16 16 rfl rfl)
theorem dL_law_442 : decode cL_law 442 = .ok (.iload 4, 2) := dk_21 4 (dk_at dksL_law_16 17 rfl rfl)
theorem dL_law_444 : decode cL_law 444 = .ok (.iconst 3, 1) := dk_6 (dk_at dksL_law_16 19 rfl rfl)
theorem dL_law_445 : decode cL_law 445 = .ok (.iadd, 1) := dk_96 (dk_at dksL_law_16 20 rfl rfl)
theorem dL_law_446 : decode cL_law 446 = .ok (.iaload, 1) := dk_46 (dk_at dksL_law_16 21 rfl rfl)
theorem dL_law_447 : decode cL_law 447 = .ok (.aload_n 3, 1) := dk_45 (dk_at dksL_law_16 22 rfl rfl)
theorem dL_law_448 : decode cL_law 448 = .ok (.invokestatic 93, 3) := dk_184 0 93 (dk_at dksL_law_17 0 rfl rfl)
theorem dL_law_451 : decode cL_law 451 = .ok (.istore 5, 2) := dk_54 5 (dk_at dksL_law_17 3 rfl rfl)
theorem dL_law_453 : decode cL_law 453 = .ok (.aload_n 2, 1) := dk_44 (dk_at dksL_law_17 5 rfl rfl)
theorem dL_law_454 : decode cL_law 454 = .ok (.aload_n 0, 1) := dk_42 (dk_at dksL_law_17 6 rfl rfl)
theorem dL_law_455 : decode cL_law 455 = .ok (.iload 4, 2) := dk_21 4 (dk_at dksL_law_17 7 rfl rfl)
theorem dL_law_457 : decode cL_law 457 = .ok (.iconst 1, 1) := dk_4 (dk_at dksL_law_17 9 rfl rfl)
theorem dL_law_458 : decode cL_law 458 = .ok (.iadd, 1) := dk_96 (dk_at dksL_law_17 10 rfl rfl)
theorem dL_law_459 : decode cL_law 459 = .ok (.iaload, 1) := dk_46 (dk_at dksL_law_17 11 rfl rfl)
theorem dL_law_460 : decode cL_law 460 = .ok (.aload_n 0, 1) := dk_42 (dk_at dksL_law_17 12 rfl rfl)
theorem dL_law_461 : decode cL_law 461 = .ok (.iload 4, 2) := dk_21 4 (dk_at dksL_law_17 13 rfl rfl)
theorem dL_law_463 : decode cL_law 463 = .ok (.iconst 2, 1) := dk_5 (dk_at dksL_law_17 15 rfl rfl)
theorem dL_law_464 : decode cL_law 464 = .ok (.iadd, 1) := dk_96 (dk_at dksL_law_17 16 rfl rfl)
theorem dL_law_465 : decode cL_law 465 = .ok (.iaload, 1) := dk_46 (dk_at dksL_law_17 17 rfl rfl)
theorem dL_law_466 : decode cL_law 466 = .ok (.aload_n 0, 1) := dk_42 (dk_at dksL_law_17 18 rfl rfl)
theorem dL_law_467 : decode cL_law 467 = .ok (.iload 4, 2) := dk_21 4 (dk_at dksL_law_17 19 rfl rfl)
theorem dL_law_469 : decode cL_law 469 = .ok (.iconst 3, 1) := dk_6 (dk_at dksL_law_17 21 rfl rfl)
theorem dL_law_470 : decode cL_law 470 = .ok (.iadd, 1) := dk_96 (dk_at dksL_law_17 22 rfl rfl)
theorem dL_law_471 : decode cL_law 471 = .ok (.iaload, 1) := dk_46 (dk_at dksL_law_17 23 rfl rfl)
theorem dL_law_472 : decode cL_law 472 = .ok (.invokevirtual 96, 3) := dk_182 0 96 (dk_at dksL_law_18 0 rfl rfl)
theorem dL_law_475 : decode cL_law 475 = .ok (.istore 6, 2) := dk_54 6 (dk_at dksL_law_18 3 rfl rfl)
theorem dL_law_477 : decode cL_law 477 = .ok (.aload_n 2, 1) := dk_44 (dk_at dksL_law_18 5 rfl rfl)
theorem dL_law_478 : decode cL_law 478 = .ok (.invokevirtual 82, 3) := dk_182 0 82 (dk_at dksL_law_18 6 rfl rfl)
theorem dL_law_481 : decode cL_law 481 = .ok (.iload 5, 2) := dk_21 5 (dk_at dksL_law_18 9 rfl rfl)
theorem dL_law_483 : decode cL_law 483 = .ok (.if_icmp .eq 5, 3) := dk_159 0 5 (dk_at dksL_law_18 11 rfl rfl)
theorem dL_law_486 : decode cL_law 486 = .ok (.iconst 0, 1) := dk_3 (dk_at dksL_law_18 14 rfl rfl)
theorem dL_law_487 : decode cL_law 487 = .ok (.ireturn, 1) := dk_172 (dk_at dksL_law_18 15 rfl rfl)
theorem dL_law_488 : decode cL_law 488 = .ok (.iload 5, 2) := dk_21 5 (dk_at dksL_law_18 16 rfl rfl)
theorem dL_law_490 : decode cL_law 490 = .ok (.ifCond .ne 15, 3) := dk_154 0 15 (dk_at dksL_law_18 18 rfl rfl)
theorem dL_law_493 : decode cL_law 493 = .ok (.aload_n 3, 1) := dk_45 (dk_at dksL_law_18 21 rfl rfl)
theorem dL_law_494 : decode cL_law 494 = .ok (.iconst 0, 1) := dk_3 (dk_at dksL_law_18 22 rfl rfl)
theorem dL_law_495 : decode cL_law 495 = .ok (.laload, 1) := dk_47 (dk_at dksL_law_18 23 rfl rfl)
theorem dL_law_496 : decode cL_law 496 = .ok (.iload 6, 2) := dk_21 6 (dk_at dksL_law_19 0 rfl rfl)
theorem dL_law_498 : decode cL_law 498 = .ok (.i2l, 1) := dk_133 (dk_at dksL_law_19 2 rfl rfl)
theorem dL_law_499 : decode cL_law 499 = .ok (.lcmp, 1) := dk_148 (dk_at dksL_law_19 3 rfl rfl)
theorem dL_law_500 : decode cL_law 500 = .ok (.ifCond .eq 5, 3) := dk_153 0 5 (dk_at dksL_law_19 4 rfl rfl)
theorem dL_law_503 : decode cL_law 503 = .ok (.iconst 0, 1) := dk_3 (dk_at dksL_law_19 7 rfl rfl)
theorem dL_law_504 : decode cL_law 504 = .ok (.ireturn, 1) := dk_172 (dk_at dksL_law_19 8 rfl rfl)
theorem dL_law_505 : decode cL_law 505 = .ok (.goto 876, 3) := dk_167 3 108 (dk_at dksL_law_19 9 rfl rfl)
theorem dL_law_508 : decode cL_law 508 = .ok (.aload_n 1, 1) := dk_43 (dk_at dksL_law_19 12 rfl rfl)
theorem dL_law_509 : decode cL_law 509 = .ok (.invokevirtual 97, 3) := dk_182 0 97 (dk_at dksL_law_19 13 rfl rfl)
theorem dL_law_512 : decode cL_law 512 = .ok (.aload_n 2, 1) := dk_44 (dk_at dksL_law_19 16 rfl rfl)
theorem dL_law_513 : decode cL_law 513 = .ok (.invokevirtual 100, 3) := dk_182 0 100 (dk_at dksL_law_19 17 rfl rfl)
theorem dL_law_516 : decode cL_law 516 = .ok (.if_icmp .eq 865, 3) := dk_159 3 97 (dk_at dksL_law_19 20 rfl rfl)
theorem dL_law_519 : decode cL_law 519 = .ok (.iconst 0, 1) := dk_3 (dk_at dksL_law_19 23 rfl rfl)
theorem dL_law_520 : decode cL_law 520 = .ok (.ireturn, 1) := dk_172 (dk_at dksL_law_20 0 rfl rfl)
theorem dL_law_521 : decode cL_law 521 = .ok (.aload_n 1, 1) := dk_43 (dk_at dksL_law_20 1 rfl rfl)
theorem dL_law_522 : decode cL_law 522 = .ok (.invokevirtual 101, 3) := dk_182 0 101 (dk_at dksL_law_20 2 rfl rfl)
theorem dL_law_525 : decode cL_law 525 = .ok (.aload_n 2, 1) := dk_44 (dk_at dksL_law_20 5 rfl rfl)
theorem dL_law_526 : decode cL_law 526 = .ok (.invokevirtual 104, 3) := dk_182 0 104 (dk_at dksL_law_20 6 rfl rfl)
theorem dL_law_529 : decode cL_law 529 = .ok (.if_icmp .eq 852, 3) := dk_159 3 84 (dk_at dksL_law_20 9 rfl rfl)
theorem dL_law_532 : decode cL_law 532 = .ok (.iconst 0, 1) := dk_3 (dk_at dksL_law_20 12 rfl rfl)
theorem dL_law_533 : decode cL_law 533 = .ok (.ireturn, 1) := dk_172 (dk_at dksL_law_20 13 rfl rfl)
theorem dL_law_534 : decode cL_law 534 = .ok (.aload_n 1, 1) := dk_43 (dk_at dksL_law_20 14 rfl rfl)
theorem dL_law_535 : decode cL_law 535 = .ok (.aload_n 0, 1) := dk_42 (dk_at dksL_law_20 15 rfl rfl)
theorem dL_law_536 : decode cL_law 536 = .ok (.iload 4, 2) := dk_21 4 (dk_at dksL_law_20 16 rfl rfl)
theorem dL_law_538 : decode cL_law 538 = .ok (.iconst 1, 1) := dk_4 (dk_at dksL_law_20 18 rfl rfl)
theorem dL_law_539 : decode cL_law 539 = .ok (.iadd, 1) := dk_96 (dk_at dksL_law_20 19 rfl rfl)
theorem dL_law_540 : decode cL_law 540 = .ok (.iaload, 1) := dk_46 (dk_at dksL_law_20 20 rfl rfl)
theorem dL_law_541 : decode cL_law 541 = .ok (.aload_n 0, 1) := dk_42 (dk_at dksL_law_20 21 rfl rfl)
theorem dL_law_542 : decode cL_law 542 = .ok (.iload 4, 2) := dk_21 4 (dk_at dksL_law_20 22 rfl rfl)
theorem dL_law_544 : decode cL_law 544 = .ok (.iconst 2, 1) := dk_5 (dk_at dksL_law_21 0 rfl rfl)
theorem dL_law_545 : decode cL_law 545 = .ok (.iadd, 1) := dk_96 (dk_at dksL_law_21 1 rfl rfl)
theorem dL_law_546 : decode cL_law 546 = .ok (.iaload, 1) := dk_46 (dk_at dksL_law_21 2 rfl rfl)
theorem dL_law_547 : decode cL_law 547 = .ok (.aload_n 3, 1) := dk_45 (dk_at dksL_law_21 3 rfl rfl)
theorem dL_law_548 : decode cL_law 548 = .ok (.invokestatic 105, 3) := dk_184 0 105 (dk_at dksL_law_21 4 rfl rfl)
theorem dL_law_551 : decode cL_law 551 = .ok (.istore 5, 2) := dk_54 5 (dk_at dksL_law_21 7 rfl rfl)
theorem dL_law_553 : decode cL_law 553 = .ok (.aload_n 2, 1) := dk_44 (dk_at dksL_law_21 9 rfl rfl)
theorem dL_law_554 : decode cL_law 554 = .ok (.aload_n 0, 1) := dk_42 (dk_at dksL_law_21 10 rfl rfl)
theorem dL_law_555 : decode cL_law 555 = .ok (.iload 4, 2) := dk_21 4 (dk_at dksL_law_21 11 rfl rfl)
theorem dL_law_557 : decode cL_law 557 = .ok (.iconst 1, 1) := dk_4 (dk_at dksL_law_21 13 rfl rfl)
theorem dL_law_558 : decode cL_law 558 = .ok (.iadd, 1) := dk_96 (dk_at dksL_law_21 14 rfl rfl)
theorem dL_law_559 : decode cL_law 559 = .ok (.iaload, 1) := dk_46 (dk_at dksL_law_21 15 rfl rfl)
theorem dL_law_560 : decode cL_law 560 = .ok (.aload_n 0, 1) := dk_42 (dk_at dksL_law_21 16 rfl rfl)
theorem dL_law_561 : decode cL_law 561 = .ok (.iload 4, 2) := dk_21 4 (dk_at dksL_law_21 17 rfl rfl)
theorem dL_law_563 : decode cL_law 563 = .ok (.iconst 2, 1) := dk_5 (dk_at dksL_law_21 19 rfl rfl)
theorem dL_law_564 : decode cL_law 564 = .ok (.iadd, 1) := dk_96 (dk_at dksL_law_21 20 rfl rfl)
theorem dL_law_565 : decode cL_law 565 = .ok (.iaload, 1) := dk_46 (dk_at dksL_law_21 21 rfl rfl)
theorem dL_law_566 : decode cL_law 566 = .ok (.invokevirtual 108, 3) := dk_182 0 108 (dk_at dksL_law_22 0 rfl rfl)
theorem dL_law_569 : decode cL_law 569 = .ok (.lstore 6, 2) := dk_55 6 (dk_at dksL_law_22 3 rfl rfl)
theorem dL_law_571 : decode cL_law 571 = .ok (.aload_n 2, 1) := dk_44 (dk_at dksL_law_22 5 rfl rfl)
theorem dL_law_572 : decode cL_law 572 = .ok (.invokevirtual 82, 3) := dk_182 0 82 (dk_at dksL_law_22 6 rfl rfl)
theorem dL_law_575 : decode cL_law 575 = .ok (.iload 5, 2) := dk_21 5 (dk_at dksL_law_22 9 rfl rfl)
theorem dL_law_577 : decode cL_law 577 = .ok (.if_icmp .eq 5, 3) := dk_159 0 5 (dk_at dksL_law_22 11 rfl rfl)
theorem dL_law_580 : decode cL_law 580 = .ok (.iconst 0, 1) := dk_3 (dk_at dksL_law_22 14 rfl rfl)
theorem dL_law_581 : decode cL_law 581 = .ok (.ireturn, 1) := dk_172 (dk_at dksL_law_22 15 rfl rfl)
theorem dL_law_582 : decode cL_law 582 = .ok (.iload 5, 2) := dk_21 5 (dk_at dksL_law_22 16 rfl rfl)
theorem dL_law_584 : decode cL_law 584 = .ok (.ifCond .ne 14, 3) := dk_154 0 14 (dk_at dksL_law_22 18 rfl rfl)
theorem dL_law_587 : decode cL_law 587 = .ok (.aload_n 3, 1) := dk_45 (dk_at dksL_law_22 21 rfl rfl)
theorem dL_law_588 : decode cL_law 588 = .ok (.iconst 0, 1) := dk_3 (dk_at dksL_law_22 22 rfl rfl)
theorem dL_law_589 : decode cL_law 589 = .ok (.laload, 1) := dk_47 (dk_at dksL_law_22 23 rfl rfl)
theorem dL_law_590 : decode cL_law 590 = .ok (.lload 6, 2) := dk_22 6 (dk_at dksL_law_23 0 rfl rfl)
theorem dL_law_592 : decode cL_law 592 = .ok (.lcmp, 1) := dk_148 (dk_at dksL_law_23 2 rfl rfl)
theorem dL_law_593 : decode cL_law 593 = .ok (.ifCond .eq 5, 3) := dk_153 0 5 (dk_at dksL_law_23 3 rfl rfl)
theorem dL_law_596 : decode cL_law 596 = .ok (.iconst 0, 1) := dk_3 (dk_at dksL_law_23 6 rfl rfl)
theorem dL_law_597 : decode cL_law 597 = .ok (.ireturn, 1) := dk_172 (dk_at dksL_law_23 7 rfl rfl)
theorem dL_law_598 : decode cL_law 598 = .ok (.goto 783, 3) := dk_167 3 15 (dk_at dksL_law_23 8 rfl rfl)
theorem dL_law_601 : decode cL_law 601 = .ok (.aload_n 1, 1) := dk_43 (dk_at dksL_law_23 11 rfl rfl)
theorem dL_law_602 : decode cL_law 602 = .ok (.aload_n 0, 1) := dk_42 (dk_at dksL_law_23 12 rfl rfl)
theorem dL_law_603 : decode cL_law 603 = .ok (.iload 4, 2) := dk_21 4 (dk_at dksL_law_23 13 rfl rfl)
theorem dL_law_605 : decode cL_law 605 = .ok (.iconst 1, 1) := dk_4 (dk_at dksL_law_23 15 rfl rfl)
theorem dL_law_606 : decode cL_law 606 = .ok (.iadd, 1) := dk_96 (dk_at dksL_law_23 16 rfl rfl)
theorem dL_law_607 : decode cL_law 607 = .ok (.iaload, 1) := dk_46 (dk_at dksL_law_23 17 rfl rfl)
theorem dL_law_608 : decode cL_law 608 = .ok (.aload_n 3, 1) := dk_45 (dk_at dksL_law_23 18 rfl rfl)
theorem dL_law_609 : decode cL_law 609 = .ok (.invokestatic 109, 3) := dk_184 0 109 (dk_at dksL_law_23 19 rfl rfl)
theorem dL_law_612 : decode cL_law 612 = .ok (.istore 5, 2) := dk_54 5 (dk_at dksL_law_23 22 rfl rfl)
theorem dL_law_614 : decode cL_law 614 = .ok (.aload_n 2, 1) := dk_44 (dk_at dksL_law_24 0 rfl rfl)
theorem dL_law_615 : decode cL_law 615 = .ok (.aload_n 0, 1) := dk_42 (dk_at dksL_law_24 1 rfl rfl)
theorem dL_law_616 : decode cL_law 616 = .ok (.iload 4, 2) := dk_21 4 (dk_at dksL_law_24 2 rfl rfl)
theorem dL_law_618 : decode cL_law 618 = .ok (.iconst 1, 1) := dk_4 (dk_at dksL_law_24 4 rfl rfl)
theorem dL_law_619 : decode cL_law 619 = .ok (.iadd, 1) := dk_96 (dk_at dksL_law_24 5 rfl rfl)
theorem dL_law_620 : decode cL_law 620 = .ok (.iaload, 1) := dk_46 (dk_at dksL_law_24 6 rfl rfl)
theorem dL_law_621 : decode cL_law 621 = .ok (.invokevirtual 112, 3) := dk_182 0 112 (dk_at dksL_law_24 7 rfl rfl)
theorem dL_law_624 : decode cL_law 624 = .ok (.istore 6, 2) := dk_54 6 (dk_at dksL_law_24 10 rfl rfl)
theorem dL_law_626 : decode cL_law 626 = .ok (.aload_n 2, 1) := dk_44 (dk_at dksL_law_24 12 rfl rfl)
theorem dL_law_627 : decode cL_law 627 = .ok (.invokevirtual 82, 3) := dk_182 0 82 (dk_at dksL_law_24 13 rfl rfl)
theorem dL_law_630 : decode cL_law 630 = .ok (.iload 5, 2) := dk_21 5 (dk_at dksL_law_24 16 rfl rfl)
theorem dL_law_632 : decode cL_law 632 = .ok (.if_icmp .eq 5, 3) := dk_159 0 5 (dk_at dksL_law_24 18 rfl rfl)
theorem dL_law_635 : decode cL_law 635 = .ok (.iconst 0, 1) := dk_3 (dk_at dksL_law_24 21 rfl rfl)
theorem dL_law_636 : decode cL_law 636 = .ok (.ireturn, 1) := dk_172 (dk_at dksL_law_24 22 rfl rfl)
theorem dL_law_637 : decode cL_law 637 = .ok (.iload 5, 2) := dk_21 5 (dk_at dksL_law_25 0 rfl rfl)
theorem dL_law_639 : decode cL_law 639 = .ok (.ifCond .ne 15, 3) := dk_154 0 15 (dk_at dksL_law_25 2 rfl rfl)
theorem dL_law_642 : decode cL_law 642 = .ok (.aload_n 3, 1) := dk_45 (dk_at dksL_law_25 5 rfl rfl)
theorem dL_law_643 : decode cL_law 643 = .ok (.iconst 0, 1) := dk_3 (dk_at dksL_law_25 6 rfl rfl)
theorem dL_law_644 : decode cL_law 644 = .ok (.laload, 1) := dk_47 (dk_at dksL_law_25 7 rfl rfl)
theorem dL_law_645 : decode cL_law 645 = .ok (.iload 6, 2) := dk_21 6 (dk_at dksL_law_25 8 rfl rfl)
theorem dL_law_647 : decode cL_law 647 = .ok (.i2l, 1) := dk_133 (dk_at dksL_law_25 10 rfl rfl)
theorem dL_law_648 : decode cL_law 648 = .ok (.lcmp, 1) := dk_148 (dk_at dksL_law_25 11 rfl rfl)
theorem dL_law_649 : decode cL_law 649 = .ok (.ifCond .eq 5, 3) := dk_153 0 5 (dk_at dksL_law_25 12 rfl rfl)
theorem dL_law_652 : decode cL_law 652 = .ok (.iconst 0, 1) := dk_3 (dk_at dksL_law_25 15 rfl rfl)
theorem dL_law_653 : decode cL_law 653 = .ok (.ireturn, 1) := dk_172 (dk_at dksL_law_25 16 rfl rfl)
theorem dL_law_654 : decode cL_law 654 = .ok (.goto 727, 3) := dk_167 2 215 (dk_at dksL_law_25 17 rfl rfl)
theorem dL_law_657 : decode cL_law 657 = .ok (.aload_n 1, 1) := dk_43 (dk_at dksL_law_25 20 rfl rfl)
theorem dL_law_658 : decode cL_law 658 = .ok (.aload_n 0, 1) := dk_42 (dk_at dksL_law_25 21 rfl rfl)
theorem dL_law_659 : decode cL_law 659 = .ok (.iload 4, 2) := dk_21 4 (dk_at dksL_law_25 22 rfl rfl)
theorem dL_law_661 : decode cL_law 661 = .ok (.iconst 1, 1) := dk_4 (dk_at dksL_law_26 0 rfl rfl)
theorem dL_law_662 : decode cL_law 662 = .ok (.iadd, 1) := dk_96 (dk_at dksL_law_26 1 rfl rfl)
theorem dL_law_663 : decode cL_law 663 = .ok (.iaload, 1) := dk_46 (dk_at dksL_law_26 2 rfl rfl)
theorem dL_law_664 : decode cL_law 664 = .ok (.aload_n 0, 1) := dk_42 (dk_at dksL_law_26 3 rfl rfl)
theorem dL_law_665 : decode cL_law 665 = .ok (.iload 4, 2) := dk_21 4 (dk_at dksL_law_26 4 rfl rfl)
theorem dL_law_667 : decode cL_law 667 = .ok (.iconst 2, 1) := dk_5 (dk_at dksL_law_26 6 rfl rfl)
theorem dL_law_668 : decode cL_law 668 = .ok (.iadd, 1) := dk_96 (dk_at dksL_law_26 7 rfl rfl)
theorem dL_law_669 : decode cL_law 669 = .ok (.iaload, 1) := dk_46 (dk_at dksL_law_26 8 rfl rfl)
theorem dL_law_670 : decode cL_law 670 = .ok (.ifCond .eq 7, 3) := dk_153 0 7 (dk_at dksL_law_26 9 rfl rfl)
theorem dL_law_673 : decode cL_law 673 = .ok (.iconst 1, 1) := dk_4 (dk_at dksL_law_26 12 rfl rfl)
theorem dL_law_674 : decode cL_law 674 = .ok (.goto 4, 3) := dk_167 0 4 (dk_at dksL_law_26 13 rfl rfl)
theorem dL_law_677 : decode cL_law 677 = .ok (.iconst 0, 1) := dk_3 (dk_at dksL_law_26 16 rfl rfl)
theorem dL_law_678 : decode cL_law 678 = .ok (.aload_n 3, 1) := dk_45 (dk_at dksL_law_26 17 rfl rfl)
theorem dL_law_679 : decode cL_law 679 = .ok (.invokestatic 113, 3) := dk_184 0 113 (dk_at dksL_law_26 18 rfl rfl)
theorem dL_law_682 : decode cL_law 682 = .ok (.istore 5, 2) := dk_54 5 (dk_at dksL_law_26 21 rfl rfl)
theorem dL_law_684 : decode cL_law 684 = .ok (.aload_n 2, 1) := dk_44 (dk_at dksL_law_26 23 rfl rfl)
theorem dL_law_685 : decode cL_law 685 = .ok (.aload_n 0, 1) := dk_42 (dk_at dksL_law_27 0 rfl rfl)
theorem dL_law_686 : decode cL_law 686 = .ok (.iload 4, 2) := dk_21 4 (dk_at dksL_law_27 1 rfl rfl)
theorem dL_law_688 : decode cL_law 688 = .ok (.iconst 1, 1) := dk_4 (dk_at dksL_law_27 3 rfl rfl)
theorem dL_law_689 : decode cL_law 689 = .ok (.iadd, 1) := dk_96 (dk_at dksL_law_27 4 rfl rfl)
theorem dL_law_690 : decode cL_law 690 = .ok (.iaload, 1) := dk_46 (dk_at dksL_law_27 5 rfl rfl)
theorem dL_law_691 : decode cL_law 691 = .ok (.aload_n 0, 1) := dk_42 (dk_at dksL_law_27 6 rfl rfl)
theorem dL_law_692 : decode cL_law 692 = .ok (.iload 4, 2) := dk_21 4 (dk_at dksL_law_27 7 rfl rfl)
theorem dL_law_694 : decode cL_law 694 = .ok (.iconst 2, 1) := dk_5 (dk_at dksL_law_27 9 rfl rfl)
theorem dL_law_695 : decode cL_law 695 = .ok (.iadd, 1) := dk_96 (dk_at dksL_law_27 10 rfl rfl)
theorem dL_law_696 : decode cL_law 696 = .ok (.iaload, 1) := dk_46 (dk_at dksL_law_27 11 rfl rfl)
theorem dL_law_697 : decode cL_law 697 = .ok (.ifCond .eq 7, 3) := dk_153 0 7 (dk_at dksL_law_27 12 rfl rfl)
theorem dL_law_700 : decode cL_law 700 = .ok (.iconst 1, 1) := dk_4 (dk_at dksL_law_27 15 rfl rfl)
theorem dL_law_701 : decode cL_law 701 = .ok (.goto 4, 3) := dk_167 0 4 (dk_at dksL_law_27 16 rfl rfl)
theorem dL_law_704 : decode cL_law 704 = .ok (.iconst 0, 1) := dk_3 (dk_at dksL_law_27 19 rfl rfl)
theorem dL_law_705 : decode cL_law 705 = .ok (.invokevirtual 116, 3) := dk_182 0 116 (dk_at dksL_law_27 20 rfl rfl)
theorem dL_law_708 : decode cL_law 708 = .ok (.istore 6, 2) := dk_54 6 (dk_at dksL_law_28 0 rfl rfl)
theorem dL_law_710 : decode cL_law 710 = .ok (.aload_n 2, 1) := dk_44 (dk_at dksL_law_28 2 rfl rfl)
theorem dL_law_711 : decode cL_law 711 = .ok (.invokevirtual 82, 3) := dk_182 0 82 (dk_at dksL_law_28 3 rfl rfl)
theorem dL_law_714 : decode cL_law 714 = .ok (.iload 5, 2) := dk_21 5 (dk_at dksL_law_28 6 rfl rfl)
theorem dL_law_716 : decode cL_law 716 = .ok (.if_icmp .eq 5, 3) := dk_159 0 5 (dk_at dksL_law_28 8 rfl rfl)
theorem dL_law_719 : decode cL_law 719 = .ok (.iconst 0, 1) := dk_3 (dk_at dksL_law_28 11 rfl rfl)
theorem dL_law_720 : decode cL_law 720 = .ok (.ireturn, 1) := dk_172 (dk_at dksL_law_28 12 rfl rfl)
theorem dL_law_721 : decode cL_law 721 = .ok (.iload 5, 2) := dk_21 5 (dk_at dksL_law_28 13 rfl rfl)
theorem dL_law_723 : decode cL_law 723 = .ok (.ifCond .ne 15, 3) := dk_154 0 15 (dk_at dksL_law_28 15 rfl rfl)
theorem dL_law_726 : decode cL_law 726 = .ok (.aload_n 3, 1) := dk_45 (dk_at dksL_law_28 18 rfl rfl)
theorem dL_law_727 : decode cL_law 727 = .ok (.iconst 0, 1) := dk_3 (dk_at dksL_law_28 19 rfl rfl)
theorem dL_law_728 : decode cL_law 728 = .ok (.laload, 1) := dk_47 (dk_at dksL_law_28 20 rfl rfl)
theorem dL_law_729 : decode cL_law 729 = .ok (.iload 6, 2) := dk_21 6 (dk_at dksL_law_28 21 rfl rfl)
theorem dL_law_731 : decode cL_law 731 = .ok (.i2l, 1) := dk_133 (dk_at dksL_law_28 23 rfl rfl)
theorem dL_law_732 : decode cL_law 732 = .ok (.lcmp, 1) := dk_148 (dk_at dksL_law_29 0 rfl rfl)
theorem dL_law_733 : decode cL_law 733 = .ok (.ifCond .eq 5, 3) := dk_153 0 5 (dk_at dksL_law_29 1 rfl rfl)
theorem dL_law_736 : decode cL_law 736 = .ok (.iconst 0, 1) := dk_3 (dk_at dksL_law_29 4 rfl rfl)
theorem dL_law_737 : decode cL_law 737 = .ok (.ireturn, 1) := dk_172 (dk_at dksL_law_29 5 rfl rfl)
theorem dL_law_738 : decode cL_law 738 = .ok (.goto 643, 3) := dk_167 2 131 (dk_at dksL_law_29 6 rfl rfl)
theorem dL_law_741 : decode cL_law 741 = .ok (.aload_n 1, 1) := dk_43 (dk_at dksL_law_29 9 rfl rfl)
theorem dL_law_742 : decode cL_law 742 = .ok (.aload_n 0, 1) := dk_42 (dk_at dksL_law_29 10 rfl rfl)
theorem dL_law_743 : decode cL_law 743 = .ok (.iload 4, 2) := dk_21 4 (dk_at dksL_law_29 11 rfl rfl)
theorem dL_law_745 : decode cL_law 745 = .ok (.iconst 1, 1) := dk_4 (dk_at dksL_law_29 13 rfl rfl)
theorem dL_law_746 : decode cL_law 746 = .ok (.iadd, 1) := dk_96 (dk_at dksL_law_29 14 rfl rfl)
theorem dL_law_747 : decode cL_law 747 = .ok (.iaload, 1) := dk_46 (dk_at dksL_law_29 15 rfl rfl)
theorem dL_law_748 : decode cL_law 748 = .ok (.aload_n 0, 1) := dk_42 (dk_at dksL_law_29 16 rfl rfl)
theorem dL_law_749 : decode cL_law 749 = .ok (.iload 4, 2) := dk_21 4 (dk_at dksL_law_29 17 rfl rfl)
theorem dL_law_751 : decode cL_law 751 = .ok (.iconst 2, 1) := dk_5 (dk_at dksL_law_29 19 rfl rfl)
theorem dL_law_752 : decode cL_law 752 = .ok (.iadd, 1) := dk_96 (dk_at dksL_law_29 20 rfl rfl)
theorem dL_law_753 : decode cL_law 753 = .ok (.iaload, 1) := dk_46 (dk_at dksL_law_29 21 rfl rfl)
theorem dL_law_754 : decode cL_law 754 = .ok (.aload_n 0, 1) := dk_42 (dk_at dksL_law_29 22 rfl rfl)
theorem dL_law_755 : decode cL_law 755 = .ok (.iload 4, 2) := dk_21 4 (dk_at dksL_law_30 0 rfl rfl)
theorem dL_law_757 : decode cL_law 757 = .ok (.iconst 3, 1) := dk_6 (dk_at dksL_law_30 2 rfl rfl)
theorem dL_law_758 : decode cL_law 758 = .ok (.iadd, 1) := dk_96 (dk_at dksL_law_30 3 rfl rfl)
theorem dL_law_759 : decode cL_law 759 = .ok (.iaload, 1) := dk_46 (dk_at dksL_law_30 4 rfl rfl)
theorem dL_law_760 : decode cL_law 760 = .ok (.ifCond .eq 7, 3) := dk_153 0 7 (dk_at dksL_law_30 5 rfl rfl)
theorem dL_law_763 : decode cL_law 763 = .ok (.iconst 1, 1) := dk_4 (dk_at dksL_law_30 8 rfl rfl)
theorem dL_law_764 : decode cL_law 764 = .ok (.goto 4, 3) := dk_167 0 4 (dk_at dksL_law_30 9 rfl rfl)
theorem dL_law_767 : decode cL_law 767 = .ok (.iconst 0, 1) := dk_3 (dk_at dksL_law_30 12 rfl rfl)
theorem dL_law_768 : decode cL_law 768 = .ok (.aload_n 3, 1) := dk_45 (dk_at dksL_law_30 13 rfl rfl)
theorem dL_law_769 : decode cL_law 769 = .ok (.invokestatic 117, 3) := dk_184 0 117 (dk_at dksL_law_30 14 rfl rfl)
theorem dL_law_772 : decode cL_law 772 = .ok (.istore 5, 2) := dk_54 5 (dk_at dksL_law_30 17 rfl rfl)
theorem dL_law_774 : decode cL_law 774 = .ok (.aload_n 2, 1) := dk_44 (dk_at dksL_law_30 19 rfl rfl)
theorem dL_law_775 : decode cL_law 775 = .ok (.aload_n 0, 1) := dk_42 (dk_at dksL_law_30 20 rfl rfl)
theorem dL_law_776 : decode cL_law 776 = .ok (.iload 4, 2) := dk_21 4 (dk_at dksL_law_30 21 rfl rfl)
theorem dL_law_778 : decode cL_law 778 = .ok (.iconst 1, 1) := dk_4 (dk_at dksL_law_30 23 rfl rfl)
theorem dL_law_779 : decode cL_law 779 = .ok (.iadd, 1) := dk_96 (dk_at dksL_law_31 0 rfl rfl)
theorem dL_law_780 : decode cL_law 780 = .ok (.iaload, 1) := dk_46 (dk_at dksL_law_31 1 rfl rfl)
theorem dL_law_781 : decode cL_law 781 = .ok (.aload_n 0, 1) := dk_42 (dk_at dksL_law_31 2 rfl rfl)
theorem dL_law_782 : decode cL_law 782 = .ok (.iload 4, 2) := dk_21 4 (dk_at dksL_law_31 3 rfl rfl)
theorem dL_law_784 : decode cL_law 784 = .ok (.iconst 2, 1) := dk_5 (dk_at dksL_law_31 5 rfl rfl)
theorem dL_law_785 : decode cL_law 785 = .ok (.iadd, 1) := dk_96 (dk_at dksL_law_31 6 rfl rfl)
theorem dL_law_786 : decode cL_law 786 = .ok (.iaload, 1) := dk_46 (dk_at dksL_law_31 7 rfl rfl)
theorem dL_law_787 : decode cL_law 787 = .ok (.aload_n 0, 1) := dk_42 (dk_at dksL_law_31 8 rfl rfl)
theorem dL_law_788 : decode cL_law 788 = .ok (.iload 4, 2) := dk_21 4 (dk_at dksL_law_31 9 rfl rfl)
theorem dL_law_790 : decode cL_law 790 = .ok (.iconst 3, 1) := dk_6 (dk_at dksL_law_31 11 rfl rfl)
theorem dL_law_791 : decode cL_law 791 = .ok (.iadd, 1) := dk_96 (dk_at dksL_law_31 12 rfl rfl)
theorem dL_law_792 : decode cL_law 792 = .ok (.iaload, 1) := dk_46 (dk_at dksL_law_31 13 rfl rfl)
theorem dL_law_793 : decode cL_law 793 = .ok (.ifCond .eq 7, 3) := dk_153 0 7 (dk_at dksL_law_31 14 rfl rfl)
theorem dL_law_796 : decode cL_law 796 = .ok (.iconst 1, 1) := dk_4 (dk_at dksL_law_31 17 rfl rfl)
theorem dL_law_797 : decode cL_law 797 = .ok (.goto 4, 3) := dk_167 0 4 (dk_at dksL_law_31 18 rfl rfl)
theorem dL_law_800 : decode cL_law 800 = .ok (.iconst 0, 1) := dk_3 (dk_at dksL_law_31 21 rfl rfl)
theorem dL_law_801 : decode cL_law 801 = .ok (.invokevirtual 120, 3) := dk_182 0 120 (dk_at dksL_law_32 0 rfl rfl)
theorem dL_law_804 : decode cL_law 804 = .ok (.lstore 6, 2) := dk_55 6 (dk_at dksL_law_32 3 rfl rfl)
theorem dL_law_806 : decode cL_law 806 = .ok (.aload_n 2, 1) := dk_44 (dk_at dksL_law_32 5 rfl rfl)
theorem dL_law_807 : decode cL_law 807 = .ok (.invokevirtual 82, 3) := dk_182 0 82 (dk_at dksL_law_32 6 rfl rfl)
theorem dL_law_810 : decode cL_law 810 = .ok (.iload 5, 2) := dk_21 5 (dk_at dksL_law_32 9 rfl rfl)
theorem dL_law_812 : decode cL_law 812 = .ok (.if_icmp .eq 5, 3) := dk_159 0 5 (dk_at dksL_law_32 11 rfl rfl)
theorem dL_law_815 : decode cL_law 815 = .ok (.iconst 0, 1) := dk_3 (dk_at dksL_law_32 14 rfl rfl)
theorem dL_law_816 : decode cL_law 816 = .ok (.ireturn, 1) := dk_172 (dk_at dksL_law_32 15 rfl rfl)
theorem dL_law_817 : decode cL_law 817 = .ok (.iload 5, 2) := dk_21 5 (dk_at dksL_law_32 16 rfl rfl)
theorem dL_law_819 : decode cL_law 819 = .ok (.ifCond .ne 14, 3) := dk_154 0 14 (dk_at dksL_law_32 18 rfl rfl)
theorem dL_law_822 : decode cL_law 822 = .ok (.aload_n 3, 1) := dk_45 (dk_at dksL_law_32 21 rfl rfl)
theorem dL_law_823 : decode cL_law 823 = .ok (.iconst 0, 1) := dk_3 (dk_at dksL_law_32 22 rfl rfl)
theorem dL_law_824 : decode cL_law 824 = .ok (.laload, 1) := dk_47 (dk_at dksL_law_32 23 rfl rfl)
theorem dL_law_825 : decode cL_law 825 = .ok (.lload 6, 2) := dk_22 6 (dk_at dksL_law_33 0 rfl rfl)
theorem dL_law_827 : decode cL_law 827 = .ok (.lcmp, 1) := dk_148 (dk_at dksL_law_33 2 rfl rfl)
theorem dL_law_828 : decode cL_law 828 = .ok (.ifCond .eq 5, 3) := dk_153 0 5 (dk_at dksL_law_33 3 rfl rfl)
theorem dL_law_831 : decode cL_law 831 = .ok (.iconst 0, 1) := dk_3 (dk_at dksL_law_33 6 rfl rfl)
theorem dL_law_832 : decode cL_law 832 = .ok (.ireturn, 1) := dk_172 (dk_at dksL_law_33 7 rfl rfl)
theorem dL_law_833 : decode cL_law 833 = .ok (.goto 548, 3) := dk_167 2 36 (dk_at dksL_law_33 8 rfl rfl)
theorem dL_law_836 : decode cL_law 836 = .ok (.aload_n 1, 1) := dk_43 (dk_at dksL_law_33 11 rfl rfl)
theorem dL_law_837 : decode cL_law 837 = .ok (.aload_n 0, 1) := dk_42 (dk_at dksL_law_33 12 rfl rfl)
theorem dL_law_838 : decode cL_law 838 = .ok (.iload 4, 2) := dk_21 4 (dk_at dksL_law_33 13 rfl rfl)
theorem dL_law_840 : decode cL_law 840 = .ok (.iconst 1, 1) := dk_4 (dk_at dksL_law_33 15 rfl rfl)
theorem dL_law_841 : decode cL_law 841 = .ok (.iadd, 1) := dk_96 (dk_at dksL_law_33 16 rfl rfl)
theorem dL_law_842 : decode cL_law 842 = .ok (.iaload, 1) := dk_46 (dk_at dksL_law_33 17 rfl rfl)
theorem dL_law_843 : decode cL_law 843 = .ok (.aload_n 0, 1) := dk_42 (dk_at dksL_law_33 18 rfl rfl)
theorem dL_law_844 : decode cL_law 844 = .ok (.iload 4, 2) := dk_21 4 (dk_at dksL_law_33 19 rfl rfl)
theorem dL_law_846 : decode cL_law 846 = .ok (.iconst 2, 1) := dk_5 (dk_at dksL_law_33 21 rfl rfl)
theorem dL_law_847 : decode cL_law 847 = .ok (.iadd, 1) := dk_96 (dk_at dksL_law_33 22 rfl rfl)
theorem dL_law_848 : decode cL_law 848 = .ok (.iaload, 1) := dk_46 (dk_at dksL_law_33 23 rfl rfl)
theorem dL_law_849 : decode cL_law 849 = .ok (.aload_n 3, 1) := dk_45 (dk_at dksL_law_34 0 rfl rfl)
theorem dL_law_850 : decode cL_law 850 = .ok (.invokestatic 121, 3) := dk_184 0 121 (dk_at dksL_law_34 1 rfl rfl)
theorem dL_law_853 : decode cL_law 853 = .ok (.istore 5, 2) := dk_54 5 (dk_at dksL_law_34 4 rfl rfl)
theorem dL_law_855 : decode cL_law 855 = .ok (.aload_n 2, 1) := dk_44 (dk_at dksL_law_34 6 rfl rfl)
theorem dL_law_856 : decode cL_law 856 = .ok (.aload_n 0, 1) := dk_42 (dk_at dksL_law_34 7 rfl rfl)
theorem dL_law_857 : decode cL_law 857 = .ok (.iload 4, 2) := dk_21 4 (dk_at dksL_law_34 8 rfl rfl)
theorem dL_law_859 : decode cL_law 859 = .ok (.iconst 1, 1) := dk_4 (dk_at dksL_law_34 10 rfl rfl)
theorem dL_law_860 : decode cL_law 860 = .ok (.iadd, 1) := dk_96 (dk_at dksL_law_34 11 rfl rfl)
theorem dL_law_861 : decode cL_law 861 = .ok (.iaload, 1) := dk_46 (dk_at dksL_law_34 12 rfl rfl)
theorem dL_law_862 : decode cL_law 862 = .ok (.aload_n 0, 1) := dk_42 (dk_at dksL_law_34 13 rfl rfl)
theorem dL_law_863 : decode cL_law 863 = .ok (.iload 4, 2) := dk_21 4 (dk_at dksL_law_34 14 rfl rfl)
theorem dL_law_865 : decode cL_law 865 = .ok (.iconst 2, 1) := dk_5 (dk_at dksL_law_34 16 rfl rfl)
theorem dL_law_866 : decode cL_law 866 = .ok (.iadd, 1) := dk_96 (dk_at dksL_law_34 17 rfl rfl)
theorem dL_law_867 : decode cL_law 867 = .ok (.iaload, 1) := dk_46 (dk_at dksL_law_34 18 rfl rfl)
theorem dL_law_868 : decode cL_law 868 = .ok (.invokevirtual 123, 3) := dk_182 0 123 (dk_at dksL_law_34 19 rfl rfl)
theorem dL_law_871 : decode cL_law 871 = .ok (.istore 6, 2) := dk_54 6 (dk_at dksL_law_34 22 rfl rfl)
theorem dL_law_873 : decode cL_law 873 = .ok (.aload_n 2, 1) := dk_44 (dk_at dksL_law_35 0 rfl rfl)
theorem dL_law_874 : decode cL_law 874 = .ok (.invokevirtual 82, 3) := dk_182 0 82 (dk_at dksL_law_35 1 rfl rfl)
theorem dL_law_877 : decode cL_law 877 = .ok (.iload 5, 2) := dk_21 5 (dk_at dksL_law_35 4 rfl rfl)
theorem dL_law_879 : decode cL_law 879 = .ok (.if_icmp .eq 5, 3) := dk_159 0 5 (dk_at dksL_law_35 6 rfl rfl)
theorem dL_law_882 : decode cL_law 882 = .ok (.iconst 0, 1) := dk_3 (dk_at dksL_law_35 9 rfl rfl)
theorem dL_law_883 : decode cL_law 883 = .ok (.ireturn, 1) := dk_172 (dk_at dksL_law_35 10 rfl rfl)
theorem dL_law_884 : decode cL_law 884 = .ok (.iload 5, 2) := dk_21 5 (dk_at dksL_law_35 11 rfl rfl)
theorem dL_law_886 : decode cL_law 886 = .ok (.ifCond .ne 15, 3) := dk_154 0 15 (dk_at dksL_law_35 13 rfl rfl)
theorem dL_law_889 : decode cL_law 889 = .ok (.aload_n 3, 1) := dk_45 (dk_at dksL_law_35 16 rfl rfl)
theorem dL_law_890 : decode cL_law 890 = .ok (.iconst 0, 1) := dk_3 (dk_at dksL_law_35 17 rfl rfl)
theorem dL_law_891 : decode cL_law 891 = .ok (.laload, 1) := dk_47 (dk_at dksL_law_35 18 rfl rfl)
theorem dL_law_892 : decode cL_law 892 = .ok (.iload 6, 2) := dk_21 6 (dk_at dksL_law_35 19 rfl rfl)
theorem dL_law_894 : decode cL_law 894 = .ok (.i2l, 1) := dk_133 (dk_at dksL_law_35 21 rfl rfl)
theorem dL_law_895 : decode cL_law 895 = .ok (.lcmp, 1) := dk_148 (dk_at dksL_law_35 22 rfl rfl)
theorem dL_law_896 : decode cL_law 896 = .ok (.ifCond .eq 5, 3) := dk_153 0 5 (dk_at dksL_law_36 0 rfl rfl)
theorem dL_law_899 : decode cL_law 899 = .ok (.iconst 0, 1) := dk_3 (dk_at dksL_law_36 3 rfl rfl)
theorem dL_law_900 : decode cL_law 900 = .ok (.ireturn, 1) := dk_172 (dk_at dksL_law_36 4 rfl rfl)
theorem dL_law_901 : decode cL_law 901 = .ok (.goto 480, 3) := dk_167 1 224 (dk_at dksL_law_36 5 rfl rfl)
theorem dL_law_904 : decode cL_law 904 = .ok (.aload_n 1, 1) := dk_43 (dk_at dksL_law_36 8 rfl rfl)
theorem dL_law_905 : decode cL_law 905 = .ok (.aload_n 0, 1) := dk_42 (dk_at dksL_law_36 9 rfl rfl)
theorem dL_law_906 : decode cL_law 906 = .ok (.iload 4, 2) := dk_21 4 (dk_at dksL_law_36 10 rfl rfl)
theorem dL_law_908 : decode cL_law 908 = .ok (.iconst 1, 1) := dk_4 (dk_at dksL_law_36 12 rfl rfl)
theorem dL_law_909 : decode cL_law 909 = .ok (.iadd, 1) := dk_96 (dk_at dksL_law_36 13 rfl rfl)
theorem dL_law_910 : decode cL_law 910 = .ok (.iaload, 1) := dk_46 (dk_at dksL_law_36 14 rfl rfl)
theorem dL_law_911 : decode cL_law 911 = .ok (.aload_n 0, 1) := dk_42 (dk_at dksL_law_36 15 rfl rfl)
theorem dL_law_912 : decode cL_law 912 = .ok (.iload 4, 2) := dk_21 4 (dk_at dksL_law_36 16 rfl rfl)
theorem dL_law_914 : decode cL_law 914 = .ok (.iconst 2, 1) := dk_5 (dk_at dksL_law_36 18 rfl rfl)
theorem dL_law_915 : decode cL_law 915 = .ok (.iadd, 1) := dk_96 (dk_at dksL_law_36 19 rfl rfl)
theorem dL_law_916 : decode cL_law 916 = .ok (.iaload, 1) := dk_46 (dk_at dksL_law_36 20 rfl rfl)
theorem dL_law_917 : decode cL_law 917 = .ok (.i2l, 1) := dk_133 (dk_at dksL_law_36 21 rfl rfl)
theorem dL_law_918 : decode cL_law 918 = .ok (.bipush 32, 2) := dk_16 32 (dk_at dksL_law_36 22 rfl rfl)
theorem dL_law_920 : decode cL_law 920 = .ok (.lshl, 1) := dk_121 (dk_at dksL_law_37 0 rfl rfl)
theorem dL_law_921 : decode cL_law 921 = .ok (.aload_n 0, 1) := dk_42 (dk_at dksL_law_37 1 rfl rfl)
theorem dL_law_922 : decode cL_law 922 = .ok (.iload 4, 2) := dk_21 4 (dk_at dksL_law_37 2 rfl rfl)
theorem dL_law_924 : decode cL_law 924 = .ok (.iconst 3, 1) := dk_6 (dk_at dksL_law_37 4 rfl rfl)
theorem dL_law_925 : decode cL_law 925 = .ok (.iadd, 1) := dk_96 (dk_at dksL_law_37 5 rfl rfl)
theorem dL_law_926 : decode cL_law 926 = .ok (.iaload, 1) := dk_46 (dk_at dksL_law_37 6 rfl rfl)
theorem dL_law_927 : decode cL_law 927 = .ok (.i2l, 1) := dk_133 (dk_at dksL_law_37 7 rfl rfl)
theorem dL_law_928 : decode cL_law 928 = .ok (.ldc2_w 74, 3) := dk_20 0 74 (dk_at dksL_law_37 8 rfl rfl)
theorem dL_law_931 : decode cL_law 931 = .ok (.land, 1) := dk_127 (dk_at dksL_law_37 11 rfl rfl)
theorem dL_law_932 : decode cL_law 932 = .ok (.lor, 1) := dk_129 (dk_at dksL_law_37 12 rfl rfl)
theorem dL_law_933 : decode cL_law 933 = .ok (.aload_n 3, 1) := dk_45 (dk_at dksL_law_37 13 rfl rfl)
theorem dL_law_934 : decode cL_law 934 = .ok (.invokestatic 124, 3) := dk_184 0 124 (dk_at dksL_law_37 14 rfl rfl)
theorem dL_law_937 : decode cL_law 937 = .ok (.istore 5, 2) := dk_54 5 (dk_at dksL_law_37 17 rfl rfl)
theorem dL_law_939 : decode cL_law 939 = .ok (.aload_n 2, 1) := dk_44 (dk_at dksL_law_37 19 rfl rfl)
theorem dL_law_940 : decode cL_law 940 = .ok (.aload_n 0, 1) := dk_42 (dk_at dksL_law_37 20 rfl rfl)
theorem dL_law_941 : decode cL_law 941 = .ok (.iload 4, 2) := dk_21 4 (dk_at dksL_law_37 21 rfl rfl)
theorem dL_law_943 : decode cL_law 943 = .ok (.iconst 1, 1) := dk_4 (dk_at dksL_law_37 23 rfl rfl)
theorem dL_law_944 : decode cL_law 944 = .ok (.iadd, 1) := dk_96 (dk_at dksL_law_38 0 rfl rfl)
theorem dL_law_945 : decode cL_law 945 = .ok (.iaload, 1) := dk_46 (dk_at dksL_law_38 1 rfl rfl)
theorem dL_law_946 : decode cL_law 946 = .ok (.aload_n 0, 1) := dk_42 (dk_at dksL_law_38 2 rfl rfl)
theorem dL_law_947 : decode cL_law 947 = .ok (.iload 4, 2) := dk_21 4 (dk_at dksL_law_38 3 rfl rfl)
theorem dL_law_949 : decode cL_law 949 = .ok (.iconst 2, 1) := dk_5 (dk_at dksL_law_38 5 rfl rfl)
theorem dL_law_950 : decode cL_law 950 = .ok (.iadd, 1) := dk_96 (dk_at dksL_law_38 6 rfl rfl)
theorem dL_law_951 : decode cL_law 951 = .ok (.iaload, 1) := dk_46 (dk_at dksL_law_38 7 rfl rfl)
theorem dL_law_952 : decode cL_law 952 = .ok (.i2l, 1) := dk_133 (dk_at dksL_law_38 8 rfl rfl)
theorem dL_law_953 : decode cL_law 953 = .ok (.bipush 32, 2) := dk_16 32 (dk_at dksL_law_38 9 rfl rfl)
theorem dL_law_955 : decode cL_law 955 = .ok (.lshl, 1) := dk_121 (dk_at dksL_law_38 11 rfl rfl)
theorem dL_law_956 : decode cL_law 956 = .ok (.aload_n 0, 1) := dk_42 (dk_at dksL_law_38 12 rfl rfl)
theorem dL_law_957 : decode cL_law 957 = .ok (.iload 4, 2) := dk_21 4 (dk_at dksL_law_38 13 rfl rfl)
theorem dL_law_959 : decode cL_law 959 = .ok (.iconst 3, 1) := dk_6 (dk_at dksL_law_38 15 rfl rfl)
theorem dL_law_960 : decode cL_law 960 = .ok (.iadd, 1) := dk_96 (dk_at dksL_law_38 16 rfl rfl)
theorem dL_law_961 : decode cL_law 961 = .ok (.iaload, 1) := dk_46 (dk_at dksL_law_38 17 rfl rfl)
theorem dL_law_962 : decode cL_law 962 = .ok (.i2l, 1) := dk_133 (dk_at dksL_law_38 18 rfl rfl)
theorem dL_law_963 : decode cL_law 963 = .ok (.ldc2_w 74, 3) := dk_20 0 74 (dk_at dksL_law_38 19 rfl rfl)
theorem dL_law_966 : decode cL_law 966 = .ok (.land, 1) := dk_127 (dk_at dksL_law_38 22 rfl rfl)
theorem dL_law_967 : decode cL_law 967 = .ok (.lor, 1) := dk_129 (dk_at dksL_law_38 23 rfl rfl)
theorem dL_law_968 : decode cL_law 968 = .ok (.invokevirtual 127, 3) := dk_182 0 127 (dk_at dksL_law_39 0 rfl rfl)
theorem dL_law_971 : decode cL_law 971 = .ok (.istore 6, 2) := dk_54 6 (dk_at dksL_law_39 3 rfl rfl)
theorem dL_law_973 : decode cL_law 973 = .ok (.aload_n 2, 1) := dk_44 (dk_at dksL_law_39 5 rfl rfl)
theorem dL_law_974 : decode cL_law 974 = .ok (.invokevirtual 82, 3) := dk_182 0 82 (dk_at dksL_law_39 6 rfl rfl)
theorem dL_law_977 : decode cL_law 977 = .ok (.iload 5, 2) := dk_21 5 (dk_at dksL_law_39 9 rfl rfl)
theorem dL_law_979 : decode cL_law 979 = .ok (.if_icmp .eq 5, 3) := dk_159 0 5 (dk_at dksL_law_39 11 rfl rfl)
theorem dL_law_982 : decode cL_law 982 = .ok (.iconst 0, 1) := dk_3 (dk_at dksL_law_39 14 rfl rfl)
theorem dL_law_983 : decode cL_law 983 = .ok (.ireturn, 1) := dk_172 (dk_at dksL_law_39 15 rfl rfl)
theorem dL_law_984 : decode cL_law 984 = .ok (.iload 5, 2) := dk_21 5 (dk_at dksL_law_39 16 rfl rfl)
theorem dL_law_986 : decode cL_law 986 = .ok (.ifCond .ne 15, 3) := dk_154 0 15 (dk_at dksL_law_39 18 rfl rfl)
theorem dL_law_989 : decode cL_law 989 = .ok (.aload_n 3, 1) := dk_45 (dk_at dksL_law_39 21 rfl rfl)
theorem dL_law_990 : decode cL_law 990 = .ok (.iconst 0, 1) := dk_3 (dk_at dksL_law_39 22 rfl rfl)
theorem dL_law_991 : decode cL_law 991 = .ok (.laload, 1) := dk_47 (dk_at dksL_law_39 23 rfl rfl)
theorem dL_law_992 : decode cL_law 992 = .ok (.iload 6, 2) := dk_21 6 (dk_at dksL_law_40 0 rfl rfl)
theorem dL_law_994 : decode cL_law 994 = .ok (.i2l, 1) := dk_133 (dk_at dksL_law_40 2 rfl rfl)
theorem dL_law_995 : decode cL_law 995 = .ok (.lcmp, 1) := dk_148 (dk_at dksL_law_40 3 rfl rfl)
theorem dL_law_996 : decode cL_law 996 = .ok (.ifCond .eq 5, 3) := dk_153 0 5 (dk_at dksL_law_40 4 rfl rfl)
theorem dL_law_999 : decode cL_law 999 = .ok (.iconst 0, 1) := dk_3 (dk_at dksL_law_40 7 rfl rfl)
theorem dL_law_1000 : decode cL_law 1000 = .ok (.ireturn, 1) := dk_172 (dk_at dksL_law_40 8 rfl rfl)
theorem dL_law_1001 : decode cL_law 1001 = .ok (.goto 380, 3) := dk_167 1 124 (dk_at dksL_law_40 9 rfl rfl)
theorem dL_law_1004 : decode cL_law 1004 = .ok (.aload_n 1, 1) := dk_43 (dk_at dksL_law_40 12 rfl rfl)
theorem dL_law_1005 : decode cL_law 1005 = .ok (.aload_n 0, 1) := dk_42 (dk_at dksL_law_40 13 rfl rfl)
theorem dL_law_1006 : decode cL_law 1006 = .ok (.iload 4, 2) := dk_21 4 (dk_at dksL_law_40 14 rfl rfl)
theorem dL_law_1008 : decode cL_law 1008 = .ok (.iconst 1, 1) := dk_4 (dk_at dksL_law_40 16 rfl rfl)
theorem dL_law_1009 : decode cL_law 1009 = .ok (.iadd, 1) := dk_96 (dk_at dksL_law_40 17 rfl rfl)
theorem dL_law_1010 : decode cL_law 1010 = .ok (.iaload, 1) := dk_46 (dk_at dksL_law_40 18 rfl rfl)
theorem dL_law_1011 : decode cL_law 1011 = .ok (.aload_n 0, 1) := dk_42 (dk_at dksL_law_40 19 rfl rfl)
theorem dL_law_1012 : decode cL_law 1012 = .ok (.iload 4, 2) := dk_21 4 (dk_at dksL_law_40 20 rfl rfl)
theorem dL_law_1014 : decode cL_law 1014 = .ok (.iconst 2, 1) := dk_5 (dk_at dksL_law_40 22 rfl rfl)
theorem dL_law_1015 : decode cL_law 1015 = .ok (.iadd, 1) := dk_96 (dk_at dksL_law_40 23 rfl rfl)
theorem dL_law_1016 : decode cL_law 1016 = .ok (.iaload, 1) := dk_46 (dk_at dksL_law_41 0 rfl rfl)
theorem dL_law_1017 : decode cL_law 1017 = .ok (.aload_n 3, 1) := dk_45 (dk_at dksL_law_41 1 rfl rfl)
theorem dL_law_1018 : decode cL_law 1018 = .ok (.invokestatic 128, 3) := dk_184 0 128 (dk_at dksL_law_41 2 rfl rfl)
theorem dL_law_1021 : decode cL_law 1021 = .ok (.istore 5, 2) := dk_54 5 (dk_at dksL_law_41 5 rfl rfl)
theorem dL_law_1023 : decode cL_law 1023 = .ok (.aload_n 2, 1) := dk_44 (dk_at dksL_law_41 7 rfl rfl)
theorem dL_law_1024 : decode cL_law 1024 = .ok (.aload_n 0, 1) := dk_42 (dk_at dksL_law_41 8 rfl rfl)
theorem dL_law_1025 : decode cL_law 1025 = .ok (.iload 4, 2) := dk_21 4 (dk_at dksL_law_41 9 rfl rfl)
theorem dL_law_1027 : decode cL_law 1027 = .ok (.iconst 1, 1) := dk_4 (dk_at dksL_law_41 11 rfl rfl)
theorem dL_law_1028 : decode cL_law 1028 = .ok (.iadd, 1) := dk_96 (dk_at dksL_law_41 12 rfl rfl)
theorem dL_law_1029 : decode cL_law 1029 = .ok (.iaload, 1) := dk_46 (dk_at dksL_law_41 13 rfl rfl)
theorem dL_law_1030 : decode cL_law 1030 = .ok (.aload_n 0, 1) := dk_42 (dk_at dksL_law_41 14 rfl rfl)
theorem dL_law_1031 : decode cL_law 1031 = .ok (.iload 4, 2) := dk_21 4 (dk_at dksL_law_41 15 rfl rfl)
theorem dL_law_1033 : decode cL_law 1033 = .ok (.iconst 2, 1) := dk_5 (dk_at dksL_law_41 17 rfl rfl)
theorem dL_law_1034 : decode cL_law 1034 = .ok (.iadd, 1) := dk_96 (dk_at dksL_law_41 18 rfl rfl)
theorem dL_law_1035 : decode cL_law 1035 = .ok (.iaload, 1) := dk_46 (dk_at dksL_law_41 19 rfl rfl)
theorem dL_law_1036 : decode cL_law 1036 = .ok (.invokevirtual 130, 3) := dk_182 0 130 (dk_at dksL_law_41 20 rfl rfl)
theorem dL_law_1039 : decode cL_law 1039 = .ok (.lstore 6, 2) := dk_55 6 (dk_at dksL_law_42 0 rfl rfl)
theorem dL_law_1041 : decode cL_law 1041 = .ok (.aload_n 2, 1) := dk_44 (dk_at dksL_law_42 2 rfl rfl)
theorem dL_law_1042 : decode cL_law 1042 = .ok (.invokevirtual 82, 3) := dk_182 0 82 (dk_at dksL_law_42 3 rfl rfl)
theorem dL_law_1045 : decode cL_law 1045 = .ok (.iload 5, 2) := dk_21 5 (dk_at dksL_law_42 6 rfl rfl)
theorem dL_law_1047 : decode cL_law 1047 = .ok (.if_icmp .eq 5, 3) := dk_159 0 5 (dk_at dksL_law_42 8 rfl rfl)
theorem dL_law_1050 : decode cL_law 1050 = .ok (.iconst 0, 1) := dk_3 (dk_at dksL_law_42 11 rfl rfl)
theorem dL_law_1051 : decode cL_law 1051 = .ok (.ireturn, 1) := dk_172 (dk_at dksL_law_42 12 rfl rfl)
theorem dL_law_1052 : decode cL_law 1052 = .ok (.iload 5, 2) := dk_21 5 (dk_at dksL_law_42 13 rfl rfl)
theorem dL_law_1054 : decode cL_law 1054 = .ok (.ifCond .ne 14, 3) := dk_154 0 14 (dk_at dksL_law_42 15 rfl rfl)
theorem dL_law_1057 : decode cL_law 1057 = .ok (.aload_n 3, 1) := dk_45 (dk_at dksL_law_42 18 rfl rfl)
theorem dL_law_1058 : decode cL_law 1058 = .ok (.iconst 0, 1) := dk_3 (dk_at dksL_law_42 19 rfl rfl)
theorem dL_law_1059 : decode cL_law 1059 = .ok (.laload, 1) := dk_47 (dk_at dksL_law_42 20 rfl rfl)
theorem dL_law_1060 : decode cL_law 1060 = .ok (.lload 6, 2) := dk_22 6 (dk_at dksL_law_42 21 rfl rfl)
theorem dL_law_1062 : decode cL_law 1062 = .ok (.lcmp, 1) := dk_148 (dk_at dksL_law_42 23 rfl rfl)
theorem dL_law_1063 : decode cL_law 1063 = .ok (.ifCond .eq 5, 3) := dk_153 0 5 (dk_at dksL_law_43 0 rfl rfl)
theorem dL_law_1066 : decode cL_law 1066 = .ok (.iconst 0, 1) := dk_3 (dk_at dksL_law_43 3 rfl rfl)
theorem dL_law_1067 : decode cL_law 1067 = .ok (.ireturn, 1) := dk_172 (dk_at dksL_law_43 4 rfl rfl)
theorem dL_law_1068 : decode cL_law 1068 = .ok (.goto 313, 3) := dk_167 1 57 (dk_at dksL_law_43 5 rfl rfl)
theorem dL_law_1071 : decode cL_law 1071 = .ok (.aload_n 1, 1) := dk_43 (dk_at dksL_law_43 8 rfl rfl)
theorem dL_law_1072 : decode cL_law 1072 = .ok (.aload_n 0, 1) := dk_42 (dk_at dksL_law_43 9 rfl rfl)
theorem dL_law_1073 : decode cL_law 1073 = .ok (.iload 4, 2) := dk_21 4 (dk_at dksL_law_43 10 rfl rfl)
theorem dL_law_1075 : decode cL_law 1075 = .ok (.iconst 1, 1) := dk_4 (dk_at dksL_law_43 12 rfl rfl)
theorem dL_law_1076 : decode cL_law 1076 = .ok (.iadd, 1) := dk_96 (dk_at dksL_law_43 13 rfl rfl)
theorem dL_law_1077 : decode cL_law 1077 = .ok (.iaload, 1) := dk_46 (dk_at dksL_law_43 14 rfl rfl)
theorem dL_law_1078 : decode cL_law 1078 = .ok (.aload_n 0, 1) := dk_42 (dk_at dksL_law_43 15 rfl rfl)
theorem dL_law_1079 : decode cL_law 1079 = .ok (.iload 4, 2) := dk_21 4 (dk_at dksL_law_43 16 rfl rfl)
theorem dL_law_1081 : decode cL_law 1081 = .ok (.iconst 2, 1) := dk_5 (dk_at dksL_law_43 18 rfl rfl)
theorem dL_law_1082 : decode cL_law 1082 = .ok (.iadd, 1) := dk_96 (dk_at dksL_law_43 19 rfl rfl)
theorem dL_law_1083 : decode cL_law 1083 = .ok (.iaload, 1) := dk_46 (dk_at dksL_law_43 20 rfl rfl)
theorem dL_law_1084 : decode cL_law 1084 = .ok (.aload_n 3, 1) := dk_45 (dk_at dksL_law_43 21 rfl rfl)
theorem dL_law_1085 : decode cL_law 1085 = .ok (.invokestatic 131, 3) := dk_184 0 131 (dk_at dksL_law_44 0 rfl rfl)
theorem dL_law_1088 : decode cL_law 1088 = .ok (.istore 5, 2) := dk_54 5 (dk_at dksL_law_44 3 rfl rfl)
theorem dL_law_1090 : decode cL_law 1090 = .ok (.aload_n 2, 1) := dk_44 (dk_at dksL_law_44 5 rfl rfl)
theorem dL_law_1091 : decode cL_law 1091 = .ok (.aload_n 0, 1) := dk_42 (dk_at dksL_law_44 6 rfl rfl)
theorem dL_law_1092 : decode cL_law 1092 = .ok (.iload 4, 2) := dk_21 4 (dk_at dksL_law_44 7 rfl rfl)
theorem dL_law_1094 : decode cL_law 1094 = .ok (.iconst 1, 1) := dk_4 (dk_at dksL_law_44 9 rfl rfl)
theorem dL_law_1095 : decode cL_law 1095 = .ok (.iadd, 1) := dk_96 (dk_at dksL_law_44 10 rfl rfl)
theorem dL_law_1096 : decode cL_law 1096 = .ok (.iaload, 1) := dk_46 (dk_at dksL_law_44 11 rfl rfl)
theorem dL_law_1097 : decode cL_law 1097 = .ok (.aload_n 0, 1) := dk_42 (dk_at dksL_law_44 12 rfl rfl)
theorem dL_law_1098 : decode cL_law 1098 = .ok (.iload 4, 2) := dk_21 4 (dk_at dksL_law_44 13 rfl rfl)
theorem dL_law_1100 : decode cL_law 1100 = .ok (.iconst 2, 1) := dk_5 (dk_at dksL_law_44 15 rfl rfl)
theorem dL_law_1101 : decode cL_law 1101 = .ok (.iadd, 1) := dk_96 (dk_at dksL_law_44 16 rfl rfl)
theorem dL_law_1102 : decode cL_law 1102 = .ok (.iaload, 1) := dk_46 (dk_at dksL_law_44 17 rfl rfl)
theorem dL_law_1103 : decode cL_law 1103 = .ok (.invokevirtual 133, 3) := dk_182 0 133 (dk_at dksL_law_44 18 rfl rfl)
theorem dL_law_1106 : decode cL_law 1106 = .ok (.istore 6, 2) := dk_54 6 (dk_at dksL_law_44 21 rfl rfl)
theorem dL_law_1108 : decode cL_law 1108 = .ok (.aload_n 2, 1) := dk_44 (dk_at dksL_law_44 23 rfl rfl)
theorem dL_law_1109 : decode cL_law 1109 = .ok (.invokevirtual 82, 3) := dk_182 0 82 (dk_at dksL_law_45 0 rfl rfl)
theorem dL_law_1112 : decode cL_law 1112 = .ok (.iload 5, 2) := dk_21 5 (dk_at dksL_law_45 3 rfl rfl)
theorem dL_law_1114 : decode cL_law 1114 = .ok (.if_icmp .eq 5, 3) := dk_159 0 5 (dk_at dksL_law_45 5 rfl rfl)
theorem dL_law_1117 : decode cL_law 1117 = .ok (.iconst 0, 1) := dk_3 (dk_at dksL_law_45 8 rfl rfl)
theorem dL_law_1118 : decode cL_law 1118 = .ok (.ireturn, 1) := dk_172 (dk_at dksL_law_45 9 rfl rfl)
theorem dL_law_1119 : decode cL_law 1119 = .ok (.iload 5, 2) := dk_21 5 (dk_at dksL_law_45 10 rfl rfl)
theorem dL_law_1121 : decode cL_law 1121 = .ok (.ifCond .ne 15, 3) := dk_154 0 15 (dk_at dksL_law_45 12 rfl rfl)
theorem dL_law_1124 : decode cL_law 1124 = .ok (.aload_n 3, 1) := dk_45 (dk_at dksL_law_45 15 rfl rfl)
theorem dL_law_1125 : decode cL_law 1125 = .ok (.iconst 0, 1) := dk_3 (dk_at dksL_law_45 16 rfl rfl)
theorem dL_law_1126 : decode cL_law 1126 = .ok (.laload, 1) := dk_47 (dk_at dksL_law_45 17 rfl rfl)
theorem dL_law_1127 : decode cL_law 1127 = .ok (.iload 6, 2) := dk_21 6 (dk_at dksL_law_45 18 rfl rfl)
theorem dL_law_1129 : decode cL_law 1129 = .ok (.i2l, 1) := dk_133 (dk_at dksL_law_45 20 rfl rfl)
theorem dL_law_1130 : decode cL_law 1130 = .ok (.lcmp, 1) := dk_148 (dk_at dksL_law_45 21 rfl rfl)
theorem dL_law_1131 : decode cL_law 1131 = .ok (.ifCond .eq 5, 3) := dk_153 0 5 (dk_at dksL_law_46 0 rfl rfl)
theorem dL_law_1134 : decode cL_law 1134 = .ok (.iconst 0, 1) := dk_3 (dk_at dksL_law_46 3 rfl rfl)
theorem dL_law_1135 : decode cL_law 1135 = .ok (.ireturn, 1) := dk_172 (dk_at dksL_law_46 4 rfl rfl)
theorem dL_law_1136 : decode cL_law 1136 = .ok (.goto 245, 3) := dk_167 0 245 (dk_at dksL_law_46 5 rfl rfl)
theorem dL_law_1139 : decode cL_law 1139 = .ok (.aload_n 1, 1) := dk_43 (dk_at dksL_law_46 8 rfl rfl)
theorem dL_law_1140 : decode cL_law 1140 = .ok (.aload_n 0, 1) := dk_42 (dk_at dksL_law_46 9 rfl rfl)
theorem dL_law_1141 : decode cL_law 1141 = .ok (.iload 4, 2) := dk_21 4 (dk_at dksL_law_46 10 rfl rfl)
theorem dL_law_1143 : decode cL_law 1143 = .ok (.iconst 1, 1) := dk_4 (dk_at dksL_law_46 12 rfl rfl)
theorem dL_law_1144 : decode cL_law 1144 = .ok (.iadd, 1) := dk_96 (dk_at dksL_law_46 13 rfl rfl)
theorem dL_law_1145 : decode cL_law 1145 = .ok (.iaload, 1) := dk_46 (dk_at dksL_law_46 14 rfl rfl)
theorem dL_law_1146 : decode cL_law 1146 = .ok (.aload_n 0, 1) := dk_42 (dk_at dksL_law_46 15 rfl rfl)
theorem dL_law_1147 : decode cL_law 1147 = .ok (.iload 4, 2) := dk_21 4 (dk_at dksL_law_46 16 rfl rfl)
theorem dL_law_1149 : decode cL_law 1149 = .ok (.iconst 2, 1) := dk_5 (dk_at dksL_law_46 18 rfl rfl)
theorem dL_law_1150 : decode cL_law 1150 = .ok (.iadd, 1) := dk_96 (dk_at dksL_law_46 19 rfl rfl)
theorem dL_law_1151 : decode cL_law 1151 = .ok (.iaload, 1) := dk_46 (dk_at dksL_law_46 20 rfl rfl)
theorem dL_law_1152 : decode cL_law 1152 = .ok (.i2l, 1) := dk_133 (dk_at dksL_law_46 21 rfl rfl)
theorem dL_law_1153 : decode cL_law 1153 = .ok (.bipush 32, 2) := dk_16 32 (dk_at dksL_law_46 22 rfl rfl)
theorem dL_law_1155 : decode cL_law 1155 = .ok (.lshl, 1) := dk_121 (dk_at dksL_law_47 0 rfl rfl)
theorem dL_law_1156 : decode cL_law 1156 = .ok (.aload_n 0, 1) := dk_42 (dk_at dksL_law_47 1 rfl rfl)
theorem dL_law_1157 : decode cL_law 1157 = .ok (.iload 4, 2) := dk_21 4 (dk_at dksL_law_47 2 rfl rfl)
theorem dL_law_1159 : decode cL_law 1159 = .ok (.iconst 3, 1) := dk_6 (dk_at dksL_law_47 4 rfl rfl)
theorem dL_law_1160 : decode cL_law 1160 = .ok (.iadd, 1) := dk_96 (dk_at dksL_law_47 5 rfl rfl)
theorem dL_law_1161 : decode cL_law 1161 = .ok (.iaload, 1) := dk_46 (dk_at dksL_law_47 6 rfl rfl)
theorem dL_law_1162 : decode cL_law 1162 = .ok (.i2l, 1) := dk_133 (dk_at dksL_law_47 7 rfl rfl)
theorem dL_law_1163 : decode cL_law 1163 = .ok (.ldc2_w 74, 3) := dk_20 0 74 (dk_at dksL_law_47 8 rfl rfl)
theorem dL_law_1166 : decode cL_law 1166 = .ok (.land, 1) := dk_127 (dk_at dksL_law_47 11 rfl rfl)
theorem dL_law_1167 : decode cL_law 1167 = .ok (.lor, 1) := dk_129 (dk_at dksL_law_47 12 rfl rfl)
theorem dL_law_1168 : decode cL_law 1168 = .ok (.aload_n 0, 1) := dk_42 (dk_at dksL_law_47 13 rfl rfl)
theorem dL_law_1169 : decode cL_law 1169 = .ok (.iload 4, 2) := dk_21 4 (dk_at dksL_law_47 14 rfl rfl)
theorem dL_law_1171 : decode cL_law 1171 = .ok (.iconst 4, 1) := dk_7 (dk_at dksL_law_47 16 rfl rfl)
theorem dL_law_1172 : decode cL_law 1172 = .ok (.iadd, 1) := dk_96 (dk_at dksL_law_47 17 rfl rfl)
theorem dL_law_1173 : decode cL_law 1173 = .ok (.iaload, 1) := dk_46 (dk_at dksL_law_47 18 rfl rfl)
theorem dL_law_1174 : decode cL_law 1174 = .ok (.i2l, 1) := dk_133 (dk_at dksL_law_47 19 rfl rfl)
theorem dL_law_1175 : decode cL_law 1175 = .ok (.bipush 32, 2) := dk_16 32 (dk_at dksL_law_47 20 rfl rfl)
theorem dL_law_1177 : decode cL_law 1177 = .ok (.lshl, 1) := dk_121 (dk_at dksL_law_47 22 rfl rfl)
theorem dL_law_1178 : decode cL_law 1178 = .ok (.aload_n 0, 1) := dk_42 (dk_at dksL_law_47 23 rfl rfl)
theorem dL_law_1179 : decode cL_law 1179 = .ok (.iload 4, 2) := dk_21 4 (dk_at dksL_law_48 0 rfl rfl)
theorem dL_law_1181 : decode cL_law 1181 = .ok (.iconst 5, 1) := dk_8 (dk_at dksL_law_48 2 rfl rfl)
theorem dL_law_1182 : decode cL_law 1182 = .ok (.iadd, 1) := dk_96 (dk_at dksL_law_48 3 rfl rfl)
theorem dL_law_1183 : decode cL_law 1183 = .ok (.iaload, 1) := dk_46 (dk_at dksL_law_48 4 rfl rfl)
theorem dL_law_1184 : decode cL_law 1184 = .ok (.i2l, 1) := dk_133 (dk_at dksL_law_48 5 rfl rfl)
theorem dL_law_1185 : decode cL_law 1185 = .ok (.ldc2_w 74, 3) := dk_20 0 74 (dk_at dksL_law_48 6 rfl rfl)
theorem dL_law_1188 : decode cL_law 1188 = .ok (.land, 1) := dk_127 (dk_at dksL_law_48 9 rfl rfl)
theorem dL_law_1189 : decode cL_law 1189 = .ok (.lor, 1) := dk_129 (dk_at dksL_law_48 10 rfl rfl)
theorem dL_law_1190 : decode cL_law 1190 = .ok (.aload_n 3, 1) := dk_45 (dk_at dksL_law_48 11 rfl rfl)
theorem dL_law_1191 : decode cL_law 1191 = .ok (.invokestatic 134, 3) := dk_184 0 134 (dk_at dksL_law_48 12 rfl rfl)
theorem dL_law_1194 : decode cL_law 1194 = .ok (.istore 5, 2) := dk_54 5 (dk_at dksL_law_48 15 rfl rfl)
theorem dL_law_1196 : decode cL_law 1196 = .ok (.aload_n 2, 1) := dk_44 (dk_at dksL_law_48 17 rfl rfl)
theorem dL_law_1197 : decode cL_law 1197 = .ok (.aload_n 0, 1) := dk_42 (dk_at dksL_law_48 18 rfl rfl)
theorem dL_law_1198 : decode cL_law 1198 = .ok (.iload 4, 2) := dk_21 4 (dk_at dksL_law_48 19 rfl rfl)
theorem dL_law_1200 : decode cL_law 1200 = .ok (.iconst 1, 1) := dk_4 (dk_at dksL_law_48 21 rfl rfl)
theorem dL_law_1201 : decode cL_law 1201 = .ok (.iadd, 1) := dk_96 (dk_at dksL_law_48 22 rfl rfl)
theorem dL_law_1202 : decode cL_law 1202 = .ok (.iaload, 1) := dk_46 (dk_at dksL_law_48 23 rfl rfl)
theorem dL_law_1203 : decode cL_law 1203 = .ok (.aload_n 0, 1) := dk_42 (dk_at dksL_law_49 0 rfl rfl)
theorem dL_law_1204 : decode cL_law 1204 = .ok (.iload 4, 2) := dk_21 4 (dk_at dksL_law_49 1 rfl rfl)
theorem dL_law_1206 : decode cL_law 1206 = .ok (.iconst 2, 1) := dk_5 (dk_at dksL_law_49 3 rfl rfl)
theorem dL_law_1207 : decode cL_law 1207 = .ok (.iadd, 1) := dk_96 (dk_at dksL_law_49 4 rfl rfl)
theorem dL_law_1208 : decode cL_law 1208 = .ok (.iaload, 1) := dk_46 (dk_at dksL_law_49 5 rfl rfl)
theorem dL_law_1209 : decode cL_law 1209 = .ok (.i2l, 1) := dk_133 (dk_at dksL_law_49 6 rfl rfl)
theorem dL_law_1210 : decode cL_law 1210 = .ok (.bipush 32, 2) := dk_16 32 (dk_at dksL_law_49 7 rfl rfl)
theorem dL_law_1212 : decode cL_law 1212 = .ok (.lshl, 1) := dk_121 (dk_at dksL_law_49 9 rfl rfl)
theorem dL_law_1213 : decode cL_law 1213 = .ok (.aload_n 0, 1) := dk_42 (dk_at dksL_law_49 10 rfl rfl)
theorem dL_law_1214 : decode cL_law 1214 = .ok (.iload 4, 2) := dk_21 4 (dk_at dksL_law_49 11 rfl rfl)
theorem dL_law_1216 : decode cL_law 1216 = .ok (.iconst 3, 1) := dk_6 (dk_at dksL_law_49 13 rfl rfl)
theorem dL_law_1217 : decode cL_law 1217 = .ok (.iadd, 1) := dk_96 (dk_at dksL_law_49 14 rfl rfl)
theorem dL_law_1218 : decode cL_law 1218 = .ok (.iaload, 1) := dk_46 (dk_at dksL_law_49 15 rfl rfl)
theorem dL_law_1219 : decode cL_law 1219 = .ok (.i2l, 1) := dk_133 (dk_at dksL_law_49 16 rfl rfl)
theorem dL_law_1220 : decode cL_law 1220 = .ok (.ldc2_w 74, 3) := dk_20 0 74 (dk_at dksL_law_49 17 rfl rfl)
theorem dL_law_1223 : decode cL_law 1223 = .ok (.land, 1) := dk_127 (dk_at dksL_law_49 20 rfl rfl)
theorem dL_law_1224 : decode cL_law 1224 = .ok (.lor, 1) := dk_129 (dk_at dksL_law_49 21 rfl rfl)
theorem dL_law_1225 : decode cL_law 1225 = .ok (.aload_n 0, 1) := dk_42 (dk_at dksL_law_49 22 rfl rfl)
theorem dL_law_1226 : decode cL_law 1226 = .ok (.iload 4, 2) := dk_21 4 (dk_at dksL_law_50 0 rfl rfl)
theorem dL_law_1228 : decode cL_law 1228 = .ok (.iconst 4, 1) := dk_7 (dk_at dksL_law_50 2 rfl rfl)
theorem dL_law_1229 : decode cL_law 1229 = .ok (.iadd, 1) := dk_96 (dk_at dksL_law_50 3 rfl rfl)
theorem dL_law_1230 : decode cL_law 1230 = .ok (.iaload, 1) := dk_46 (dk_at dksL_law_50 4 rfl rfl)
theorem dL_law_1231 : decode cL_law 1231 = .ok (.i2l, 1) := dk_133 (dk_at dksL_law_50 5 rfl rfl)
theorem dL_law_1232 : decode cL_law 1232 = .ok (.bipush 32, 2) := dk_16 32 (dk_at dksL_law_50 6 rfl rfl)
theorem dL_law_1234 : decode cL_law 1234 = .ok (.lshl, 1) := dk_121 (dk_at dksL_law_50 8 rfl rfl)
theorem dL_law_1235 : decode cL_law 1235 = .ok (.aload_n 0, 1) := dk_42 (dk_at dksL_law_50 9 rfl rfl)
theorem dL_law_1236 : decode cL_law 1236 = .ok (.iload 4, 2) := dk_21 4 (dk_at dksL_law_50 10 rfl rfl)
theorem dL_law_1238 : decode cL_law 1238 = .ok (.iconst 5, 1) := dk_8 (dk_at dksL_law_50 12 rfl rfl)
theorem dL_law_1239 : decode cL_law 1239 = .ok (.iadd, 1) := dk_96 (dk_at dksL_law_50 13 rfl rfl)
theorem dL_law_1240 : decode cL_law 1240 = .ok (.iaload, 1) := dk_46 (dk_at dksL_law_50 14 rfl rfl)
theorem dL_law_1241 : decode cL_law 1241 = .ok (.i2l, 1) := dk_133 (dk_at dksL_law_50 15 rfl rfl)
theorem dL_law_1242 : decode cL_law 1242 = .ok (.ldc2_w 74, 3) := dk_20 0 74 (dk_at dksL_law_50 16 rfl rfl)
theorem dL_law_1245 : decode cL_law 1245 = .ok (.land, 1) := dk_127 (dk_at dksL_law_50 19 rfl rfl)
theorem dL_law_1246 : decode cL_law 1246 = .ok (.lor, 1) := dk_129 (dk_at dksL_law_50 20 rfl rfl)
theorem dL_law_1247 : decode cL_law 1247 = .ok (.invokevirtual 137, 3) := dk_182 0 137 (dk_at dksL_law_50 21 rfl rfl)
theorem dL_law_1250 : decode cL_law 1250 = .ok (.lstore 6, 2) := dk_55 6 (dk_at dksL_law_51 0 rfl rfl)
theorem dL_law_1252 : decode cL_law 1252 = .ok (.aload_n 2, 1) := dk_44 (dk_at dksL_law_51 2 rfl rfl)
theorem dL_law_1253 : decode cL_law 1253 = .ok (.invokevirtual 82, 3) := dk_182 0 82 (dk_at dksL_law_51 3 rfl rfl)
theorem dL_law_1256 : decode cL_law 1256 = .ok (.iload 5, 2) := dk_21 5 (dk_at dksL_law_51 6 rfl rfl)
theorem dL_law_1258 : decode cL_law 1258 = .ok (.if_icmp .eq 5, 3) := dk_159 0 5 (dk_at dksL_law_51 8 rfl rfl)
theorem dL_law_1261 : decode cL_law 1261 = .ok (.iconst 0, 1) := dk_3 (dk_at dksL_law_51 11 rfl rfl)
theorem dL_law_1262 : decode cL_law 1262 = .ok (.ireturn, 1) := dk_172 (dk_at dksL_law_51 12 rfl rfl)
theorem dL_law_1263 : decode cL_law 1263 = .ok (.iload 5, 2) := dk_21 5 (dk_at dksL_law_51 13 rfl rfl)
theorem dL_law_1265 : decode cL_law 1265 = .ok (.ifCond .ne 14, 3) := dk_154 0 14 (dk_at dksL_law_51 15 rfl rfl)
theorem dL_law_1268 : decode cL_law 1268 = .ok (.aload_n 3, 1) := dk_45 (dk_at dksL_law_51 18 rfl rfl)
theorem dL_law_1269 : decode cL_law 1269 = .ok (.iconst 0, 1) := dk_3 (dk_at dksL_law_51 19 rfl rfl)
theorem dL_law_1270 : decode cL_law 1270 = .ok (.laload, 1) := dk_47 (dk_at dksL_law_51 20 rfl rfl)
theorem dL_law_1271 : decode cL_law 1271 = .ok (.lload 6, 2) := dk_22 6 (dk_at dksL_law_51 21 rfl rfl)
theorem dL_law_1273 : decode cL_law 1273 = .ok (.lcmp, 1) := dk_148 (dk_at dksL_law_51 23 rfl rfl)
theorem dL_law_1274 : decode cL_law 1274 = .ok (.ifCond .eq 5, 3) := dk_153 0 5 (dk_at dksL_law_52 0 rfl rfl)
theorem dL_law_1277 : decode cL_law 1277 = .ok (.iconst 0, 1) := dk_3 (dk_at dksL_law_52 3 rfl rfl)
theorem dL_law_1278 : decode cL_law 1278 = .ok (.ireturn, 1) := dk_172 (dk_at dksL_law_52 4 rfl rfl)
theorem dL_law_1279 : decode cL_law 1279 = .ok (.goto 102, 3) := dk_167 0 102 (dk_at dksL_law_52 5 rfl rfl)
theorem dL_law_1282 : decode cL_law 1282 = .ok (.aload_n 1, 1) := dk_43 (dk_at dksL_law_52 8 rfl rfl)
theorem dL_law_1283 : decode cL_law 1283 = .ok (.aload_n 0, 1) := dk_42 (dk_at dksL_law_52 9 rfl rfl)
theorem dL_law_1284 : decode cL_law 1284 = .ok (.iload 4, 2) := dk_21 4 (dk_at dksL_law_52 10 rfl rfl)
theorem dL_law_1286 : decode cL_law 1286 = .ok (.iconst 1, 1) := dk_4 (dk_at dksL_law_52 12 rfl rfl)
theorem dL_law_1287 : decode cL_law 1287 = .ok (.iadd, 1) := dk_96 (dk_at dksL_law_52 13 rfl rfl)
theorem dL_law_1288 : decode cL_law 1288 = .ok (.iaload, 1) := dk_46 (dk_at dksL_law_52 14 rfl rfl)
theorem dL_law_1289 : decode cL_law 1289 = .ok (.aload_n 0, 1) := dk_42 (dk_at dksL_law_52 15 rfl rfl)
theorem dL_law_1290 : decode cL_law 1290 = .ok (.iload 4, 2) := dk_21 4 (dk_at dksL_law_52 16 rfl rfl)
theorem dL_law_1292 : decode cL_law 1292 = .ok (.iconst 2, 1) := dk_5 (dk_at dksL_law_52 18 rfl rfl)
theorem dL_law_1293 : decode cL_law 1293 = .ok (.iadd, 1) := dk_96 (dk_at dksL_law_52 19 rfl rfl)
theorem dL_law_1294 : decode cL_law 1294 = .ok (.iaload, 1) := dk_46 (dk_at dksL_law_52 20 rfl rfl)
theorem dL_law_1295 : decode cL_law 1295 = .ok (.i2l, 1) := dk_133 (dk_at dksL_law_52 21 rfl rfl)
theorem dL_law_1296 : decode cL_law 1296 = .ok (.bipush 32, 2) := dk_16 32 (dk_at dksL_law_52 22 rfl rfl)
theorem dL_law_1298 : decode cL_law 1298 = .ok (.lshl, 1) := dk_121 (dk_at dksL_law_53 0 rfl rfl)
theorem dL_law_1299 : decode cL_law 1299 = .ok (.aload_n 0, 1) := dk_42 (dk_at dksL_law_53 1 rfl rfl)
theorem dL_law_1300 : decode cL_law 1300 = .ok (.iload 4, 2) := dk_21 4 (dk_at dksL_law_53 2 rfl rfl)
theorem dL_law_1302 : decode cL_law 1302 = .ok (.iconst 3, 1) := dk_6 (dk_at dksL_law_53 4 rfl rfl)
theorem dL_law_1303 : decode cL_law 1303 = .ok (.iadd, 1) := dk_96 (dk_at dksL_law_53 5 rfl rfl)
theorem dL_law_1304 : decode cL_law 1304 = .ok (.iaload, 1) := dk_46 (dk_at dksL_law_53 6 rfl rfl)
theorem dL_law_1305 : decode cL_law 1305 = .ok (.i2l, 1) := dk_133 (dk_at dksL_law_53 7 rfl rfl)
theorem dL_law_1306 : decode cL_law 1306 = .ok (.ldc2_w 74, 3) := dk_20 0 74 (dk_at dksL_law_53 8 rfl rfl)
theorem dL_law_1309 : decode cL_law 1309 = .ok (.land, 1) := dk_127 (dk_at dksL_law_53 11 rfl rfl)
theorem dL_law_1310 : decode cL_law 1310 = .ok (.lor, 1) := dk_129 (dk_at dksL_law_53 12 rfl rfl)
theorem dL_law_1311 : decode cL_law 1311 = .ok (.aload_n 3, 1) := dk_45 (dk_at dksL_law_53 13 rfl rfl)
theorem dL_law_1312 : decode cL_law 1312 = .ok (.invokestatic 138, 3) := dk_184 0 138 (dk_at dksL_law_53 14 rfl rfl)
theorem dL_law_1315 : decode cL_law 1315 = .ok (.istore 5, 2) := dk_54 5 (dk_at dksL_law_53 17 rfl rfl)
theorem dL_law_1317 : decode cL_law 1317 = .ok (.aload_n 2, 1) := dk_44 (dk_at dksL_law_53 19 rfl rfl)
theorem dL_law_1318 : decode cL_law 1318 = .ok (.aload_n 0, 1) := dk_42 (dk_at dksL_law_53 20 rfl rfl)
theorem dL_law_1319 : decode cL_law 1319 = .ok (.iload 4, 2) := dk_21 4 (dk_at dksL_law_53 21 rfl rfl)
theorem dL_law_1321 : decode cL_law 1321 = .ok (.iconst 1, 1) := dk_4 (dk_at dksL_law_53 23 rfl rfl)
theorem dL_law_1322 : decode cL_law 1322 = .ok (.iadd, 1) := dk_96 (dk_at dksL_law_54 0 rfl rfl)
theorem dL_law_1323 : decode cL_law 1323 = .ok (.iaload, 1) := dk_46 (dk_at dksL_law_54 1 rfl rfl)
theorem dL_law_1324 : decode cL_law 1324 = .ok (.aload_n 0, 1) := dk_42 (dk_at dksL_law_54 2 rfl rfl)
theorem dL_law_1325 : decode cL_law 1325 = .ok (.iload 4, 2) := dk_21 4 (dk_at dksL_law_54 3 rfl rfl)
theorem dL_law_1327 : decode cL_law 1327 = .ok (.iconst 2, 1) := dk_5 (dk_at dksL_law_54 5 rfl rfl)
theorem dL_law_1328 : decode cL_law 1328 = .ok (.iadd, 1) := dk_96 (dk_at dksL_law_54 6 rfl rfl)
theorem dL_law_1329 : decode cL_law 1329 = .ok (.iaload, 1) := dk_46 (dk_at dksL_law_54 7 rfl rfl)
theorem dL_law_1330 : decode cL_law 1330 = .ok (.i2l, 1) := dk_133 (dk_at dksL_law_54 8 rfl rfl)
theorem dL_law_1331 : decode cL_law 1331 = .ok (.bipush 32, 2) := dk_16 32 (dk_at dksL_law_54 9 rfl rfl)
theorem dL_law_1333 : decode cL_law 1333 = .ok (.lshl, 1) := dk_121 (dk_at dksL_law_54 11 rfl rfl)
theorem dL_law_1334 : decode cL_law 1334 = .ok (.aload_n 0, 1) := dk_42 (dk_at dksL_law_54 12 rfl rfl)
theorem dL_law_1335 : decode cL_law 1335 = .ok (.iload 4, 2) := dk_21 4 (dk_at dksL_law_54 13 rfl rfl)
theorem dL_law_1337 : decode cL_law 1337 = .ok (.iconst 3, 1) := dk_6 (dk_at dksL_law_54 15 rfl rfl)
theorem dL_law_1338 : decode cL_law 1338 = .ok (.iadd, 1) := dk_96 (dk_at dksL_law_54 16 rfl rfl)
theorem dL_law_1339 : decode cL_law 1339 = .ok (.iaload, 1) := dk_46 (dk_at dksL_law_54 17 rfl rfl)
theorem dL_law_1340 : decode cL_law 1340 = .ok (.i2l, 1) := dk_133 (dk_at dksL_law_54 18 rfl rfl)
theorem dL_law_1341 : decode cL_law 1341 = .ok (.ldc2_w 74, 3) := dk_20 0 74 (dk_at dksL_law_54 19 rfl rfl)
theorem dL_law_1344 : decode cL_law 1344 = .ok (.land, 1) := dk_127 (dk_at dksL_law_54 22 rfl rfl)
theorem dL_law_1345 : decode cL_law 1345 = .ok (.lor, 1) := dk_129 (dk_at dksL_law_54 23 rfl rfl)
theorem dL_law_1346 : decode cL_law 1346 = .ok (.invokevirtual 140, 3) := dk_182 0 140 (dk_at dksL_law_55 0 rfl rfl)
theorem dL_law_1349 : decode cL_law 1349 = .ok (.lstore 6, 2) := dk_55 6 (dk_at dksL_law_55 3 rfl rfl)
theorem dL_law_1351 : decode cL_law 1351 = .ok (.aload_n 2, 1) := dk_44 (dk_at dksL_law_55 5 rfl rfl)
theorem dL_law_1352 : decode cL_law 1352 = .ok (.invokevirtual 82, 3) := dk_182 0 82 (dk_at dksL_law_55 6 rfl rfl)
theorem dL_law_1355 : decode cL_law 1355 = .ok (.iload 5, 2) := dk_21 5 (dk_at dksL_law_55 9 rfl rfl)
theorem dL_law_1357 : decode cL_law 1357 = .ok (.if_icmp .eq 5, 3) := dk_159 0 5 (dk_at dksL_law_55 11 rfl rfl)
theorem dL_law_1360 : decode cL_law 1360 = .ok (.iconst 0, 1) := dk_3 (dk_at dksL_law_55 14 rfl rfl)
theorem dL_law_1361 : decode cL_law 1361 = .ok (.ireturn, 1) := dk_172 (dk_at dksL_law_55 15 rfl rfl)
theorem dL_law_1362 : decode cL_law 1362 = .ok (.iload 5, 2) := dk_21 5 (dk_at dksL_law_55 16 rfl rfl)
theorem dL_law_1364 : decode cL_law 1364 = .ok (.ifCond .ne 14, 3) := dk_154 0 14 (dk_at dksL_law_55 18 rfl rfl)
theorem dL_law_1367 : decode cL_law 1367 = .ok (.aload_n 3, 1) := dk_45 (dk_at dksL_law_55 21 rfl rfl)
theorem dL_law_1368 : decode cL_law 1368 = .ok (.iconst 0, 1) := dk_3 (dk_at dksL_law_55 22 rfl rfl)
theorem dL_law_1369 : decode cL_law 1369 = .ok (.laload, 1) := dk_47 (dk_at dksL_law_55 23 rfl rfl)
theorem dL_law_1370 : decode cL_law 1370 = .ok (.lload 6, 2) := dk_22 6 (dk_at dksL_law_56 0 rfl rfl)
theorem dL_law_1372 : decode cL_law 1372 = .ok (.lcmp, 1) := dk_148 (dk_at dksL_law_56 2 rfl rfl)
theorem dL_law_1373 : decode cL_law 1373 = .ok (.ifCond .eq 5, 3) := dk_153 0 5 (dk_at dksL_law_56 3 rfl rfl)
theorem dL_law_1376 : decode cL_law 1376 = .ok (.iconst 0, 1) := dk_3 (dk_at dksL_law_56 6 rfl rfl)
theorem dL_law_1377 : decode cL_law 1377 = .ok (.ireturn, 1) := dk_172 (dk_at dksL_law_56 7 rfl rfl)
theorem dL_law_1378 : decode cL_law 1378 = .ok (.goto 3, 3) := dk_167 0 3 (dk_at dksL_law_56 8 rfl rfl)
theorem dL_law_1381 : decode cL_law 1381 = .ok (.iinc 4 6, 3) := dk_132 4 6 (dk_at dksL_law_56 11 rfl rfl)
theorem dL_law_1384 : decode cL_law 1384 = .ok (.goto (-1361), 3) := dk_167 250 175 (dk_at dksL_law_56 14 rfl rfl)
theorem dL_law_1387 : decode cL_law 1387 = .ok (.iconst 1, 1) := dk_4 (dk_at dksL_law_56 17 rfl rfl)
theorem dL_law_1388 : decode cL_law 1388 = .ok (.ireturn, 1) := dk_172 (dk_at dksL_law_56 18 rfl rfl)
