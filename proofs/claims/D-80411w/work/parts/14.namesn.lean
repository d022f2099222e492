/-! NumberModels -/
set_option maxRecDepth 100000
def RX1 : String := "NumberModels"
def TX1 : u_T := fun k => match k with
  | 0 => ("NumberModels", "directions", "[LNumberModels$Rounds;", true)
  | 1 => ("NumberModels", "items", "[LNumberModels$Item;", true)
  | 2 => ("NumberModels", "many", "I", false)
  | 3 => ("NumberModels", "p", "LNumberModels$Wide;", true)
  | 4 => ("NumberModels", "q", "LNumberModels$Wide;", true)
  | 5 => ("NumberModels", "\x72", "LNumberModels$Wide;", true)
  | 6 => ("NumberModels", "s", "LNumberModels$Wide;", true)
  | 7 => ("NumberModels", "t", "LNumberModels$Wide;", true)
  | 8 => ("NumberModels", "u", "LNumberModels$Wide;", true)
  | 9 => ("NumberModels", "v", "LNumberModels$Wide;", true)
  | 10 => ("NumberModels", "x", "LNumberModels$Wide;", true)
  | 11 => ("NumberModels", "y", "LNumberModels$Wide;", true)
  | 12 => ("NumberModels", "z", "LNumberModels$Wide;", true)
  | 13 => ("NumberModels", "sign", "I", false)
  | 14 => ("NumberModels", "reached", "J", false)
  | 15 => ("NumberModels", "left", "I", false)
  | _ => ("NumberModels", "isLeft", "Z", false)
def tyX1 : Nat → FieldType := fun k => match k with
  | 0 => .array (.object "NumberModels$Rounds")
  | 1 => .array (.object "NumberModels$Item")
  | 2 => .int
  | 3 => .object "NumberModels$Wide"
  | 4 => .object "NumberModels$Wide"
  | 5 => .object "NumberModels$Wide"
  | 6 => .object "NumberModels$Wide"
  | 7 => .object "NumberModels$Wide"
  | 8 => .object "NumberModels$Wide"
  | 9 => .object "NumberModels$Wide"
  | 10 => .object "NumberModels$Wide"
  | 11 => .object "NumberModels$Wide"
  | 12 => .object "NumberModels$Wide"
  | 13 => .int
  | 14 => .long
  | 15 => .int
  | _ => .boolean
abbrev wsX10 : List Cond := u_ws RX1 TX1 17
set_option maxRecDepth 100000 in
theorem nmX1 : ∀ a, a < 17 → ∀ b, b < 17 → a ≠ b → (TX1 a).2.1 ≠ (TX1 b).2.1 := by decide +kernel
set_option maxRecDepth 100000 in
theorem tyX1_ok : ∀ k, k < 17 → parseFieldDescriptor (TX1 k).2.2.1 = some (tyX1 k) := by decide +kernel
abbrev cX1_init : ByteArray := prog_1_method_1_code
def yX1_init : MethodName := ⟨RX1, "<init>", "()V"⟩
def dkwX1_init_7 : List UInt8 := [187, 0, 33, 89, 183, 0, 35, 181, 0, 64, 177]
abbrev dktX1_init_7 : List UInt8 := dkwX1_init_7 ++ []
def dkwX1_init_6 : List UInt8 := [187, 0, 33, 89, 183, 0, 35, 181, 0, 58, 42, 187, 0, 33, 89, 183, 0, 35, 181, 0, 61, 42]
abbrev dktX1_init_6 : List UInt8 := dkwX1_init_6 ++ dktX1_init_7
def dkwX1_init_5 : List UInt8 := [187, 0, 33, 89, 183, 0, 35, 181, 0, 52, 42, 187, 0, 33, 89, 183, 0, 35, 181, 0, 55, 42]
abbrev dktX1_init_5 : List UInt8 := dkwX1_init_5 ++ dktX1_init_6
def dkwX1_init_4 : List UInt8 := [187, 0, 33, 89, 183, 0, 35, 181, 0, 46, 42, 187, 0, 33, 89, 183, 0, 35, 181, 0, 49, 42]
abbrev dktX1_init_4 : List UInt8 := dkwX1_init_4 ++ dktX1_init_5
def dkwX1_init_3 : List UInt8 := [42, 187, 0, 33, 89, 183, 0, 35, 181, 0, 40, 42, 187, 0, 33, 89, 183, 0, 35, 181, 0, 43, 42]
abbrev dktX1_init_3 : List UInt8 := dkwX1_init_3 ++ dktX1_init_4
def dkwX1_init_2 : List UInt8 := [83, 181, 0, 21, 42, 16, 60, 189, 0, 27, 181, 0, 29, 42, 187, 0, 33, 89, 183, 0, 35, 181, 0, 36]
abbrev dktX1_init_2 : List UInt8 := dkwX1_init_2 ++ dktX1_init_3
def dkwX1_init_1 : List UInt8 := [89, 183, 0, 14, 83, 89, 5, 187, 0, 15, 89, 183, 0, 17, 83, 89, 6, 187, 0, 18, 89, 183, 0, 20]
abbrev dktX1_init_1 : List UInt8 := dkwX1_init_1 ++ dktX1_init_2
def dkwX1_init_0 : List UInt8 := [42, 183, 0, 1, 42, 7, 189, 0, 7, 89, 3, 187, 0, 9, 89, 183, 0, 11, 83, 89, 4, 187, 0, 12]
abbrev dktX1_init_0 : List UInt8 := dkwX1_init_0 ++ dktX1_init_1
theorem dksX1_init_0 : cX1_init.data.toList.drop 0 = dktX1_init_0 := by decide +kernel
theorem dksX1_init_1 : cX1_init.data.toList.drop 24 = dktX1_init_1 := dk_seg dksX1_init_0 24 rfl rfl
theorem dksX1_init_2 : cX1_init.data.toList.drop 48 = dktX1_init_2 := dk_seg dksX1_init_1 24 rfl rfl
theorem dksX1_init_3 : cX1_init.data.toList.drop 72 = dktX1_init_3 := dk_seg dksX1_init_2 24 rfl rfl
theorem dksX1_init_4 : cX1_init.data.toList.drop 95 = dktX1_init_4 := dk_seg dksX1_init_3 23 rfl rfl
theorem dksX1_init_5 : cX1_init.data.toList.drop 117 = dktX1_init_5 := dk_seg dksX1_init_4 22 rfl rfl
theorem dksX1_init_6 : cX1_init.data.toList.drop 139 = dktX1_init_6 := dk_seg dksX1_init_5 22 rfl rfl
theorem dksX1_init_7 : cX1_init.data.toList.drop 161 = dktX1_init_7 := dk_seg dksX1_init_6 22 rfl rfl
theorem dX1_init_0 : decode cX1_init 0 = .ok (.aload_n 0, 1) := dk_42 (dk_at dksX1_init_0 0 rfl rfl)
theorem dX1_init_1 : decode cX1_init 1 = .ok (.invokespecial 1, 3) := dk_183 0 1 (dk_at dksX1_init_0 1 rfl rfl)
theorem dX1_init_4 : decode cX1_init 4 = .ok (.aload_n 0, 1) := dk_42 (dk_at dksX1_init_0 4 rfl rfl)
theorem dX1_init_5 : decode cX1_init 5 = .ok (.iconst 4, 1) := dk_7 (dk_at dksX1_init_0 5 rfl rfl)
theorem dX1_init_6 : decode cX1_init 6 = .ok (.anewarray 7, 3) := dk_189 0 7 (dk_at dksX1_init_0 6 rfl rfl)
theorem dX1_init_9 : decode cX1_init 9 = .ok (.dup, 1) := dk_89 (dk_at dksX1_init_0 9 rfl rfl)
theorem dX1_init_10 : decode cX1_init 10 = .ok (.iconst 0, 1) := dk_3 (dk_at dksX1_init_0 10 rfl rfl)
theorem dX1_init_11 : decode cX1_init 11 = .ok (.new 9, 3) := dk_187 0 9 (dk_at dksX1_init_0 11 rfl rfl)
theorem dX1_init_14 : decode cX1_init 14 = .ok (.dup, 1) := dk_89 (dk_at dksX1_init_0 14 rfl rfl)
theorem dX1_init_15 : decode cX1_init 15 = .ok (.invokespecial 11, 3) := dk_183 0 11 (dk_at dksX1_init_0 15 rfl rfl)
theorem dX1_init_18 : decode cX1_init 18 = .ok (.aastore, 1) := dk_83 (dk_at dksX1_init_0 18 rfl rfl)
theorem dX1_init_19 : decode cX1_init 19 = .ok (.dup, 1) := dk_89 (dk_at dksX1_init_0 19 rfl rfl)
theorem dX1_init_20 : decode cX1_init 20 = .ok (.iconst 1, 1) := dk_4 (dk_at dksX1_init_0 20 rfl rfl)
theorem dX1_init_21 : decode cX1_init 21 = .ok (.new 12, 3) := dk_187 0 12 (dk_at dksX1_init_0 21 rfl rfl)
theorem dX1_init_24 : decode cX1_init 24 = .ok (.dup, 1) := dk_89 (dk_at dksX1_init_1 0 rfl rfl)
theorem dX1_init_25 : decode cX1_init 25 = .ok (.invokespecial 14, 3) := dk_183 0 14 (dk_at dksX1_init_1 1 rfl rfl)
theorem dX1_init_28 : decode cX1_init 28 = .ok (.aastore, 1) := dk_83 (dk_at dksX1_init_1 4 rfl rfl)
theorem dX1_init_29 : decode cX1_init 29 = .ok (.dup, 1) := dk_89 (dk_at dksX1_init_1 5 rfl rfl)
theorem dX1_init_30 : decode cX1_init 30 = .ok (.iconst 2, 1) := dk_5 (dk_at dksX1_init_1 6 rfl rfl)
theorem dX1_init_31 : decode cX1_init 31 = .ok (.new 15, 3) := dk_187 0 15 (dk_at dksX1_init_1 7 rfl rfl)
theorem dX1_init_34 : decode cX1_init 34 = .ok (.dup, 1) := dk_89 (dk_at dksX1_init_1 10 rfl rfl)
theorem dX1_init_35 : decode cX1_init 35 = .ok (.invokespecial 17, 3) := dk_183 0 17 (dk_at dksX1_init_1 11 rfl rfl)
theorem dX1_init_38 : decode cX1_init 38 = .ok (.aastore, 1) := dk_83 (dk_at dksX1_init_1 14 rfl rfl)
theorem dX1_init_39 : decode cX1_init 39 = .ok (.dup, 1) := dk_89 (dk_at dksX1_init_1 15 rfl rfl)
theorem dX1_init_40 : decode cX1_init 40 = .ok (.iconst 3, 1) := dk_6 (dk_at dksX1_init_1 16 rfl rfl)
theorem dX1_init_41 : decode cX1_init 41 = .ok (.new 18, 3) := dk_187 0 18 (dk_at dksX1_init_1 17 rfl rfl)
theorem dX1_init_44 : decode cX1_init 44 = .ok (.dup, 1) := dk_89 (dk_at dksX1_init_1 20 rfl rfl)
theorem dX1_init_45 : decode cX1_init 45 = .ok (.invokespecial 20, 3) := dk_183 0 20 (dk_at dksX1_init_1 21 rfl rfl)
theorem dX1_init_48 : decode cX1_init 48 = .ok (.aastore, 1) := dk_83 (dk_at dksX1_init_2 0 rfl rfl)
theorem dX1_init_49 : decode cX1_init 49 = .ok (.putfield 21, 3) := dk_181 0 21 (dk_at dksX1_init_2 1 rfl rfl)
theorem dX1_init_52 : decode cX1_init 52 = .ok (.aload_n 0, 1) := dk_42 (dk_at dksX1_init_2 4 rfl rfl)
theorem dX1_init_53 : decode cX1_init 53 = .ok (.bipush 60, 2) := dk_16 60 (dk_at dksX1_init_2 5 rfl rfl)
theorem dX1_init_55 : decode cX1_init 55 = .ok (.anewarray 27, 3) := dk_189 0 27 (dk_at dksX1_init_2 7 rfl rfl)
theorem dX1_init_58 : decode cX1_init 58 = .ok (.putfield 29, 3) := dk_181 0 29 (dk_at dksX1_init_2 10 rfl rfl)
theorem dX1_init_61 : decode cX1_init 61 = .ok (.aload_n 0, 1) := dk_42 (dk_at dksX1_init_2 13 rfl rfl)
theorem dX1_init_62 : decode cX1_init 62 = .ok (.new 33, 3) := dk_187 0 33 (dk_at dksX1_init_2 14 rfl rfl)
theorem dX1_init_65 : decode cX1_init 65 = .ok (.dup, 1) := dk_89 (dk_at dksX1_init_2 17 rfl rfl)
theorem dX1_init_66 : decode cX1_init 66 = .ok (.invokespecial 35, 3) := dk_183 0 35 (dk_at dksX1_init_2 18 rfl rfl)
theorem dX1_init_69 : decode cX1_init 69 = .ok (.putfield 36, 3) := dk_181 0 36 (dk_at dksX1_init_2 21 rfl rfl)
theorem dX1_init_72 : decode cX1_init 72 = .ok (.aload_n 0, 1) := dk_42 (dk_at dksX1_init_3 0 rfl rfl)
theorem dX1_init_73 : decode cX1_init 73 = .ok (.new 33, 3) := dk_187 0 33 (dk_at dksX1_init_3 1 rfl rfl)
theorem dX1_init_76 : decode cX1_init 76 = .ok (.dup, 1) := dk_89 (dk_at dksX1_init_3 4 rfl rfl)
theorem dX1_init_77 : decode cX1_init 77 = .ok (.invokespecial 35, 3) := dk_183 0 35 (dk_at dksX1_init_3 5 rfl rfl)
theorem dX1_init_80 : decode cX1_init 80 = .ok (.putfield 40, 3) := dk_181 0 40 (dk_at dksX1_init_3 8 rfl rfl)
theorem dX1_init_83 : decode cX1_init 83 = .ok (.aload_n 0, 1) := dk_42 (dk_at dksX1_init_3 11 rfl rfl)
theorem dX1_init_84 : decode cX1_init 84 = .ok (.new 33, 3) := dk_187 0 33 (dk_at dksX1_init_3 12 rfl rfl)
theorem dX1_init_87 : decode cX1_init 87 = .ok (.dup, 1) := dk_89 (dk_at dksX1_init_3 15 rfl rfl)
theorem dX1_init_88 : decode cX1_init 88 = .ok (.invokespecial 35, 3) := dk_183 0 35 (dk_at dksX1_init_3 16 rfl rfl)
theorem dX1_init_91 : decode cX1_init 91 = .ok (.putfield 43, 3) := dk_181 0 43 (dk_at dksX1_init_3 19 rfl rfl)
theorem dX1_init_94 : decode cX1_init 94 = .ok (.aload_n 0, 1) := dk_42 (dk_at dksX1_init_3 22 rfl rfl)
theorem dX1_init_95 : decode cX1_init 95 = .ok (.new 33, 3) := dk_187 0 33 (dk_at dksX1_init_4 0 rfl rfl)
theorem dX1_init_98 : decode cX1_init 98 = .ok (.dup, 1) := dk_89 (dk_at dksX1_init_4 3 rfl rfl)
theorem dX1_init_99 : decode cX1_init 99 = .ok (.invokespecial 35, 3) := dk_183 0 35 (dk_at dksX1_init_4 4 rfl rfl)
theorem dX1_init_102 : decode cX1_init 102 = .ok (.putfield 46, 3) := dk_181 0 46 (dk_at dksX1_init_4 7 rfl rfl)
theorem dX1_init_105 : decode cX1_init 105 = .ok (.aload_n 0, 1) := dk_42 (dk_at dksX1_init_4 10 rfl rfl)
theorem dX1_init_106 : decode cX1_init 106 = .ok (.new 33, 3) := dk_187 0 33 (dk_at dksX1_init_4 11 rfl rfl)
theorem dX1_init_109 : decode cX1_init 109 = .ok (.dup, 1) := dk_89 (dk_at dksX1_init_4 14 rfl rfl)
theorem dX1_init_110 : decode cX1_init 110 = .ok (.invokespecial 35, 3) := dk_183 0 35 (dk_at dksX1_init_4 15 rfl rfl)
theorem dX1_init_113 : decode cX1_init 113 = .ok (.putfield 49, 3) := dk_181 0 49 (dk_at dksX1_init_4 18 rfl rfl)
theorem dX1_init_116 : decode cX1_init 116 = .ok (.aload_n 0, 1) := dk_42 (dk_at dksX1_init_4 21 rfl rfl)
theorem dX1_init_117 : decode cX1_init 117 = .ok (.new 33, 3) := dk_187 0 33 (dk_at dksX1_init_5 0 rfl rfl)
theorem dX1_init_120 : decode cX1_init 120 = .ok (.dup, 1) := dk_89 (dk_at dksX1_init_5 3 rfl rfl)
theorem dX1_init_121 : decode cX1_init 121 = .ok (.invokespecial 35, 3) := dk_183 0 35 (dk_at dksX1_init_5 4 rfl rfl)
theorem dX1_init_124 : decode cX1_init 124 = .ok (.putfield 52, 3) := dk_181 0 52 (dk_at dksX1_init_5 7 rfl rfl)
theorem dX1_init_127 : decode cX1_init 127 = .ok (.aload_n 0, 1) := dk_42 (dk_at dksX1_init_5 10 rfl rfl)
theorem dX1_init_128 : decode cX1_init 128 = .ok (.new 33, 3) := dk_187 0 33 (dk_at dksX1_init_5 11 rfl rfl)
theorem dX1_init_131 : decode cX1_init 131 = .ok (.dup, 1) := dk_89 (dk_at dksX1_init_5 14 rfl rfl)
theorem dX1_init_132 : decode cX1_init 132 = .ok (.invokespecial 35, 3) := dk_183 0 35 (dk_at dksX1_init_5 15 rfl rfl)
theorem dX1_init_135 : decode cX1_init 135 = .ok (.putfield 55, 3) := dk_181 0 55 (dk_at dksX1_init_5 18 rfl rfl)
theorem dX1_init_138 : decode cX1_init 138 = .ok (.aload_n 0, 1) := dk_42 (dk_at dksX1_init_5 21 rfl rfl)
theorem dX1_init_139 : decode cX1_init 139 = .ok (.new 33, 3) := dk_187 0 33 (dk_at dksX1_init_6 0 rfl rfl)
theorem dX1_init_142 : decode cX1_init 142 = .ok (.dup, 1) := dk_89 (dk_at dksX1_init_6 3 rfl rfl)
theorem dX1_init_143 : decode cX1_init 143 = .ok (.invokespecial 35, 3) := dk_183 0 35 (dk_at dksX1_init_6 4 rfl rfl)
theorem dX1_init_146 : decode cX1_init 146 = .ok (.putfield 58, 3) := dk_181 0 58 (dk_at dksX1_init_6 7 rfl rfl)
theorem dX1_init_149 : decode cX1_init 149 = .ok (.aload_n 0, 1) := dk_42 (dk_at dksX1_init_6 10 rfl rfl)
theorem dX1_init_150 : decode cX1_init 150 = .ok (.new 33, 3) := dk_187 0 33 (dk_at dksX1_init_6 11 rfl rfl)
theorem dX1_init_153 : decode cX1_init 153 = .ok (.dup, 1) := dk_89 (dk_at dksX1_init_6 14 rfl rfl)
theorem dX1_init_154 : decode cX1_init 154 = .ok (.invokespecial 35, 3) := dk_183 0 35 (dk_at dksX1_init_6 15 rfl rfl)
theorem dX1_init_157 : decode cX1_init 157 = .ok (.putfield 61, 3) := dk_181 0 61 (dk_at dksX1_init_6 18 rfl rfl)
theorem dX1_init_160 : decode cX1_init 160 = .ok (.aload_n 0, 1) := dk_42 (dk_at dksX1_init_6 21 rfl rfl)
theorem dX1_init_161 : decode cX1_init 161 = .ok (.new 33, 3) := dk_187 0 33 (dk_at dksX1_init_7 0 rfl rfl)
theorem dX1_init_164 : decode cX1_init 164 = .ok (.dup, 1) := dk_89 (dk_at dksX1_init_7 3 rfl rfl)
theorem dX1_init_165 : decode cX1_init 165 = .ok (.invokespecial 35, 3) := dk_183 0 35 (dk_at dksX1_init_7 4 rfl rfl)
theorem dX1_init_168 : decode cX1_init 168 = .ok (.putfield 64, 3) := dk_181 0 64 (dk_at dksX1_init_7 7 rfl rfl)
theorem dX1_init_171 : decode cX1_init 171 = .ok (.return_, 1) := dk_177 (dk_at dksX1_init_7 10 rfl rfl)
abbrev cX1_clear : ByteArray := prog_1_method_22_code
def yX1_clear : MethodName := ⟨RX1, "clea\x72", "()I"⟩
def dkwX1_clear_1 : List UInt8 := [132, 2, 1, 167, 255, 238, 42, 3, 181, 0, 123, 27, 172]
abbrev dktX1_clear_1 : List UInt8 := dkwX1_clear_1 ++ []
def dkwX1_clear_0 : List UInt8 := [42, 180, 0, 123, 60, 3, 61, 28, 42, 180, 0, 123, 162, 0, 16, 42, 180, 0, 29, 28, 1, 83]
abbrev dktX1_clear_0 : List UInt8 := dkwX1_clear_0 ++ dktX1_clear_1
theorem dksX1_clear_0 : cX1_clear.data.toList.drop 0 = dktX1_clear_0 := by decide +kernel
theorem dksX1_clear_1 : cX1_clear.data.toList.drop 22 = dktX1_clear_1 := dk_seg dksX1_clear_0 22 rfl rfl
theorem dX1_clear_0 : decode cX1_clear 0 = .ok (.aload_n 0, 1) := dk_42 (dk_at dksX1_clear_0 0 rfl rfl)
theorem dX1_clear_1 : decode cX1_clear 1 = .ok (.getfield 123, 3) := dk_180 0 123 (dk_at dksX1_clear_0 1 rfl rfl)
theorem dX1_clear_4 : decode cX1_clear 4 = .ok (.istore_n 1, 1) := dk_60 (dk_at dksX1_clear_0 4 rfl rfl)
theorem dX1_clear_5 : decode cX1_clear 5 = .ok (.iconst 0, 1) := dk_3 (dk_at dksX1_clear_0 5 rfl rfl)
theorem dX1_clear_6 : decode cX1_clear 6 = .ok (.istore_n 2, 1) := dk_61 (dk_at dksX1_clear_0 6 rfl rfl)
theorem dX1_clear_7 : decode cX1_clear 7 = .ok (.iload_n 2, 1) := dk_28 (dk_at dksX1_clear_0 7 rfl rfl)
theorem dX1_clear_8 : decode cX1_clear 8 = .ok (.aload_n 0, 1) := dk_42 (dk_at dksX1_clear_0 8 rfl rfl)
theorem dX1_clear_9 : decode cX1_clear 9 = .ok (.getfield 123, 3) := dk_180 0 123 (dk_at dksX1_clear_0 9 rfl rfl)
theorem dX1_clear_12 : decode cX1_clear 12 = .ok (.if_icmp .ge 16, 3) := dk_162 0 16 (dk_at dksX1_clear_0 12 rfl rfl)
theorem dX1_clear_15 : decode cX1_clear 15 = .ok (.aload_n 0, 1) := dk_42 (dk_at dksX1_clear_0 15 rfl rfl)
theorem dX1_clear_16 : decode cX1_clear 16 = .ok (.getfield 29, 3) := dk_180 0 29 (dk_at dksX1_clear_0 16 rfl rfl)
theorem dX1_clear_19 : decode cX1_clear 19 = .ok (.iload_n 2, 1) := dk_28 (dk_at dksX1_clear_0 19 rfl rfl)
theorem dX1_clear_20 : decode cX1_clear 20 = .ok (.aconst_null, 1) := dk_1 (dk_at dksX1_clear_0 20 rfl rfl)
theorem dX1_clear_21 : decode cX1_clear 21 = .ok (.aastore, 1) := dk_83 (dk_at dksX1_clear_0 21 rfl rfl)
theorem dX1_clear_22 : decode cX1_clear 22 = .ok (.iinc 2 1, 3) := dk_132 2 1 (dk_at dksX1_clear_1 0 rfl rfl)
theorem dX1_clear_25 : decode cX1_clear 25 = .ok (.goto (-18), 3) := dk_167 255 238 (dk_at dksX1_clear_1 3 rfl rfl)
theorem dX1_clear_28 : decode cX1_clear 28 = .ok (.aload_n 0, 1) := dk_42 (dk_at dksX1_clear_1 6 rfl rfl)
theorem dX1_clear_29 : decode cX1_clear 29 = .ok (.iconst 0, 1) := dk_3 (dk_at dksX1_clear_1 7 rfl rfl)
theorem dX1_clear_30 : decode cX1_clear 30 = .ok (.putfield 123, 3) := dk_181 0 123 (dk_at dksX1_clear_1 8 rfl rfl)
theorem dX1_clear_33 : decode cX1_clear 33 = .ok (.iload_n 1, 1) := dk_27 (dk_at dksX1_clear_1 11 rfl rfl)
theorem dX1_clear_34 : decode cX1_clear 34 = .ok (.ireturn, 1) := dk_172 (dk_at dksX1_clear_1 12 rfl rfl)
abbrev cX1_count : ByteArray := prog_1_method_23_code
def yX1_count : MethodName := ⟨RX1, "count", "()I"⟩
theorem dX1_count_0 : decode cX1_count 0 = .ok (.aload_n 0, 1) := by decide +kernel
theorem dX1_count_1 : decode cX1_count 1 = .ok (.getfield 123, 3) := by decide +kernel
theorem dX1_count_4 : decode cX1_count 4 = .ok (.ireturn, 1) := by decide +kernel
abbrev cX1_whole : ByteArray := prog_1_method_10_code
def yX1_whole : MethodName := ⟨RX1, "whole", "(J)I"⟩
def dkwX1_whole_1 : List UInt8 := [31, 182, 0, 126, 87, 42, 180, 0, 40, 10, 182, 0, 126, 87, 42, 182, 0, 170, 172]
abbrev dktX1_whole_1 : List UInt8 := dkwX1_whole_1 ++ []
def dkwX1_whole_0 : List UInt8 := [42, 42, 31, 182, 0, 166, 181, 0, 136, 42, 180, 0, 36, 31, 9, 148, 156, 0, 8, 31, 117, 167, 0, 4]
abbrev dktX1_whole_0 : List UInt8 := dkwX1_whole_0 ++ dktX1_whole_1
theorem dksX1_whole_0 : cX1_whole.data.toList.drop 0 = dktX1_whole_0 := by decide +kernel
theorem dksX1_whole_1 : cX1_whole.data.toList.drop 24 = dktX1_whole_1 := dk_seg dksX1_whole_0 24 rfl rfl
theorem dX1_whole_0 : decode cX1_whole 0 = .ok (.aload_n 0, 1) := dk_42 (dk_at dksX1_whole_0 0 rfl rfl)
theorem dX1_whole_1 : decode cX1_whole 1 = .ok (.aload_n 0, 1) := dk_42 (dk_at dksX1_whole_0 1 rfl rfl)
theorem dX1_whole_2 : decode cX1_whole 2 = .ok (.lload_n 1, 1) := dk_31 (dk_at dksX1_whole_0 2 rfl rfl)
theorem dX1_whole_3 : decode cX1_whole 3 = .ok (.invokevirtual 166, 3) := dk_182 0 166 (dk_at dksX1_whole_0 3 rfl rfl)
theorem dX1_whole_6 : decode cX1_whole 6 = .ok (.putfield 136, 3) := dk_181 0 136 (dk_at dksX1_whole_0 6 rfl rfl)
theorem dX1_whole_9 : decode cX1_whole 9 = .ok (.aload_n 0, 1) := dk_42 (dk_at dksX1_whole_0 9 rfl rfl)
theorem dX1_whole_10 : decode cX1_whole 10 = .ok (.getfield 36, 3) := dk_180 0 36 (dk_at dksX1_whole_0 10 rfl rfl)
theorem dX1_whole_13 : decode cX1_whole 13 = .ok (.lload_n 1, 1) := dk_31 (dk_at dksX1_whole_0 13 rfl rfl)
theorem dX1_whole_14 : decode cX1_whole 14 = .ok (.lconst 0, 1) := dk_9 (dk_at dksX1_whole_0 14 rfl rfl)
theorem dX1_whole_15 : decode cX1_whole 15 = .ok (.lcmp, 1) := dk_148 (dk_at dksX1_whole_0 15 rfl rfl)
theorem dX1_whole_16 : decode cX1_whole 16 = .ok (.ifCond .ge 8, 3) := dk_156 0 8 (dk_at dksX1_whole_0 16 rfl rfl)
theorem dX1_whole_19 : decode cX1_whole 19 = .ok (.lload_n 1, 1) := dk_31 (dk_at dksX1_whole_0 19 rfl rfl)
theorem dX1_whole_20 : decode cX1_whole 20 = .ok (.lneg, 1) := dk_117 (dk_at dksX1_whole_0 20 rfl rfl)
theorem dX1_whole_21 : decode cX1_whole 21 = .ok (.goto 4, 3) := dk_167 0 4 (dk_at dksX1_whole_0 21 rfl rfl)
theorem dX1_whole_24 : decode cX1_whole 24 = .ok (.lload_n 1, 1) := dk_31 (dk_at dksX1_whole_1 0 rfl rfl)
theorem dX1_whole_25 : decode cX1_whole 25 = .ok (.invokevirtual 126, 3) := dk_182 0 126 (dk_at dksX1_whole_1 1 rfl rfl)
theorem dX1_whole_28 : decode cX1_whole 28 = .ok (.pop, 1) := dk_87 (dk_at dksX1_whole_1 4 rfl rfl)
theorem dX1_whole_29 : decode cX1_whole 29 = .ok (.aload_n 0, 1) := dk_42 (dk_at dksX1_whole_1 5 rfl rfl)
theorem dX1_whole_30 : decode cX1_whole 30 = .ok (.getfield 40, 3) := dk_180 0 40 (dk_at dksX1_whole_1 6 rfl rfl)
theorem dX1_whole_33 : decode cX1_whole 33 = .ok (.lconst 1, 1) := dk_10 (dk_at dksX1_whole_1 9 rfl rfl)
theorem dX1_whole_34 : decode cX1_whole 34 = .ok (.invokevirtual 126, 3) := dk_182 0 126 (dk_at dksX1_whole_1 10 rfl rfl)
theorem dX1_whole_37 : decode cX1_whole 37 = .ok (.pop, 1) := dk_87 (dk_at dksX1_whole_1 13 rfl rfl)
theorem dX1_whole_38 : decode cX1_whole 38 = .ok (.aload_n 0, 1) := dk_42 (dk_at dksX1_whole_1 14 rfl rfl)
theorem dX1_whole_39 : decode cX1_whole 39 = .ok (.invokevirtual 170, 3) := dk_182 0 170 (dk_at dksX1_whole_1 15 rfl rfl)
theorem dX1_whole_42 : decode cX1_whole 42 = .ok (.ireturn, 1) := dk_172 (dk_at dksX1_whole_1 18 rfl rfl)
abbrev cX1_signOf : ByteArray := prog_1_method_9_code
def yX1_signOf : MethodName := ⟨RX1, "signOf", "(J)I"⟩
def dkwX1_signOf_0 : List UInt8 := [31, 9, 148, 156, 0, 7, 2, 167, 0, 4, 4, 172]
abbrev dktX1_signOf_0 : List UInt8 := dkwX1_signOf_0 ++ []
theorem dksX1_signOf_0 : cX1_signOf.data.toList.drop 0 = dktX1_signOf_0 := by decide +kernel
theorem dX1_signOf_0 : decode cX1_signOf 0 = .ok (.lload_n 1, 1) := dk_31 (dk_at dksX1_signOf_0 0 rfl rfl)
theorem dX1_signOf_1 : decode cX1_signOf 1 = .ok (.lconst 0, 1) := dk_9 (dk_at dksX1_signOf_0 1 rfl rfl)
theorem dX1_signOf_2 : decode cX1_signOf 2 = .ok (.lcmp, 1) := dk_148 (dk_at dksX1_signOf_0 2 rfl rfl)
theorem dX1_signOf_3 : decode cX1_signOf 3 = .ok (.ifCond .ge 7, 3) := dk_156 0 7 (dk_at dksX1_signOf_0 3 rfl rfl)
theorem dX1_signOf_6 : decode cX1_signOf 6 = .ok (.iconst (-1), 1) := dk_2 (dk_at dksX1_signOf_0 6 rfl rfl)
theorem dX1_signOf_7 : decode cX1_signOf 7 = .ok (.goto 4, 3) := dk_167 0 4 (dk_at dksX1_signOf_0 7 rfl rfl)
theorem dX1_signOf_10 : decode cX1_signOf 10 = .ok (.iconst 1, 1) := dk_4 (dk_at dksX1_signOf_0 10 rfl rfl)
theorem dX1_signOf_11 : decode cX1_signOf 11 = .ok (.ireturn, 1) := dk_172 (dk_at dksX1_signOf_0 11 rfl rfl)
abbrev cX1_make : ByteArray := prog_1_method_6_code
def yX1_make : MethodName := ⟨RX1, "make", "()I"⟩
def dkwX1_make_0 : List UInt8 := [42, 182, 0, 117, 172, 76, 187, 0, 120, 89, 183, 0, 122, 191]
abbrev dktX1_make_0 : List UInt8 := dkwX1_make_0 ++ []
theorem dksX1_make_0 : cX1_make.data.toList.drop 0 = dktX1_make_0 := by decide +kernel
theorem dX1_make_0 : decode cX1_make 0 = .ok (.aload_n 0, 1) := dk_42 (dk_at dksX1_make_0 0 rfl rfl)
theorem dX1_make_1 : decode cX1_make 1 = .ok (.invokevirtual 117, 3) := dk_182 0 117 (dk_at dksX1_make_0 1 rfl rfl)
theorem dX1_make_4 : decode cX1_make 4 = .ok (.ireturn, 1) := dk_172 (dk_at dksX1_make_0 4 rfl rfl)
theorem dX1_make_5 : decode cX1_make 5 = .ok (.astore_n 1, 1) := dk_76 (dk_at dksX1_make_0 5 rfl rfl)
theorem dX1_make_6 : decode cX1_make 6 = .ok (.new 120, 3) := dk_187 0 120 (dk_at dksX1_make_0 6 rfl rfl)
theorem dX1_make_9 : decode cX1_make 9 = .ok (.dup, 1) := dk_89 (dk_at dksX1_make_0 9 rfl rfl)
theorem dX1_make_10 : decode cX1_make 10 = .ok (.invokespecial 122, 3) := dk_183 0 122 (dk_at dksX1_make_0 10 rfl rfl)
theorem dX1_make_13 : decode cX1_make 13 = .ok (.athrow, 1) := dk_191 (dk_at dksX1_make_0 13 rfl rfl)
abbrev cX1_keep : ByteArray := prog_1_method_7_code
def yX1_keep : MethodName := ⟨RX1, "keep", "()I"⟩
def dkwX1_keep_6 : List UInt8 := [181, 0, 123, 167, 0, 11, 77, 42, 27, 181, 0, 123, 44, 191, 42, 180, 0, 123, 4, 100, 172]
abbrev dktX1_keep_6 : List UInt8 := dkwX1_keep_6 ++ []
def dkwX1_keep_5 : List UInt8 := [153, 0, 7, 3, 167, 0, 7, 42, 180, 0, 136, 42, 182, 0, 137, 183, 0, 141, 83, 132, 1, 1, 42, 27]
abbrev dktX1_keep_5 : List UInt8 := dkwX1_keep_5 ++ dktX1_keep_6
def dkwX1_keep_4 : List UInt8 := [180, 0, 61, 182, 0, 84, 87, 42, 180, 0, 29, 27, 187, 0, 27, 89, 42, 180, 0, 36, 182, 0, 88]
abbrev dktX1_keep_4 : List UInt8 := dkwX1_keep_4 ++ dktX1_keep_5
def dkwX1_keep_3 : List UInt8 := [180, 0, 64, 182, 0, 133, 42, 180, 0, 40, 42, 180, 0, 36, 182, 0, 84, 87, 42, 180, 0, 36, 42]
abbrev dktX1_keep_3 : List UInt8 := dkwX1_keep_3 ++ dktX1_keep_4
def dkwX1_keep_2 : List UInt8 := [42, 180, 0, 61, 42, 180, 0, 64, 182, 0, 133, 42, 180, 0, 40, 42, 180, 0, 58, 42, 180, 0, 36, 42]
abbrev dktX1_keep_2 : List UInt8 := dkwX1_keep_2 ++ dktX1_keep_3
def dkwX1_keep_1 : List UInt8 := [42, 42, 180, 0, 36, 42, 180, 0, 40, 42, 180, 0, 58, 182, 0, 129, 42, 180, 0, 36, 42, 180, 0, 58]
abbrev dktX1_keep_1 : List UInt8 := dkwX1_keep_1 ++ dktX1_keep_2
def dkwX1_keep_0 : List UInt8 := [42, 180, 0, 123, 60, 42, 180, 0, 36, 182, 0, 88, 153, 0, 12, 42, 180, 0, 40, 10, 182, 0, 126, 87]
abbrev dktX1_keep_0 : List UInt8 := dkwX1_keep_0 ++ dktX1_keep_1
theorem dksX1_keep_0 : cX1_keep.data.toList.drop 0 = dktX1_keep_0 := by decide +kernel
theorem dksX1_keep_1 : cX1_keep.data.toList.drop 24 = dktX1_keep_1 := dk_seg dksX1_keep_0 24 rfl rfl
theorem dksX1_keep_2 : cX1_keep.data.toList.drop 48 = dktX1_keep_2 := dk_seg dksX1_keep_1 24 rfl rfl
theorem dksX1_keep_3 : cX1_keep.data.toList.drop 72 = dktX1_keep_3 := dk_seg dksX1_keep_2 24 rfl rfl
theorem dksX1_keep_4 : cX1_keep.data.toList.drop 95 = dktX1_keep_4 := dk_seg dksX1_keep_3 23 rfl rfl
theorem dksX1_keep_5 : cX1_keep.data.toList.drop 118 = dktX1_keep_5 := dk_seg dksX1_keep_4 23 rfl rfl
theorem dksX1_keep_6 : cX1_keep.data.toList.drop 142 = dktX1_keep_6 := dk_seg dksX1_keep_5 24 rfl rfl
theorem dX1_keep_0 : decode cX1_keep 0 = .ok (.aload_n 0, 1) := dk_42 (dk_at dksX1_keep_0 0 rfl rfl)
theorem dX1_keep_1 : decode cX1_keep 1 = .ok (.getfield 123, 3) := dk_180 0 123 (dk_at dksX1_keep_0 1 rfl rfl)
theorem dX1_keep_4 : decode cX1_keep 4 = .ok (.istore_n 1, 1) := dk_60 (dk_at dksX1_keep_0 4 rfl rfl)
theorem dX1_keep_5 : decode cX1_keep 5 = .ok (.aload_n 0, 1) := dk_42 (dk_at dksX1_keep_0 5 rfl rfl)
theorem dX1_keep_6 : decode cX1_keep 6 = .ok (.getfield 36, 3) := dk_180 0 36 (dk_at dksX1_keep_0 6 rfl rfl)
theorem dX1_keep_9 : decode cX1_keep 9 = .ok (.invokevirtual 88, 3) := dk_182 0 88 (dk_at dksX1_keep_0 9 rfl rfl)
theorem dX1_keep_12 : decode cX1_keep 12 = .ok (.ifCond .eq 12, 3) := dk_153 0 12 (dk_at dksX1_keep_0 12 rfl rfl)
theorem dX1_keep_15 : decode cX1_keep 15 = .ok (.aload_n 0, 1) := dk_42 (dk_at dksX1_keep_0 15 rfl rfl)
theorem dX1_keep_16 : decode cX1_keep 16 = .ok (.getfield 40, 3) := dk_180 0 40 (dk_at dksX1_keep_0 16 rfl rfl)
theorem dX1_keep_19 : decode cX1_keep 19 = .ok (.lconst 1, 1) := dk_10 (dk_at dksX1_keep_0 19 rfl rfl)
theorem dX1_keep_20 : decode cX1_keep 20 = .ok (.invokevirtual 126, 3) := dk_182 0 126 (dk_at dksX1_keep_0 20 rfl rfl)
theorem dX1_keep_23 : decode cX1_keep 23 = .ok (.pop, 1) := dk_87 (dk_at dksX1_keep_0 23 rfl rfl)
theorem dX1_keep_24 : decode cX1_keep 24 = .ok (.aload_n 0, 1) := dk_42 (dk_at dksX1_keep_1 0 rfl rfl)
theorem dX1_keep_25 : decode cX1_keep 25 = .ok (.aload_n 0, 1) := dk_42 (dk_at dksX1_keep_1 1 rfl rfl)
theorem dX1_keep_26 : decode cX1_keep 26 = .ok (.getfield 36, 3) := dk_180 0 36 (dk_at dksX1_keep_1 2 rfl rfl)
theorem dX1_keep_29 : decode cX1_keep 29 = .ok (.aload_n 0, 1) := dk_42 (dk_at dksX1_keep_1 5 rfl rfl)
theorem dX1_keep_30 : decode cX1_keep 30 = .ok (.getfield 40, 3) := dk_180 0 40 (dk_at dksX1_keep_1 6 rfl rfl)
theorem dX1_keep_33 : decode cX1_keep 33 = .ok (.aload_n 0, 1) := dk_42 (dk_at dksX1_keep_1 9 rfl rfl)
theorem dX1_keep_34 : decode cX1_keep 34 = .ok (.getfield 58, 3) := dk_180 0 58 (dk_at dksX1_keep_1 10 rfl rfl)
theorem dX1_keep_37 : decode cX1_keep 37 = .ok (.invokevirtual 129, 3) := dk_182 0 129 (dk_at dksX1_keep_1 13 rfl rfl)
theorem dX1_keep_40 : decode cX1_keep 40 = .ok (.aload_n 0, 1) := dk_42 (dk_at dksX1_keep_1 16 rfl rfl)
theorem dX1_keep_41 : decode cX1_keep 41 = .ok (.getfield 36, 3) := dk_180 0 36 (dk_at dksX1_keep_1 17 rfl rfl)
theorem dX1_keep_44 : decode cX1_keep 44 = .ok (.aload_n 0, 1) := dk_42 (dk_at dksX1_keep_1 20 rfl rfl)
theorem dX1_keep_45 : decode cX1_keep 45 = .ok (.getfield 58, 3) := dk_180 0 58 (dk_at dksX1_keep_1 21 rfl rfl)
theorem dX1_keep_48 : decode cX1_keep 48 = .ok (.aload_n 0, 1) := dk_42 (dk_at dksX1_keep_2 0 rfl rfl)
theorem dX1_keep_49 : decode cX1_keep 49 = .ok (.getfield 61, 3) := dk_180 0 61 (dk_at dksX1_keep_2 1 rfl rfl)
theorem dX1_keep_52 : decode cX1_keep 52 = .ok (.aload_n 0, 1) := dk_42 (dk_at dksX1_keep_2 4 rfl rfl)
theorem dX1_keep_53 : decode cX1_keep 53 = .ok (.getfield 64, 3) := dk_180 0 64 (dk_at dksX1_keep_2 5 rfl rfl)
theorem dX1_keep_56 : decode cX1_keep 56 = .ok (.invokevirtual 133, 3) := dk_182 0 133 (dk_at dksX1_keep_2 8 rfl rfl)
theorem dX1_keep_59 : decode cX1_keep 59 = .ok (.aload_n 0, 1) := dk_42 (dk_at dksX1_keep_2 11 rfl rfl)
theorem dX1_keep_60 : decode cX1_keep 60 = .ok (.getfield 40, 3) := dk_180 0 40 (dk_at dksX1_keep_2 12 rfl rfl)
theorem dX1_keep_63 : decode cX1_keep 63 = .ok (.aload_n 0, 1) := dk_42 (dk_at dksX1_keep_2 15 rfl rfl)
theorem dX1_keep_64 : decode cX1_keep 64 = .ok (.getfield 58, 3) := dk_180 0 58 (dk_at dksX1_keep_2 16 rfl rfl)
theorem dX1_keep_67 : decode cX1_keep 67 = .ok (.aload_n 0, 1) := dk_42 (dk_at dksX1_keep_2 19 rfl rfl)
theorem dX1_keep_68 : decode cX1_keep 68 = .ok (.getfield 36, 3) := dk_180 0 36 (dk_at dksX1_keep_2 20 rfl rfl)
theorem dX1_keep_71 : decode cX1_keep 71 = .ok (.aload_n 0, 1) := dk_42 (dk_at dksX1_keep_2 23 rfl rfl)
theorem dX1_keep_72 : decode cX1_keep 72 = .ok (.getfield 64, 3) := dk_180 0 64 (dk_at dksX1_keep_3 0 rfl rfl)
theorem dX1_keep_75 : decode cX1_keep 75 = .ok (.invokevirtual 133, 3) := dk_182 0 133 (dk_at dksX1_keep_3 3 rfl rfl)
theorem dX1_keep_78 : decode cX1_keep 78 = .ok (.aload_n 0, 1) := dk_42 (dk_at dksX1_keep_3 6 rfl rfl)
theorem dX1_keep_79 : decode cX1_keep 79 = .ok (.getfield 40, 3) := dk_180 0 40 (dk_at dksX1_keep_3 7 rfl rfl)
theorem dX1_keep_82 : decode cX1_keep 82 = .ok (.aload_n 0, 1) := dk_42 (dk_at dksX1_keep_3 10 rfl rfl)
theorem dX1_keep_83 : decode cX1_keep 83 = .ok (.getfield 36, 3) := dk_180 0 36 (dk_at dksX1_keep_3 11 rfl rfl)
theorem dX1_keep_86 : decode cX1_keep 86 = .ok (.invokevirtual 84, 3) := dk_182 0 84 (dk_at dksX1_keep_3 14 rfl rfl)
theorem dX1_keep_89 : decode cX1_keep 89 = .ok (.pop, 1) := dk_87 (dk_at dksX1_keep_3 17 rfl rfl)
theorem dX1_keep_90 : decode cX1_keep 90 = .ok (.aload_n 0, 1) := dk_42 (dk_at dksX1_keep_3 18 rfl rfl)
theorem dX1_keep_91 : decode cX1_keep 91 = .ok (.getfield 36, 3) := dk_180 0 36 (dk_at dksX1_keep_3 19 rfl rfl)
theorem dX1_keep_94 : decode cX1_keep 94 = .ok (.aload_n 0, 1) := dk_42 (dk_at dksX1_keep_3 22 rfl rfl)
theorem dX1_keep_95 : decode cX1_keep 95 = .ok (.getfield 61, 3) := dk_180 0 61 (dk_at dksX1_keep_4 0 rfl rfl)
theorem dX1_keep_98 : decode cX1_keep 98 = .ok (.invokevirtual 84, 3) := dk_182 0 84 (dk_at dksX1_keep_4 3 rfl rfl)
theorem dX1_keep_101 : decode cX1_keep 101 = .ok (.pop, 1) := dk_87 (dk_at dksX1_keep_4 6 rfl rfl)
theorem dX1_keep_102 : decode cX1_keep 102 = .ok (.aload_n 0, 1) := dk_42 (dk_at dksX1_keep_4 7 rfl rfl)
theorem dX1_keep_103 : decode cX1_keep 103 = .ok (.getfield 29, 3) := dk_180 0 29 (dk_at dksX1_keep_4 8 rfl rfl)
theorem dX1_keep_106 : decode cX1_keep 106 = .ok (.iload_n 1, 1) := dk_27 (dk_at dksX1_keep_4 11 rfl rfl)
theorem dX1_keep_107 : decode cX1_keep 107 = .ok (.new 27, 3) := dk_187 0 27 (dk_at dksX1_keep_4 12 rfl rfl)
theorem dX1_keep_110 : decode cX1_keep 110 = .ok (.dup, 1) := dk_89 (dk_at dksX1_keep_4 15 rfl rfl)
theorem dX1_keep_111 : decode cX1_keep 111 = .ok (.aload_n 0, 1) := dk_42 (dk_at dksX1_keep_4 16 rfl rfl)
theorem dX1_keep_112 : decode cX1_keep 112 = .ok (.getfield 36, 3) := dk_180 0 36 (dk_at dksX1_keep_4 17 rfl rfl)
theorem dX1_keep_115 : decode cX1_keep 115 = .ok (.invokevirtual 88, 3) := dk_182 0 88 (dk_at dksX1_keep_4 20 rfl rfl)
theorem dX1_keep_118 : decode cX1_keep 118 = .ok (.ifCond .eq 7, 3) := dk_153 0 7 (dk_at dksX1_keep_5 0 rfl rfl)
theorem dX1_keep_121 : decode cX1_keep 121 = .ok (.iconst 0, 1) := dk_3 (dk_at dksX1_keep_5 3 rfl rfl)
theorem dX1_keep_122 : decode cX1_keep 122 = .ok (.goto 7, 3) := dk_167 0 7 (dk_at dksX1_keep_5 4 rfl rfl)
theorem dX1_keep_125 : decode cX1_keep 125 = .ok (.aload_n 0, 1) := dk_42 (dk_at dksX1_keep_5 7 rfl rfl)
theorem dX1_keep_126 : decode cX1_keep 126 = .ok (.getfield 136, 3) := dk_180 0 136 (dk_at dksX1_keep_5 8 rfl rfl)
theorem dX1_keep_129 : decode cX1_keep 129 = .ok (.aload_n 0, 1) := dk_42 (dk_at dksX1_keep_5 11 rfl rfl)
theorem dX1_keep_130 : decode cX1_keep 130 = .ok (.invokevirtual 137, 3) := dk_182 0 137 (dk_at dksX1_keep_5 12 rfl rfl)
theorem dX1_keep_133 : decode cX1_keep 133 = .ok (.invokespecial 141, 3) := dk_183 0 141 (dk_at dksX1_keep_5 15 rfl rfl)
theorem dX1_keep_136 : decode cX1_keep 136 = .ok (.aastore, 1) := dk_83 (dk_at dksX1_keep_5 18 rfl rfl)
theorem dX1_keep_137 : decode cX1_keep 137 = .ok (.iinc 1 1, 3) := dk_132 1 1 (dk_at dksX1_keep_5 19 rfl rfl)
theorem dX1_keep_140 : decode cX1_keep 140 = .ok (.aload_n 0, 1) := dk_42 (dk_at dksX1_keep_5 22 rfl rfl)
theorem dX1_keep_141 : decode cX1_keep 141 = .ok (.iload_n 1, 1) := dk_27 (dk_at dksX1_keep_5 23 rfl rfl)
theorem dX1_keep_142 : decode cX1_keep 142 = .ok (.putfield 123, 3) := dk_181 0 123 (dk_at dksX1_keep_6 0 rfl rfl)
theorem dX1_keep_145 : decode cX1_keep 145 = .ok (.goto 11, 3) := dk_167 0 11 (dk_at dksX1_keep_6 3 rfl rfl)
theorem dX1_keep_148 : decode cX1_keep 148 = .ok (.astore_n 2, 1) := dk_77 (dk_at dksX1_keep_6 6 rfl rfl)
theorem dX1_keep_149 : decode cX1_keep 149 = .ok (.aload_n 0, 1) := dk_42 (dk_at dksX1_keep_6 7 rfl rfl)
theorem dX1_keep_150 : decode cX1_keep 150 = .ok (.iload_n 1, 1) := dk_27 (dk_at dksX1_keep_6 8 rfl rfl)
theorem dX1_keep_151 : decode cX1_keep 151 = .ok (.putfield 123, 3) := dk_181 0 123 (dk_at dksX1_keep_6 9 rfl rfl)
theorem dX1_keep_154 : decode cX1_keep 154 = .ok (.aload_n 2, 1) := dk_44 (dk_at dksX1_keep_6 12 rfl rfl)
theorem dX1_keep_155 : decode cX1_keep 155 = .ok (.athrow, 1) := dk_191 (dk_at dksX1_keep_6 13 rfl rfl)
theorem dX1_keep_156 : decode cX1_keep 156 = .ok (.aload_n 0, 1) := dk_42 (dk_at dksX1_keep_6 14 rfl rfl)
theorem dX1_keep_157 : decode cX1_keep 157 = .ok (.getfield 123, 3) := dk_180 0 123 (dk_at dksX1_keep_6 15 rfl rfl)
theorem dX1_keep_160 : decode cX1_keep 160 = .ok (.iconst 1, 1) := dk_4 (dk_at dksX1_keep_6 18 rfl rfl)
theorem dX1_keep_161 : decode cX1_keep 161 = .ok (.isub, 1) := dk_100 (dk_at dksX1_keep_6 19 rfl rfl)
theorem dX1_keep_162 : decode cX1_keep 162 = .ok (.ireturn, 1) := dk_172 (dk_at dksX1_keep_6 20 rfl rfl)
abbrev cX1_commons : ByteArray := prog_1_method_5_code
def yX1_commons : MethodName := ⟨RX1, "commons", "(LNumberModels$Wide;LNumberModels$Wide;LNumberModels$Wide;)V"⟩
def dkwX1_commons_8 : List UInt8 := [180, 0, 49, 21, 4, 182, 0, 114, 45, 42, 180, 0, 49, 182, 0, 84, 87, 177]
abbrev dktX1_commons_8 : List UInt8 := dkwX1_commons_8 ++ []
def dkwX1_commons_7 : List UInt8 := [42, 180, 0, 55, 182, 0, 84, 87, 42, 180, 0, 52, 42, 180, 0, 49, 182, 0, 110, 167, 255, 171, 42]
abbrev dktX1_commons_7 : List UInt8 := dkwX1_commons_7 ++ dktX1_commons_8
def dkwX1_commons_6 : List UInt8 := [42, 180, 0, 49, 182, 0, 84, 87, 42, 180, 0, 49, 42, 180, 0, 52, 182, 0, 84, 87, 42, 180, 0, 52]
abbrev dktX1_commons_6 : List UInt8 := dkwX1_commons_6 ++ dktX1_commons_7
def dkwX1_commons_5 : List UInt8 := [182, 0, 92, 182, 0, 102, 42, 180, 0, 49, 42, 180, 0, 52, 182, 0, 106, 158, 0, 39, 42, 180, 0, 55]
abbrev dktX1_commons_5 : List UInt8 := dkwX1_commons_5 ++ dktX1_commons_6
def dkwX1_commons_4 : List UInt8 := [182, 0, 92, 182, 0, 102, 42, 180, 0, 52, 182, 0, 88, 154, 0, 81, 42, 180, 0, 52, 42, 180, 0, 52]
abbrev dktX1_commons_4 : List UInt8 := dkwX1_commons_4 ++ dktX1_commons_5
def dkwX1_commons_3 : List UInt8 := [182, 0, 92, 42, 180, 0, 52, 182, 0, 92, 184, 0, 96, 54, 4, 42, 180, 0, 49, 42, 180, 0, 49]
abbrev dktX1_commons_3 : List UInt8 := dkwX1_commons_3 ++ dktX1_commons_4
def dkwX1_commons_2 : List UInt8 := [153, 0, 10, 42, 180, 0, 52, 167, 0, 7, 42, 180, 0, 49, 182, 0, 84, 87, 177, 42, 180, 0, 49]
abbrev dktX1_commons_2 : List UInt8 := dkwX1_commons_2 ++ dktX1_commons_3
def dkwX1_commons_1 : List UInt8 := [182, 0, 88, 154, 0, 13, 42, 180, 0, 52, 182, 0, 88, 153, 0, 30, 45, 42, 180, 0, 49, 182, 0, 88]
abbrev dktX1_commons_1 : List UInt8 := dkwX1_commons_1 ++ dktX1_commons_2
def dkwX1_commons_0 : List UInt8 := [42, 180, 0, 49, 43, 182, 0, 84, 87, 42, 180, 0, 52, 44, 182, 0, 84, 87, 42, 180, 0, 49]
abbrev dktX1_commons_0 : List UInt8 := dkwX1_commons_0 ++ dktX1_commons_1
theorem dksX1_commons_0 : cX1_commons.data.toList.drop 0 = dktX1_commons_0 := by decide +kernel
theorem dksX1_commons_1 : cX1_commons.data.toList.drop 22 = dktX1_commons_1 := dk_seg dksX1_commons_0 22 rfl rfl
theorem dksX1_commons_2 : cX1_commons.data.toList.drop 46 = dktX1_commons_2 := dk_seg dksX1_commons_1 24 rfl rfl
theorem dksX1_commons_3 : cX1_commons.data.toList.drop 69 = dktX1_commons_3 := dk_seg dksX1_commons_2 23 rfl rfl
theorem dksX1_commons_4 : cX1_commons.data.toList.drop 92 = dktX1_commons_4 := dk_seg dksX1_commons_3 23 rfl rfl
theorem dksX1_commons_5 : cX1_commons.data.toList.drop 116 = dktX1_commons_5 := dk_seg dksX1_commons_4 24 rfl rfl
theorem dksX1_commons_6 : cX1_commons.data.toList.drop 140 = dktX1_commons_6 := dk_seg dksX1_commons_5 24 rfl rfl
theorem dksX1_commons_7 : cX1_commons.data.toList.drop 164 = dktX1_commons_7 := dk_seg dksX1_commons_6 24 rfl rfl
theorem dksX1_commons_8 : cX1_commons.data.toList.drop 187 = dktX1_commons_8 := dk_seg dksX1_commons_7 23 rfl rfl
theorem dX1_commons_0 : decode cX1_commons 0 = .ok (.aload_n 0, 1) := dk_42 (dk_at dksX1_commons_0 0 rfl rfl)
theorem dX1_commons_1 : decode cX1_commons 1 = .ok (.getfield 49, 3) := dk_180 0 49 (dk_at dksX1_commons_0 1 rfl rfl)
theorem dX1_commons_4 : decode cX1_commons 4 = .ok (.aload_n 1, 1) := dk_43 (dk_at dksX1_commons_0 4 rfl rfl)
theorem dX1_commons_5 : decode cX1_commons 5 = .ok (.invokevirtual 84, 3) := dk_182 0 84 (dk_at dksX1_commons_0 5 rfl rfl)
theorem dX1_commons_8 : decode cX1_commons 8 = .ok (.pop, 1) := dk_87 (dk_at dksX1_commons_0 8 rfl rfl)
theorem dX1_commons_9 : decode cX1_commons 9 = .ok (.aload_n 0, 1) := dk_42 (dk_at dksX1_commons_0 9 rfl rfl)
theorem dX1_commons_10 : decode cX1_commons 10 = .ok (.getfield 52, 3) := dk_180 0 52 (dk_at dksX1_commons_0 10 rfl rfl)
theorem dX1_commons_13 : decode cX1_commons 13 = .ok (.aload_n 2, 1) := dk_44 (dk_at dksX1_commons_0 13 rfl rfl)
theorem dX1_commons_14 : decode cX1_commons 14 = .ok (.invokevirtual 84, 3) := dk_182 0 84 (dk_at dksX1_commons_0 14 rfl rfl)
theorem dX1_commons_17 : decode cX1_commons 17 = .ok (.pop, 1) := dk_87 (dk_at dksX1_commons_0 17 rfl rfl)
theorem dX1_commons_18 : decode cX1_commons 18 = .ok (.aload_n 0, 1) := dk_42 (dk_at dksX1_commons_0 18 rfl rfl)
theorem dX1_commons_19 : decode cX1_commons 19 = .ok (.getfield 49, 3) := dk_180 0 49 (dk_at dksX1_commons_0 19 rfl rfl)
theorem dX1_commons_22 : decode cX1_commons 22 = .ok (.invokevirtual 88, 3) := dk_182 0 88 (dk_at dksX1_commons_1 0 rfl rfl)
theorem dX1_commons_25 : decode cX1_commons 25 = .ok (.ifCond .ne 13, 3) := dk_154 0 13 (dk_at dksX1_commons_1 3 rfl rfl)
theorem dX1_commons_28 : decode cX1_commons 28 = .ok (.aload_n 0, 1) := dk_42 (dk_at dksX1_commons_1 6 rfl rfl)
theorem dX1_commons_29 : decode cX1_commons 29 = .ok (.getfield 52, 3) := dk_180 0 52 (dk_at dksX1_commons_1 7 rfl rfl)
theorem dX1_commons_32 : decode cX1_commons 32 = .ok (.invokevirtual 88, 3) := dk_182 0 88 (dk_at dksX1_commons_1 10 rfl rfl)
theorem dX1_commons_35 : decode cX1_commons 35 = .ok (.ifCond .eq 30, 3) := dk_153 0 30 (dk_at dksX1_commons_1 13 rfl rfl)
theorem dX1_commons_38 : decode cX1_commons 38 = .ok (.aload_n 3, 1) := dk_45 (dk_at dksX1_commons_1 16 rfl rfl)
theorem dX1_commons_39 : decode cX1_commons 39 = .ok (.aload_n 0, 1) := dk_42 (dk_at dksX1_commons_1 17 rfl rfl)
theorem dX1_commons_40 : decode cX1_commons 40 = .ok (.getfield 49, 3) := dk_180 0 49 (dk_at dksX1_commons_1 18 rfl rfl)
theorem dX1_commons_43 : decode cX1_commons 43 = .ok (.invokevirtual 88, 3) := dk_182 0 88 (dk_at dksX1_commons_1 21 rfl rfl)
theorem dX1_commons_46 : decode cX1_commons 46 = .ok (.ifCond .eq 10, 3) := dk_153 0 10 (dk_at dksX1_commons_2 0 rfl rfl)
theorem dX1_commons_49 : decode cX1_commons 49 = .ok (.aload_n 0, 1) := dk_42 (dk_at dksX1_commons_2 3 rfl rfl)
theorem dX1_commons_50 : decode cX1_commons 50 = .ok (.getfield 52, 3) := dk_180 0 52 (dk_at dksX1_commons_2 4 rfl rfl)
theorem dX1_commons_53 : decode cX1_commons 53 = .ok (.goto 7, 3) := dk_167 0 7 (dk_at dksX1_commons_2 7 rfl rfl)
theorem dX1_commons_56 : decode cX1_commons 56 = .ok (.aload_n 0, 1) := dk_42 (dk_at dksX1_commons_2 10 rfl rfl)
theorem dX1_commons_57 : decode cX1_commons 57 = .ok (.getfield 49, 3) := dk_180 0 49 (dk_at dksX1_commons_2 11 rfl rfl)
theorem dX1_commons_60 : decode cX1_commons 60 = .ok (.invokevirtual 84, 3) := dk_182 0 84 (dk_at dksX1_commons_2 14 rfl rfl)
theorem dX1_commons_63 : decode cX1_commons 63 = .ok (.pop, 1) := dk_87 (dk_at dksX1_commons_2 17 rfl rfl)
theorem dX1_commons_64 : decode cX1_commons 64 = .ok (.return_, 1) := dk_177 (dk_at dksX1_commons_2 18 rfl rfl)
theorem dX1_commons_65 : decode cX1_commons 65 = .ok (.aload_n 0, 1) := dk_42 (dk_at dksX1_commons_2 19 rfl rfl)
theorem dX1_commons_66 : decode cX1_commons 66 = .ok (.getfield 49, 3) := dk_180 0 49 (dk_at dksX1_commons_2 20 rfl rfl)
theorem dX1_commons_69 : decode cX1_commons 69 = .ok (.invokevirtual 92, 3) := dk_182 0 92 (dk_at dksX1_commons_3 0 rfl rfl)
theorem dX1_commons_72 : decode cX1_commons 72 = .ok (.aload_n 0, 1) := dk_42 (dk_at dksX1_commons_3 3 rfl rfl)
theorem dX1_commons_73 : decode cX1_commons 73 = .ok (.getfield 52, 3) := dk_180 0 52 (dk_at dksX1_commons_3 4 rfl rfl)
theorem dX1_commons_76 : decode cX1_commons 76 = .ok (.invokevirtual 92, 3) := dk_182 0 92 (dk_at dksX1_commons_3 7 rfl rfl)
theorem dX1_commons_79 : decode cX1_commons 79 = .ok (.invokestatic 96, 3) := dk_184 0 96 (dk_at dksX1_commons_3 10 rfl rfl)
theorem dX1_commons_82 : decode cX1_commons 82 = .ok (.istore 4, 2) := dk_54 4 (dk_at dksX1_commons_3 13 rfl rfl)
theorem dX1_commons_84 : decode cX1_commons 84 = .ok (.aload_n 0, 1) := dk_42 (dk_at dksX1_commons_3 15 rfl rfl)
theorem dX1_commons_85 : decode cX1_commons 85 = .ok (.getfield 49, 3) := dk_180 0 49 (dk_at dksX1_commons_3 16 rfl rfl)
theorem dX1_commons_88 : decode cX1_commons 88 = .ok (.aload_n 0, 1) := dk_42 (dk_at dksX1_commons_3 19 rfl rfl)
theorem dX1_commons_89 : decode cX1_commons 89 = .ok (.getfield 49, 3) := dk_180 0 49 (dk_at dksX1_commons_3 20 rfl rfl)
theorem dX1_commons_92 : decode cX1_commons 92 = .ok (.invokevirtual 92, 3) := dk_182 0 92 (dk_at dksX1_commons_4 0 rfl rfl)
theorem dX1_commons_95 : decode cX1_commons 95 = .ok (.invokevirtual 102, 3) := dk_182 0 102 (dk_at dksX1_commons_4 3 rfl rfl)
theorem dX1_commons_98 : decode cX1_commons 98 = .ok (.aload_n 0, 1) := dk_42 (dk_at dksX1_commons_4 6 rfl rfl)
theorem dX1_commons_99 : decode cX1_commons 99 = .ok (.getfield 52, 3) := dk_180 0 52 (dk_at dksX1_commons_4 7 rfl rfl)
theorem dX1_commons_102 : decode cX1_commons 102 = .ok (.invokevirtual 88, 3) := dk_182 0 88 (dk_at dksX1_commons_4 10 rfl rfl)
theorem dX1_commons_105 : decode cX1_commons 105 = .ok (.ifCond .ne 81, 3) := dk_154 0 81 (dk_at dksX1_commons_4 13 rfl rfl)
theorem dX1_commons_108 : decode cX1_commons 108 = .ok (.aload_n 0, 1) := dk_42 (dk_at dksX1_commons_4 16 rfl rfl)
theorem dX1_commons_109 : decode cX1_commons 109 = .ok (.getfield 52, 3) := dk_180 0 52 (dk_at dksX1_commons_4 17 rfl rfl)
theorem dX1_commons_112 : decode cX1_commons 112 = .ok (.aload_n 0, 1) := dk_42 (dk_at dksX1_commons_4 20 rfl rfl)
theorem dX1_commons_113 : decode cX1_commons 113 = .ok (.getfield 52, 3) := dk_180 0 52 (dk_at dksX1_commons_4 21 rfl rfl)
theorem dX1_commons_116 : decode cX1_commons 116 = .ok (.invokevirtual 92, 3) := dk_182 0 92 (dk_at dksX1_commons_5 0 rfl rfl)
theorem dX1_commons_119 : decode cX1_commons 119 = .ok (.invokevirtual 102, 3) := dk_182 0 102 (dk_at dksX1_commons_5 3 rfl rfl)
theorem dX1_commons_122 : decode cX1_commons 122 = .ok (.aload_n 0, 1) := dk_42 (dk_at dksX1_commons_5 6 rfl rfl)
theorem dX1_commons_123 : decode cX1_commons 123 = .ok (.getfield 49, 3) := dk_180 0 49 (dk_at dksX1_commons_5 7 rfl rfl)
theorem dX1_commons_126 : decode cX1_commons 126 = .ok (.aload_n 0, 1) := dk_42 (dk_at dksX1_commons_5 10 rfl rfl)
theorem dX1_commons_127 : decode cX1_commons 127 = .ok (.getfield 52, 3) := dk_180 0 52 (dk_at dksX1_commons_5 11 rfl rfl)
theorem dX1_commons_130 : decode cX1_commons 130 = .ok (.invokevirtual 106, 3) := dk_182 0 106 (dk_at dksX1_commons_5 14 rfl rfl)
theorem dX1_commons_133 : decode cX1_commons 133 = .ok (.ifCond .le 39, 3) := dk_158 0 39 (dk_at dksX1_commons_5 17 rfl rfl)
theorem dX1_commons_136 : decode cX1_commons 136 = .ok (.aload_n 0, 1) := dk_42 (dk_at dksX1_commons_5 20 rfl rfl)
theorem dX1_commons_137 : decode cX1_commons 137 = .ok (.getfield 55, 3) := dk_180 0 55 (dk_at dksX1_commons_5 21 rfl rfl)
theorem dX1_commons_140 : decode cX1_commons 140 = .ok (.aload_n 0, 1) := dk_42 (dk_at dksX1_commons_6 0 rfl rfl)
theorem dX1_commons_141 : decode cX1_commons 141 = .ok (.getfield 49, 3) := dk_180 0 49 (dk_at dksX1_commons_6 1 rfl rfl)
theorem dX1_commons_144 : decode cX1_commons 144 = .ok (.invokevirtual 84, 3) := dk_182 0 84 (dk_at dksX1_commons_6 4 rfl rfl)
theorem dX1_commons_147 : decode cX1_commons 147 = .ok (.pop, 1) := dk_87 (dk_at dksX1_commons_6 7 rfl rfl)
theorem dX1_commons_148 : decode cX1_commons 148 = .ok (.aload_n 0, 1) := dk_42 (dk_at dksX1_commons_6 8 rfl rfl)
theorem dX1_commons_149 : decode cX1_commons 149 = .ok (.getfield 49, 3) := dk_180 0 49 (dk_at dksX1_commons_6 9 rfl rfl)
theorem dX1_commons_152 : decode cX1_commons 152 = .ok (.aload_n 0, 1) := dk_42 (dk_at dksX1_commons_6 12 rfl rfl)
theorem dX1_commons_153 : decode cX1_commons 153 = .ok (.getfield 52, 3) := dk_180 0 52 (dk_at dksX1_commons_6 13 rfl rfl)
theorem dX1_commons_156 : decode cX1_commons 156 = .ok (.invokevirtual 84, 3) := dk_182 0 84 (dk_at dksX1_commons_6 16 rfl rfl)
theorem dX1_commons_159 : decode cX1_commons 159 = .ok (.pop, 1) := dk_87 (dk_at dksX1_commons_6 19 rfl rfl)
theorem dX1_commons_160 : decode cX1_commons 160 = .ok (.aload_n 0, 1) := dk_42 (dk_at dksX1_commons_6 20 rfl rfl)
theorem dX1_commons_161 : decode cX1_commons 161 = .ok (.getfield 52, 3) := dk_180 0 52 (dk_at dksX1_commons_6 21 rfl rfl)
theorem dX1_commons_164 : decode cX1_commons 164 = .ok (.aload_n 0, 1) := dk_42 (dk_at dksX1_commons_7 0 rfl rfl)
theorem dX1_commons_165 : decode cX1_commons 165 = .ok (.getfield 55, 3) := dk_180 0 55 (dk_at dksX1_commons_7 1 rfl rfl)
theorem dX1_commons_168 : decode cX1_commons 168 = .ok (.invokevirtual 84, 3) := dk_182 0 84 (dk_at dksX1_commons_7 4 rfl rfl)
theorem dX1_commons_171 : decode cX1_commons 171 = .ok (.pop, 1) := dk_87 (dk_at dksX1_commons_7 7 rfl rfl)
theorem dX1_commons_172 : decode cX1_commons 172 = .ok (.aload_n 0, 1) := dk_42 (dk_at dksX1_commons_7 8 rfl rfl)
theorem dX1_commons_173 : decode cX1_commons 173 = .ok (.getfield 52, 3) := dk_180 0 52 (dk_at dksX1_commons_7 9 rfl rfl)
theorem dX1_commons_176 : decode cX1_commons 176 = .ok (.aload_n 0, 1) := dk_42 (dk_at dksX1_commons_7 12 rfl rfl)
theorem dX1_commons_177 : decode cX1_commons 177 = .ok (.getfield 49, 3) := dk_180 0 49 (dk_at dksX1_commons_7 13 rfl rfl)
theorem dX1_commons_180 : decode cX1_commons 180 = .ok (.invokevirtual 110, 3) := dk_182 0 110 (dk_at dksX1_commons_7 16 rfl rfl)
theorem dX1_commons_183 : decode cX1_commons 183 = .ok (.goto (-85), 3) := dk_167 255 171 (dk_at dksX1_commons_7 19 rfl rfl)
theorem dX1_commons_186 : decode cX1_commons 186 = .ok (.aload_n 0, 1) := dk_42 (dk_at dksX1_commons_7 22 rfl rfl)
theorem dX1_commons_187 : decode cX1_commons 187 = .ok (.getfield 49, 3) := dk_180 0 49 (dk_at dksX1_commons_8 0 rfl rfl)
theorem dX1_commons_190 : decode cX1_commons 190 = .ok (.iload 4, 2) := dk_21 4 (dk_at dksX1_commons_8 3 rfl rfl)
theorem dX1_commons_192 : decode cX1_commons 192 = .ok (.invokevirtual 114, 3) := dk_182 0 114 (dk_at dksX1_commons_8 5 rfl rfl)
theorem dX1_commons_195 : decode cX1_commons 195 = .ok (.aload_n 3, 1) := dk_45 (dk_at dksX1_commons_8 8 rfl rfl)
theorem dX1_commons_196 : decode cX1_commons 196 = .ok (.aload_n 0, 1) := dk_42 (dk_at dksX1_commons_8 9 rfl rfl)
theorem dX1_commons_197 : decode cX1_commons 197 = .ok (.getfield 49, 3) := dk_180 0 49 (dk_at dksX1_commons_8 10 rfl rfl)
theorem dX1_commons_200 : decode cX1_commons 200 = .ok (.invokevirtual 84, 3) := dk_182 0 84 (dk_at dksX1_commons_8 13 rfl rfl)
theorem dX1_commons_203 : decode cX1_commons 203 = .ok (.pop, 1) := dk_87 (dk_at dksX1_commons_8 16 rfl rfl)
theorem dX1_commons_204 : decode cX1_commons 204 = .ok (.return_, 1) := dk_177 (dk_at dksX1_commons_8 17 rfl rfl)
abbrev cX1_form : ByteArray := prog_1_method_8_code
def yX1_form : MethodName := ⟨RX1, "form", "()Ljava/lang/Object;"⟩
def dkwX1_form_4 : List UInt8 := [180, 0, 157, 184, 0, 160, 43, 176]
abbrev dktX1_form_4 : List UInt8 := dkwX1_form_4 ++ []
def dkwX1_form_3 : List UInt8 := [180, 0, 157, 184, 0, 160, 42, 180, 0, 40, 180, 0, 153, 3, 43, 4, 50, 3, 42, 180, 0, 40]
abbrev dktX1_form_3 : List UInt8 := dkwX1_form_3 ++ dktX1_form_4
def dkwX1_form_2 : List UInt8 := [5, 16, 8, 197, 0, 151, 2, 76, 42, 180, 0, 36, 180, 0, 153, 3, 43, 3, 50, 3, 42, 180, 0, 36]
abbrev dktX1_form_2 : List UInt8 := dkwX1_form_2 ++ dktX1_form_3
def dkwX1_form_1 : List UInt8 := [5, 188, 11, 89, 3, 42, 180, 0, 36, 182, 0, 147, 80, 89, 4, 42, 180, 0, 40, 182, 0, 147, 80, 176]
abbrev dktX1_form_1 : List UInt8 := dkwX1_form_1 ++ dktX1_form_2
def dkwX1_form_0 : List UInt8 := [42, 180, 0, 36, 182, 0, 144, 16, 64, 162, 0, 39, 42, 180, 0, 40, 182, 0, 144, 16, 64, 162, 0, 27]
abbrev dktX1_form_0 : List UInt8 := dkwX1_form_0 ++ dktX1_form_1
theorem dksX1_form_0 : cX1_form.data.toList.drop 0 = dktX1_form_0 := by decide +kernel
theorem dksX1_form_1 : cX1_form.data.toList.drop 24 = dktX1_form_1 := dk_seg dksX1_form_0 24 rfl rfl
theorem dksX1_form_2 : cX1_form.data.toList.drop 48 = dktX1_form_2 := dk_seg dksX1_form_1 24 rfl rfl
theorem dksX1_form_3 : cX1_form.data.toList.drop 72 = dktX1_form_3 := dk_seg dksX1_form_2 24 rfl rfl
theorem dksX1_form_4 : cX1_form.data.toList.drop 94 = dktX1_form_4 := dk_seg dksX1_form_3 22 rfl rfl
theorem dX1_form_0 : decode cX1_form 0 = .ok (.aload_n 0, 1) := dk_42 (dk_at dksX1_form_0 0 rfl rfl)
theorem dX1_form_1 : decode cX1_form 1 = .ok (.getfield 36, 3) := dk_180 0 36 (dk_at dksX1_form_0 1 rfl rfl)
theorem dX1_form_4 : decode cX1_form 4 = .ok (.invokevirtual 144, 3) := dk_182 0 144 (dk_at dksX1_form_0 4 rfl rfl)
theorem dX1_form_7 : decode cX1_form 7 = .ok (.bipush 64, 2) := dk_16 64 (dk_at dksX1_form_0 7 rfl rfl)
theorem dX1_form_9 : decode cX1_form 9 = .ok (.if_icmp .ge 39, 3) := dk_162 0 39 (dk_at dksX1_form_0 9 rfl rfl)
theorem dX1_form_12 : decode cX1_form 12 = .ok (.aload_n 0, 1) := dk_42 (dk_at dksX1_form_0 12 rfl rfl)
theorem dX1_form_13 : decode cX1_form 13 = .ok (.getfield 40, 3) := dk_180 0 40 (dk_at dksX1_form_0 13 rfl rfl)
theorem dX1_form_16 : decode cX1_form 16 = .ok (.invokevirtual 144, 3) := dk_182 0 144 (dk_at dksX1_form_0 16 rfl rfl)
theorem dX1_form_19 : decode cX1_form 19 = .ok (.bipush 64, 2) := dk_16 64 (dk_at dksX1_form_0 19 rfl rfl)
theorem dX1_form_21 : decode cX1_form 21 = .ok (.if_icmp .ge 27, 3) := dk_162 0 27 (dk_at dksX1_form_0 21 rfl rfl)
theorem dX1_form_24 : decode cX1_form 24 = .ok (.iconst 2, 1) := dk_5 (dk_at dksX1_form_1 0 rfl rfl)
theorem dX1_form_25 : decode cX1_form 25 = .ok (.newarray .long, 2) := dk_188_11 (dk_at dksX1_form_1 1 rfl rfl)
theorem dX1_form_27 : decode cX1_form 27 = .ok (.dup, 1) := dk_89 (dk_at dksX1_form_1 3 rfl rfl)
theorem dX1_form_28 : decode cX1_form 28 = .ok (.iconst 0, 1) := dk_3 (dk_at dksX1_form_1 4 rfl rfl)
theorem dX1_form_29 : decode cX1_form 29 = .ok (.aload_n 0, 1) := dk_42 (dk_at dksX1_form_1 5 rfl rfl)
theorem dX1_form_30 : decode cX1_form 30 = .ok (.getfield 36, 3) := dk_180 0 36 (dk_at dksX1_form_1 6 rfl rfl)
theorem dX1_form_33 : decode cX1_form 33 = .ok (.invokevirtual 147, 3) := dk_182 0 147 (dk_at dksX1_form_1 9 rfl rfl)
theorem dX1_form_36 : decode cX1_form 36 = .ok (.lastore, 1) := dk_80 (dk_at dksX1_form_1 12 rfl rfl)
theorem dX1_form_37 : decode cX1_form 37 = .ok (.dup, 1) := dk_89 (dk_at dksX1_form_1 13 rfl rfl)
theorem dX1_form_38 : decode cX1_form 38 = .ok (.iconst 1, 1) := dk_4 (dk_at dksX1_form_1 14 rfl rfl)
theorem dX1_form_39 : decode cX1_form 39 = .ok (.aload_n 0, 1) := dk_42 (dk_at dksX1_form_1 15 rfl rfl)
theorem dX1_form_40 : decode cX1_form 40 = .ok (.getfield 40, 3) := dk_180 0 40 (dk_at dksX1_form_1 16 rfl rfl)
theorem dX1_form_43 : decode cX1_form 43 = .ok (.invokevirtual 147, 3) := dk_182 0 147 (dk_at dksX1_form_1 19 rfl rfl)
theorem dX1_form_46 : decode cX1_form 46 = .ok (.lastore, 1) := dk_80 (dk_at dksX1_form_1 22 rfl rfl)
theorem dX1_form_47 : decode cX1_form 47 = .ok (.areturn, 1) := dk_176 (dk_at dksX1_form_1 23 rfl rfl)
theorem dX1_form_48 : decode cX1_form 48 = .ok (.iconst 2, 1) := dk_5 (dk_at dksX1_form_2 0 rfl rfl)
theorem dX1_form_49 : decode cX1_form 49 = .ok (.bipush 8, 2) := dk_16 8 (dk_at dksX1_form_2 1 rfl rfl)
theorem dX1_form_51 : decode cX1_form 51 = .ok (.multianewarray 151 2, 4) := by decide +kernel
theorem dX1_form_55 : decode cX1_form 55 = .ok (.astore_n 1, 1) := dk_76 (dk_at dksX1_form_2 7 rfl rfl)
theorem dX1_form_56 : decode cX1_form 56 = .ok (.aload_n 0, 1) := dk_42 (dk_at dksX1_form_2 8 rfl rfl)
theorem dX1_form_57 : decode cX1_form 57 = .ok (.getfield 36, 3) := dk_180 0 36 (dk_at dksX1_form_2 9 rfl rfl)
theorem dX1_form_60 : decode cX1_form 60 = .ok (.getfield 153, 3) := dk_180 0 153 (dk_at dksX1_form_2 12 rfl rfl)
theorem dX1_form_63 : decode cX1_form 63 = .ok (.iconst 0, 1) := dk_3 (dk_at dksX1_form_2 15 rfl rfl)
theorem dX1_form_64 : decode cX1_form 64 = .ok (.aload_n 1, 1) := dk_43 (dk_at dksX1_form_2 16 rfl rfl)
theorem dX1_form_65 : decode cX1_form 65 = .ok (.iconst 0, 1) := dk_3 (dk_at dksX1_form_2 17 rfl rfl)
theorem dX1_form_66 : decode cX1_form 66 = .ok (.aaload, 1) := dk_50 (dk_at dksX1_form_2 18 rfl rfl)
theorem dX1_form_67 : decode cX1_form 67 = .ok (.iconst 0, 1) := dk_3 (dk_at dksX1_form_2 19 rfl rfl)
theorem dX1_form_68 : decode cX1_form 68 = .ok (.aload_n 0, 1) := dk_42 (dk_at dksX1_form_2 20 rfl rfl)
theorem dX1_form_69 : decode cX1_form 69 = .ok (.getfield 36, 3) := dk_180 0 36 (dk_at dksX1_form_2 21 rfl rfl)
theorem dX1_form_72 : decode cX1_form 72 = .ok (.getfield 157, 3) := dk_180 0 157 (dk_at dksX1_form_3 0 rfl rfl)
theorem dX1_form_75 : decode cX1_form 75 = .ok (.invokestatic 160, 3) := dk_184 0 160 (dk_at dksX1_form_3 3 rfl rfl)
theorem dX1_form_78 : decode cX1_form 78 = .ok (.aload_n 0, 1) := dk_42 (dk_at dksX1_form_3 6 rfl rfl)
theorem dX1_form_79 : decode cX1_form 79 = .ok (.getfield 40, 3) := dk_180 0 40 (dk_at dksX1_form_3 7 rfl rfl)
theorem dX1_form_82 : decode cX1_form 82 = .ok (.getfield 153, 3) := dk_180 0 153 (dk_at dksX1_form_3 10 rfl rfl)
theorem dX1_form_85 : decode cX1_form 85 = .ok (.iconst 0, 1) := dk_3 (dk_at dksX1_form_3 13 rfl rfl)
theorem dX1_form_86 : decode cX1_form 86 = .ok (.aload_n 1, 1) := dk_43 (dk_at dksX1_form_3 14 rfl rfl)
theorem dX1_form_87 : decode cX1_form 87 = .ok (.iconst 1, 1) := dk_4 (dk_at dksX1_form_3 15 rfl rfl)
theorem dX1_form_88 : decode cX1_form 88 = .ok (.aaload, 1) := dk_50 (dk_at dksX1_form_3 16 rfl rfl)
theorem dX1_form_89 : decode cX1_form 89 = .ok (.iconst 0, 1) := dk_3 (dk_at dksX1_form_3 17 rfl rfl)
theorem dX1_form_90 : decode cX1_form 90 = .ok (.aload_n 0, 1) := dk_42 (dk_at dksX1_form_3 18 rfl rfl)
theorem dX1_form_91 : decode cX1_form 91 = .ok (.getfield 40, 3) := dk_180 0 40 (dk_at dksX1_form_3 19 rfl rfl)
theorem dX1_form_94 : decode cX1_form 94 = .ok (.getfield 157, 3) := dk_180 0 157 (dk_at dksX1_form_4 0 rfl rfl)
theorem dX1_form_97 : decode cX1_form 97 = .ok (.invokestatic 160, 3) := dk_184 0 160 (dk_at dksX1_form_4 3 rfl rfl)
theorem dX1_form_100 : decode cX1_form 100 = .ok (.aload_n 1, 1) := dk_43 (dk_at dksX1_form_4 6 rfl rfl)
theorem dX1_form_101 : decode cX1_form 101 = .ok (.areturn, 1) := dk_176 (dk_at dksX1_form_4 7 rfl rfl)
abbrev cX1_fraction : ByteArray := prog_1_method_11_code
def yX1_fraction : MethodName := ⟨RX1, "fraction", "(JJ)I"⟩
def dkwX1_fraction_3 : List UInt8 := [156, 0, 8, 33, 117, 167, 0, 4, 33, 182, 0, 126, 87, 42, 182, 0, 170, 172]
abbrev dktX1_fraction_3 : List UInt8 := dkwX1_fraction_3 ++ []
def dkwX1_fraction_2 : List UInt8 := [9, 148, 156, 0, 8, 31, 117, 167, 0, 4, 31, 182, 0, 126, 87, 42, 180, 0, 40, 33, 9, 148]
abbrev dktX1_fraction_2 : List UInt8 := dkwX1_fraction_2 ++ dktX1_fraction_3
def dkwX1_fraction_1 : List UInt8 := [184, 0, 173, 191, 42, 42, 31, 182, 0, 166, 42, 33, 182, 0, 166, 104, 181, 0, 136, 42, 180, 0, 36, 31]
abbrev dktX1_fraction_1 : List UInt8 := dkwX1_fraction_1 ++ dktX1_fraction_2
def dkwX1_fraction_0 : List UInt8 := [42, 42, 31, 182, 0, 166, 42, 33, 33, 109, 182, 0, 166, 104, 181, 0, 136, 167, 0, 9, 58, 5]
abbrev dktX1_fraction_0 : List UInt8 := dkwX1_fraction_0 ++ dktX1_fraction_1
theorem dksX1_fraction_0 : cX1_fraction.data.toList.drop 0 = dktX1_fraction_0 := by decide +kernel
theorem dksX1_fraction_1 : cX1_fraction.data.toList.drop 22 = dktX1_fraction_1 := dk_seg dksX1_fraction_0 22 rfl rfl
theorem dksX1_fraction_2 : cX1_fraction.data.toList.drop 46 = dktX1_fraction_2 := dk_seg dksX1_fraction_1 24 rfl rfl
theorem dksX1_fraction_3 : cX1_fraction.data.toList.drop 68 = dktX1_fraction_3 := dk_seg dksX1_fraction_2 22 rfl rfl
theorem dX1_fraction_0 : decode cX1_fraction 0 = .ok (.aload_n 0, 1) := dk_42 (dk_at dksX1_fraction_0 0 rfl rfl)
theorem dX1_fraction_1 : decode cX1_fraction 1 = .ok (.aload_n 0, 1) := dk_42 (dk_at dksX1_fraction_0 1 rfl rfl)
theorem dX1_fraction_2 : decode cX1_fraction 2 = .ok (.lload_n 1, 1) := dk_31 (dk_at dksX1_fraction_0 2 rfl rfl)
theorem dX1_fraction_3 : decode cX1_fraction 3 = .ok (.invokevirtual 166, 3) := dk_182 0 166 (dk_at dksX1_fraction_0 3 rfl rfl)
theorem dX1_fraction_6 : decode cX1_fraction 6 = .ok (.aload_n 0, 1) := dk_42 (dk_at dksX1_fraction_0 6 rfl rfl)
theorem dX1_fraction_7 : decode cX1_fraction 7 = .ok (.lload_n 3, 1) := dk_33 (dk_at dksX1_fraction_0 7 rfl rfl)
theorem dX1_fraction_8 : decode cX1_fraction 8 = .ok (.lload_n 3, 1) := dk_33 (dk_at dksX1_fraction_0 8 rfl rfl)
theorem dX1_fraction_9 : decode cX1_fraction 9 = .ok (.ldiv, 1) := dk_109 (dk_at dksX1_fraction_0 9 rfl rfl)
theorem dX1_fraction_10 : decode cX1_fraction 10 = .ok (.invokevirtual 166, 3) := dk_182 0 166 (dk_at dksX1_fraction_0 10 rfl rfl)
theorem dX1_fraction_13 : decode cX1_fraction 13 = .ok (.imul, 1) := dk_104 (dk_at dksX1_fraction_0 13 rfl rfl)
theorem dX1_fraction_14 : decode cX1_fraction 14 = .ok (.putfield 136, 3) := dk_181 0 136 (dk_at dksX1_fraction_0 14 rfl rfl)
theorem dX1_fraction_17 : decode cX1_fraction 17 = .ok (.goto 9, 3) := dk_167 0 9 (dk_at dksX1_fraction_0 17 rfl rfl)
theorem dX1_fraction_20 : decode cX1_fraction 20 = .ok (.astore 5, 2) := dk_58 5 (dk_at dksX1_fraction_0 20 rfl rfl)
theorem dX1_fraction_22 : decode cX1_fraction 22 = .ok (.invokestatic 173, 3) := dk_184 0 173 (dk_at dksX1_fraction_1 0 rfl rfl)
theorem dX1_fraction_25 : decode cX1_fraction 25 = .ok (.athrow, 1) := dk_191 (dk_at dksX1_fraction_1 3 rfl rfl)
theorem dX1_fraction_26 : decode cX1_fraction 26 = .ok (.aload_n 0, 1) := dk_42 (dk_at dksX1_fraction_1 4 rfl rfl)
theorem dX1_fraction_27 : decode cX1_fraction 27 = .ok (.aload_n 0, 1) := dk_42 (dk_at dksX1_fraction_1 5 rfl rfl)
theorem dX1_fraction_28 : decode cX1_fraction 28 = .ok (.lload_n 1, 1) := dk_31 (dk_at dksX1_fraction_1 6 rfl rfl)
theorem dX1_fraction_29 : decode cX1_fraction 29 = .ok (.invokevirtual 166, 3) := dk_182 0 166 (dk_at dksX1_fraction_1 7 rfl rfl)
theorem dX1_fraction_32 : decode cX1_fraction 32 = .ok (.aload_n 0, 1) := dk_42 (dk_at dksX1_fraction_1 10 rfl rfl)
theorem dX1_fraction_33 : decode cX1_fraction 33 = .ok (.lload_n 3, 1) := dk_33 (dk_at dksX1_fraction_1 11 rfl rfl)
theorem dX1_fraction_34 : decode cX1_fraction 34 = .ok (.invokevirtual 166, 3) := dk_182 0 166 (dk_at dksX1_fraction_1 12 rfl rfl)
theorem dX1_fraction_37 : decode cX1_fraction 37 = .ok (.imul, 1) := dk_104 (dk_at dksX1_fraction_1 15 rfl rfl)
theorem dX1_fraction_38 : decode cX1_fraction 38 = .ok (.putfield 136, 3) := dk_181 0 136 (dk_at dksX1_fraction_1 16 rfl rfl)
theorem dX1_fraction_41 : decode cX1_fraction 41 = .ok (.aload_n 0, 1) := dk_42 (dk_at dksX1_fraction_1 19 rfl rfl)
theorem dX1_fraction_42 : decode cX1_fraction 42 = .ok (.getfield 36, 3) := dk_180 0 36 (dk_at dksX1_fraction_1 20 rfl rfl)
theorem dX1_fraction_45 : decode cX1_fraction 45 = .ok (.lload_n 1, 1) := dk_31 (dk_at dksX1_fraction_1 23 rfl rfl)
theorem dX1_fraction_46 : decode cX1_fraction 46 = .ok (.lconst 0, 1) := dk_9 (dk_at dksX1_fraction_2 0 rfl rfl)
theorem dX1_fraction_47 : decode cX1_fraction 47 = .ok (.lcmp, 1) := dk_148 (dk_at dksX1_fraction_2 1 rfl rfl)
theorem dX1_fraction_48 : decode cX1_fraction 48 = .ok (.ifCond .ge 8, 3) := dk_156 0 8 (dk_at dksX1_fraction_2 2 rfl rfl)
theorem dX1_fraction_51 : decode cX1_fraction 51 = .ok (.lload_n 1, 1) := dk_31 (dk_at dksX1_fraction_2 5 rfl rfl)
theorem dX1_fraction_52 : decode cX1_fraction 52 = .ok (.lneg, 1) := dk_117 (dk_at dksX1_fraction_2 6 rfl rfl)
theorem dX1_fraction_53 : decode cX1_fraction 53 = .ok (.goto 4, 3) := dk_167 0 4 (dk_at dksX1_fraction_2 7 rfl rfl)
theorem dX1_fraction_56 : decode cX1_fraction 56 = .ok (.lload_n 1, 1) := dk_31 (dk_at dksX1_fraction_2 10 rfl rfl)
theorem dX1_fraction_57 : decode cX1_fraction 57 = .ok (.invokevirtual 126, 3) := dk_182 0 126 (dk_at dksX1_fraction_2 11 rfl rfl)
theorem dX1_fraction_60 : decode cX1_fraction 60 = .ok (.pop, 1) := dk_87 (dk_at dksX1_fraction_2 14 rfl rfl)
theorem dX1_fraction_61 : decode cX1_fraction 61 = .ok (.aload_n 0, 1) := dk_42 (dk_at dksX1_fraction_2 15 rfl rfl)
theorem dX1_fraction_62 : decode cX1_fraction 62 = .ok (.getfield 40, 3) := dk_180 0 40 (dk_at dksX1_fraction_2 16 rfl rfl)
theorem dX1_fraction_65 : decode cX1_fraction 65 = .ok (.lload_n 3, 1) := dk_33 (dk_at dksX1_fraction_2 19 rfl rfl)
theorem dX1_fraction_66 : decode cX1_fraction 66 = .ok (.lconst 0, 1) := dk_9 (dk_at dksX1_fraction_2 20 rfl rfl)
theorem dX1_fraction_67 : decode cX1_fraction 67 = .ok (.lcmp, 1) := dk_148 (dk_at dksX1_fraction_2 21 rfl rfl)
theorem dX1_fraction_68 : decode cX1_fraction 68 = .ok (.ifCond .ge 8, 3) := dk_156 0 8 (dk_at dksX1_fraction_3 0 rfl rfl)
theorem dX1_fraction_71 : decode cX1_fraction 71 = .ok (.lload_n 3, 1) := dk_33 (dk_at dksX1_fraction_3 3 rfl rfl)
theorem dX1_fraction_72 : decode cX1_fraction 72 = .ok (.lneg, 1) := dk_117 (dk_at dksX1_fraction_3 4 rfl rfl)
theorem dX1_fraction_73 : decode cX1_fraction 73 = .ok (.goto 4, 3) := dk_167 0 4 (dk_at dksX1_fraction_3 5 rfl rfl)
theorem dX1_fraction_76 : decode cX1_fraction 76 = .ok (.lload_n 3, 1) := dk_33 (dk_at dksX1_fraction_3 8 rfl rfl)
theorem dX1_fraction_77 : decode cX1_fraction 77 = .ok (.invokevirtual 126, 3) := dk_182 0 126 (dk_at dksX1_fraction_3 9 rfl rfl)
theorem dX1_fraction_80 : decode cX1_fraction 80 = .ok (.pop, 1) := dk_87 (dk_at dksX1_fraction_3 12 rfl rfl)
theorem dX1_fraction_81 : decode cX1_fraction 81 = .ok (.aload_n 0, 1) := dk_42 (dk_at dksX1_fraction_3 13 rfl rfl)
theorem dX1_fraction_82 : decode cX1_fraction 82 = .ok (.invokevirtual 170, 3) := dk_182 0 170 (dk_at dksX1_fraction_3 14 rfl rfl)
theorem dX1_fraction_85 : decode cX1_fraction 85 = .ok (.ireturn, 1) := dk_172 (dk_at dksX1_fraction_3 17 rfl rfl)
abbrev cX1_divided : ByteArray := prog_1_method_4_code
def yX1_divided : MethodName := ⟨RX1, "divided", "()Ljava/lang/ArithmeticException;"⟩
def dkwX1_divided_0 : List UInt8 := [187, 0, 81, 89, 183, 0, 83, 176]
abbrev dktX1_divided_0 : List UInt8 := dkwX1_divided_0 ++ []
theorem dksX1_divided_0 : cX1_divided.data.toList.drop 0 = dktX1_divided_0 := by decide +kernel
theorem dX1_divided_0 : decode cX1_divided 0 = .ok (.new 81, 3) := dk_187 0 81 (dk_at dksX1_divided_0 0 rfl rfl)
theorem dX1_divided_3 : decode cX1_divided 3 = .ok (.dup, 1) := dk_89 (dk_at dksX1_divided_0 3 rfl rfl)
theorem dX1_divided_4 : decode cX1_divided 4 = .ok (.invokespecial 83, 3) := dk_183 0 83 (dk_at dksX1_divided_0 4 rfl rfl)
theorem dX1_divided_7 : decode cX1_divided 7 = .ok (.areturn, 1) := dk_176 (dk_at dksX1_divided_0 7 rfl rfl)
abbrev cX1_real : ByteArray := prog_1_method_13_code
def yX1_real : MethodName := ⟨RX1, "real", "(J)I"⟩
def dkwX1_real_7 : List UInt8 := [182, 0, 170, 172]
abbrev dktX1_real_7 : List UInt8 := dkwX1_real_7 ++ []
def dkwX1_real_6 : List UInt8 := [180, 0, 36, 21, 5, 182, 0, 114, 167, 0, 13, 42, 180, 0, 40, 21, 5, 116, 182, 0, 114, 42]
abbrev dktX1_real_6 : List UInt8 := dkwX1_real_6 ++ dktX1_real_7
def dkwX1_real_5 : List UInt8 := [21, 5, 17, 254, 212, 162, 0, 11, 187, 0, 120, 89, 183, 0, 122, 191, 21, 5, 158, 0, 15, 42]
abbrev dktX1_real_5 : List UInt8 := dkwX1_real_5 ++ dktX1_real_6
def dkwX1_real_4 : List UInt8 := [182, 0, 92, 182, 0, 102, 42, 180, 0, 40, 10, 182, 0, 126, 87, 21, 5, 17, 1, 44, 163, 0, 11]
abbrev dktX1_real_4 : List UInt8 := dkwX1_real_4 ++ dktX1_real_5
def dkwX1_real_3 : List UInt8 := [182, 0, 170, 172, 21, 5, 42, 180, 0, 36, 182, 0, 92, 96, 54, 5, 42, 180, 0, 36, 42, 180, 0, 36]
abbrev dktX1_real_3 : List UInt8 := dkwX1_real_3 ++ dktX1_real_4
def dkwX1_real_2 : List UInt8 := [54, 5, 42, 180, 0, 36, 182, 0, 88, 153, 0, 17, 42, 180, 0, 40, 10, 182, 0, 126, 87, 42]
abbrev dktX1_real_2 : List UInt8 := dkwX1_real_2 ++ dktX1_real_3
def dkwX1_real_1 : List UInt8 := [184, 0, 173, 191, 42, 31, 9, 148, 156, 0, 7, 2, 167, 0, 4, 4, 181, 0, 136, 42, 41, 182, 0, 200]
abbrev dktX1_real_1 : List UInt8 := dkwX1_real_1 ++ dktX1_real_2
def dkwX1_real_0 : List UInt8 := [31, 184, 0, 192, 74, 41, 41, 151, 154, 0, 14, 41, 184, 0, 184, 20, 0, 198, 151, 158, 0, 7]
abbrev dktX1_real_0 : List UInt8 := dkwX1_real_0 ++ dktX1_real_1
theorem dksX1_real_0 : cX1_real.data.toList.drop 0 = dktX1_real_0 := by decide +kernel
theorem dksX1_real_1 : cX1_real.data.toList.drop 22 = dktX1_real_1 := dk_seg dksX1_real_0 22 rfl rfl
theorem dksX1_real_2 : cX1_real.data.toList.drop 46 = dktX1_real_2 := dk_seg dksX1_real_1 24 rfl rfl
theorem dksX1_real_3 : cX1_real.data.toList.drop 68 = dktX1_real_3 := dk_seg dksX1_real_2 22 rfl rfl
theorem dksX1_real_4 : cX1_real.data.toList.drop 92 = dktX1_real_4 := dk_seg dksX1_real_3 24 rfl rfl
theorem dksX1_real_5 : cX1_real.data.toList.drop 115 = dktX1_real_5 := dk_seg dksX1_real_4 23 rfl rfl
theorem dksX1_real_6 : cX1_real.data.toList.drop 137 = dktX1_real_6 := dk_seg dksX1_real_5 22 rfl rfl
theorem dksX1_real_7 : cX1_real.data.toList.drop 159 = dktX1_real_7 := dk_seg dksX1_real_6 22 rfl rfl
theorem dX1_real_0 : decode cX1_real 0 = .ok (.lload_n 1, 1) := dk_31 (dk_at dksX1_real_0 0 rfl rfl)
theorem dX1_real_1 : decode cX1_real 1 = .ok (.invokestatic 192, 3) := dk_184 0 192 (dk_at dksX1_real_0 1 rfl rfl)
theorem dX1_real_4 : decode cX1_real 4 = .ok (.dstore_n 3, 1) := dk_74 (dk_at dksX1_real_0 4 rfl rfl)
theorem dX1_real_5 : decode cX1_real 5 = .ok (.dload_n 3, 1) := dk_41 (dk_at dksX1_real_0 5 rfl rfl)
theorem dX1_real_6 : decode cX1_real 6 = .ok (.dload_n 3, 1) := dk_41 (dk_at dksX1_real_0 6 rfl rfl)
theorem dX1_real_7 : decode cX1_real 7 = .ok (.dcmp .l, 1) := dk_151 (dk_at dksX1_real_0 7 rfl rfl)
theorem dX1_real_8 : decode cX1_real 8 = .ok (.ifCond .ne 14, 3) := dk_154 0 14 (dk_at dksX1_real_0 8 rfl rfl)
theorem dX1_real_11 : decode cX1_real 11 = .ok (.dload_n 3, 1) := dk_41 (dk_at dksX1_real_0 11 rfl rfl)
theorem dX1_real_12 : decode cX1_real 12 = .ok (.invokestatic 184, 3) := dk_184 0 184 (dk_at dksX1_real_0 12 rfl rfl)
theorem dX1_real_15 : decode cX1_real 15 = .ok (.ldc2_w 198, 3) := dk_20 0 198 (dk_at dksX1_real_0 15 rfl rfl)
theorem dX1_real_18 : decode cX1_real 18 = .ok (.dcmp .l, 1) := dk_151 (dk_at dksX1_real_0 18 rfl rfl)
theorem dX1_real_19 : decode cX1_real 19 = .ok (.ifCond .le 7, 3) := dk_158 0 7 (dk_at dksX1_real_0 19 rfl rfl)
theorem dX1_real_22 : decode cX1_real 22 = .ok (.invokestatic 173, 3) := dk_184 0 173 (dk_at dksX1_real_1 0 rfl rfl)
theorem dX1_real_25 : decode cX1_real 25 = .ok (.athrow, 1) := dk_191 (dk_at dksX1_real_1 3 rfl rfl)
theorem dX1_real_26 : decode cX1_real 26 = .ok (.aload_n 0, 1) := dk_42 (dk_at dksX1_real_1 4 rfl rfl)
theorem dX1_real_27 : decode cX1_real 27 = .ok (.lload_n 1, 1) := dk_31 (dk_at dksX1_real_1 5 rfl rfl)
theorem dX1_real_28 : decode cX1_real 28 = .ok (.lconst 0, 1) := dk_9 (dk_at dksX1_real_1 6 rfl rfl)
theorem dX1_real_29 : decode cX1_real 29 = .ok (.lcmp, 1) := dk_148 (dk_at dksX1_real_1 7 rfl rfl)
theorem dX1_real_30 : decode cX1_real 30 = .ok (.ifCond .ge 7, 3) := dk_156 0 7 (dk_at dksX1_real_1 8 rfl rfl)
theorem dX1_real_33 : decode cX1_real 33 = .ok (.iconst (-1), 1) := dk_2 (dk_at dksX1_real_1 11 rfl rfl)
theorem dX1_real_34 : decode cX1_real 34 = .ok (.goto 4, 3) := dk_167 0 4 (dk_at dksX1_real_1 12 rfl rfl)
theorem dX1_real_37 : decode cX1_real 37 = .ok (.iconst 1, 1) := dk_4 (dk_at dksX1_real_1 15 rfl rfl)
theorem dX1_real_38 : decode cX1_real 38 = .ok (.putfield 136, 3) := dk_181 0 136 (dk_at dksX1_real_1 16 rfl rfl)
theorem dX1_real_41 : decode cX1_real 41 = .ok (.aload_n 0, 1) := dk_42 (dk_at dksX1_real_1 19 rfl rfl)
theorem dX1_real_42 : decode cX1_real 42 = .ok (.dload_n 3, 1) := dk_41 (dk_at dksX1_real_1 20 rfl rfl)
theorem dX1_real_43 : decode cX1_real 43 = .ok (.invokevirtual 200, 3) := dk_182 0 200 (dk_at dksX1_real_1 21 rfl rfl)
theorem dX1_real_46 : decode cX1_real 46 = .ok (.istore 5, 2) := dk_54 5 (dk_at dksX1_real_2 0 rfl rfl)
theorem dX1_real_48 : decode cX1_real 48 = .ok (.aload_n 0, 1) := dk_42 (dk_at dksX1_real_2 2 rfl rfl)
theorem dX1_real_49 : decode cX1_real 49 = .ok (.getfield 36, 3) := dk_180 0 36 (dk_at dksX1_real_2 3 rfl rfl)
theorem dX1_real_52 : decode cX1_real 52 = .ok (.invokevirtual 88, 3) := dk_182 0 88 (dk_at dksX1_real_2 6 rfl rfl)
theorem dX1_real_55 : decode cX1_real 55 = .ok (.ifCond .eq 17, 3) := dk_153 0 17 (dk_at dksX1_real_2 9 rfl rfl)
theorem dX1_real_58 : decode cX1_real 58 = .ok (.aload_n 0, 1) := dk_42 (dk_at dksX1_real_2 12 rfl rfl)
theorem dX1_real_59 : decode cX1_real 59 = .ok (.getfield 40, 3) := dk_180 0 40 (dk_at dksX1_real_2 13 rfl rfl)
theorem dX1_real_62 : decode cX1_real 62 = .ok (.lconst 1, 1) := dk_10 (dk_at dksX1_real_2 16 rfl rfl)
theorem dX1_real_63 : decode cX1_real 63 = .ok (.invokevirtual 126, 3) := dk_182 0 126 (dk_at dksX1_real_2 17 rfl rfl)
theorem dX1_real_66 : decode cX1_real 66 = .ok (.pop, 1) := dk_87 (dk_at dksX1_real_2 20 rfl rfl)
theorem dX1_real_67 : decode cX1_real 67 = .ok (.aload_n 0, 1) := dk_42 (dk_at dksX1_real_2 21 rfl rfl)
theorem dX1_real_68 : decode cX1_real 68 = .ok (.invokevirtual 170, 3) := dk_182 0 170 (dk_at dksX1_real_3 0 rfl rfl)
theorem dX1_real_71 : decode cX1_real 71 = .ok (.ireturn, 1) := dk_172 (dk_at dksX1_real_3 3 rfl rfl)
theorem dX1_real_72 : decode cX1_real 72 = .ok (.iload 5, 2) := dk_21 5 (dk_at dksX1_real_3 4 rfl rfl)
theorem dX1_real_74 : decode cX1_real 74 = .ok (.aload_n 0, 1) := dk_42 (dk_at dksX1_real_3 6 rfl rfl)
theorem dX1_real_75 : decode cX1_real 75 = .ok (.getfield 36, 3) := dk_180 0 36 (dk_at dksX1_real_3 7 rfl rfl)
theorem dX1_real_78 : decode cX1_real 78 = .ok (.invokevirtual 92, 3) := dk_182 0 92 (dk_at dksX1_real_3 10 rfl rfl)
theorem dX1_real_81 : decode cX1_real 81 = .ok (.iadd, 1) := dk_96 (dk_at dksX1_real_3 13 rfl rfl)
theorem dX1_real_82 : decode cX1_real 82 = .ok (.istore 5, 2) := dk_54 5 (dk_at dksX1_real_3 14 rfl rfl)
theorem dX1_real_84 : decode cX1_real 84 = .ok (.aload_n 0, 1) := dk_42 (dk_at dksX1_real_3 16 rfl rfl)
theorem dX1_real_85 : decode cX1_real 85 = .ok (.getfield 36, 3) := dk_180 0 36 (dk_at dksX1_real_3 17 rfl rfl)
theorem dX1_real_88 : decode cX1_real 88 = .ok (.aload_n 0, 1) := dk_42 (dk_at dksX1_real_3 20 rfl rfl)
theorem dX1_real_89 : decode cX1_real 89 = .ok (.getfield 36, 3) := dk_180 0 36 (dk_at dksX1_real_3 21 rfl rfl)
theorem dX1_real_92 : decode cX1_real 92 = .ok (.invokevirtual 92, 3) := dk_182 0 92 (dk_at dksX1_real_4 0 rfl rfl)
theorem dX1_real_95 : decode cX1_real 95 = .ok (.invokevirtual 102, 3) := dk_182 0 102 (dk_at dksX1_real_4 3 rfl rfl)
theorem dX1_real_98 : decode cX1_real 98 = .ok (.aload_n 0, 1) := dk_42 (dk_at dksX1_real_4 6 rfl rfl)
theorem dX1_real_99 : decode cX1_real 99 = .ok (.getfield 40, 3) := dk_180 0 40 (dk_at dksX1_real_4 7 rfl rfl)
theorem dX1_real_102 : decode cX1_real 102 = .ok (.lconst 1, 1) := dk_10 (dk_at dksX1_real_4 10 rfl rfl)
theorem dX1_real_103 : decode cX1_real 103 = .ok (.invokevirtual 126, 3) := dk_182 0 126 (dk_at dksX1_real_4 11 rfl rfl)
theorem dX1_real_106 : decode cX1_real 106 = .ok (.pop, 1) := dk_87 (dk_at dksX1_real_4 14 rfl rfl)
theorem dX1_real_107 : decode cX1_real 107 = .ok (.iload 5, 2) := dk_21 5 (dk_at dksX1_real_4 15 rfl rfl)
theorem dX1_real_109 : decode cX1_real 109 = .ok (.sipush 300, 3) := dk_17 1 44 (dk_at dksX1_real_4 17 rfl rfl)
theorem dX1_real_112 : decode cX1_real 112 = .ok (.if_icmp .gt 11, 3) := dk_163 0 11 (dk_at dksX1_real_4 20 rfl rfl)
theorem dX1_real_115 : decode cX1_real 115 = .ok (.iload 5, 2) := dk_21 5 (dk_at dksX1_real_5 0 rfl rfl)
theorem dX1_real_117 : decode cX1_real 117 = .ok (.sipush (-300), 3) := dk_17 254 212 (dk_at dksX1_real_5 2 rfl rfl)
theorem dX1_real_120 : decode cX1_real 120 = .ok (.if_icmp .ge 11, 3) := dk_162 0 11 (dk_at dksX1_real_5 5 rfl rfl)
theorem dX1_real_123 : decode cX1_real 123 = .ok (.new 120, 3) := dk_187 0 120 (dk_at dksX1_real_5 8 rfl rfl)
theorem dX1_real_126 : decode cX1_real 126 = .ok (.dup, 1) := dk_89 (dk_at dksX1_real_5 11 rfl rfl)
theorem dX1_real_127 : decode cX1_real 127 = .ok (.invokespecial 122, 3) := dk_183 0 122 (dk_at dksX1_real_5 12 rfl rfl)
theorem dX1_real_130 : decode cX1_real 130 = .ok (.athrow, 1) := dk_191 (dk_at dksX1_real_5 15 rfl rfl)
theorem dX1_real_131 : decode cX1_real 131 = .ok (.iload 5, 2) := dk_21 5 (dk_at dksX1_real_5 16 rfl rfl)
theorem dX1_real_133 : decode cX1_real 133 = .ok (.ifCond .le 15, 3) := dk_158 0 15 (dk_at dksX1_real_5 18 rfl rfl)
theorem dX1_real_136 : decode cX1_real 136 = .ok (.aload_n 0, 1) := dk_42 (dk_at dksX1_real_5 21 rfl rfl)
theorem dX1_real_137 : decode cX1_real 137 = .ok (.getfield 36, 3) := dk_180 0 36 (dk_at dksX1_real_6 0 rfl rfl)
theorem dX1_real_140 : decode cX1_real 140 = .ok (.iload 5, 2) := dk_21 5 (dk_at dksX1_real_6 3 rfl rfl)
theorem dX1_real_142 : decode cX1_real 142 = .ok (.invokevirtual 114, 3) := dk_182 0 114 (dk_at dksX1_real_6 5 rfl rfl)
theorem dX1_real_145 : decode cX1_real 145 = .ok (.goto 13, 3) := dk_167 0 13 (dk_at dksX1_real_6 8 rfl rfl)
theorem dX1_real_148 : decode cX1_real 148 = .ok (.aload_n 0, 1) := dk_42 (dk_at dksX1_real_6 11 rfl rfl)
theorem dX1_real_149 : decode cX1_real 149 = .ok (.getfield 40, 3) := dk_180 0 40 (dk_at dksX1_real_6 12 rfl rfl)
theorem dX1_real_152 : decode cX1_real 152 = .ok (.iload 5, 2) := dk_21 5 (dk_at dksX1_real_6 15 rfl rfl)
theorem dX1_real_154 : decode cX1_real 154 = .ok (.ineg, 1) := dk_116 (dk_at dksX1_real_6 17 rfl rfl)
theorem dX1_real_155 : decode cX1_real 155 = .ok (.invokevirtual 114, 3) := dk_182 0 114 (dk_at dksX1_real_6 18 rfl rfl)
theorem dX1_real_158 : decode cX1_real 158 = .ok (.aload_n 0, 1) := dk_42 (dk_at dksX1_real_6 21 rfl rfl)
theorem dX1_real_159 : decode cX1_real 159 = .ok (.invokevirtual 170, 3) := dk_182 0 170 (dk_at dksX1_real_7 0 rfl rfl)
theorem dX1_real_162 : decode cX1_real 162 = .ok (.ireturn, 1) := dk_172 (dk_at dksX1_real_7 3 rfl rfl)
abbrev cX1_doubleOf : ByteArray := prog_1_method_37_code
def yX1_doubleOf : MethodName := ⟨RX1, "doubleOf", "(J)D"⟩
def dkwX1_doubleOf_0 : List UInt8 := [30, 20, 1, 58, 127, 20, 1, 60, 148, 158, 0, 9, 20, 1, 55, 167, 0, 7, 30, 184, 1, 62, 175]
abbrev dktX1_doubleOf_0 : List UInt8 := dkwX1_doubleOf_0 ++ []
theorem dksX1_doubleOf_0 : cX1_doubleOf.data.toList.drop 0 = dktX1_doubleOf_0 := by decide +kernel
theorem dX1_doubleOf_0 : decode cX1_doubleOf 0 = .ok (.lload_n 0, 1) := dk_30 (dk_at dksX1_doubleOf_0 0 rfl rfl)
theorem dX1_doubleOf_1 : decode cX1_doubleOf 1 = .ok (.ldc2_w 314, 3) := dk_20 1 58 (dk_at dksX1_doubleOf_0 1 rfl rfl)
theorem dX1_doubleOf_4 : decode cX1_doubleOf 4 = .ok (.land, 1) := dk_127 (dk_at dksX1_doubleOf_0 4 rfl rfl)
theorem dX1_doubleOf_5 : decode cX1_doubleOf 5 = .ok (.ldc2_w 316, 3) := dk_20 1 60 (dk_at dksX1_doubleOf_0 5 rfl rfl)
theorem dX1_doubleOf_8 : decode cX1_doubleOf 8 = .ok (.lcmp, 1) := dk_148 (dk_at dksX1_doubleOf_0 8 rfl rfl)
theorem dX1_doubleOf_9 : decode cX1_doubleOf 9 = .ok (.ifCond .le 9, 3) := dk_158 0 9 (dk_at dksX1_doubleOf_0 9 rfl rfl)
theorem dX1_doubleOf_12 : decode cX1_doubleOf 12 = .ok (.ldc2_w 311, 3) := dk_20 1 55 (dk_at dksX1_doubleOf_0 12 rfl rfl)
theorem dX1_doubleOf_15 : decode cX1_doubleOf 15 = .ok (.goto 7, 3) := dk_167 0 7 (dk_at dksX1_doubleOf_0 15 rfl rfl)
theorem dX1_doubleOf_18 : decode cX1_doubleOf 18 = .ok (.lload_n 0, 1) := dk_30 (dk_at dksX1_doubleOf_0 18 rfl rfl)
theorem dX1_doubleOf_19 : decode cX1_doubleOf 19 = .ok (.invokestatic 318, 3) := dk_184 1 62 (dk_at dksX1_doubleOf_0 19 rfl rfl)
theorem dX1_doubleOf_22 : decode cX1_doubleOf 22 = .ok (.dreturn, 1) := dk_175 (dk_at dksX1_doubleOf_0 22 rfl rfl)
abbrev cX1_digits : ByteArray := prog_1_method_12_code
def yX1_digits : MethodName := ⟨RX1, "digits", "(D)I"⟩
def dkwX1_digits_1 : List UInt8 := [184, 0, 188, 143, 182, 0, 126, 87, 29, 16, 52, 100, 172]
abbrev dktX1_digits_1 : List UInt8 := dkwX1_digits_1 ++ []
def dkwX1_digits_0 : List UInt8 := [39, 184, 0, 177, 17, 252, 2, 184, 0, 181, 62, 42, 180, 0, 36, 39, 184, 0, 184, 16, 52, 29, 100]
abbrev dktX1_digits_0 : List UInt8 := dkwX1_digits_0 ++ dktX1_digits_1
theorem dksX1_digits_0 : cX1_digits.data.toList.drop 0 = dktX1_digits_0 := by decide +kernel
theorem dksX1_digits_1 : cX1_digits.data.toList.drop 23 = dktX1_digits_1 := dk_seg dksX1_digits_0 23 rfl rfl
theorem dX1_digits_0 : decode cX1_digits 0 = .ok (.dload_n 1, 1) := dk_39 (dk_at dksX1_digits_0 0 rfl rfl)
theorem dX1_digits_1 : decode cX1_digits 1 = .ok (.invokestatic 177, 3) := dk_184 0 177 (dk_at dksX1_digits_0 1 rfl rfl)
theorem dX1_digits_4 : decode cX1_digits 4 = .ok (.sipush (-1022), 3) := dk_17 252 2 (dk_at dksX1_digits_0 4 rfl rfl)
theorem dX1_digits_7 : decode cX1_digits 7 = .ok (.invokestatic 181, 3) := dk_184 0 181 (dk_at dksX1_digits_0 7 rfl rfl)
theorem dX1_digits_10 : decode cX1_digits 10 = .ok (.istore_n 3, 1) := dk_62 (dk_at dksX1_digits_0 10 rfl rfl)
theorem dX1_digits_11 : decode cX1_digits 11 = .ok (.aload_n 0, 1) := dk_42 (dk_at dksX1_digits_0 11 rfl rfl)
theorem dX1_digits_12 : decode cX1_digits 12 = .ok (.getfield 36, 3) := dk_180 0 36 (dk_at dksX1_digits_0 12 rfl rfl)
theorem dX1_digits_15 : decode cX1_digits 15 = .ok (.dload_n 1, 1) := dk_39 (dk_at dksX1_digits_0 15 rfl rfl)
theorem dX1_digits_16 : decode cX1_digits 16 = .ok (.invokestatic 184, 3) := dk_184 0 184 (dk_at dksX1_digits_0 16 rfl rfl)
theorem dX1_digits_19 : decode cX1_digits 19 = .ok (.bipush 52, 2) := dk_16 52 (dk_at dksX1_digits_0 19 rfl rfl)
theorem dX1_digits_21 : decode cX1_digits 21 = .ok (.iload_n 3, 1) := dk_29 (dk_at dksX1_digits_0 21 rfl rfl)
theorem dX1_digits_22 : decode cX1_digits 22 = .ok (.isub, 1) := dk_100 (dk_at dksX1_digits_0 22 rfl rfl)
theorem dX1_digits_23 : decode cX1_digits 23 = .ok (.invokestatic 188, 3) := dk_184 0 188 (dk_at dksX1_digits_1 0 rfl rfl)
theorem dX1_digits_26 : decode cX1_digits 26 = .ok (.d2l, 1) := dk_143 (dk_at dksX1_digits_1 3 rfl rfl)
theorem dX1_digits_27 : decode cX1_digits 27 = .ok (.invokevirtual 126, 3) := dk_182 0 126 (dk_at dksX1_digits_1 4 rfl rfl)
theorem dX1_digits_30 : decode cX1_digits 30 = .ok (.pop, 1) := dk_87 (dk_at dksX1_digits_1 7 rfl rfl)
theorem dX1_digits_31 : decode cX1_digits 31 = .ok (.iload_n 3, 1) := dk_29 (dk_at dksX1_digits_1 8 rfl rfl)
theorem dX1_digits_32 : decode cX1_digits 32 = .ok (.bipush 52, 2) := dk_16 52 (dk_at dksX1_digits_1 9 rfl rfl)
theorem dX1_digits_34 : decode cX1_digits 34 = .ok (.isub, 1) := dk_100 (dk_at dksX1_digits_1 11 rfl rfl)
theorem dX1_digits_35 : decode cX1_digits 35 = .ok (.ireturn, 1) := dk_172 (dk_at dksX1_digits_1 12 rfl rfl)
abbrev cX1_act : ByteArray := prog_1_method_14_code
def yX1_act : MethodName := ⟨RX1, "act", "(III)I"⟩
def dkwX1_act_13 : List UInt8 := [180, 0, 67, 181, 0, 136, 25, 6, 42, 180, 0, 36, 42, 180, 0, 40, 182, 0, 214, 42, 182, 0, 170, 172]
abbrev dktX1_act_13 : List UInt8 := dkwX1_act_13 ++ []
def dkwX1_act_12 : List UInt8 := [160, 0, 7, 4, 167, 0, 4, 3, 160, 0, 8, 25, 4, 167, 0, 5, 25, 5, 58, 6, 42, 25, 6]
abbrev dktX1_act_12 : List UInt8 := dkwX1_act_12 ++ dktX1_act_13
def dkwX1_act_11 : List UInt8 := [167, 0, 64, 42, 25, 4, 25, 5, 182, 0, 239, 156, 0, 7, 4, 167, 0, 4, 3, 27, 16, 11]
abbrev dktX1_act_11 : List UInt8 := dkwX1_act_11 ++ dktX1_act_12
def dkwX1_act_10 : List UInt8 := [181, 0, 136, 167, 0, 84, 42, 25, 4, 25, 5, 182, 0, 231, 167, 0, 73, 42, 25, 5, 182, 0, 235]
abbrev dktX1_act_10 : List UInt8 := dkwX1_act_10 ++ dktX1_act_11
def dkwX1_act_9 : List UInt8 := [180, 0, 43, 42, 180, 0, 58, 182, 0, 129, 42, 180, 0, 36, 42, 180, 0, 58, 182, 0, 84, 87, 42, 4]
abbrev dktX1_act_9 : List UInt8 := dkwX1_act_9 ++ dktX1_act_10
def dkwX1_act_8 : List UInt8 := [167, 0, 133, 42, 25, 5, 180, 0, 67, 27, 182, 0, 227, 167, 0, 120, 42, 42, 180, 0, 36, 42]
abbrev dktX1_act_8 : List UInt8 := dkwX1_act_8 ++ dktX1_act_9
def dkwX1_act_7 : List UInt8 := [167, 0, 157, 42, 25, 5, 180, 0, 67, 182, 0, 221, 167, 0, 145, 42, 25, 5, 180, 0, 67, 182, 0, 224]
abbrev dktX1_act_7 : List UInt8 := dkwX1_act_7 ++ dktX1_act_8
def dkwX1_act_6 : List UInt8 := [42, 27, 154, 0, 11, 25, 5, 180, 0, 67, 167, 0, 9, 25, 5, 180, 0, 67, 116, 182, 0, 218]
abbrev dktX1_act_6 : List UInt8 := dkwX1_act_6 ++ dktX1_act_7
def dkwX1_act_5 : List UInt8 := [170, 0, 0, 0, 0, 176, 0, 0, 0, 0, 0, 0, 0, 10, 0, 0, 0, 58, 0, 0, 0, 58, 0, 0, 0, 83, 0, 0, 0, 95, 0, 0, 0, 107, 0, 0, 0, 107, 0, 0, 0, 107, 0, 0, 0, 107, 0, 0, 0, 120, 0, 0, 0, 156, 0, 0, 0, 167]
abbrev dktX1_act_5 : List UInt8 := dkwX1_act_5 ++ dktX1_act_6
def dkwX1_act_4 : List UInt8 := [25, 4, 180, 0, 67, 181, 0, 136, 27]
abbrev dktX1_act_4 : List UInt8 := dkwX1_act_4 ++ dktX1_act_5
def dkwX1_act_3 : List UInt8 := [180, 0, 36, 42, 180, 0, 40, 182, 0, 214, 25, 5, 42, 180, 0, 43, 42, 180, 0, 46, 182, 0, 214, 42]
abbrev dktX1_act_3 : List UInt8 := dkwX1_act_3 ++ dktX1_act_4
def dkwX1_act_2 : List UInt8 := [163, 0, 11, 25, 5, 182, 0, 207, 153, 0, 7, 4, 167, 0, 4, 3, 184, 0, 210, 25, 4, 42]
abbrev dktX1_act_2 : List UInt8 := dkwX1_act_2 ++ dktX1_act_3
def dkwX1_act_1 : List UInt8 := [27, 16, 8, 160, 0, 11, 25, 4, 182, 0, 207, 153, 0, 27, 27, 16, 8, 161, 0, 17, 27, 16, 10]
abbrev dktX1_act_1 : List UInt8 := dkwX1_act_1 ++ dktX1_act_2
def dkwX1_act_0 : List UInt8 := [42, 28, 182, 0, 203, 58, 4, 42, 29, 182, 0, 203, 58, 5, 27, 155, 0, 47, 27, 16, 12, 163, 0, 41]
abbrev dktX1_act_0 : List UInt8 := dkwX1_act_0 ++ dktX1_act_1
theorem dksX1_act_0 : cX1_act.data.toList.drop 0 = dktX1_act_0 := by decide +kernel
theorem dksX1_act_1 : cX1_act.data.toList.drop 24 = dktX1_act_1 := dk_seg dksX1_act_0 24 rfl rfl
theorem dksX1_act_2 : cX1_act.data.toList.drop 47 = dktX1_act_2 := dk_seg dksX1_act_1 23 rfl rfl
theorem dksX1_act_3 : cX1_act.data.toList.drop 69 = dktX1_act_3 := dk_seg dksX1_act_2 22 rfl rfl
theorem dksX1_act_4 : cX1_act.data.toList.drop 93 = dktX1_act_4 := dk_seg dksX1_act_3 24 rfl rfl
theorem dksX1_act_5 : cX1_act.data.toList.drop 102 = dktX1_act_5 := dk_seg dksX1_act_4 9 rfl rfl
theorem dksX1_act_6 : cX1_act.data.toList.drop 160 = dktX1_act_6 := dk_seg dksX1_act_5 58 rfl rfl
theorem dksX1_act_7 : cX1_act.data.toList.drop 182 = dktX1_act_7 := dk_seg dksX1_act_6 22 rfl rfl
theorem dksX1_act_8 : cX1_act.data.toList.drop 206 = dktX1_act_8 := dk_seg dksX1_act_7 24 rfl rfl
theorem dksX1_act_9 : cX1_act.data.toList.drop 228 = dktX1_act_9 := dk_seg dksX1_act_8 22 rfl rfl
theorem dksX1_act_10 : cX1_act.data.toList.drop 252 = dktX1_act_10 := dk_seg dksX1_act_9 24 rfl rfl
theorem dksX1_act_11 : cX1_act.data.toList.drop 275 = dktX1_act_11 := dk_seg dksX1_act_10 23 rfl rfl
theorem dksX1_act_12 : cX1_act.data.toList.drop 297 = dktX1_act_12 := dk_seg dksX1_act_11 22 rfl rfl
theorem dksX1_act_13 : cX1_act.data.toList.drop 320 = dktX1_act_13 := dk_seg dksX1_act_12 23 rfl rfl
theorem dX1_act_0 : decode cX1_act 0 = .ok (.aload_n 0, 1) := dk_42 (dk_at dksX1_act_0 0 rfl rfl)
theorem dX1_act_1 : decode cX1_act 1 = .ok (.iload_n 2, 1) := dk_28 (dk_at dksX1_act_0 1 rfl rfl)
theorem dX1_act_2 : decode cX1_act 2 = .ok (.invokevirtual 203, 3) := dk_182 0 203 (dk_at dksX1_act_0 2 rfl rfl)
theorem dX1_act_5 : decode cX1_act 5 = .ok (.astore 4, 2) := dk_58 4 (dk_at dksX1_act_0 5 rfl rfl)
theorem dX1_act_7 : decode cX1_act 7 = .ok (.aload_n 0, 1) := dk_42 (dk_at dksX1_act_0 7 rfl rfl)
theorem dX1_act_8 : decode cX1_act 8 = .ok (.iload_n 3, 1) := dk_29 (dk_at dksX1_act_0 8 rfl rfl)
theorem dX1_act_9 : decode cX1_act 9 = .ok (.invokevirtual 203, 3) := dk_182 0 203 (dk_at dksX1_act_0 9 rfl rfl)
theorem dX1_act_12 : decode cX1_act 12 = .ok (.astore 5, 2) := dk_58 5 (dk_at dksX1_act_0 12 rfl rfl)
theorem dX1_act_14 : decode cX1_act 14 = .ok (.iload_n 1, 1) := dk_27 (dk_at dksX1_act_0 14 rfl rfl)
theorem dX1_act_15 : decode cX1_act 15 = .ok (.ifCond .lt 47, 3) := dk_155 0 47 (dk_at dksX1_act_0 15 rfl rfl)
theorem dX1_act_18 : decode cX1_act 18 = .ok (.iload_n 1, 1) := dk_27 (dk_at dksX1_act_0 18 rfl rfl)
theorem dX1_act_19 : decode cX1_act 19 = .ok (.bipush 12, 2) := dk_16 12 (dk_at dksX1_act_0 19 rfl rfl)
theorem dX1_act_21 : decode cX1_act 21 = .ok (.if_icmp .gt 41, 3) := dk_163 0 41 (dk_at dksX1_act_0 21 rfl rfl)
theorem dX1_act_24 : decode cX1_act 24 = .ok (.iload_n 1, 1) := dk_27 (dk_at dksX1_act_1 0 rfl rfl)
theorem dX1_act_25 : decode cX1_act 25 = .ok (.bipush 8, 2) := dk_16 8 (dk_at dksX1_act_1 1 rfl rfl)
theorem dX1_act_27 : decode cX1_act 27 = .ok (.if_icmp .ne 11, 3) := dk_160 0 11 (dk_at dksX1_act_1 3 rfl rfl)
theorem dX1_act_30 : decode cX1_act 30 = .ok (.aload 4, 2) := dk_25 4 (dk_at dksX1_act_1 6 rfl rfl)
theorem dX1_act_32 : decode cX1_act 32 = .ok (.invokevirtual 207, 3) := dk_182 0 207 (dk_at dksX1_act_1 8 rfl rfl)
theorem dX1_act_35 : decode cX1_act 35 = .ok (.ifCond .eq 27, 3) := dk_153 0 27 (dk_at dksX1_act_1 11 rfl rfl)
theorem dX1_act_38 : decode cX1_act 38 = .ok (.iload_n 1, 1) := dk_27 (dk_at dksX1_act_1 14 rfl rfl)
theorem dX1_act_39 : decode cX1_act 39 = .ok (.bipush 8, 2) := dk_16 8 (dk_at dksX1_act_1 15 rfl rfl)
theorem dX1_act_41 : decode cX1_act 41 = .ok (.if_icmp .lt 17, 3) := dk_161 0 17 (dk_at dksX1_act_1 17 rfl rfl)
theorem dX1_act_44 : decode cX1_act 44 = .ok (.iload_n 1, 1) := dk_27 (dk_at dksX1_act_1 20 rfl rfl)
theorem dX1_act_45 : decode cX1_act 45 = .ok (.bipush 10, 2) := dk_16 10 (dk_at dksX1_act_1 21 rfl rfl)
theorem dX1_act_47 : decode cX1_act 47 = .ok (.if_icmp .gt 11, 3) := dk_163 0 11 (dk_at dksX1_act_2 0 rfl rfl)
theorem dX1_act_50 : decode cX1_act 50 = .ok (.aload 5, 2) := dk_25 5 (dk_at dksX1_act_2 3 rfl rfl)
theorem dX1_act_52 : decode cX1_act 52 = .ok (.invokevirtual 207, 3) := dk_182 0 207 (dk_at dksX1_act_2 5 rfl rfl)
theorem dX1_act_55 : decode cX1_act 55 = .ok (.ifCond .eq 7, 3) := dk_153 0 7 (dk_at dksX1_act_2 8 rfl rfl)
theorem dX1_act_58 : decode cX1_act 58 = .ok (.iconst 1, 1) := dk_4 (dk_at dksX1_act_2 11 rfl rfl)
theorem dX1_act_59 : decode cX1_act 59 = .ok (.goto 4, 3) := dk_167 0 4 (dk_at dksX1_act_2 12 rfl rfl)
theorem dX1_act_62 : decode cX1_act 62 = .ok (.iconst 0, 1) := dk_3 (dk_at dksX1_act_2 15 rfl rfl)
theorem dX1_act_63 : decode cX1_act 63 = .ok (.invokestatic 210, 3) := dk_184 0 210 (dk_at dksX1_act_2 16 rfl rfl)
theorem dX1_act_66 : decode cX1_act 66 = .ok (.aload 4, 2) := dk_25 4 (dk_at dksX1_act_2 19 rfl rfl)
theorem dX1_act_68 : decode cX1_act 68 = .ok (.aload_n 0, 1) := dk_42 (dk_at dksX1_act_2 21 rfl rfl)
theorem dX1_act_69 : decode cX1_act 69 = .ok (.getfield 36, 3) := dk_180 0 36 (dk_at dksX1_act_3 0 rfl rfl)
theorem dX1_act_72 : decode cX1_act 72 = .ok (.aload_n 0, 1) := dk_42 (dk_at dksX1_act_3 3 rfl rfl)
theorem dX1_act_73 : decode cX1_act 73 = .ok (.getfield 40, 3) := dk_180 0 40 (dk_at dksX1_act_3 4 rfl rfl)
theorem dX1_act_76 : decode cX1_act 76 = .ok (.invokevirtual 214, 3) := dk_182 0 214 (dk_at dksX1_act_3 7 rfl rfl)
theorem dX1_act_79 : decode cX1_act 79 = .ok (.aload 5, 2) := dk_25 5 (dk_at dksX1_act_3 10 rfl rfl)
theorem dX1_act_81 : decode cX1_act 81 = .ok (.aload_n 0, 1) := dk_42 (dk_at dksX1_act_3 12 rfl rfl)
theorem dX1_act_82 : decode cX1_act 82 = .ok (.getfield 43, 3) := dk_180 0 43 (dk_at dksX1_act_3 13 rfl rfl)
theorem dX1_act_85 : decode cX1_act 85 = .ok (.aload_n 0, 1) := dk_42 (dk_at dksX1_act_3 16 rfl rfl)
theorem dX1_act_86 : decode cX1_act 86 = .ok (.getfield 46, 3) := dk_180 0 46 (dk_at dksX1_act_3 17 rfl rfl)
theorem dX1_act_89 : decode cX1_act 89 = .ok (.invokevirtual 214, 3) := dk_182 0 214 (dk_at dksX1_act_3 20 rfl rfl)
theorem dX1_act_92 : decode cX1_act 92 = .ok (.aload_n 0, 1) := dk_42 (dk_at dksX1_act_3 23 rfl rfl)
theorem dX1_act_93 : decode cX1_act 93 = .ok (.aload 4, 2) := dk_25 4 (dk_at dksX1_act_4 0 rfl rfl)
theorem dX1_act_95 : decode cX1_act 95 = .ok (.getfield 67, 3) := dk_180 0 67 (dk_at dksX1_act_4 2 rfl rfl)
theorem dX1_act_98 : decode cX1_act 98 = .ok (.putfield 136, 3) := dk_181 0 136 (dk_at dksX1_act_4 5 rfl rfl)
theorem dX1_act_101 : decode cX1_act 101 = .ok (.iload_n 1, 1) := dk_27 (dk_at dksX1_act_4 8 rfl rfl)
theorem dX1_act_102 : decode cX1_act 102 = .ok (.tableswitch 176 0 10 #[58, 58, 83, 95, 107, 107, 107, 107, 120, 156, 167], 58) := by decide +kernel
theorem dX1_act_160 : decode cX1_act 160 = .ok (.aload_n 0, 1) := dk_42 (dk_at dksX1_act_6 0 rfl rfl)
theorem dX1_act_161 : decode cX1_act 161 = .ok (.iload_n 1, 1) := dk_27 (dk_at dksX1_act_6 1 rfl rfl)
theorem dX1_act_162 : decode cX1_act 162 = .ok (.ifCond .ne 11, 3) := dk_154 0 11 (dk_at dksX1_act_6 2 rfl rfl)
theorem dX1_act_165 : decode cX1_act 165 = .ok (.aload 5, 2) := dk_25 5 (dk_at dksX1_act_6 5 rfl rfl)
theorem dX1_act_167 : decode cX1_act 167 = .ok (.getfield 67, 3) := dk_180 0 67 (dk_at dksX1_act_6 7 rfl rfl)
theorem dX1_act_170 : decode cX1_act 170 = .ok (.goto 9, 3) := dk_167 0 9 (dk_at dksX1_act_6 10 rfl rfl)
theorem dX1_act_173 : decode cX1_act 173 = .ok (.aload 5, 2) := dk_25 5 (dk_at dksX1_act_6 13 rfl rfl)
theorem dX1_act_175 : decode cX1_act 175 = .ok (.getfield 67, 3) := dk_180 0 67 (dk_at dksX1_act_6 15 rfl rfl)
theorem dX1_act_178 : decode cX1_act 178 = .ok (.ineg, 1) := dk_116 (dk_at dksX1_act_6 18 rfl rfl)
theorem dX1_act_179 : decode cX1_act 179 = .ok (.invokevirtual 218, 3) := dk_182 0 218 (dk_at dksX1_act_6 19 rfl rfl)
theorem dX1_act_182 : decode cX1_act 182 = .ok (.goto 157, 3) := dk_167 0 157 (dk_at dksX1_act_7 0 rfl rfl)
theorem dX1_act_185 : decode cX1_act 185 = .ok (.aload_n 0, 1) := dk_42 (dk_at dksX1_act_7 3 rfl rfl)
theorem dX1_act_186 : decode cX1_act 186 = .ok (.aload 5, 2) := dk_25 5 (dk_at dksX1_act_7 4 rfl rfl)
theorem dX1_act_188 : decode cX1_act 188 = .ok (.getfield 67, 3) := dk_180 0 67 (dk_at dksX1_act_7 6 rfl rfl)
theorem dX1_act_191 : decode cX1_act 191 = .ok (.invokevirtual 221, 3) := dk_182 0 221 (dk_at dksX1_act_7 9 rfl rfl)
theorem dX1_act_194 : decode cX1_act 194 = .ok (.goto 145, 3) := dk_167 0 145 (dk_at dksX1_act_7 12 rfl rfl)
theorem dX1_act_197 : decode cX1_act 197 = .ok (.aload_n 0, 1) := dk_42 (dk_at dksX1_act_7 15 rfl rfl)
theorem dX1_act_198 : decode cX1_act 198 = .ok (.aload 5, 2) := dk_25 5 (dk_at dksX1_act_7 16 rfl rfl)
theorem dX1_act_200 : decode cX1_act 200 = .ok (.getfield 67, 3) := dk_180 0 67 (dk_at dksX1_act_7 18 rfl rfl)
theorem dX1_act_203 : decode cX1_act 203 = .ok (.invokevirtual 224, 3) := dk_182 0 224 (dk_at dksX1_act_7 21 rfl rfl)
theorem dX1_act_206 : decode cX1_act 206 = .ok (.goto 133, 3) := dk_167 0 133 (dk_at dksX1_act_8 0 rfl rfl)
theorem dX1_act_209 : decode cX1_act 209 = .ok (.aload_n 0, 1) := dk_42 (dk_at dksX1_act_8 3 rfl rfl)
theorem dX1_act_210 : decode cX1_act 210 = .ok (.aload 5, 2) := dk_25 5 (dk_at dksX1_act_8 4 rfl rfl)
theorem dX1_act_212 : decode cX1_act 212 = .ok (.getfield 67, 3) := dk_180 0 67 (dk_at dksX1_act_8 6 rfl rfl)
theorem dX1_act_215 : decode cX1_act 215 = .ok (.iload_n 1, 1) := dk_27 (dk_at dksX1_act_8 9 rfl rfl)
theorem dX1_act_216 : decode cX1_act 216 = .ok (.invokevirtual 227, 3) := dk_182 0 227 (dk_at dksX1_act_8 10 rfl rfl)
theorem dX1_act_219 : decode cX1_act 219 = .ok (.goto 120, 3) := dk_167 0 120 (dk_at dksX1_act_8 13 rfl rfl)
theorem dX1_act_222 : decode cX1_act 222 = .ok (.aload_n 0, 1) := dk_42 (dk_at dksX1_act_8 16 rfl rfl)
theorem dX1_act_223 : decode cX1_act 223 = .ok (.aload_n 0, 1) := dk_42 (dk_at dksX1_act_8 17 rfl rfl)
theorem dX1_act_224 : decode cX1_act 224 = .ok (.getfield 36, 3) := dk_180 0 36 (dk_at dksX1_act_8 18 rfl rfl)
theorem dX1_act_227 : decode cX1_act 227 = .ok (.aload_n 0, 1) := dk_42 (dk_at dksX1_act_8 21 rfl rfl)
theorem dX1_act_228 : decode cX1_act 228 = .ok (.getfield 43, 3) := dk_180 0 43 (dk_at dksX1_act_9 0 rfl rfl)
theorem dX1_act_231 : decode cX1_act 231 = .ok (.aload_n 0, 1) := dk_42 (dk_at dksX1_act_9 3 rfl rfl)
theorem dX1_act_232 : decode cX1_act 232 = .ok (.getfield 58, 3) := dk_180 0 58 (dk_at dksX1_act_9 4 rfl rfl)
theorem dX1_act_235 : decode cX1_act 235 = .ok (.invokevirtual 129, 3) := dk_182 0 129 (dk_at dksX1_act_9 7 rfl rfl)
theorem dX1_act_238 : decode cX1_act 238 = .ok (.aload_n 0, 1) := dk_42 (dk_at dksX1_act_9 10 rfl rfl)
theorem dX1_act_239 : decode cX1_act 239 = .ok (.getfield 36, 3) := dk_180 0 36 (dk_at dksX1_act_9 11 rfl rfl)
theorem dX1_act_242 : decode cX1_act 242 = .ok (.aload_n 0, 1) := dk_42 (dk_at dksX1_act_9 14 rfl rfl)
theorem dX1_act_243 : decode cX1_act 243 = .ok (.getfield 58, 3) := dk_180 0 58 (dk_at dksX1_act_9 15 rfl rfl)
theorem dX1_act_246 : decode cX1_act 246 = .ok (.invokevirtual 84, 3) := dk_182 0 84 (dk_at dksX1_act_9 18 rfl rfl)
theorem dX1_act_249 : decode cX1_act 249 = .ok (.pop, 1) := dk_87 (dk_at dksX1_act_9 21 rfl rfl)
theorem dX1_act_250 : decode cX1_act 250 = .ok (.aload_n 0, 1) := dk_42 (dk_at dksX1_act_9 22 rfl rfl)
theorem dX1_act_251 : decode cX1_act 251 = .ok (.iconst 1, 1) := dk_4 (dk_at dksX1_act_9 23 rfl rfl)
theorem dX1_act_252 : decode cX1_act 252 = .ok (.putfield 136, 3) := dk_181 0 136 (dk_at dksX1_act_10 0 rfl rfl)
theorem dX1_act_255 : decode cX1_act 255 = .ok (.goto 84, 3) := dk_167 0 84 (dk_at dksX1_act_10 3 rfl rfl)
theorem dX1_act_258 : decode cX1_act 258 = .ok (.aload_n 0, 1) := dk_42 (dk_at dksX1_act_10 6 rfl rfl)
theorem dX1_act_259 : decode cX1_act 259 = .ok (.aload 4, 2) := dk_25 4 (dk_at dksX1_act_10 7 rfl rfl)
theorem dX1_act_261 : decode cX1_act 261 = .ok (.aload 5, 2) := dk_25 5 (dk_at dksX1_act_10 9 rfl rfl)
theorem dX1_act_263 : decode cX1_act 263 = .ok (.invokevirtual 231, 3) := dk_182 0 231 (dk_at dksX1_act_10 11 rfl rfl)
theorem dX1_act_266 : decode cX1_act 266 = .ok (.goto 73, 3) := dk_167 0 73 (dk_at dksX1_act_10 14 rfl rfl)
theorem dX1_act_269 : decode cX1_act 269 = .ok (.aload_n 0, 1) := dk_42 (dk_at dksX1_act_10 17 rfl rfl)
theorem dX1_act_270 : decode cX1_act 270 = .ok (.aload 5, 2) := dk_25 5 (dk_at dksX1_act_10 18 rfl rfl)
theorem dX1_act_272 : decode cX1_act 272 = .ok (.invokevirtual 235, 3) := dk_182 0 235 (dk_at dksX1_act_10 20 rfl rfl)
theorem dX1_act_275 : decode cX1_act 275 = .ok (.goto 64, 3) := dk_167 0 64 (dk_at dksX1_act_11 0 rfl rfl)
theorem dX1_act_278 : decode cX1_act 278 = .ok (.aload_n 0, 1) := dk_42 (dk_at dksX1_act_11 3 rfl rfl)
theorem dX1_act_279 : decode cX1_act 279 = .ok (.aload 4, 2) := dk_25 4 (dk_at dksX1_act_11 4 rfl rfl)
theorem dX1_act_281 : decode cX1_act 281 = .ok (.aload 5, 2) := dk_25 5 (dk_at dksX1_act_11 6 rfl rfl)
theorem dX1_act_283 : decode cX1_act 283 = .ok (.invokevirtual 239, 3) := dk_182 0 239 (dk_at dksX1_act_11 8 rfl rfl)
theorem dX1_act_286 : decode cX1_act 286 = .ok (.ifCond .ge 7, 3) := dk_156 0 7 (dk_at dksX1_act_11 11 rfl rfl)
theorem dX1_act_289 : decode cX1_act 289 = .ok (.iconst 1, 1) := dk_4 (dk_at dksX1_act_11 14 rfl rfl)
theorem dX1_act_290 : decode cX1_act 290 = .ok (.goto 4, 3) := dk_167 0 4 (dk_at dksX1_act_11 15 rfl rfl)
theorem dX1_act_293 : decode cX1_act 293 = .ok (.iconst 0, 1) := dk_3 (dk_at dksX1_act_11 18 rfl rfl)
theorem dX1_act_294 : decode cX1_act 294 = .ok (.iload_n 1, 1) := dk_27 (dk_at dksX1_act_11 19 rfl rfl)
theorem dX1_act_295 : decode cX1_act 295 = .ok (.bipush 11, 2) := dk_16 11 (dk_at dksX1_act_11 20 rfl rfl)
theorem dX1_act_297 : decode cX1_act 297 = .ok (.if_icmp .ne 7, 3) := dk_160 0 7 (dk_at dksX1_act_12 0 rfl rfl)
theorem dX1_act_300 : decode cX1_act 300 = .ok (.iconst 1, 1) := dk_4 (dk_at dksX1_act_12 3 rfl rfl)
theorem dX1_act_301 : decode cX1_act 301 = .ok (.goto 4, 3) := dk_167 0 4 (dk_at dksX1_act_12 4 rfl rfl)
theorem dX1_act_304 : decode cX1_act 304 = .ok (.iconst 0, 1) := dk_3 (dk_at dksX1_act_12 7 rfl rfl)
theorem dX1_act_305 : decode cX1_act 305 = .ok (.if_icmp .ne 8, 3) := dk_160 0 8 (dk_at dksX1_act_12 8 rfl rfl)
theorem dX1_act_308 : decode cX1_act 308 = .ok (.aload 4, 2) := dk_25 4 (dk_at dksX1_act_12 11 rfl rfl)
theorem dX1_act_310 : decode cX1_act 310 = .ok (.goto 5, 3) := dk_167 0 5 (dk_at dksX1_act_12 13 rfl rfl)
theorem dX1_act_313 : decode cX1_act 313 = .ok (.aload 5, 2) := dk_25 5 (dk_at dksX1_act_12 16 rfl rfl)
theorem dX1_act_315 : decode cX1_act 315 = .ok (.astore 6, 2) := dk_58 6 (dk_at dksX1_act_12 18 rfl rfl)
theorem dX1_act_317 : decode cX1_act 317 = .ok (.aload_n 0, 1) := dk_42 (dk_at dksX1_act_12 20 rfl rfl)
theorem dX1_act_318 : decode cX1_act 318 = .ok (.aload 6, 2) := dk_25 6 (dk_at dksX1_act_12 21 rfl rfl)
theorem dX1_act_320 : decode cX1_act 320 = .ok (.getfield 67, 3) := dk_180 0 67 (dk_at dksX1_act_13 0 rfl rfl)
theorem dX1_act_323 : decode cX1_act 323 = .ok (.putfield 136, 3) := dk_181 0 136 (dk_at dksX1_act_13 3 rfl rfl)
theorem dX1_act_326 : decode cX1_act 326 = .ok (.aload 6, 2) := dk_25 6 (dk_at dksX1_act_13 6 rfl rfl)
theorem dX1_act_328 : decode cX1_act 328 = .ok (.aload_n 0, 1) := dk_42 (dk_at dksX1_act_13 8 rfl rfl)
theorem dX1_act_329 : decode cX1_act 329 = .ok (.getfield 36, 3) := dk_180 0 36 (dk_at dksX1_act_13 9 rfl rfl)
theorem dX1_act_332 : decode cX1_act 332 = .ok (.aload_n 0, 1) := dk_42 (dk_at dksX1_act_13 12 rfl rfl)
theorem dX1_act_333 : decode cX1_act 333 = .ok (.getfield 40, 3) := dk_180 0 40 (dk_at dksX1_act_13 13 rfl rfl)
theorem dX1_act_336 : decode cX1_act 336 = .ok (.invokevirtual 214, 3) := dk_182 0 214 (dk_at dksX1_act_13 16 rfl rfl)
theorem dX1_act_339 : decode cX1_act 339 = .ok (.aload_n 0, 1) := dk_42 (dk_at dksX1_act_13 19 rfl rfl)
theorem dX1_act_340 : decode cX1_act 340 = .ok (.invokevirtual 170, 3) := dk_182 0 170 (dk_at dksX1_act_13 20 rfl rfl)
theorem dX1_act_343 : decode cX1_act 343 = .ok (.ireturn, 1) := dk_172 (dk_at dksX1_act_13 23 rfl rfl)
abbrev cX1_item : ByteArray := prog_1_method_2_code
def yX1_item : MethodName := ⟨RX1, "item", "(I)LNumberModels$Item;"⟩
def dkwX1_item_1 : List UInt8 := [187, 0, 73, 89, 183, 0, 75, 191, 77, 187, 0, 73, 89, 183, 0, 75, 191]
abbrev dktX1_item_1 : List UInt8 := dkwX1_item_1 ++ []
def dkwX1_item_0 : List UInt8 := [42, 180, 0, 29, 27, 50, 77, 44, 180, 0, 67, 4, 164, 0, 7, 1, 167, 0, 4, 44, 176, 77]
abbrev dktX1_item_0 : List UInt8 := dkwX1_item_0 ++ dktX1_item_1
theorem dksX1_item_0 : cX1_item.data.toList.drop 0 = dktX1_item_0 := by decide +kernel
theorem dksX1_item_1 : cX1_item.data.toList.drop 22 = dktX1_item_1 := dk_seg dksX1_item_0 22 rfl rfl
theorem dX1_item_0 : decode cX1_item 0 = .ok (.aload_n 0, 1) := dk_42 (dk_at dksX1_item_0 0 rfl rfl)
theorem dX1_item_1 : decode cX1_item 1 = .ok (.getfield 29, 3) := dk_180 0 29 (dk_at dksX1_item_0 1 rfl rfl)
theorem dX1_item_4 : decode cX1_item 4 = .ok (.iload_n 1, 1) := dk_27 (dk_at dksX1_item_0 4 rfl rfl)
theorem dX1_item_5 : decode cX1_item 5 = .ok (.aaload, 1) := dk_50 (dk_at dksX1_item_0 5 rfl rfl)
theorem dX1_item_6 : decode cX1_item 6 = .ok (.astore_n 2, 1) := dk_77 (dk_at dksX1_item_0 6 rfl rfl)
theorem dX1_item_7 : decode cX1_item 7 = .ok (.aload_n 2, 1) := dk_44 (dk_at dksX1_item_0 7 rfl rfl)
theorem dX1_item_8 : decode cX1_item 8 = .ok (.getfield 67, 3) := dk_180 0 67 (dk_at dksX1_item_0 8 rfl rfl)
theorem dX1_item_11 : decode cX1_item 11 = .ok (.iconst 1, 1) := dk_4 (dk_at dksX1_item_0 11 rfl rfl)
theorem dX1_item_12 : decode cX1_item 12 = .ok (.if_icmp .le 7, 3) := dk_164 0 7 (dk_at dksX1_item_0 12 rfl rfl)
theorem dX1_item_15 : decode cX1_item 15 = .ok (.aconst_null, 1) := dk_1 (dk_at dksX1_item_0 15 rfl rfl)
theorem dX1_item_16 : decode cX1_item 16 = .ok (.goto 4, 3) := dk_167 0 4 (dk_at dksX1_item_0 16 rfl rfl)
theorem dX1_item_19 : decode cX1_item 19 = .ok (.aload_n 2, 1) := dk_44 (dk_at dksX1_item_0 19 rfl rfl)
theorem dX1_item_20 : decode cX1_item 20 = .ok (.areturn, 1) := dk_176 (dk_at dksX1_item_0 20 rfl rfl)
theorem dX1_item_21 : decode cX1_item 21 = .ok (.astore_n 2, 1) := dk_77 (dk_at dksX1_item_0 21 rfl rfl)
theorem dX1_item_22 : decode cX1_item 22 = .ok (.new 73, 3) := dk_187 0 73 (dk_at dksX1_item_1 0 rfl rfl)
theorem dX1_item_25 : decode cX1_item 25 = .ok (.dup, 1) := dk_89 (dk_at dksX1_item_1 3 rfl rfl)
theorem dX1_item_26 : decode cX1_item 26 = .ok (.invokespecial 75, 3) := dk_183 0 75 (dk_at dksX1_item_1 4 rfl rfl)
theorem dX1_item_29 : decode cX1_item 29 = .ok (.athrow, 1) := dk_191 (dk_at dksX1_item_1 7 rfl rfl)
theorem dX1_item_30 : decode cX1_item 30 = .ok (.astore_n 2, 1) := dk_77 (dk_at dksX1_item_1 8 rfl rfl)
theorem dX1_item_31 : decode cX1_item 31 = .ok (.new 73, 3) := dk_187 0 73 (dk_at dksX1_item_1 9 rfl rfl)
theorem dX1_item_34 : decode cX1_item 34 = .ok (.dup, 1) := dk_89 (dk_at dksX1_item_1 12 rfl rfl)
theorem dX1_item_35 : decode cX1_item 35 = .ok (.invokespecial 75, 3) := dk_183 0 75 (dk_at dksX1_item_1 13 rfl rfl)
theorem dX1_item_38 : decode cX1_item 38 = .ok (.athrow, 1) := dk_191 (dk_at dksX1_item_1 16 rfl rfl)
abbrev cX1_argument : ByteArray := prog_1_method_3_code
def yX1_argument : MethodName := ⟨RX1, "argument", "(Z)V"⟩
def dkwX1_argument_0 : List UInt8 := [26, 154, 0, 11, 187, 0, 78, 89, 183, 0, 80, 191, 177]
abbrev dktX1_argument_0 : List UInt8 := dkwX1_argument_0 ++ []
theorem dksX1_argument_0 : cX1_argument.data.toList.drop 0 = dktX1_argument_0 := by decide +kernel
theorem dX1_argument_0 : decode cX1_argument 0 = .ok (.iload_n 0, 1) := dk_26 (dk_at dksX1_argument_0 0 rfl rfl)
theorem dX1_argument_1 : decode cX1_argument 1 = .ok (.ifCond .ne 11, 3) := dk_154 0 11 (dk_at dksX1_argument_0 1 rfl rfl)
theorem dX1_argument_4 : decode cX1_argument 4 = .ok (.new 78, 3) := dk_187 0 78 (dk_at dksX1_argument_0 4 rfl rfl)
theorem dX1_argument_7 : decode cX1_argument 7 = .ok (.dup, 1) := dk_89 (dk_at dksX1_argument_0 7 rfl rfl)
theorem dX1_argument_8 : decode cX1_argument 8 = .ok (.invokespecial 80, 3) := dk_183 0 80 (dk_at dksX1_argument_0 8 rfl rfl)
theorem dX1_argument_11 : decode cX1_argument 11 = .ok (.athrow, 1) := dk_191 (dk_at dksX1_argument_0 11 rfl rfl)
theorem dX1_argument_12 : decode cX1_argument 12 = .ok (.return_, 1) := dk_177 (dk_at dksX1_argument_0 12 rfl rfl)
abbrev cX1_add : ByteArray := prog_1_method_15_code
def yX1_add : MethodName := ⟨RX1, "add", "(I)V"⟩
def dkwX1_add_8 : List UInt8 := [182, 0, 84, 87, 42, 27, 181, 0, 136, 177]
abbrev dktX1_add_8 : List UInt8 := dkwX1_add_8 ++ []
def dkwX1_add_7 : List UInt8 := [167, 0, 31, 42, 180, 0, 52, 42, 180, 0, 49, 182, 0, 110, 42, 180, 0, 36, 42, 180, 0, 52]
abbrev dktX1_add_7 : List UInt8 := dkwX1_add_7 ++ dktX1_add_8
def dkwX1_add_6 : List UInt8 := [180, 0, 49, 42, 180, 0, 52, 182, 0, 110, 42, 180, 0, 36, 42, 180, 0, 49, 182, 0, 84, 87]
abbrev dktX1_add_6 : List UInt8 := dkwX1_add_6 ++ dktX1_add_7
def dkwX1_add_5 : List UInt8 := [182, 0, 84, 87, 167, 0, 71, 42, 180, 0, 49, 42, 180, 0, 52, 182, 0, 106, 155, 0, 29, 42]
abbrev dktX1_add_5 : List UInt8 := dkwX1_add_5 ++ dktX1_add_6
def dkwX1_add_4 : List UInt8 := [181, 0, 136, 42, 180, 0, 49, 42, 180, 0, 52, 182, 0, 245, 42, 180, 0, 36, 42, 180, 0, 49]
abbrev dktX1_add_4 : List UInt8 := dkwX1_add_4 ++ dktX1_add_5
def dkwX1_add_3 : List UInt8 := [153, 0, 7, 27, 154, 0, 48, 42, 42, 180, 0, 136, 154, 0, 7, 27, 167, 0, 7, 42, 180, 0, 136]
abbrev dktX1_add_3 : List UInt8 := dkwX1_add_3 ++ dktX1_add_4
def dkwX1_add_2 : List UInt8 := [180, 0, 40, 42, 180, 0, 55, 182, 0, 84, 87, 42, 180, 0, 136, 27, 159, 0, 14, 42, 180, 0, 136]
abbrev dktX1_add_2 : List UInt8 := dkwX1_add_2 ++ dktX1_add_3
def dkwX1_add_1 : List UInt8 := [180, 0, 40, 182, 0, 242, 42, 180, 0, 55, 42, 180, 0, 40, 42, 180, 0, 46, 182, 0, 242, 42]
abbrev dktX1_add_1 : List UInt8 := dkwX1_add_1 ++ dktX1_add_2
def dkwX1_add_0 : List UInt8 := [42, 180, 0, 49, 42, 180, 0, 36, 42, 180, 0, 46, 182, 0, 242, 42, 180, 0, 52, 42, 180, 0, 43, 42]
abbrev dktX1_add_0 : List UInt8 := dkwX1_add_0 ++ dktX1_add_1
theorem dksX1_add_0 : cX1_add.data.toList.drop 0 = dktX1_add_0 := by decide +kernel
theorem dksX1_add_1 : cX1_add.data.toList.drop 24 = dktX1_add_1 := dk_seg dksX1_add_0 24 rfl rfl
theorem dksX1_add_2 : cX1_add.data.toList.drop 46 = dktX1_add_2 := dk_seg dksX1_add_1 22 rfl rfl
theorem dksX1_add_3 : cX1_add.data.toList.drop 69 = dktX1_add_3 := dk_seg dksX1_add_2 23 rfl rfl
theorem dksX1_add_4 : cX1_add.data.toList.drop 92 = dktX1_add_4 := dk_seg dksX1_add_3 23 rfl rfl
theorem dksX1_add_5 : cX1_add.data.toList.drop 114 = dktX1_add_5 := dk_seg dksX1_add_4 22 rfl rfl
theorem dksX1_add_6 : cX1_add.data.toList.drop 136 = dktX1_add_6 := dk_seg dksX1_add_5 22 rfl rfl
theorem dksX1_add_7 : cX1_add.data.toList.drop 158 = dktX1_add_7 := dk_seg dksX1_add_6 22 rfl rfl
theorem dksX1_add_8 : cX1_add.data.toList.drop 180 = dktX1_add_8 := dk_seg dksX1_add_7 22 rfl rfl
theorem dX1_add_0 : decode cX1_add 0 = .ok (.aload_n 0, 1) := dk_42 (dk_at dksX1_add_0 0 rfl rfl)
theorem dX1_add_1 : decode cX1_add 1 = .ok (.getfield 49, 3) := dk_180 0 49 (dk_at dksX1_add_0 1 rfl rfl)
theorem dX1_add_4 : decode cX1_add 4 = .ok (.aload_n 0, 1) := dk_42 (dk_at dksX1_add_0 4 rfl rfl)
theorem dX1_add_5 : decode cX1_add 5 = .ok (.getfield 36, 3) := dk_180 0 36 (dk_at dksX1_add_0 5 rfl rfl)
theorem dX1_add_8 : decode cX1_add 8 = .ok (.aload_n 0, 1) := dk_42 (dk_at dksX1_add_0 8 rfl rfl)
theorem dX1_add_9 : decode cX1_add 9 = .ok (.getfield 46, 3) := dk_180 0 46 (dk_at dksX1_add_0 9 rfl rfl)
theorem dX1_add_12 : decode cX1_add 12 = .ok (.invokevirtual 242, 3) := dk_182 0 242 (dk_at dksX1_add_0 12 rfl rfl)
theorem dX1_add_15 : decode cX1_add 15 = .ok (.aload_n 0, 1) := dk_42 (dk_at dksX1_add_0 15 rfl rfl)
theorem dX1_add_16 : decode cX1_add 16 = .ok (.getfield 52, 3) := dk_180 0 52 (dk_at dksX1_add_0 16 rfl rfl)
theorem dX1_add_19 : decode cX1_add 19 = .ok (.aload_n 0, 1) := dk_42 (dk_at dksX1_add_0 19 rfl rfl)
theorem dX1_add_20 : decode cX1_add 20 = .ok (.getfield 43, 3) := dk_180 0 43 (dk_at dksX1_add_0 20 rfl rfl)
theorem dX1_add_23 : decode cX1_add 23 = .ok (.aload_n 0, 1) := dk_42 (dk_at dksX1_add_0 23 rfl rfl)
theorem dX1_add_24 : decode cX1_add 24 = .ok (.getfield 40, 3) := dk_180 0 40 (dk_at dksX1_add_1 0 rfl rfl)
theorem dX1_add_27 : decode cX1_add 27 = .ok (.invokevirtual 242, 3) := dk_182 0 242 (dk_at dksX1_add_1 3 rfl rfl)
theorem dX1_add_30 : decode cX1_add 30 = .ok (.aload_n 0, 1) := dk_42 (dk_at dksX1_add_1 6 rfl rfl)
theorem dX1_add_31 : decode cX1_add 31 = .ok (.getfield 55, 3) := dk_180 0 55 (dk_at dksX1_add_1 7 rfl rfl)
theorem dX1_add_34 : decode cX1_add 34 = .ok (.aload_n 0, 1) := dk_42 (dk_at dksX1_add_1 10 rfl rfl)
theorem dX1_add_35 : decode cX1_add 35 = .ok (.getfield 40, 3) := dk_180 0 40 (dk_at dksX1_add_1 11 rfl rfl)
theorem dX1_add_38 : decode cX1_add 38 = .ok (.aload_n 0, 1) := dk_42 (dk_at dksX1_add_1 14 rfl rfl)
theorem dX1_add_39 : decode cX1_add 39 = .ok (.getfield 46, 3) := dk_180 0 46 (dk_at dksX1_add_1 15 rfl rfl)
theorem dX1_add_42 : decode cX1_add 42 = .ok (.invokevirtual 242, 3) := dk_182 0 242 (dk_at dksX1_add_1 18 rfl rfl)
theorem dX1_add_45 : decode cX1_add 45 = .ok (.aload_n 0, 1) := dk_42 (dk_at dksX1_add_1 21 rfl rfl)
theorem dX1_add_46 : decode cX1_add 46 = .ok (.getfield 40, 3) := dk_180 0 40 (dk_at dksX1_add_2 0 rfl rfl)
theorem dX1_add_49 : decode cX1_add 49 = .ok (.aload_n 0, 1) := dk_42 (dk_at dksX1_add_2 3 rfl rfl)
theorem dX1_add_50 : decode cX1_add 50 = .ok (.getfield 55, 3) := dk_180 0 55 (dk_at dksX1_add_2 4 rfl rfl)
theorem dX1_add_53 : decode cX1_add 53 = .ok (.invokevirtual 84, 3) := dk_182 0 84 (dk_at dksX1_add_2 7 rfl rfl)
theorem dX1_add_56 : decode cX1_add 56 = .ok (.pop, 1) := dk_87 (dk_at dksX1_add_2 10 rfl rfl)
theorem dX1_add_57 : decode cX1_add 57 = .ok (.aload_n 0, 1) := dk_42 (dk_at dksX1_add_2 11 rfl rfl)
theorem dX1_add_58 : decode cX1_add 58 = .ok (.getfield 136, 3) := dk_180 0 136 (dk_at dksX1_add_2 12 rfl rfl)
theorem dX1_add_61 : decode cX1_add 61 = .ok (.iload_n 1, 1) := dk_27 (dk_at dksX1_add_2 15 rfl rfl)
theorem dX1_add_62 : decode cX1_add 62 = .ok (.if_icmp .eq 14, 3) := dk_159 0 14 (dk_at dksX1_add_2 16 rfl rfl)
theorem dX1_add_65 : decode cX1_add 65 = .ok (.aload_n 0, 1) := dk_42 (dk_at dksX1_add_2 19 rfl rfl)
theorem dX1_add_66 : decode cX1_add 66 = .ok (.getfield 136, 3) := dk_180 0 136 (dk_at dksX1_add_2 20 rfl rfl)
theorem dX1_add_69 : decode cX1_add 69 = .ok (.ifCond .eq 7, 3) := dk_153 0 7 (dk_at dksX1_add_3 0 rfl rfl)
theorem dX1_add_72 : decode cX1_add 72 = .ok (.iload_n 1, 1) := dk_27 (dk_at dksX1_add_3 3 rfl rfl)
theorem dX1_add_73 : decode cX1_add 73 = .ok (.ifCond .ne 48, 3) := dk_154 0 48 (dk_at dksX1_add_3 4 rfl rfl)
theorem dX1_add_76 : decode cX1_add 76 = .ok (.aload_n 0, 1) := dk_42 (dk_at dksX1_add_3 7 rfl rfl)
theorem dX1_add_77 : decode cX1_add 77 = .ok (.aload_n 0, 1) := dk_42 (dk_at dksX1_add_3 8 rfl rfl)
theorem dX1_add_78 : decode cX1_add 78 = .ok (.getfield 136, 3) := dk_180 0 136 (dk_at dksX1_add_3 9 rfl rfl)
theorem dX1_add_81 : decode cX1_add 81 = .ok (.ifCond .ne 7, 3) := dk_154 0 7 (dk_at dksX1_add_3 12 rfl rfl)
theorem dX1_add_84 : decode cX1_add 84 = .ok (.iload_n 1, 1) := dk_27 (dk_at dksX1_add_3 15 rfl rfl)
theorem dX1_add_85 : decode cX1_add 85 = .ok (.goto 7, 3) := dk_167 0 7 (dk_at dksX1_add_3 16 rfl rfl)
theorem dX1_add_88 : decode cX1_add 88 = .ok (.aload_n 0, 1) := dk_42 (dk_at dksX1_add_3 19 rfl rfl)
theorem dX1_add_89 : decode cX1_add 89 = .ok (.getfield 136, 3) := dk_180 0 136 (dk_at dksX1_add_3 20 rfl rfl)
theorem dX1_add_92 : decode cX1_add 92 = .ok (.putfield 136, 3) := dk_181 0 136 (dk_at dksX1_add_4 0 rfl rfl)
theorem dX1_add_95 : decode cX1_add 95 = .ok (.aload_n 0, 1) := dk_42 (dk_at dksX1_add_4 3 rfl rfl)
theorem dX1_add_96 : decode cX1_add 96 = .ok (.getfield 49, 3) := dk_180 0 49 (dk_at dksX1_add_4 4 rfl rfl)
theorem dX1_add_99 : decode cX1_add 99 = .ok (.aload_n 0, 1) := dk_42 (dk_at dksX1_add_4 7 rfl rfl)
theorem dX1_add_100 : decode cX1_add 100 = .ok (.getfield 52, 3) := dk_180 0 52 (dk_at dksX1_add_4 8 rfl rfl)
theorem dX1_add_103 : decode cX1_add 103 = .ok (.invokevirtual 245, 3) := dk_182 0 245 (dk_at dksX1_add_4 11 rfl rfl)
theorem dX1_add_106 : decode cX1_add 106 = .ok (.aload_n 0, 1) := dk_42 (dk_at dksX1_add_4 14 rfl rfl)
theorem dX1_add_107 : decode cX1_add 107 = .ok (.getfield 36, 3) := dk_180 0 36 (dk_at dksX1_add_4 15 rfl rfl)
theorem dX1_add_110 : decode cX1_add 110 = .ok (.aload_n 0, 1) := dk_42 (dk_at dksX1_add_4 18 rfl rfl)
theorem dX1_add_111 : decode cX1_add 111 = .ok (.getfield 49, 3) := dk_180 0 49 (dk_at dksX1_add_4 19 rfl rfl)
theorem dX1_add_114 : decode cX1_add 114 = .ok (.invokevirtual 84, 3) := dk_182 0 84 (dk_at dksX1_add_5 0 rfl rfl)
theorem dX1_add_117 : decode cX1_add 117 = .ok (.pop, 1) := dk_87 (dk_at dksX1_add_5 3 rfl rfl)
theorem dX1_add_118 : decode cX1_add 118 = .ok (.goto 71, 3) := dk_167 0 71 (dk_at dksX1_add_5 4 rfl rfl)
theorem dX1_add_121 : decode cX1_add 121 = .ok (.aload_n 0, 1) := dk_42 (dk_at dksX1_add_5 7 rfl rfl)
theorem dX1_add_122 : decode cX1_add 122 = .ok (.getfield 49, 3) := dk_180 0 49 (dk_at dksX1_add_5 8 rfl rfl)
theorem dX1_add_125 : decode cX1_add 125 = .ok (.aload_n 0, 1) := dk_42 (dk_at dksX1_add_5 11 rfl rfl)
theorem dX1_add_126 : decode cX1_add 126 = .ok (.getfield 52, 3) := dk_180 0 52 (dk_at dksX1_add_5 12 rfl rfl)
theorem dX1_add_129 : decode cX1_add 129 = .ok (.invokevirtual 106, 3) := dk_182 0 106 (dk_at dksX1_add_5 15 rfl rfl)
theorem dX1_add_132 : decode cX1_add 132 = .ok (.ifCond .lt 29, 3) := dk_155 0 29 (dk_at dksX1_add_5 18 rfl rfl)
theorem dX1_add_135 : decode cX1_add 135 = .ok (.aload_n 0, 1) := dk_42 (dk_at dksX1_add_5 21 rfl rfl)
theorem dX1_add_136 : decode cX1_add 136 = .ok (.getfield 49, 3) := dk_180 0 49 (dk_at dksX1_add_6 0 rfl rfl)
theorem dX1_add_139 : decode cX1_add 139 = .ok (.aload_n 0, 1) := dk_42 (dk_at dksX1_add_6 3 rfl rfl)
theorem dX1_add_140 : decode cX1_add 140 = .ok (.getfield 52, 3) := dk_180 0 52 (dk_at dksX1_add_6 4 rfl rfl)
theorem dX1_add_143 : decode cX1_add 143 = .ok (.invokevirtual 110, 3) := dk_182 0 110 (dk_at dksX1_add_6 7 rfl rfl)
theorem dX1_add_146 : decode cX1_add 146 = .ok (.aload_n 0, 1) := dk_42 (dk_at dksX1_add_6 10 rfl rfl)
theorem dX1_add_147 : decode cX1_add 147 = .ok (.getfield 36, 3) := dk_180 0 36 (dk_at dksX1_add_6 11 rfl rfl)
theorem dX1_add_150 : decode cX1_add 150 = .ok (.aload_n 0, 1) := dk_42 (dk_at dksX1_add_6 14 rfl rfl)
theorem dX1_add_151 : decode cX1_add 151 = .ok (.getfield 49, 3) := dk_180 0 49 (dk_at dksX1_add_6 15 rfl rfl)
theorem dX1_add_154 : decode cX1_add 154 = .ok (.invokevirtual 84, 3) := dk_182 0 84 (dk_at dksX1_add_6 18 rfl rfl)
theorem dX1_add_157 : decode cX1_add 157 = .ok (.pop, 1) := dk_87 (dk_at dksX1_add_6 21 rfl rfl)
theorem dX1_add_158 : decode cX1_add 158 = .ok (.goto 31, 3) := dk_167 0 31 (dk_at dksX1_add_7 0 rfl rfl)
theorem dX1_add_161 : decode cX1_add 161 = .ok (.aload_n 0, 1) := dk_42 (dk_at dksX1_add_7 3 rfl rfl)
theorem dX1_add_162 : decode cX1_add 162 = .ok (.getfield 52, 3) := dk_180 0 52 (dk_at dksX1_add_7 4 rfl rfl)
theorem dX1_add_165 : decode cX1_add 165 = .ok (.aload_n 0, 1) := dk_42 (dk_at dksX1_add_7 7 rfl rfl)
theorem dX1_add_166 : decode cX1_add 166 = .ok (.getfield 49, 3) := dk_180 0 49 (dk_at dksX1_add_7 8 rfl rfl)
theorem dX1_add_169 : decode cX1_add 169 = .ok (.invokevirtual 110, 3) := dk_182 0 110 (dk_at dksX1_add_7 11 rfl rfl)
theorem dX1_add_172 : decode cX1_add 172 = .ok (.aload_n 0, 1) := dk_42 (dk_at dksX1_add_7 14 rfl rfl)
theorem dX1_add_173 : decode cX1_add 173 = .ok (.getfield 36, 3) := dk_180 0 36 (dk_at dksX1_add_7 15 rfl rfl)
theorem dX1_add_176 : decode cX1_add 176 = .ok (.aload_n 0, 1) := dk_42 (dk_at dksX1_add_7 18 rfl rfl)
theorem dX1_add_177 : decode cX1_add 177 = .ok (.getfield 52, 3) := dk_180 0 52 (dk_at dksX1_add_7 19 rfl rfl)
theorem dX1_add_180 : decode cX1_add 180 = .ok (.invokevirtual 84, 3) := dk_182 0 84 (dk_at dksX1_add_8 0 rfl rfl)
theorem dX1_add_183 : decode cX1_add 183 = .ok (.pop, 1) := dk_87 (dk_at dksX1_add_8 3 rfl rfl)
theorem dX1_add_184 : decode cX1_add 184 = .ok (.aload_n 0, 1) := dk_42 (dk_at dksX1_add_8 4 rfl rfl)
theorem dX1_add_185 : decode cX1_add 185 = .ok (.iload_n 1, 1) := dk_27 (dk_at dksX1_add_8 5 rfl rfl)
theorem dX1_add_186 : decode cX1_add 186 = .ok (.putfield 136, 3) := dk_181 0 136 (dk_at dksX1_add_8 6 rfl rfl)
theorem dX1_add_189 : decode cX1_add 189 = .ok (.return_, 1) := dk_177 (dk_at dksX1_add_8 9 rfl rfl)
abbrev cX1_product : ByteArray := prog_1_method_16_code
def yX1_product : MethodName := ⟨RX1, "product", "(I)V"⟩
def dkwX1_product_2 : List UInt8 := [180, 0, 52, 182, 0, 84, 87, 42, 42, 180, 0, 136, 27, 104, 181, 0, 136, 177]
abbrev dktX1_product_2 : List UInt8 := dkwX1_product_2 ++ []
def dkwX1_product_1 : List UInt8 := [180, 0, 46, 182, 0, 242, 42, 180, 0, 36, 42, 180, 0, 49, 182, 0, 84, 87, 42, 180, 0, 40, 42]
abbrev dktX1_product_1 : List UInt8 := dkwX1_product_1 ++ dktX1_product_2
def dkwX1_product_0 : List UInt8 := [42, 180, 0, 49, 42, 180, 0, 36, 42, 180, 0, 43, 182, 0, 242, 42, 180, 0, 52, 42, 180, 0, 40, 42]
abbrev dktX1_product_0 : List UInt8 := dkwX1_product_0 ++ dktX1_product_1
theorem dksX1_product_0 : cX1_product.data.toList.drop 0 = dktX1_product_0 := by decide +kernel
theorem dksX1_product_1 : cX1_product.data.toList.drop 24 = dktX1_product_1 := dk_seg dksX1_product_0 24 rfl rfl
theorem dksX1_product_2 : cX1_product.data.toList.drop 47 = dktX1_product_2 := dk_seg dksX1_product_1 23 rfl rfl
theorem dX1_product_0 : decode cX1_product 0 = .ok (.aload_n 0, 1) := dk_42 (dk_at dksX1_product_0 0 rfl rfl)
theorem dX1_product_1 : decode cX1_product 1 = .ok (.getfield 49, 3) := dk_180 0 49 (dk_at dksX1_product_0 1 rfl rfl)
theorem dX1_product_4 : decode cX1_product 4 = .ok (.aload_n 0, 1) := dk_42 (dk_at dksX1_product_0 4 rfl rfl)
theorem dX1_product_5 : decode cX1_product 5 = .ok (.getfield 36, 3) := dk_180 0 36 (dk_at dksX1_product_0 5 rfl rfl)
theorem dX1_product_8 : decode cX1_product 8 = .ok (.aload_n 0, 1) := dk_42 (dk_at dksX1_product_0 8 rfl rfl)
theorem dX1_product_9 : decode cX1_product 9 = .ok (.getfield 43, 3) := dk_180 0 43 (dk_at dksX1_product_0 9 rfl rfl)
theorem dX1_product_12 : decode cX1_product 12 = .ok (.invokevirtual 242, 3) := dk_182 0 242 (dk_at dksX1_product_0 12 rfl rfl)
theorem dX1_product_15 : decode cX1_product 15 = .ok (.aload_n 0, 1) := dk_42 (dk_at dksX1_product_0 15 rfl rfl)
theorem dX1_product_16 : decode cX1_product 16 = .ok (.getfield 52, 3) := dk_180 0 52 (dk_at dksX1_product_0 16 rfl rfl)
theorem dX1_product_19 : decode cX1_product 19 = .ok (.aload_n 0, 1) := dk_42 (dk_at dksX1_product_0 19 rfl rfl)
theorem dX1_product_20 : decode cX1_product 20 = .ok (.getfield 40, 3) := dk_180 0 40 (dk_at dksX1_product_0 20 rfl rfl)
theorem dX1_product_23 : decode cX1_product 23 = .ok (.aload_n 0, 1) := dk_42 (dk_at dksX1_product_0 23 rfl rfl)
theorem dX1_product_24 : decode cX1_product 24 = .ok (.getfield 46, 3) := dk_180 0 46 (dk_at dksX1_product_1 0 rfl rfl)
theorem dX1_product_27 : decode cX1_product 27 = .ok (.invokevirtual 242, 3) := dk_182 0 242 (dk_at dksX1_product_1 3 rfl rfl)
theorem dX1_product_30 : decode cX1_product 30 = .ok (.aload_n 0, 1) := dk_42 (dk_at dksX1_product_1 6 rfl rfl)
theorem dX1_product_31 : decode cX1_product 31 = .ok (.getfield 36, 3) := dk_180 0 36 (dk_at dksX1_product_1 7 rfl rfl)
theorem dX1_product_34 : decode cX1_product 34 = .ok (.aload_n 0, 1) := dk_42 (dk_at dksX1_product_1 10 rfl rfl)
theorem dX1_product_35 : decode cX1_product 35 = .ok (.getfield 49, 3) := dk_180 0 49 (dk_at dksX1_product_1 11 rfl rfl)
theorem dX1_product_38 : decode cX1_product 38 = .ok (.invokevirtual 84, 3) := dk_182 0 84 (dk_at dksX1_product_1 14 rfl rfl)
theorem dX1_product_41 : decode cX1_product 41 = .ok (.pop, 1) := dk_87 (dk_at dksX1_product_1 17 rfl rfl)
theorem dX1_product_42 : decode cX1_product 42 = .ok (.aload_n 0, 1) := dk_42 (dk_at dksX1_product_1 18 rfl rfl)
theorem dX1_product_43 : decode cX1_product 43 = .ok (.getfield 40, 3) := dk_180 0 40 (dk_at dksX1_product_1 19 rfl rfl)
theorem dX1_product_46 : decode cX1_product 46 = .ok (.aload_n 0, 1) := dk_42 (dk_at dksX1_product_1 22 rfl rfl)
theorem dX1_product_47 : decode cX1_product 47 = .ok (.getfield 52, 3) := dk_180 0 52 (dk_at dksX1_product_2 0 rfl rfl)
theorem dX1_product_50 : decode cX1_product 50 = .ok (.invokevirtual 84, 3) := dk_182 0 84 (dk_at dksX1_product_2 3 rfl rfl)
theorem dX1_product_53 : decode cX1_product 53 = .ok (.pop, 1) := dk_87 (dk_at dksX1_product_2 6 rfl rfl)
theorem dX1_product_54 : decode cX1_product 54 = .ok (.aload_n 0, 1) := dk_42 (dk_at dksX1_product_2 7 rfl rfl)
theorem dX1_product_55 : decode cX1_product 55 = .ok (.aload_n 0, 1) := dk_42 (dk_at dksX1_product_2 8 rfl rfl)
theorem dX1_product_56 : decode cX1_product 56 = .ok (.getfield 136, 3) := dk_180 0 136 (dk_at dksX1_product_2 9 rfl rfl)
theorem dX1_product_59 : decode cX1_product 59 = .ok (.iload_n 1, 1) := dk_27 (dk_at dksX1_product_2 12 rfl rfl)
theorem dX1_product_60 : decode cX1_product 60 = .ok (.imul, 1) := dk_104 (dk_at dksX1_product_2 13 rfl rfl)
theorem dX1_product_61 : decode cX1_product 61 = .ok (.putfield 136, 3) := dk_181 0 136 (dk_at dksX1_product_2 14 rfl rfl)
theorem dX1_product_64 : decode cX1_product 64 = .ok (.return_, 1) := dk_177 (dk_at dksX1_product_2 17 rfl rfl)
abbrev cX1_ratio : ByteArray := prog_1_method_17_code
def yX1_ratio : MethodName := ⟨RX1, "ratio", "(I)V"⟩
def dkwX1_ratio_3 : List UInt8 := [182, 0, 84, 87, 177]
abbrev dktX1_ratio_3 : List UInt8 := dkwX1_ratio_3 ++ []
def dkwX1_ratio_2 : List UInt8 := [182, 0, 242, 42, 180, 0, 36, 42, 180, 0, 49, 182, 0, 84, 87, 42, 180, 0, 40, 42, 180, 0, 52]
abbrev dktX1_ratio_2 : List UInt8 := dkwX1_ratio_2 ++ dktX1_ratio_3
def dkwX1_ratio_1 : List UInt8 := [180, 0, 36, 42, 180, 0, 46, 182, 0, 242, 42, 180, 0, 52, 42, 180, 0, 40, 42, 180, 0, 43]
abbrev dktX1_ratio_1 : List UInt8 := dkwX1_ratio_1 ++ dktX1_ratio_2
def dkwX1_ratio_0 : List UInt8 := [42, 42, 180, 0, 136, 27, 108, 181, 0, 136, 167, 0, 8, 77, 184, 0, 173, 191, 42, 180, 0, 49, 42]
abbrev dktX1_ratio_0 : List UInt8 := dkwX1_ratio_0 ++ dktX1_ratio_1
theorem dksX1_ratio_0 : cX1_ratio.data.toList.drop 0 = dktX1_ratio_0 := by decide +kernel
theorem dksX1_ratio_1 : cX1_ratio.data.toList.drop 23 = dktX1_ratio_1 := dk_seg dksX1_ratio_0 23 rfl rfl
theorem dksX1_ratio_2 : cX1_ratio.data.toList.drop 45 = dktX1_ratio_2 := dk_seg dksX1_ratio_1 22 rfl rfl
theorem dksX1_ratio_3 : cX1_ratio.data.toList.drop 68 = dktX1_ratio_3 := dk_seg dksX1_ratio_2 23 rfl rfl
theorem dX1_ratio_0 : decode cX1_ratio 0 = .ok (.aload_n 0, 1) := dk_42 (dk_at dksX1_ratio_0 0 rfl rfl)
theorem dX1_ratio_1 : decode cX1_ratio 1 = .ok (.aload_n 0, 1) := dk_42 (dk_at dksX1_ratio_0 1 rfl rfl)
theorem dX1_ratio_2 : decode cX1_ratio 2 = .ok (.getfield 136, 3) := dk_180 0 136 (dk_at dksX1_ratio_0 2 rfl rfl)
theorem dX1_ratio_5 : decode cX1_ratio 5 = .ok (.iload_n 1, 1) := dk_27 (dk_at dksX1_ratio_0 5 rfl rfl)
theorem dX1_ratio_6 : decode cX1_ratio 6 = .ok (.idiv, 1) := dk_108 (dk_at dksX1_ratio_0 6 rfl rfl)
theorem dX1_ratio_7 : decode cX1_ratio 7 = .ok (.putfield 136, 3) := dk_181 0 136 (dk_at dksX1_ratio_0 7 rfl rfl)
theorem dX1_ratio_10 : decode cX1_ratio 10 = .ok (.goto 8, 3) := dk_167 0 8 (dk_at dksX1_ratio_0 10 rfl rfl)
theorem dX1_ratio_13 : decode cX1_ratio 13 = .ok (.astore_n 2, 1) := dk_77 (dk_at dksX1_ratio_0 13 rfl rfl)
theorem dX1_ratio_14 : decode cX1_ratio 14 = .ok (.invokestatic 173, 3) := dk_184 0 173 (dk_at dksX1_ratio_0 14 rfl rfl)
theorem dX1_ratio_17 : decode cX1_ratio 17 = .ok (.athrow, 1) := dk_191 (dk_at dksX1_ratio_0 17 rfl rfl)
theorem dX1_ratio_18 : decode cX1_ratio 18 = .ok (.aload_n 0, 1) := dk_42 (dk_at dksX1_ratio_0 18 rfl rfl)
theorem dX1_ratio_19 : decode cX1_ratio 19 = .ok (.getfield 49, 3) := dk_180 0 49 (dk_at dksX1_ratio_0 19 rfl rfl)
theorem dX1_ratio_22 : decode cX1_ratio 22 = .ok (.aload_n 0, 1) := dk_42 (dk_at dksX1_ratio_0 22 rfl rfl)
theorem dX1_ratio_23 : decode cX1_ratio 23 = .ok (.getfield 36, 3) := dk_180 0 36 (dk_at dksX1_ratio_1 0 rfl rfl)
theorem dX1_ratio_26 : decode cX1_ratio 26 = .ok (.aload_n 0, 1) := dk_42 (dk_at dksX1_ratio_1 3 rfl rfl)
theorem dX1_ratio_27 : decode cX1_ratio 27 = .ok (.getfield 46, 3) := dk_180 0 46 (dk_at dksX1_ratio_1 4 rfl rfl)
theorem dX1_ratio_30 : decode cX1_ratio 30 = .ok (.invokevirtual 242, 3) := dk_182 0 242 (dk_at dksX1_ratio_1 7 rfl rfl)
theorem dX1_ratio_33 : decode cX1_ratio 33 = .ok (.aload_n 0, 1) := dk_42 (dk_at dksX1_ratio_1 10 rfl rfl)
theorem dX1_ratio_34 : decode cX1_ratio 34 = .ok (.getfield 52, 3) := dk_180 0 52 (dk_at dksX1_ratio_1 11 rfl rfl)
theorem dX1_ratio_37 : decode cX1_ratio 37 = .ok (.aload_n 0, 1) := dk_42 (dk_at dksX1_ratio_1 14 rfl rfl)
theorem dX1_ratio_38 : decode cX1_ratio 38 = .ok (.getfield 40, 3) := dk_180 0 40 (dk_at dksX1_ratio_1 15 rfl rfl)
theorem dX1_ratio_41 : decode cX1_ratio 41 = .ok (.aload_n 0, 1) := dk_42 (dk_at dksX1_ratio_1 18 rfl rfl)
theorem dX1_ratio_42 : decode cX1_ratio 42 = .ok (.getfield 43, 3) := dk_180 0 43 (dk_at dksX1_ratio_1 19 rfl rfl)
theorem dX1_ratio_45 : decode cX1_ratio 45 = .ok (.invokevirtual 242, 3) := dk_182 0 242 (dk_at dksX1_ratio_2 0 rfl rfl)
theorem dX1_ratio_48 : decode cX1_ratio 48 = .ok (.aload_n 0, 1) := dk_42 (dk_at dksX1_ratio_2 3 rfl rfl)
theorem dX1_ratio_49 : decode cX1_ratio 49 = .ok (.getfield 36, 3) := dk_180 0 36 (dk_at dksX1_ratio_2 4 rfl rfl)
theorem dX1_ratio_52 : decode cX1_ratio 52 = .ok (.aload_n 0, 1) := dk_42 (dk_at dksX1_ratio_2 7 rfl rfl)
theorem dX1_ratio_53 : decode cX1_ratio 53 = .ok (.getfield 49, 3) := dk_180 0 49 (dk_at dksX1_ratio_2 8 rfl rfl)
theorem dX1_ratio_56 : decode cX1_ratio 56 = .ok (.invokevirtual 84, 3) := dk_182 0 84 (dk_at dksX1_ratio_2 11 rfl rfl)
theorem dX1_ratio_59 : decode cX1_ratio 59 = .ok (.pop, 1) := dk_87 (dk_at dksX1_ratio_2 14 rfl rfl)
theorem dX1_ratio_60 : decode cX1_ratio 60 = .ok (.aload_n 0, 1) := dk_42 (dk_at dksX1_ratio_2 15 rfl rfl)
theorem dX1_ratio_61 : decode cX1_ratio 61 = .ok (.getfield 40, 3) := dk_180 0 40 (dk_at dksX1_ratio_2 16 rfl rfl)
theorem dX1_ratio_64 : decode cX1_ratio 64 = .ok (.aload_n 0, 1) := dk_42 (dk_at dksX1_ratio_2 19 rfl rfl)
theorem dX1_ratio_65 : decode cX1_ratio 65 = .ok (.getfield 52, 3) := dk_180 0 52 (dk_at dksX1_ratio_2 20 rfl rfl)
theorem dX1_ratio_68 : decode cX1_ratio 68 = .ok (.invokevirtual 84, 3) := dk_182 0 84 (dk_at dksX1_ratio_3 0 rfl rfl)
theorem dX1_ratio_71 : decode cX1_ratio 71 = .ok (.pop, 1) := dk_87 (dk_at dksX1_ratio_3 3 rfl rfl)
theorem dX1_ratio_72 : decode cX1_ratio 72 = .ok (.return_, 1) := dk_177 (dk_at dksX1_ratio_3 4 rfl rfl)
abbrev cX1_quotient : ByteArray := prog_1_method_18_code
def yX1_quotient : MethodName := ⟨RX1, "quotient", "(II)V"⟩
def dkwX1_quotient_9 : List UInt8 := [182, 0, 84, 87, 42, 28, 8, 160, 0, 7, 27, 167, 0, 4, 29, 181, 0, 136, 177]
abbrev dktX1_quotient_9 : List UInt8 := dkwX1_quotient_9 ++ []
def dkwX1_quotient_8 : List UInt8 := [182, 0, 242, 42, 180, 0, 36, 42, 180, 0, 49, 182, 0, 84, 87, 42, 180, 0, 40, 42, 180, 0, 52]
abbrev dktX1_quotient_8 : List UInt8 := dkwX1_quotient_8 ++ dktX1_quotient_9
def dkwX1_quotient_7 : List UInt8 := [180, 0, 36, 42, 180, 0, 43, 182, 0, 242, 42, 180, 0, 52, 42, 180, 0, 40, 42, 180, 0, 46]
abbrev dktX1_quotient_7 : List UInt8 := dkwX1_quotient_7 ++ dktX1_quotient_8
def dkwX1_quotient_6 : List UInt8 := [180, 0, 36, 182, 0, 110, 42, 180, 0, 36, 42, 180, 0, 61, 182, 0, 84, 87, 42, 180, 0, 49, 42]
abbrev dktX1_quotient_6 : List UInt8 := dkwX1_quotient_6 ++ dktX1_quotient_7
def dkwX1_quotient_5 : List UInt8 := [177, 21, 4, 153, 0, 38, 42, 180, 0, 61, 42, 180, 0, 40, 182, 0, 84, 87, 42, 180, 0, 61, 42]
abbrev dktX1_quotient_5 : List UInt8 := dkwX1_quotient_5 ++ dktX1_quotient_6
def dkwX1_quotient_4 : List UInt8 := [160, 0, 25, 42, 180, 0, 36, 42, 180, 0, 58, 182, 0, 84, 87, 42, 180, 0, 40, 10, 182, 0, 126, 87]
abbrev dktX1_quotient_4 : List UInt8 := dkwX1_quotient_4 ++ dktX1_quotient_5
def dkwX1_quotient_3 : List UInt8 := [182, 0, 126, 87, 42, 180, 0, 58, 42, 180, 0, 61, 182, 0, 245, 28, 7, 159, 0, 9, 28, 16, 6]
abbrev dktX1_quotient_3 : List UInt8 := dkwX1_quotient_3 ++ dktX1_quotient_4
def dkwX1_quotient_2 : List UInt8 := [16, 6, 162, 0, 7, 4, 167, 0, 4, 3, 54, 4, 21, 4, 153, 0, 23, 42, 180, 0, 61, 10]
abbrev dktX1_quotient_2 : List UInt8 := dkwX1_quotient_2 ++ dktX1_quotient_3
def dkwX1_quotient_1 : List UInt8 := [180, 0, 64, 182, 0, 133, 42, 180, 0, 136, 156, 0, 23, 42, 180, 0, 36, 182, 0, 88, 154, 0, 13, 28]
abbrev dktX1_quotient_1 : List UInt8 := dkwX1_quotient_1 ++ dktX1_quotient_2
def dkwX1_quotient_0 : List UInt8 := [42, 180, 0, 136, 62, 42, 27, 182, 0, 224, 42, 180, 0, 36, 42, 180, 0, 40, 42, 180, 0, 58, 42]
abbrev dktX1_quotient_0 : List UInt8 := dkwX1_quotient_0 ++ dktX1_quotient_1
theorem dksX1_quotient_0 : cX1_quotient.data.toList.drop 0 = dktX1_quotient_0 := by decide +kernel
theorem dksX1_quotient_1 : cX1_quotient.data.toList.drop 23 = dktX1_quotient_1 := dk_seg dksX1_quotient_0 23 rfl rfl
theorem dksX1_quotient_2 : cX1_quotient.data.toList.drop 47 = dktX1_quotient_2 := dk_seg dksX1_quotient_1 24 rfl rfl
theorem dksX1_quotient_3 : cX1_quotient.data.toList.drop 69 = dktX1_quotient_3 := dk_seg dksX1_quotient_2 22 rfl rfl
theorem dksX1_quotient_4 : cX1_quotient.data.toList.drop 92 = dktX1_quotient_4 := dk_seg dksX1_quotient_3 23 rfl rfl
theorem dksX1_quotient_5 : cX1_quotient.data.toList.drop 116 = dktX1_quotient_5 := dk_seg dksX1_quotient_4 24 rfl rfl
theorem dksX1_quotient_6 : cX1_quotient.data.toList.drop 139 = dktX1_quotient_6 := dk_seg dksX1_quotient_5 23 rfl rfl
theorem dksX1_quotient_7 : cX1_quotient.data.toList.drop 162 = dktX1_quotient_7 := dk_seg dksX1_quotient_6 23 rfl rfl
theorem dksX1_quotient_8 : cX1_quotient.data.toList.drop 184 = dktX1_quotient_8 := dk_seg dksX1_quotient_7 22 rfl rfl
theorem dksX1_quotient_9 : cX1_quotient.data.toList.drop 207 = dktX1_quotient_9 := dk_seg dksX1_quotient_8 23 rfl rfl
theorem dX1_quotient_0 : decode cX1_quotient 0 = .ok (.aload_n 0, 1) := dk_42 (dk_at dksX1_quotient_0 0 rfl rfl)
theorem dX1_quotient_1 : decode cX1_quotient 1 = .ok (.getfield 136, 3) := dk_180 0 136 (dk_at dksX1_quotient_0 1 rfl rfl)
theorem dX1_quotient_4 : decode cX1_quotient 4 = .ok (.istore_n 3, 1) := dk_62 (dk_at dksX1_quotient_0 4 rfl rfl)
theorem dX1_quotient_5 : decode cX1_quotient 5 = .ok (.aload_n 0, 1) := dk_42 (dk_at dksX1_quotient_0 5 rfl rfl)
theorem dX1_quotient_6 : decode cX1_quotient 6 = .ok (.iload_n 1, 1) := dk_27 (dk_at dksX1_quotient_0 6 rfl rfl)
theorem dX1_quotient_7 : decode cX1_quotient 7 = .ok (.invokevirtual 224, 3) := dk_182 0 224 (dk_at dksX1_quotient_0 7 rfl rfl)
theorem dX1_quotient_10 : decode cX1_quotient 10 = .ok (.aload_n 0, 1) := dk_42 (dk_at dksX1_quotient_0 10 rfl rfl)
theorem dX1_quotient_11 : decode cX1_quotient 11 = .ok (.getfield 36, 3) := dk_180 0 36 (dk_at dksX1_quotient_0 11 rfl rfl)
theorem dX1_quotient_14 : decode cX1_quotient 14 = .ok (.aload_n 0, 1) := dk_42 (dk_at dksX1_quotient_0 14 rfl rfl)
theorem dX1_quotient_15 : decode cX1_quotient 15 = .ok (.getfield 40, 3) := dk_180 0 40 (dk_at dksX1_quotient_0 15 rfl rfl)
theorem dX1_quotient_18 : decode cX1_quotient 18 = .ok (.aload_n 0, 1) := dk_42 (dk_at dksX1_quotient_0 18 rfl rfl)
theorem dX1_quotient_19 : decode cX1_quotient 19 = .ok (.getfield 58, 3) := dk_180 0 58 (dk_at dksX1_quotient_0 19 rfl rfl)
theorem dX1_quotient_22 : decode cX1_quotient 22 = .ok (.aload_n 0, 1) := dk_42 (dk_at dksX1_quotient_0 22 rfl rfl)
theorem dX1_quotient_23 : decode cX1_quotient 23 = .ok (.getfield 64, 3) := dk_180 0 64 (dk_at dksX1_quotient_1 0 rfl rfl)
theorem dX1_quotient_26 : decode cX1_quotient 26 = .ok (.invokevirtual 133, 3) := dk_182 0 133 (dk_at dksX1_quotient_1 3 rfl rfl)
theorem dX1_quotient_29 : decode cX1_quotient 29 = .ok (.aload_n 0, 1) := dk_42 (dk_at dksX1_quotient_1 6 rfl rfl)
theorem dX1_quotient_30 : decode cX1_quotient 30 = .ok (.getfield 136, 3) := dk_180 0 136 (dk_at dksX1_quotient_1 7 rfl rfl)
theorem dX1_quotient_33 : decode cX1_quotient 33 = .ok (.ifCond .ge 23, 3) := dk_156 0 23 (dk_at dksX1_quotient_1 10 rfl rfl)
theorem dX1_quotient_36 : decode cX1_quotient 36 = .ok (.aload_n 0, 1) := dk_42 (dk_at dksX1_quotient_1 13 rfl rfl)
theorem dX1_quotient_37 : decode cX1_quotient 37 = .ok (.getfield 36, 3) := dk_180 0 36 (dk_at dksX1_quotient_1 14 rfl rfl)
theorem dX1_quotient_40 : decode cX1_quotient 40 = .ok (.invokevirtual 88, 3) := dk_182 0 88 (dk_at dksX1_quotient_1 17 rfl rfl)
theorem dX1_quotient_43 : decode cX1_quotient 43 = .ok (.ifCond .ne 13, 3) := dk_154 0 13 (dk_at dksX1_quotient_1 20 rfl rfl)
theorem dX1_quotient_46 : decode cX1_quotient 46 = .ok (.iload_n 2, 1) := dk_28 (dk_at dksX1_quotient_1 23 rfl rfl)
theorem dX1_quotient_47 : decode cX1_quotient 47 = .ok (.bipush 6, 2) := dk_16 6 (dk_at dksX1_quotient_2 0 rfl rfl)
theorem dX1_quotient_49 : decode cX1_quotient 49 = .ok (.if_icmp .ge 7, 3) := dk_162 0 7 (dk_at dksX1_quotient_2 2 rfl rfl)
theorem dX1_quotient_52 : decode cX1_quotient 52 = .ok (.iconst 1, 1) := dk_4 (dk_at dksX1_quotient_2 5 rfl rfl)
theorem dX1_quotient_53 : decode cX1_quotient 53 = .ok (.goto 4, 3) := dk_167 0 4 (dk_at dksX1_quotient_2 6 rfl rfl)
theorem dX1_quotient_56 : decode cX1_quotient 56 = .ok (.iconst 0, 1) := dk_3 (dk_at dksX1_quotient_2 9 rfl rfl)
theorem dX1_quotient_57 : decode cX1_quotient 57 = .ok (.istore 4, 2) := dk_54 4 (dk_at dksX1_quotient_2 10 rfl rfl)
theorem dX1_quotient_59 : decode cX1_quotient 59 = .ok (.iload 4, 2) := dk_21 4 (dk_at dksX1_quotient_2 12 rfl rfl)
theorem dX1_quotient_61 : decode cX1_quotient 61 = .ok (.ifCond .eq 23, 3) := dk_153 0 23 (dk_at dksX1_quotient_2 14 rfl rfl)
theorem dX1_quotient_64 : decode cX1_quotient 64 = .ok (.aload_n 0, 1) := dk_42 (dk_at dksX1_quotient_2 17 rfl rfl)
theorem dX1_quotient_65 : decode cX1_quotient 65 = .ok (.getfield 61, 3) := dk_180 0 61 (dk_at dksX1_quotient_2 18 rfl rfl)
theorem dX1_quotient_68 : decode cX1_quotient 68 = .ok (.lconst 1, 1) := dk_10 (dk_at dksX1_quotient_2 21 rfl rfl)
theorem dX1_quotient_69 : decode cX1_quotient 69 = .ok (.invokevirtual 126, 3) := dk_182 0 126 (dk_at dksX1_quotient_3 0 rfl rfl)
theorem dX1_quotient_72 : decode cX1_quotient 72 = .ok (.pop, 1) := dk_87 (dk_at dksX1_quotient_3 3 rfl rfl)
theorem dX1_quotient_73 : decode cX1_quotient 73 = .ok (.aload_n 0, 1) := dk_42 (dk_at dksX1_quotient_3 4 rfl rfl)
theorem dX1_quotient_74 : decode cX1_quotient 74 = .ok (.getfield 58, 3) := dk_180 0 58 (dk_at dksX1_quotient_3 5 rfl rfl)
theorem dX1_quotient_77 : decode cX1_quotient 77 = .ok (.aload_n 0, 1) := dk_42 (dk_at dksX1_quotient_3 8 rfl rfl)
theorem dX1_quotient_78 : decode cX1_quotient 78 = .ok (.getfield 61, 3) := dk_180 0 61 (dk_at dksX1_quotient_3 9 rfl rfl)
theorem dX1_quotient_81 : decode cX1_quotient 81 = .ok (.invokevirtual 245, 3) := dk_182 0 245 (dk_at dksX1_quotient_3 12 rfl rfl)
theorem dX1_quotient_84 : decode cX1_quotient 84 = .ok (.iload_n 2, 1) := dk_28 (dk_at dksX1_quotient_3 15 rfl rfl)
theorem dX1_quotient_85 : decode cX1_quotient 85 = .ok (.iconst 4, 1) := dk_7 (dk_at dksX1_quotient_3 16 rfl rfl)
theorem dX1_quotient_86 : decode cX1_quotient 86 = .ok (.if_icmp .eq 9, 3) := dk_159 0 9 (dk_at dksX1_quotient_3 17 rfl rfl)
theorem dX1_quotient_89 : decode cX1_quotient 89 = .ok (.iload_n 2, 1) := dk_28 (dk_at dksX1_quotient_3 20 rfl rfl)
theorem dX1_quotient_90 : decode cX1_quotient 90 = .ok (.bipush 6, 2) := dk_16 6 (dk_at dksX1_quotient_3 21 rfl rfl)
theorem dX1_quotient_92 : decode cX1_quotient 92 = .ok (.if_icmp .ne 25, 3) := dk_160 0 25 (dk_at dksX1_quotient_4 0 rfl rfl)
theorem dX1_quotient_95 : decode cX1_quotient 95 = .ok (.aload_n 0, 1) := dk_42 (dk_at dksX1_quotient_4 3 rfl rfl)
theorem dX1_quotient_96 : decode cX1_quotient 96 = .ok (.getfield 36, 3) := dk_180 0 36 (dk_at dksX1_quotient_4 4 rfl rfl)
theorem dX1_quotient_99 : decode cX1_quotient 99 = .ok (.aload_n 0, 1) := dk_42 (dk_at dksX1_quotient_4 7 rfl rfl)
theorem dX1_quotient_100 : decode cX1_quotient 100 = .ok (.getfield 58, 3) := dk_180 0 58 (dk_at dksX1_quotient_4 8 rfl rfl)
theorem dX1_quotient_103 : decode cX1_quotient 103 = .ok (.invokevirtual 84, 3) := dk_182 0 84 (dk_at dksX1_quotient_4 11 rfl rfl)
theorem dX1_quotient_106 : decode cX1_quotient 106 = .ok (.pop, 1) := dk_87 (dk_at dksX1_quotient_4 14 rfl rfl)
theorem dX1_quotient_107 : decode cX1_quotient 107 = .ok (.aload_n 0, 1) := dk_42 (dk_at dksX1_quotient_4 15 rfl rfl)
theorem dX1_quotient_108 : decode cX1_quotient 108 = .ok (.getfield 40, 3) := dk_180 0 40 (dk_at dksX1_quotient_4 16 rfl rfl)
theorem dX1_quotient_111 : decode cX1_quotient 111 = .ok (.lconst 1, 1) := dk_10 (dk_at dksX1_quotient_4 19 rfl rfl)
theorem dX1_quotient_112 : decode cX1_quotient 112 = .ok (.invokevirtual 126, 3) := dk_182 0 126 (dk_at dksX1_quotient_4 20 rfl rfl)
theorem dX1_quotient_115 : decode cX1_quotient 115 = .ok (.pop, 1) := dk_87 (dk_at dksX1_quotient_4 23 rfl rfl)
theorem dX1_quotient_116 : decode cX1_quotient 116 = .ok (.return_, 1) := dk_177 (dk_at dksX1_quotient_5 0 rfl rfl)
theorem dX1_quotient_117 : decode cX1_quotient 117 = .ok (.iload 4, 2) := dk_21 4 (dk_at dksX1_quotient_5 1 rfl rfl)
theorem dX1_quotient_119 : decode cX1_quotient 119 = .ok (.ifCond .eq 38, 3) := dk_153 0 38 (dk_at dksX1_quotient_5 3 rfl rfl)
theorem dX1_quotient_122 : decode cX1_quotient 122 = .ok (.aload_n 0, 1) := dk_42 (dk_at dksX1_quotient_5 6 rfl rfl)
theorem dX1_quotient_123 : decode cX1_quotient 123 = .ok (.getfield 61, 3) := dk_180 0 61 (dk_at dksX1_quotient_5 7 rfl rfl)
theorem dX1_quotient_126 : decode cX1_quotient 126 = .ok (.aload_n 0, 1) := dk_42 (dk_at dksX1_quotient_5 10 rfl rfl)
theorem dX1_quotient_127 : decode cX1_quotient 127 = .ok (.getfield 40, 3) := dk_180 0 40 (dk_at dksX1_quotient_5 11 rfl rfl)
theorem dX1_quotient_130 : decode cX1_quotient 130 = .ok (.invokevirtual 84, 3) := dk_182 0 84 (dk_at dksX1_quotient_5 14 rfl rfl)
theorem dX1_quotient_133 : decode cX1_quotient 133 = .ok (.pop, 1) := dk_87 (dk_at dksX1_quotient_5 17 rfl rfl)
theorem dX1_quotient_134 : decode cX1_quotient 134 = .ok (.aload_n 0, 1) := dk_42 (dk_at dksX1_quotient_5 18 rfl rfl)
theorem dX1_quotient_135 : decode cX1_quotient 135 = .ok (.getfield 61, 3) := dk_180 0 61 (dk_at dksX1_quotient_5 19 rfl rfl)
theorem dX1_quotient_138 : decode cX1_quotient 138 = .ok (.aload_n 0, 1) := dk_42 (dk_at dksX1_quotient_5 22 rfl rfl)
theorem dX1_quotient_139 : decode cX1_quotient 139 = .ok (.getfield 36, 3) := dk_180 0 36 (dk_at dksX1_quotient_6 0 rfl rfl)
theorem dX1_quotient_142 : decode cX1_quotient 142 = .ok (.invokevirtual 110, 3) := dk_182 0 110 (dk_at dksX1_quotient_6 3 rfl rfl)
theorem dX1_quotient_145 : decode cX1_quotient 145 = .ok (.aload_n 0, 1) := dk_42 (dk_at dksX1_quotient_6 6 rfl rfl)
theorem dX1_quotient_146 : decode cX1_quotient 146 = .ok (.getfield 36, 3) := dk_180 0 36 (dk_at dksX1_quotient_6 7 rfl rfl)
theorem dX1_quotient_149 : decode cX1_quotient 149 = .ok (.aload_n 0, 1) := dk_42 (dk_at dksX1_quotient_6 10 rfl rfl)
theorem dX1_quotient_150 : decode cX1_quotient 150 = .ok (.getfield 61, 3) := dk_180 0 61 (dk_at dksX1_quotient_6 11 rfl rfl)
theorem dX1_quotient_153 : decode cX1_quotient 153 = .ok (.invokevirtual 84, 3) := dk_182 0 84 (dk_at dksX1_quotient_6 14 rfl rfl)
theorem dX1_quotient_156 : decode cX1_quotient 156 = .ok (.pop, 1) := dk_87 (dk_at dksX1_quotient_6 17 rfl rfl)
theorem dX1_quotient_157 : decode cX1_quotient 157 = .ok (.aload_n 0, 1) := dk_42 (dk_at dksX1_quotient_6 18 rfl rfl)
theorem dX1_quotient_158 : decode cX1_quotient 158 = .ok (.getfield 49, 3) := dk_180 0 49 (dk_at dksX1_quotient_6 19 rfl rfl)
theorem dX1_quotient_161 : decode cX1_quotient 161 = .ok (.aload_n 0, 1) := dk_42 (dk_at dksX1_quotient_6 22 rfl rfl)
theorem dX1_quotient_162 : decode cX1_quotient 162 = .ok (.getfield 36, 3) := dk_180 0 36 (dk_at dksX1_quotient_7 0 rfl rfl)
theorem dX1_quotient_165 : decode cX1_quotient 165 = .ok (.aload_n 0, 1) := dk_42 (dk_at dksX1_quotient_7 3 rfl rfl)
theorem dX1_quotient_166 : decode cX1_quotient 166 = .ok (.getfield 43, 3) := dk_180 0 43 (dk_at dksX1_quotient_7 4 rfl rfl)
theorem dX1_quotient_169 : decode cX1_quotient 169 = .ok (.invokevirtual 242, 3) := dk_182 0 242 (dk_at dksX1_quotient_7 7 rfl rfl)
theorem dX1_quotient_172 : decode cX1_quotient 172 = .ok (.aload_n 0, 1) := dk_42 (dk_at dksX1_quotient_7 10 rfl rfl)
theorem dX1_quotient_173 : decode cX1_quotient 173 = .ok (.getfield 52, 3) := dk_180 0 52 (dk_at dksX1_quotient_7 11 rfl rfl)
theorem dX1_quotient_176 : decode cX1_quotient 176 = .ok (.aload_n 0, 1) := dk_42 (dk_at dksX1_quotient_7 14 rfl rfl)
theorem dX1_quotient_177 : decode cX1_quotient 177 = .ok (.getfield 40, 3) := dk_180 0 40 (dk_at dksX1_quotient_7 15 rfl rfl)
theorem dX1_quotient_180 : decode cX1_quotient 180 = .ok (.aload_n 0, 1) := dk_42 (dk_at dksX1_quotient_7 18 rfl rfl)
theorem dX1_quotient_181 : decode cX1_quotient 181 = .ok (.getfield 46, 3) := dk_180 0 46 (dk_at dksX1_quotient_7 19 rfl rfl)
theorem dX1_quotient_184 : decode cX1_quotient 184 = .ok (.invokevirtual 242, 3) := dk_182 0 242 (dk_at dksX1_quotient_8 0 rfl rfl)
theorem dX1_quotient_187 : decode cX1_quotient 187 = .ok (.aload_n 0, 1) := dk_42 (dk_at dksX1_quotient_8 3 rfl rfl)
theorem dX1_quotient_188 : decode cX1_quotient 188 = .ok (.getfield 36, 3) := dk_180 0 36 (dk_at dksX1_quotient_8 4 rfl rfl)
theorem dX1_quotient_191 : decode cX1_quotient 191 = .ok (.aload_n 0, 1) := dk_42 (dk_at dksX1_quotient_8 7 rfl rfl)
theorem dX1_quotient_192 : decode cX1_quotient 192 = .ok (.getfield 49, 3) := dk_180 0 49 (dk_at dksX1_quotient_8 8 rfl rfl)
theorem dX1_quotient_195 : decode cX1_quotient 195 = .ok (.invokevirtual 84, 3) := dk_182 0 84 (dk_at dksX1_quotient_8 11 rfl rfl)
theorem dX1_quotient_198 : decode cX1_quotient 198 = .ok (.pop, 1) := dk_87 (dk_at dksX1_quotient_8 14 rfl rfl)
theorem dX1_quotient_199 : decode cX1_quotient 199 = .ok (.aload_n 0, 1) := dk_42 (dk_at dksX1_quotient_8 15 rfl rfl)
theorem dX1_quotient_200 : decode cX1_quotient 200 = .ok (.getfield 40, 3) := dk_180 0 40 (dk_at dksX1_quotient_8 16 rfl rfl)
theorem dX1_quotient_203 : decode cX1_quotient 203 = .ok (.aload_n 0, 1) := dk_42 (dk_at dksX1_quotient_8 19 rfl rfl)
theorem dX1_quotient_204 : decode cX1_quotient 204 = .ok (.getfield 52, 3) := dk_180 0 52 (dk_at dksX1_quotient_8 20 rfl rfl)
theorem dX1_quotient_207 : decode cX1_quotient 207 = .ok (.invokevirtual 84, 3) := dk_182 0 84 (dk_at dksX1_quotient_9 0 rfl rfl)
theorem dX1_quotient_210 : decode cX1_quotient 210 = .ok (.pop, 1) := dk_87 (dk_at dksX1_quotient_9 3 rfl rfl)
theorem dX1_quotient_211 : decode cX1_quotient 211 = .ok (.aload_n 0, 1) := dk_42 (dk_at dksX1_quotient_9 4 rfl rfl)
theorem dX1_quotient_212 : decode cX1_quotient 212 = .ok (.iload_n 2, 1) := dk_28 (dk_at dksX1_quotient_9 5 rfl rfl)
theorem dX1_quotient_213 : decode cX1_quotient 213 = .ok (.iconst 5, 1) := dk_8 (dk_at dksX1_quotient_9 6 rfl rfl)
theorem dX1_quotient_214 : decode cX1_quotient 214 = .ok (.if_icmp .ne 7, 3) := dk_160 0 7 (dk_at dksX1_quotient_9 7 rfl rfl)
theorem dX1_quotient_217 : decode cX1_quotient 217 = .ok (.iload_n 1, 1) := dk_27 (dk_at dksX1_quotient_9 10 rfl rfl)
theorem dX1_quotient_218 : decode cX1_quotient 218 = .ok (.goto 4, 3) := dk_167 0 4 (dk_at dksX1_quotient_9 11 rfl rfl)
theorem dX1_quotient_221 : decode cX1_quotient 221 = .ok (.iload_n 3, 1) := dk_29 (dk_at dksX1_quotient_9 14 rfl rfl)
theorem dX1_quotient_222 : decode cX1_quotient 222 = .ok (.putfield 136, 3) := dk_181 0 136 (dk_at dksX1_quotient_9 15 rfl rfl)
theorem dX1_quotient_225 : decode cX1_quotient 225 = .ok (.return_, 1) := dk_177 (dk_at dksX1_quotient_9 18 rfl rfl)
abbrev cX1_power : ByteArray := prog_1_method_19_code
def yX1_power : MethodName := ⟨RX1, "powe\x72", "(LNumberModels$Item;LNumberModels$Item;)V"⟩
def dkwX1_power_12 : List UInt8 := [16, 8, 164, 0, 11, 187, 0, 120, 89, 183, 0, 122, 191, 132, 4, 1, 167, 255, 141, 177]
abbrev dktX1_power_12 : List UInt8 := dkwX1_power_12 ++ []
def dkwX1_power_11 : List UInt8 := [182, 0, 84, 87, 42, 180, 0, 36, 180, 0, 157, 16, 8, 163, 0, 15, 42, 180, 0, 40, 180, 0, 157]
abbrev dktX1_power_11 : List UInt8 := dkwX1_power_11 ++ dktX1_power_12
def dkwX1_power_10 : List UInt8 := [182, 0, 242, 42, 180, 0, 36, 42, 180, 0, 49, 182, 0, 84, 87, 42, 180, 0, 40, 42, 180, 0, 52]
abbrev dktX1_power_10 : List UInt8 := dkwX1_power_10 ++ dktX1_power_11
def dkwX1_power_9 : List UInt8 := [180, 0, 36, 42, 180, 0, 43, 182, 0, 242, 42, 180, 0, 52, 42, 180, 0, 40, 42, 180, 0, 46]
abbrev dktX1_power_9 : List UInt8 := dkwX1_power_9 ++ dktX1_power_10
def dkwX1_power_8 : List UInt8 := [180, 0, 43, 182, 0, 249, 153, 0, 13, 42, 180, 0, 46, 182, 0, 249, 154, 0, 95, 42, 180, 0, 49, 42]
abbrev dktX1_power_8 : List UInt8 := dkwX1_power_8 ++ dktX1_power_9
def dkwX1_power_7 : List UInt8 := [182, 0, 126, 87, 42, 180, 0, 40, 10, 182, 0, 126, 87, 3, 54, 4, 21, 4, 29, 162, 0, 115, 42]
abbrev dktX1_power_7 : List UInt8 := dkwX1_power_7 ++ dktX1_power_8
def dkwX1_power_6 : List UInt8 := [180, 0, 36, 182, 0, 84, 87, 42, 180, 0, 46, 42, 180, 0, 40, 182, 0, 84, 87, 42, 180, 0, 36, 10]
abbrev dktX1_power_6 : List UInt8 := dkwX1_power_6 ++ dktX1_power_7
def dkwX1_power_5 : List UInt8 := [29, 5, 112, 154, 0, 7, 4, 167, 0, 7, 43, 180, 0, 67, 181, 0, 136, 42, 180, 0, 43, 42]
abbrev dktX1_power_5 : List UInt8 := dkwX1_power_5 ++ dktX1_power_6
def dkwX1_power_4 : List UInt8 := [180, 0, 36, 42, 180, 0, 40, 182, 0, 84, 87, 42, 180, 0, 40, 42, 180, 0, 61, 182, 0, 84, 87, 42]
abbrev dktX1_power_4 : List UInt8 := dkwX1_power_4 ++ dktX1_power_5
def dkwX1_power_3 : List UInt8 := [158, 0, 4, 177, 44, 180, 0, 67, 156, 0, 39, 42, 180, 0, 61, 42, 180, 0, 36, 182, 0, 84, 87, 42]
abbrev dktX1_power_3 : List UInt8 := dkwX1_power_3 ++ dktX1_power_4
def dkwX1_power_2 : List UInt8 := [156, 0, 14, 43, 180, 0, 67, 154, 0, 7, 184, 0, 173, 191, 43, 180, 0, 67, 154, 0, 8, 29]
abbrev dktX1_power_2 : List UInt8 := dkwX1_power_2 ++ dktX1_power_3
def dkwX1_power_1 : List UInt8 := [157, 0, 7, 4, 167, 0, 4, 3, 184, 0, 210, 42, 180, 0, 43, 182, 0, 147, 136, 62, 44, 180, 0, 67]
abbrev dktX1_power_1 : List UInt8 := dkwX1_power_1 ++ dktX1_power_2
def dkwX1_power_0 : List UInt8 := [42, 180, 0, 43, 182, 0, 144, 16, 10, 162, 0, 21, 42, 180, 0, 43, 182, 0, 147, 20, 0, 247, 148]
abbrev dktX1_power_0 : List UInt8 := dkwX1_power_0 ++ dktX1_power_1
theorem dksX1_power_0 : cX1_power.data.toList.drop 0 = dktX1_power_0 := by decide +kernel
theorem dksX1_power_1 : cX1_power.data.toList.drop 23 = dktX1_power_1 := dk_seg dksX1_power_0 23 rfl rfl
theorem dksX1_power_2 : cX1_power.data.toList.drop 47 = dktX1_power_2 := dk_seg dksX1_power_1 24 rfl rfl
theorem dksX1_power_3 : cX1_power.data.toList.drop 69 = dktX1_power_3 := dk_seg dksX1_power_2 22 rfl rfl
theorem dksX1_power_4 : cX1_power.data.toList.drop 93 = dktX1_power_4 := dk_seg dksX1_power_3 24 rfl rfl
theorem dksX1_power_5 : cX1_power.data.toList.drop 117 = dktX1_power_5 := dk_seg dksX1_power_4 24 rfl rfl
theorem dksX1_power_6 : cX1_power.data.toList.drop 139 = dktX1_power_6 := dk_seg dksX1_power_5 22 rfl rfl
theorem dksX1_power_7 : cX1_power.data.toList.drop 163 = dktX1_power_7 := dk_seg dksX1_power_6 24 rfl rfl
theorem dksX1_power_8 : cX1_power.data.toList.drop 186 = dktX1_power_8 := dk_seg dksX1_power_7 23 rfl rfl
theorem dksX1_power_9 : cX1_power.data.toList.drop 210 = dktX1_power_9 := dk_seg dksX1_power_8 24 rfl rfl
theorem dksX1_power_10 : cX1_power.data.toList.drop 232 = dktX1_power_10 := dk_seg dksX1_power_9 22 rfl rfl
theorem dksX1_power_11 : cX1_power.data.toList.drop 255 = dktX1_power_11 := dk_seg dksX1_power_10 23 rfl rfl
theorem dksX1_power_12 : cX1_power.data.toList.drop 278 = dktX1_power_12 := dk_seg dksX1_power_11 23 rfl rfl
theorem dX1_power_0 : decode cX1_power 0 = .ok (.aload_n 0, 1) := dk_42 (dk_at dksX1_power_0 0 rfl rfl)
theorem dX1_power_1 : decode cX1_power 1 = .ok (.getfield 43, 3) := dk_180 0 43 (dk_at dksX1_power_0 1 rfl rfl)
theorem dX1_power_4 : decode cX1_power 4 = .ok (.invokevirtual 144, 3) := dk_182 0 144 (dk_at dksX1_power_0 4 rfl rfl)
theorem dX1_power_7 : decode cX1_power 7 = .ok (.bipush 10, 2) := dk_16 10 (dk_at dksX1_power_0 7 rfl rfl)
theorem dX1_power_9 : decode cX1_power 9 = .ok (.if_icmp .ge 21, 3) := dk_162 0 21 (dk_at dksX1_power_0 9 rfl rfl)
theorem dX1_power_12 : decode cX1_power 12 = .ok (.aload_n 0, 1) := dk_42 (dk_at dksX1_power_0 12 rfl rfl)
theorem dX1_power_13 : decode cX1_power 13 = .ok (.getfield 43, 3) := dk_180 0 43 (dk_at dksX1_power_0 13 rfl rfl)
theorem dX1_power_16 : decode cX1_power 16 = .ok (.invokevirtual 147, 3) := dk_182 0 147 (dk_at dksX1_power_0 16 rfl rfl)
theorem dX1_power_19 : decode cX1_power 19 = .ok (.ldc2_w 247, 3) := dk_20 0 247 (dk_at dksX1_power_0 19 rfl rfl)
theorem dX1_power_22 : decode cX1_power 22 = .ok (.lcmp, 1) := dk_148 (dk_at dksX1_power_0 22 rfl rfl)
theorem dX1_power_23 : decode cX1_power 23 = .ok (.ifCond .gt 7, 3) := dk_157 0 7 (dk_at dksX1_power_1 0 rfl rfl)
theorem dX1_power_26 : decode cX1_power 26 = .ok (.iconst 1, 1) := dk_4 (dk_at dksX1_power_1 3 rfl rfl)
theorem dX1_power_27 : decode cX1_power 27 = .ok (.goto 4, 3) := dk_167 0 4 (dk_at dksX1_power_1 4 rfl rfl)
theorem dX1_power_30 : decode cX1_power 30 = .ok (.iconst 0, 1) := dk_3 (dk_at dksX1_power_1 7 rfl rfl)
theorem dX1_power_31 : decode cX1_power 31 = .ok (.invokestatic 210, 3) := dk_184 0 210 (dk_at dksX1_power_1 8 rfl rfl)
theorem dX1_power_34 : decode cX1_power 34 = .ok (.aload_n 0, 1) := dk_42 (dk_at dksX1_power_1 11 rfl rfl)
theorem dX1_power_35 : decode cX1_power 35 = .ok (.getfield 43, 3) := dk_180 0 43 (dk_at dksX1_power_1 12 rfl rfl)
theorem dX1_power_38 : decode cX1_power 38 = .ok (.invokevirtual 147, 3) := dk_182 0 147 (dk_at dksX1_power_1 15 rfl rfl)
theorem dX1_power_41 : decode cX1_power 41 = .ok (.l2i, 1) := dk_136 (dk_at dksX1_power_1 18 rfl rfl)
theorem dX1_power_42 : decode cX1_power 42 = .ok (.istore_n 3, 1) := dk_62 (dk_at dksX1_power_1 19 rfl rfl)
theorem dX1_power_43 : decode cX1_power 43 = .ok (.aload_n 2, 1) := dk_44 (dk_at dksX1_power_1 20 rfl rfl)
theorem dX1_power_44 : decode cX1_power 44 = .ok (.getfield 67, 3) := dk_180 0 67 (dk_at dksX1_power_1 21 rfl rfl)
theorem dX1_power_47 : decode cX1_power 47 = .ok (.ifCond .ge 14, 3) := dk_156 0 14 (dk_at dksX1_power_2 0 rfl rfl)
theorem dX1_power_50 : decode cX1_power 50 = .ok (.aload_n 1, 1) := dk_43 (dk_at dksX1_power_2 3 rfl rfl)
theorem dX1_power_51 : decode cX1_power 51 = .ok (.getfield 67, 3) := dk_180 0 67 (dk_at dksX1_power_2 4 rfl rfl)
theorem dX1_power_54 : decode cX1_power 54 = .ok (.ifCond .ne 7, 3) := dk_154 0 7 (dk_at dksX1_power_2 7 rfl rfl)
theorem dX1_power_57 : decode cX1_power 57 = .ok (.invokestatic 173, 3) := dk_184 0 173 (dk_at dksX1_power_2 10 rfl rfl)
theorem dX1_power_60 : decode cX1_power 60 = .ok (.athrow, 1) := dk_191 (dk_at dksX1_power_2 13 rfl rfl)
theorem dX1_power_61 : decode cX1_power 61 = .ok (.aload_n 1, 1) := dk_43 (dk_at dksX1_power_2 14 rfl rfl)
theorem dX1_power_62 : decode cX1_power 62 = .ok (.getfield 67, 3) := dk_180 0 67 (dk_at dksX1_power_2 15 rfl rfl)
theorem dX1_power_65 : decode cX1_power 65 = .ok (.ifCond .ne 8, 3) := dk_154 0 8 (dk_at dksX1_power_2 18 rfl rfl)
theorem dX1_power_68 : decode cX1_power 68 = .ok (.iload_n 3, 1) := dk_29 (dk_at dksX1_power_2 21 rfl rfl)
theorem dX1_power_69 : decode cX1_power 69 = .ok (.ifCond .le 4, 3) := dk_158 0 4 (dk_at dksX1_power_3 0 rfl rfl)
theorem dX1_power_72 : decode cX1_power 72 = .ok (.return_, 1) := dk_177 (dk_at dksX1_power_3 3 rfl rfl)
theorem dX1_power_73 : decode cX1_power 73 = .ok (.aload_n 2, 1) := dk_44 (dk_at dksX1_power_3 4 rfl rfl)
theorem dX1_power_74 : decode cX1_power 74 = .ok (.getfield 67, 3) := dk_180 0 67 (dk_at dksX1_power_3 5 rfl rfl)
theorem dX1_power_77 : decode cX1_power 77 = .ok (.ifCond .ge 39, 3) := dk_156 0 39 (dk_at dksX1_power_3 8 rfl rfl)
theorem dX1_power_80 : decode cX1_power 80 = .ok (.aload_n 0, 1) := dk_42 (dk_at dksX1_power_3 11 rfl rfl)
theorem dX1_power_81 : decode cX1_power 81 = .ok (.getfield 61, 3) := dk_180 0 61 (dk_at dksX1_power_3 12 rfl rfl)
theorem dX1_power_84 : decode cX1_power 84 = .ok (.aload_n 0, 1) := dk_42 (dk_at dksX1_power_3 15 rfl rfl)
theorem dX1_power_85 : decode cX1_power 85 = .ok (.getfield 36, 3) := dk_180 0 36 (dk_at dksX1_power_3 16 rfl rfl)
theorem dX1_power_88 : decode cX1_power 88 = .ok (.invokevirtual 84, 3) := dk_182 0 84 (dk_at dksX1_power_3 19 rfl rfl)
theorem dX1_power_91 : decode cX1_power 91 = .ok (.pop, 1) := dk_87 (dk_at dksX1_power_3 22 rfl rfl)
theorem dX1_power_92 : decode cX1_power 92 = .ok (.aload_n 0, 1) := dk_42 (dk_at dksX1_power_3 23 rfl rfl)
theorem dX1_power_93 : decode cX1_power 93 = .ok (.getfield 36, 3) := dk_180 0 36 (dk_at dksX1_power_4 0 rfl rfl)
theorem dX1_power_96 : decode cX1_power 96 = .ok (.aload_n 0, 1) := dk_42 (dk_at dksX1_power_4 3 rfl rfl)
theorem dX1_power_97 : decode cX1_power 97 = .ok (.getfield 40, 3) := dk_180 0 40 (dk_at dksX1_power_4 4 rfl rfl)
theorem dX1_power_100 : decode cX1_power 100 = .ok (.invokevirtual 84, 3) := dk_182 0 84 (dk_at dksX1_power_4 7 rfl rfl)
theorem dX1_power_103 : decode cX1_power 103 = .ok (.pop, 1) := dk_87 (dk_at dksX1_power_4 10 rfl rfl)
theorem dX1_power_104 : decode cX1_power 104 = .ok (.aload_n 0, 1) := dk_42 (dk_at dksX1_power_4 11 rfl rfl)
theorem dX1_power_105 : decode cX1_power 105 = .ok (.getfield 40, 3) := dk_180 0 40 (dk_at dksX1_power_4 12 rfl rfl)
theorem dX1_power_108 : decode cX1_power 108 = .ok (.aload_n 0, 1) := dk_42 (dk_at dksX1_power_4 15 rfl rfl)
theorem dX1_power_109 : decode cX1_power 109 = .ok (.getfield 61, 3) := dk_180 0 61 (dk_at dksX1_power_4 16 rfl rfl)
theorem dX1_power_112 : decode cX1_power 112 = .ok (.invokevirtual 84, 3) := dk_182 0 84 (dk_at dksX1_power_4 19 rfl rfl)
theorem dX1_power_115 : decode cX1_power 115 = .ok (.pop, 1) := dk_87 (dk_at dksX1_power_4 22 rfl rfl)
theorem dX1_power_116 : decode cX1_power 116 = .ok (.aload_n 0, 1) := dk_42 (dk_at dksX1_power_4 23 rfl rfl)
theorem dX1_power_117 : decode cX1_power 117 = .ok (.iload_n 3, 1) := dk_29 (dk_at dksX1_power_5 0 rfl rfl)
theorem dX1_power_118 : decode cX1_power 118 = .ok (.iconst 2, 1) := dk_5 (dk_at dksX1_power_5 1 rfl rfl)
theorem dX1_power_119 : decode cX1_power 119 = .ok (.irem, 1) := dk_112 (dk_at dksX1_power_5 2 rfl rfl)
theorem dX1_power_120 : decode cX1_power 120 = .ok (.ifCond .ne 7, 3) := dk_154 0 7 (dk_at dksX1_power_5 3 rfl rfl)
theorem dX1_power_123 : decode cX1_power 123 = .ok (.iconst 1, 1) := dk_4 (dk_at dksX1_power_5 6 rfl rfl)
theorem dX1_power_124 : decode cX1_power 124 = .ok (.goto 7, 3) := dk_167 0 7 (dk_at dksX1_power_5 7 rfl rfl)
theorem dX1_power_127 : decode cX1_power 127 = .ok (.aload_n 1, 1) := dk_43 (dk_at dksX1_power_5 10 rfl rfl)
theorem dX1_power_128 : decode cX1_power 128 = .ok (.getfield 67, 3) := dk_180 0 67 (dk_at dksX1_power_5 11 rfl rfl)
theorem dX1_power_131 : decode cX1_power 131 = .ok (.putfield 136, 3) := dk_181 0 136 (dk_at dksX1_power_5 14 rfl rfl)
theorem dX1_power_134 : decode cX1_power 134 = .ok (.aload_n 0, 1) := dk_42 (dk_at dksX1_power_5 17 rfl rfl)
theorem dX1_power_135 : decode cX1_power 135 = .ok (.getfield 43, 3) := dk_180 0 43 (dk_at dksX1_power_5 18 rfl rfl)
theorem dX1_power_138 : decode cX1_power 138 = .ok (.aload_n 0, 1) := dk_42 (dk_at dksX1_power_5 21 rfl rfl)
theorem dX1_power_139 : decode cX1_power 139 = .ok (.getfield 36, 3) := dk_180 0 36 (dk_at dksX1_power_6 0 rfl rfl)
theorem dX1_power_142 : decode cX1_power 142 = .ok (.invokevirtual 84, 3) := dk_182 0 84 (dk_at dksX1_power_6 3 rfl rfl)
theorem dX1_power_145 : decode cX1_power 145 = .ok (.pop, 1) := dk_87 (dk_at dksX1_power_6 6 rfl rfl)
theorem dX1_power_146 : decode cX1_power 146 = .ok (.aload_n 0, 1) := dk_42 (dk_at dksX1_power_6 7 rfl rfl)
theorem dX1_power_147 : decode cX1_power 147 = .ok (.getfield 46, 3) := dk_180 0 46 (dk_at dksX1_power_6 8 rfl rfl)
theorem dX1_power_150 : decode cX1_power 150 = .ok (.aload_n 0, 1) := dk_42 (dk_at dksX1_power_6 11 rfl rfl)
theorem dX1_power_151 : decode cX1_power 151 = .ok (.getfield 40, 3) := dk_180 0 40 (dk_at dksX1_power_6 12 rfl rfl)
theorem dX1_power_154 : decode cX1_power 154 = .ok (.invokevirtual 84, 3) := dk_182 0 84 (dk_at dksX1_power_6 15 rfl rfl)
theorem dX1_power_157 : decode cX1_power 157 = .ok (.pop, 1) := dk_87 (dk_at dksX1_power_6 18 rfl rfl)
theorem dX1_power_158 : decode cX1_power 158 = .ok (.aload_n 0, 1) := dk_42 (dk_at dksX1_power_6 19 rfl rfl)
theorem dX1_power_159 : decode cX1_power 159 = .ok (.getfield 36, 3) := dk_180 0 36 (dk_at dksX1_power_6 20 rfl rfl)
theorem dX1_power_162 : decode cX1_power 162 = .ok (.lconst 1, 1) := dk_10 (dk_at dksX1_power_6 23 rfl rfl)
theorem dX1_power_163 : decode cX1_power 163 = .ok (.invokevirtual 126, 3) := dk_182 0 126 (dk_at dksX1_power_7 0 rfl rfl)
theorem dX1_power_166 : decode cX1_power 166 = .ok (.pop, 1) := dk_87 (dk_at dksX1_power_7 3 rfl rfl)
theorem dX1_power_167 : decode cX1_power 167 = .ok (.aload_n 0, 1) := dk_42 (dk_at dksX1_power_7 4 rfl rfl)
theorem dX1_power_168 : decode cX1_power 168 = .ok (.getfield 40, 3) := dk_180 0 40 (dk_at dksX1_power_7 5 rfl rfl)
theorem dX1_power_171 : decode cX1_power 171 = .ok (.lconst 1, 1) := dk_10 (dk_at dksX1_power_7 8 rfl rfl)
theorem dX1_power_172 : decode cX1_power 172 = .ok (.invokevirtual 126, 3) := dk_182 0 126 (dk_at dksX1_power_7 9 rfl rfl)
theorem dX1_power_175 : decode cX1_power 175 = .ok (.pop, 1) := dk_87 (dk_at dksX1_power_7 12 rfl rfl)
theorem dX1_power_176 : decode cX1_power 176 = .ok (.iconst 0, 1) := dk_3 (dk_at dksX1_power_7 13 rfl rfl)
theorem dX1_power_177 : decode cX1_power 177 = .ok (.istore 4, 2) := dk_54 4 (dk_at dksX1_power_7 14 rfl rfl)
theorem dX1_power_179 : decode cX1_power 179 = .ok (.iload 4, 2) := dk_21 4 (dk_at dksX1_power_7 16 rfl rfl)
theorem dX1_power_181 : decode cX1_power 181 = .ok (.iload_n 3, 1) := dk_29 (dk_at dksX1_power_7 18 rfl rfl)
theorem dX1_power_182 : decode cX1_power 182 = .ok (.if_icmp .ge 115, 3) := dk_162 0 115 (dk_at dksX1_power_7 19 rfl rfl)
theorem dX1_power_185 : decode cX1_power 185 = .ok (.aload_n 0, 1) := dk_42 (dk_at dksX1_power_7 22 rfl rfl)
theorem dX1_power_186 : decode cX1_power 186 = .ok (.getfield 43, 3) := dk_180 0 43 (dk_at dksX1_power_8 0 rfl rfl)
theorem dX1_power_189 : decode cX1_power 189 = .ok (.invokevirtual 249, 3) := dk_182 0 249 (dk_at dksX1_power_8 3 rfl rfl)
theorem dX1_power_192 : decode cX1_power 192 = .ok (.ifCond .eq 13, 3) := dk_153 0 13 (dk_at dksX1_power_8 6 rfl rfl)
theorem dX1_power_195 : decode cX1_power 195 = .ok (.aload_n 0, 1) := dk_42 (dk_at dksX1_power_8 9 rfl rfl)
theorem dX1_power_196 : decode cX1_power 196 = .ok (.getfield 46, 3) := dk_180 0 46 (dk_at dksX1_power_8 10 rfl rfl)
theorem dX1_power_199 : decode cX1_power 199 = .ok (.invokevirtual 249, 3) := dk_182 0 249 (dk_at dksX1_power_8 13 rfl rfl)
theorem dX1_power_202 : decode cX1_power 202 = .ok (.ifCond .ne 95, 3) := dk_154 0 95 (dk_at dksX1_power_8 16 rfl rfl)
theorem dX1_power_205 : decode cX1_power 205 = .ok (.aload_n 0, 1) := dk_42 (dk_at dksX1_power_8 19 rfl rfl)
theorem dX1_power_206 : decode cX1_power 206 = .ok (.getfield 49, 3) := dk_180 0 49 (dk_at dksX1_power_8 20 rfl rfl)
theorem dX1_power_209 : decode cX1_power 209 = .ok (.aload_n 0, 1) := dk_42 (dk_at dksX1_power_8 23 rfl rfl)
theorem dX1_power_210 : decode cX1_power 210 = .ok (.getfield 36, 3) := dk_180 0 36 (dk_at dksX1_power_9 0 rfl rfl)
theorem dX1_power_213 : decode cX1_power 213 = .ok (.aload_n 0, 1) := dk_42 (dk_at dksX1_power_9 3 rfl rfl)
theorem dX1_power_214 : decode cX1_power 214 = .ok (.getfield 43, 3) := dk_180 0 43 (dk_at dksX1_power_9 4 rfl rfl)
theorem dX1_power_217 : decode cX1_power 217 = .ok (.invokevirtual 242, 3) := dk_182 0 242 (dk_at dksX1_power_9 7 rfl rfl)
theorem dX1_power_220 : decode cX1_power 220 = .ok (.aload_n 0, 1) := dk_42 (dk_at dksX1_power_9 10 rfl rfl)
theorem dX1_power_221 : decode cX1_power 221 = .ok (.getfield 52, 3) := dk_180 0 52 (dk_at dksX1_power_9 11 rfl rfl)
theorem dX1_power_224 : decode cX1_power 224 = .ok (.aload_n 0, 1) := dk_42 (dk_at dksX1_power_9 14 rfl rfl)
theorem dX1_power_225 : decode cX1_power 225 = .ok (.getfield 40, 3) := dk_180 0 40 (dk_at dksX1_power_9 15 rfl rfl)
theorem dX1_power_228 : decode cX1_power 228 = .ok (.aload_n 0, 1) := dk_42 (dk_at dksX1_power_9 18 rfl rfl)
theorem dX1_power_229 : decode cX1_power 229 = .ok (.getfield 46, 3) := dk_180 0 46 (dk_at dksX1_power_9 19 rfl rfl)
theorem dX1_power_232 : decode cX1_power 232 = .ok (.invokevirtual 242, 3) := dk_182 0 242 (dk_at dksX1_power_10 0 rfl rfl)
theorem dX1_power_235 : decode cX1_power 235 = .ok (.aload_n 0, 1) := dk_42 (dk_at dksX1_power_10 3 rfl rfl)
theorem dX1_power_236 : decode cX1_power 236 = .ok (.getfield 36, 3) := dk_180 0 36 (dk_at dksX1_power_10 4 rfl rfl)
theorem dX1_power_239 : decode cX1_power 239 = .ok (.aload_n 0, 1) := dk_42 (dk_at dksX1_power_10 7 rfl rfl)
theorem dX1_power_240 : decode cX1_power 240 = .ok (.getfield 49, 3) := dk_180 0 49 (dk_at dksX1_power_10 8 rfl rfl)
theorem dX1_power_243 : decode cX1_power 243 = .ok (.invokevirtual 84, 3) := dk_182 0 84 (dk_at dksX1_power_10 11 rfl rfl)
theorem dX1_power_246 : decode cX1_power 246 = .ok (.pop, 1) := dk_87 (dk_at dksX1_power_10 14 rfl rfl)
theorem dX1_power_247 : decode cX1_power 247 = .ok (.aload_n 0, 1) := dk_42 (dk_at dksX1_power_10 15 rfl rfl)
theorem dX1_power_248 : decode cX1_power 248 = .ok (.getfield 40, 3) := dk_180 0 40 (dk_at dksX1_power_10 16 rfl rfl)
theorem dX1_power_251 : decode cX1_power 251 = .ok (.aload_n 0, 1) := dk_42 (dk_at dksX1_power_10 19 rfl rfl)
theorem dX1_power_252 : decode cX1_power 252 = .ok (.getfield 52, 3) := dk_180 0 52 (dk_at dksX1_power_10 20 rfl rfl)
theorem dX1_power_255 : decode cX1_power 255 = .ok (.invokevirtual 84, 3) := dk_182 0 84 (dk_at dksX1_power_11 0 rfl rfl)
theorem dX1_power_258 : decode cX1_power 258 = .ok (.pop, 1) := dk_87 (dk_at dksX1_power_11 3 rfl rfl)
theorem dX1_power_259 : decode cX1_power 259 = .ok (.aload_n 0, 1) := dk_42 (dk_at dksX1_power_11 4 rfl rfl)
theorem dX1_power_260 : decode cX1_power 260 = .ok (.getfield 36, 3) := dk_180 0 36 (dk_at dksX1_power_11 5 rfl rfl)
theorem dX1_power_263 : decode cX1_power 263 = .ok (.getfield 157, 3) := dk_180 0 157 (dk_at dksX1_power_11 8 rfl rfl)
theorem dX1_power_266 : decode cX1_power 266 = .ok (.bipush 8, 2) := dk_16 8 (dk_at dksX1_power_11 11 rfl rfl)
theorem dX1_power_268 : decode cX1_power 268 = .ok (.if_icmp .gt 15, 3) := dk_163 0 15 (dk_at dksX1_power_11 13 rfl rfl)
theorem dX1_power_271 : decode cX1_power 271 = .ok (.aload_n 0, 1) := dk_42 (dk_at dksX1_power_11 16 rfl rfl)
theorem dX1_power_272 : decode cX1_power 272 = .ok (.getfield 40, 3) := dk_180 0 40 (dk_at dksX1_power_11 17 rfl rfl)
theorem dX1_power_275 : decode cX1_power 275 = .ok (.getfield 157, 3) := dk_180 0 157 (dk_at dksX1_power_11 20 rfl rfl)
theorem dX1_power_278 : decode cX1_power 278 = .ok (.bipush 8, 2) := dk_16 8 (dk_at dksX1_power_12 0 rfl rfl)
theorem dX1_power_280 : decode cX1_power 280 = .ok (.if_icmp .le 11, 3) := dk_164 0 11 (dk_at dksX1_power_12 2 rfl rfl)
theorem dX1_power_283 : decode cX1_power 283 = .ok (.new 120, 3) := dk_187 0 120 (dk_at dksX1_power_12 5 rfl rfl)
theorem dX1_power_286 : decode cX1_power 286 = .ok (.dup, 1) := dk_89 (dk_at dksX1_power_12 8 rfl rfl)
theorem dX1_power_287 : decode cX1_power 287 = .ok (.invokespecial 122, 3) := dk_183 0 122 (dk_at dksX1_power_12 9 rfl rfl)
theorem dX1_power_290 : decode cX1_power 290 = .ok (.athrow, 1) := dk_191 (dk_at dksX1_power_12 12 rfl rfl)
theorem dX1_power_291 : decode cX1_power 291 = .ok (.iinc 4 1, 3) := dk_132 4 1 (dk_at dksX1_power_12 13 rfl rfl)
theorem dX1_power_294 : decode cX1_power 294 = .ok (.goto (-115), 3) := dk_167 255 141 (dk_at dksX1_power_12 16 rfl rfl)
theorem dX1_power_297 : decode cX1_power 297 = .ok (.return_, 1) := dk_177 (dk_at dksX1_power_12 19 rfl rfl)
abbrev cX1_shift : ByteArray := prog_1_method_20_code
def yX1_shift : MethodName := ⟨RX1, "shift", "(LNumberModels$Item;)V"⟩
def dkwX1_shift_2 : List UInt8 := [158, 0, 14, 42, 180, 0, 36, 28, 182, 0, 114, 167, 0, 11, 42, 180, 0, 40, 28, 182, 0, 114, 177]
abbrev dktX1_shift_2 : List UInt8 := dkwX1_shift_2 ++ []
def dkwX1_shift_1 : List UInt8 := [157, 0, 7, 4, 167, 0, 4, 3, 184, 0, 210, 42, 180, 0, 43, 182, 0, 147, 136, 61, 43, 180, 0, 67]
abbrev dktX1_shift_1 : List UInt8 := dkwX1_shift_1 ++ dktX1_shift_2
def dkwX1_shift_0 : List UInt8 := [42, 180, 0, 43, 182, 0, 144, 16, 11, 162, 0, 21, 42, 180, 0, 43, 182, 0, 147, 20, 0, 252, 148]
abbrev dktX1_shift_0 : List UInt8 := dkwX1_shift_0 ++ dktX1_shift_1
theorem dksX1_shift_0 : cX1_shift.data.toList.drop 0 = dktX1_shift_0 := by decide +kernel
theorem dksX1_shift_1 : cX1_shift.data.toList.drop 23 = dktX1_shift_1 := dk_seg dksX1_shift_0 23 rfl rfl
theorem dksX1_shift_2 : cX1_shift.data.toList.drop 47 = dktX1_shift_2 := dk_seg dksX1_shift_1 24 rfl rfl
theorem dX1_shift_0 : decode cX1_shift 0 = .ok (.aload_n 0, 1) := dk_42 (dk_at dksX1_shift_0 0 rfl rfl)
theorem dX1_shift_1 : decode cX1_shift 1 = .ok (.getfield 43, 3) := dk_180 0 43 (dk_at dksX1_shift_0 1 rfl rfl)
theorem dX1_shift_4 : decode cX1_shift 4 = .ok (.invokevirtual 144, 3) := dk_182 0 144 (dk_at dksX1_shift_0 4 rfl rfl)
theorem dX1_shift_7 : decode cX1_shift 7 = .ok (.bipush 11, 2) := dk_16 11 (dk_at dksX1_shift_0 7 rfl rfl)
theorem dX1_shift_9 : decode cX1_shift 9 = .ok (.if_icmp .ge 21, 3) := dk_162 0 21 (dk_at dksX1_shift_0 9 rfl rfl)
theorem dX1_shift_12 : decode cX1_shift 12 = .ok (.aload_n 0, 1) := dk_42 (dk_at dksX1_shift_0 12 rfl rfl)
theorem dX1_shift_13 : decode cX1_shift 13 = .ok (.getfield 43, 3) := dk_180 0 43 (dk_at dksX1_shift_0 13 rfl rfl)
theorem dX1_shift_16 : decode cX1_shift 16 = .ok (.invokevirtual 147, 3) := dk_182 0 147 (dk_at dksX1_shift_0 16 rfl rfl)
theorem dX1_shift_19 : decode cX1_shift 19 = .ok (.ldc2_w 252, 3) := dk_20 0 252 (dk_at dksX1_shift_0 19 rfl rfl)
theorem dX1_shift_22 : decode cX1_shift 22 = .ok (.lcmp, 1) := dk_148 (dk_at dksX1_shift_0 22 rfl rfl)
theorem dX1_shift_23 : decode cX1_shift 23 = .ok (.ifCond .gt 7, 3) := dk_157 0 7 (dk_at dksX1_shift_1 0 rfl rfl)
theorem dX1_shift_26 : decode cX1_shift 26 = .ok (.iconst 1, 1) := dk_4 (dk_at dksX1_shift_1 3 rfl rfl)
theorem dX1_shift_27 : decode cX1_shift 27 = .ok (.goto 4, 3) := dk_167 0 4 (dk_at dksX1_shift_1 4 rfl rfl)
theorem dX1_shift_30 : decode cX1_shift 30 = .ok (.iconst 0, 1) := dk_3 (dk_at dksX1_shift_1 7 rfl rfl)
theorem dX1_shift_31 : decode cX1_shift 31 = .ok (.invokestatic 210, 3) := dk_184 0 210 (dk_at dksX1_shift_1 8 rfl rfl)
theorem dX1_shift_34 : decode cX1_shift 34 = .ok (.aload_n 0, 1) := dk_42 (dk_at dksX1_shift_1 11 rfl rfl)
theorem dX1_shift_35 : decode cX1_shift 35 = .ok (.getfield 43, 3) := dk_180 0 43 (dk_at dksX1_shift_1 12 rfl rfl)
theorem dX1_shift_38 : decode cX1_shift 38 = .ok (.invokevirtual 147, 3) := dk_182 0 147 (dk_at dksX1_shift_1 15 rfl rfl)
theorem dX1_shift_41 : decode cX1_shift 41 = .ok (.l2i, 1) := dk_136 (dk_at dksX1_shift_1 18 rfl rfl)
theorem dX1_shift_42 : decode cX1_shift 42 = .ok (.istore_n 2, 1) := dk_61 (dk_at dksX1_shift_1 19 rfl rfl)
theorem dX1_shift_43 : decode cX1_shift 43 = .ok (.aload_n 1, 1) := dk_43 (dk_at dksX1_shift_1 20 rfl rfl)
theorem dX1_shift_44 : decode cX1_shift 44 = .ok (.getfield 67, 3) := dk_180 0 67 (dk_at dksX1_shift_1 21 rfl rfl)
theorem dX1_shift_47 : decode cX1_shift 47 = .ok (.ifCond .le 14, 3) := dk_158 0 14 (dk_at dksX1_shift_2 0 rfl rfl)
theorem dX1_shift_50 : decode cX1_shift 50 = .ok (.aload_n 0, 1) := dk_42 (dk_at dksX1_shift_2 3 rfl rfl)
theorem dX1_shift_51 : decode cX1_shift 51 = .ok (.getfield 36, 3) := dk_180 0 36 (dk_at dksX1_shift_2 4 rfl rfl)
theorem dX1_shift_54 : decode cX1_shift 54 = .ok (.iload_n 2, 1) := dk_28 (dk_at dksX1_shift_2 7 rfl rfl)
theorem dX1_shift_55 : decode cX1_shift 55 = .ok (.invokevirtual 114, 3) := dk_182 0 114 (dk_at dksX1_shift_2 8 rfl rfl)
theorem dX1_shift_58 : decode cX1_shift 58 = .ok (.goto 11, 3) := dk_167 0 11 (dk_at dksX1_shift_2 11 rfl rfl)
theorem dX1_shift_61 : decode cX1_shift 61 = .ok (.aload_n 0, 1) := dk_42 (dk_at dksX1_shift_2 14 rfl rfl)
theorem dX1_shift_62 : decode cX1_shift 62 = .ok (.getfield 40, 3) := dk_180 0 40 (dk_at dksX1_shift_2 15 rfl rfl)
theorem dX1_shift_65 : decode cX1_shift 65 = .ok (.iload_n 2, 1) := dk_28 (dk_at dksX1_shift_2 18 rfl rfl)
theorem dX1_shift_66 : decode cX1_shift 66 = .ok (.invokevirtual 114, 3) := dk_182 0 114 (dk_at dksX1_shift_2 19 rfl rfl)
theorem dX1_shift_69 : decode cX1_shift 69 = .ok (.return_, 1) := dk_177 (dk_at dksX1_shift_2 22 rfl rfl)
abbrev cX1_compare : ByteArray := prog_1_method_21_code
def yX1_compare : MethodName := ⟨RX1, "compare", "(LNumberModels$Item;LNumberModels$Item;)I"⟩
def dkwX1_compare_5 : List UInt8 := [180, 0, 67, 158, 0, 7, 4, 167, 0, 4, 3, 160, 0, 7, 2, 167, 0, 4, 4, 172]
abbrev dktX1_compare_5 : List UInt8 := dkwX1_compare_5 ++ []
def dkwX1_compare_4 : List UInt8 := [182, 0, 106, 62, 29, 154, 0, 7, 3, 167, 0, 32, 29, 156, 0, 7, 4, 167, 0, 4, 3, 43]
abbrev dktX1_compare_4 : List UInt8 := dkwX1_compare_4 ++ dktX1_compare_5
def dkwX1_compare_3 : List UInt8 := [180, 0, 52, 42, 180, 0, 43, 42, 180, 0, 40, 182, 0, 242, 42, 180, 0, 49, 42, 180, 0, 52]
abbrev dktX1_compare_3 : List UInt8 := dkwX1_compare_3 ++ dktX1_compare_4
def dkwX1_compare_2 : List UInt8 := [180, 0, 46, 182, 0, 214, 42, 180, 0, 49, 42, 180, 0, 36, 42, 180, 0, 46, 182, 0, 242, 42]
abbrev dktX1_compare_2 : List UInt8 := dkwX1_compare_2 ++ dktX1_compare_3
def dkwX1_compare_1 : List UInt8 := [167, 0, 4, 4, 172, 43, 42, 180, 0, 36, 42, 180, 0, 40, 182, 0, 214, 44, 42, 180, 0, 43, 42]
abbrev dktX1_compare_1 : List UInt8 := dkwX1_compare_1 ++ dktX1_compare_2
def dkwX1_compare_0 : List UInt8 := [43, 180, 0, 67, 44, 180, 0, 67, 159, 0, 20, 43, 180, 0, 67, 44, 180, 0, 67, 162, 0, 7, 2]
abbrev dktX1_compare_0 : List UInt8 := dkwX1_compare_0 ++ dktX1_compare_1
theorem dksX1_compare_0 : cX1_compare.data.toList.drop 0 = dktX1_compare_0 := by decide +kernel
theorem dksX1_compare_1 : cX1_compare.data.toList.drop 23 = dktX1_compare_1 := dk_seg dksX1_compare_0 23 rfl rfl
theorem dksX1_compare_2 : cX1_compare.data.toList.drop 46 = dktX1_compare_2 := dk_seg dksX1_compare_1 23 rfl rfl
theorem dksX1_compare_3 : cX1_compare.data.toList.drop 68 = dktX1_compare_3 := dk_seg dksX1_compare_2 22 rfl rfl
theorem dksX1_compare_4 : cX1_compare.data.toList.drop 90 = dktX1_compare_4 := dk_seg dksX1_compare_3 22 rfl rfl
theorem dksX1_compare_5 : cX1_compare.data.toList.drop 112 = dktX1_compare_5 := dk_seg dksX1_compare_4 22 rfl rfl
theorem dX1_compare_0 : decode cX1_compare 0 = .ok (.aload_n 1, 1) := dk_43 (dk_at dksX1_compare_0 0 rfl rfl)
theorem dX1_compare_1 : decode cX1_compare 1 = .ok (.getfield 67, 3) := dk_180 0 67 (dk_at dksX1_compare_0 1 rfl rfl)
theorem dX1_compare_4 : decode cX1_compare 4 = .ok (.aload_n 2, 1) := dk_44 (dk_at dksX1_compare_0 4 rfl rfl)
theorem dX1_compare_5 : decode cX1_compare 5 = .ok (.getfield 67, 3) := dk_180 0 67 (dk_at dksX1_compare_0 5 rfl rfl)
theorem dX1_compare_8 : decode cX1_compare 8 = .ok (.if_icmp .eq 20, 3) := dk_159 0 20 (dk_at dksX1_compare_0 8 rfl rfl)
theorem dX1_compare_11 : decode cX1_compare 11 = .ok (.aload_n 1, 1) := dk_43 (dk_at dksX1_compare_0 11 rfl rfl)
theorem dX1_compare_12 : decode cX1_compare 12 = .ok (.getfield 67, 3) := dk_180 0 67 (dk_at dksX1_compare_0 12 rfl rfl)
theorem dX1_compare_15 : decode cX1_compare 15 = .ok (.aload_n 2, 1) := dk_44 (dk_at dksX1_compare_0 15 rfl rfl)
theorem dX1_compare_16 : decode cX1_compare 16 = .ok (.getfield 67, 3) := dk_180 0 67 (dk_at dksX1_compare_0 16 rfl rfl)
theorem dX1_compare_19 : decode cX1_compare 19 = .ok (.if_icmp .ge 7, 3) := dk_162 0 7 (dk_at dksX1_compare_0 19 rfl rfl)
theorem dX1_compare_22 : decode cX1_compare 22 = .ok (.iconst (-1), 1) := dk_2 (dk_at dksX1_compare_0 22 rfl rfl)
theorem dX1_compare_23 : decode cX1_compare 23 = .ok (.goto 4, 3) := dk_167 0 4 (dk_at dksX1_compare_1 0 rfl rfl)
theorem dX1_compare_26 : decode cX1_compare 26 = .ok (.iconst 1, 1) := dk_4 (dk_at dksX1_compare_1 3 rfl rfl)
theorem dX1_compare_27 : decode cX1_compare 27 = .ok (.ireturn, 1) := dk_172 (dk_at dksX1_compare_1 4 rfl rfl)
theorem dX1_compare_28 : decode cX1_compare 28 = .ok (.aload_n 1, 1) := dk_43 (dk_at dksX1_compare_1 5 rfl rfl)
theorem dX1_compare_29 : decode cX1_compare 29 = .ok (.aload_n 0, 1) := dk_42 (dk_at dksX1_compare_1 6 rfl rfl)
theorem dX1_compare_30 : decode cX1_compare 30 = .ok (.getfield 36, 3) := dk_180 0 36 (dk_at dksX1_compare_1 7 rfl rfl)
theorem dX1_compare_33 : decode cX1_compare 33 = .ok (.aload_n 0, 1) := dk_42 (dk_at dksX1_compare_1 10 rfl rfl)
theorem dX1_compare_34 : decode cX1_compare 34 = .ok (.getfield 40, 3) := dk_180 0 40 (dk_at dksX1_compare_1 11 rfl rfl)
theorem dX1_compare_37 : decode cX1_compare 37 = .ok (.invokevirtual 214, 3) := dk_182 0 214 (dk_at dksX1_compare_1 14 rfl rfl)
theorem dX1_compare_40 : decode cX1_compare 40 = .ok (.aload_n 2, 1) := dk_44 (dk_at dksX1_compare_1 17 rfl rfl)
theorem dX1_compare_41 : decode cX1_compare 41 = .ok (.aload_n 0, 1) := dk_42 (dk_at dksX1_compare_1 18 rfl rfl)
theorem dX1_compare_42 : decode cX1_compare 42 = .ok (.getfield 43, 3) := dk_180 0 43 (dk_at dksX1_compare_1 19 rfl rfl)
theorem dX1_compare_45 : decode cX1_compare 45 = .ok (.aload_n 0, 1) := dk_42 (dk_at dksX1_compare_1 22 rfl rfl)
theorem dX1_compare_46 : decode cX1_compare 46 = .ok (.getfield 46, 3) := dk_180 0 46 (dk_at dksX1_compare_2 0 rfl rfl)
theorem dX1_compare_49 : decode cX1_compare 49 = .ok (.invokevirtual 214, 3) := dk_182 0 214 (dk_at dksX1_compare_2 3 rfl rfl)
theorem dX1_compare_52 : decode cX1_compare 52 = .ok (.aload_n 0, 1) := dk_42 (dk_at dksX1_compare_2 6 rfl rfl)
theorem dX1_compare_53 : decode cX1_compare 53 = .ok (.getfield 49, 3) := dk_180 0 49 (dk_at dksX1_compare_2 7 rfl rfl)
theorem dX1_compare_56 : decode cX1_compare 56 = .ok (.aload_n 0, 1) := dk_42 (dk_at dksX1_compare_2 10 rfl rfl)
theorem dX1_compare_57 : decode cX1_compare 57 = .ok (.getfield 36, 3) := dk_180 0 36 (dk_at dksX1_compare_2 11 rfl rfl)
theorem dX1_compare_60 : decode cX1_compare 60 = .ok (.aload_n 0, 1) := dk_42 (dk_at dksX1_compare_2 14 rfl rfl)
theorem dX1_compare_61 : decode cX1_compare 61 = .ok (.getfield 46, 3) := dk_180 0 46 (dk_at dksX1_compare_2 15 rfl rfl)
theorem dX1_compare_64 : decode cX1_compare 64 = .ok (.invokevirtual 242, 3) := dk_182 0 242 (dk_at dksX1_compare_2 18 rfl rfl)
theorem dX1_compare_67 : decode cX1_compare 67 = .ok (.aload_n 0, 1) := dk_42 (dk_at dksX1_compare_2 21 rfl rfl)
theorem dX1_compare_68 : decode cX1_compare 68 = .ok (.getfield 52, 3) := dk_180 0 52 (dk_at dksX1_compare_3 0 rfl rfl)
theorem dX1_compare_71 : decode cX1_compare 71 = .ok (.aload_n 0, 1) := dk_42 (dk_at dksX1_compare_3 3 rfl rfl)
theorem dX1_compare_72 : decode cX1_compare 72 = .ok (.getfield 43, 3) := dk_180 0 43 (dk_at dksX1_compare_3 4 rfl rfl)
theorem dX1_compare_75 : decode cX1_compare 75 = .ok (.aload_n 0, 1) := dk_42 (dk_at dksX1_compare_3 7 rfl rfl)
theorem dX1_compare_76 : decode cX1_compare 76 = .ok (.getfield 40, 3) := dk_180 0 40 (dk_at dksX1_compare_3 8 rfl rfl)
theorem dX1_compare_79 : decode cX1_compare 79 = .ok (.invokevirtual 242, 3) := dk_182 0 242 (dk_at dksX1_compare_3 11 rfl rfl)
theorem dX1_compare_82 : decode cX1_compare 82 = .ok (.aload_n 0, 1) := dk_42 (dk_at dksX1_compare_3 14 rfl rfl)
theorem dX1_compare_83 : decode cX1_compare 83 = .ok (.getfield 49, 3) := dk_180 0 49 (dk_at dksX1_compare_3 15 rfl rfl)
theorem dX1_compare_86 : decode cX1_compare 86 = .ok (.aload_n 0, 1) := dk_42 (dk_at dksX1_compare_3 18 rfl rfl)
theorem dX1_compare_87 : decode cX1_compare 87 = .ok (.getfield 52, 3) := dk_180 0 52 (dk_at dksX1_compare_3 19 rfl rfl)
theorem dX1_compare_90 : decode cX1_compare 90 = .ok (.invokevirtual 106, 3) := dk_182 0 106 (dk_at dksX1_compare_4 0 rfl rfl)
theorem dX1_compare_93 : decode cX1_compare 93 = .ok (.istore_n 3, 1) := dk_62 (dk_at dksX1_compare_4 3 rfl rfl)
theorem dX1_compare_94 : decode cX1_compare 94 = .ok (.iload_n 3, 1) := dk_29 (dk_at dksX1_compare_4 4 rfl rfl)
theorem dX1_compare_95 : decode cX1_compare 95 = .ok (.ifCond .ne 7, 3) := dk_154 0 7 (dk_at dksX1_compare_4 5 rfl rfl)
theorem dX1_compare_98 : decode cX1_compare 98 = .ok (.iconst 0, 1) := dk_3 (dk_at dksX1_compare_4 8 rfl rfl)
theorem dX1_compare_99 : decode cX1_compare 99 = .ok (.goto 32, 3) := dk_167 0 32 (dk_at dksX1_compare_4 9 rfl rfl)
theorem dX1_compare_102 : decode cX1_compare 102 = .ok (.iload_n 3, 1) := dk_29 (dk_at dksX1_compare_4 12 rfl rfl)
theorem dX1_compare_103 : decode cX1_compare 103 = .ok (.ifCond .ge 7, 3) := dk_156 0 7 (dk_at dksX1_compare_4 13 rfl rfl)
theorem dX1_compare_106 : decode cX1_compare 106 = .ok (.iconst 1, 1) := dk_4 (dk_at dksX1_compare_4 16 rfl rfl)
theorem dX1_compare_107 : decode cX1_compare 107 = .ok (.goto 4, 3) := dk_167 0 4 (dk_at dksX1_compare_4 17 rfl rfl)
theorem dX1_compare_110 : decode cX1_compare 110 = .ok (.iconst 0, 1) := dk_3 (dk_at dksX1_compare_4 20 rfl rfl)
theorem dX1_compare_111 : decode cX1_compare 111 = .ok (.aload_n 1, 1) := dk_43 (dk_at dksX1_compare_4 21 rfl rfl)
theorem dX1_compare_112 : decode cX1_compare 112 = .ok (.getfield 67, 3) := dk_180 0 67 (dk_at dksX1_compare_5 0 rfl rfl)
theorem dX1_compare_115 : decode cX1_compare 115 = .ok (.ifCond .le 7, 3) := dk_158 0 7 (dk_at dksX1_compare_5 3 rfl rfl)
theorem dX1_compare_118 : decode cX1_compare 118 = .ok (.iconst 1, 1) := dk_4 (dk_at dksX1_compare_5 6 rfl rfl)
theorem dX1_compare_119 : decode cX1_compare 119 = .ok (.goto 4, 3) := dk_167 0 4 (dk_at dksX1_compare_5 7 rfl rfl)
theorem dX1_compare_122 : decode cX1_compare 122 = .ok (.iconst 0, 1) := dk_3 (dk_at dksX1_compare_5 10 rfl rfl)
theorem dX1_compare_123 : decode cX1_compare 123 = .ok (.if_icmp .ne 7, 3) := dk_160 0 7 (dk_at dksX1_compare_5 11 rfl rfl)
theorem dX1_compare_126 : decode cX1_compare 126 = .ok (.iconst (-1), 1) := dk_2 (dk_at dksX1_compare_5 14 rfl rfl)
theorem dX1_compare_127 : decode cX1_compare 127 = .ok (.goto 4, 3) := dk_167 0 4 (dk_at dksX1_compare_5 15 rfl rfl)
theorem dX1_compare_130 : decode cX1_compare 130 = .ok (.iconst 1, 1) := dk_4 (dk_at dksX1_compare_5 18 rfl rfl)
theorem dX1_compare_131 : decode cX1_compare 131 = .ok (.ireturn, 1) := dk_172 (dk_at dksX1_compare_5 19 rfl rfl)
abbrev cX1_word : ByteArray := prog_1_method_24_code
def yX1_word : MethodName := ⟨RX1, "word", "(II)J"⟩
def dkwX1_word_4 : List UInt8 := [58, 5, 187, 0, 73, 89, 183, 0, 75, 191]
abbrev dktX1_word_4 : List UInt8 := dkwX1_word_4 ++ []
def dkwX1_word_3 : List UInt8 := [180, 0, 157, 184, 0, 160, 25, 4, 28, 6, 122, 50, 28, 16, 7, 126, 46, 133, 20, 0, 254, 127, 173]
abbrev dktX1_word_3 : List UInt8 := dkwX1_word_3 ++ dktX1_word_4
def dkwX1_word_2 : List UInt8 := [180, 0, 157, 184, 0, 160, 42, 180, 0, 40, 180, 0, 153, 3, 25, 4, 4, 50, 3, 42, 180, 0, 40]
abbrev dktX1_word_2 : List UInt8 := dkwX1_word_2 ++ dktX1_word_3
def dkwX1_word_1 : List UInt8 := [197, 0, 151, 2, 58, 4, 42, 180, 0, 36, 180, 0, 153, 3, 25, 4, 3, 50, 3, 42, 180, 0, 36]
abbrev dktX1_word_1 : List UInt8 := dkwX1_word_1 ++ dktX1_word_2
def dkwX1_word_0 : List UInt8 := [42, 27, 182, 0, 203, 78, 45, 42, 180, 0, 36, 42, 180, 0, 40, 182, 0, 214, 5, 16, 8]
abbrev dktX1_word_0 : List UInt8 := dkwX1_word_0 ++ dktX1_word_1
theorem dksX1_word_0 : cX1_word.data.toList.drop 0 = dktX1_word_0 := by decide +kernel
theorem dksX1_word_1 : cX1_word.data.toList.drop 21 = dktX1_word_1 := dk_seg dksX1_word_0 21 rfl rfl
theorem dksX1_word_2 : cX1_word.data.toList.drop 44 = dktX1_word_2 := dk_seg dksX1_word_1 23 rfl rfl
theorem dksX1_word_3 : cX1_word.data.toList.drop 67 = dktX1_word_3 := dk_seg dksX1_word_2 23 rfl rfl
theorem dksX1_word_4 : cX1_word.data.toList.drop 90 = dktX1_word_4 := dk_seg dksX1_word_3 23 rfl rfl
theorem dX1_word_0 : decode cX1_word 0 = .ok (.aload_n 0, 1) := dk_42 (dk_at dksX1_word_0 0 rfl rfl)
theorem dX1_word_1 : decode cX1_word 1 = .ok (.iload_n 1, 1) := dk_27 (dk_at dksX1_word_0 1 rfl rfl)
theorem dX1_word_2 : decode cX1_word 2 = .ok (.invokevirtual 203, 3) := dk_182 0 203 (dk_at dksX1_word_0 2 rfl rfl)
theorem dX1_word_5 : decode cX1_word 5 = .ok (.astore_n 3, 1) := dk_78 (dk_at dksX1_word_0 5 rfl rfl)
theorem dX1_word_6 : decode cX1_word 6 = .ok (.aload_n 3, 1) := dk_45 (dk_at dksX1_word_0 6 rfl rfl)
theorem dX1_word_7 : decode cX1_word 7 = .ok (.aload_n 0, 1) := dk_42 (dk_at dksX1_word_0 7 rfl rfl)
theorem dX1_word_8 : decode cX1_word 8 = .ok (.getfield 36, 3) := dk_180 0 36 (dk_at dksX1_word_0 8 rfl rfl)
theorem dX1_word_11 : decode cX1_word 11 = .ok (.aload_n 0, 1) := dk_42 (dk_at dksX1_word_0 11 rfl rfl)
theorem dX1_word_12 : decode cX1_word 12 = .ok (.getfield 40, 3) := dk_180 0 40 (dk_at dksX1_word_0 12 rfl rfl)
theorem dX1_word_15 : decode cX1_word 15 = .ok (.invokevirtual 214, 3) := dk_182 0 214 (dk_at dksX1_word_0 15 rfl rfl)
theorem dX1_word_18 : decode cX1_word 18 = .ok (.iconst 2, 1) := dk_5 (dk_at dksX1_word_0 18 rfl rfl)
theorem dX1_word_19 : decode cX1_word 19 = .ok (.bipush 8, 2) := dk_16 8 (dk_at dksX1_word_0 19 rfl rfl)
theorem dX1_word_21 : decode cX1_word 21 = .ok (.multianewarray 151 2, 4) := by decide +kernel
theorem dX1_word_25 : decode cX1_word 25 = .ok (.astore 4, 2) := dk_58 4 (dk_at dksX1_word_1 4 rfl rfl)
theorem dX1_word_27 : decode cX1_word 27 = .ok (.aload_n 0, 1) := dk_42 (dk_at dksX1_word_1 6 rfl rfl)
theorem dX1_word_28 : decode cX1_word 28 = .ok (.getfield 36, 3) := dk_180 0 36 (dk_at dksX1_word_1 7 rfl rfl)
theorem dX1_word_31 : decode cX1_word 31 = .ok (.getfield 153, 3) := dk_180 0 153 (dk_at dksX1_word_1 10 rfl rfl)
theorem dX1_word_34 : decode cX1_word 34 = .ok (.iconst 0, 1) := dk_3 (dk_at dksX1_word_1 13 rfl rfl)
theorem dX1_word_35 : decode cX1_word 35 = .ok (.aload 4, 2) := dk_25 4 (dk_at dksX1_word_1 14 rfl rfl)
theorem dX1_word_37 : decode cX1_word 37 = .ok (.iconst 0, 1) := dk_3 (dk_at dksX1_word_1 16 rfl rfl)
theorem dX1_word_38 : decode cX1_word 38 = .ok (.aaload, 1) := dk_50 (dk_at dksX1_word_1 17 rfl rfl)
theorem dX1_word_39 : decode cX1_word 39 = .ok (.iconst 0, 1) := dk_3 (dk_at dksX1_word_1 18 rfl rfl)
theorem dX1_word_40 : decode cX1_word 40 = .ok (.aload_n 0, 1) := dk_42 (dk_at dksX1_word_1 19 rfl rfl)
theorem dX1_word_41 : decode cX1_word 41 = .ok (.getfield 36, 3) := dk_180 0 36 (dk_at dksX1_word_1 20 rfl rfl)
theorem dX1_word_44 : decode cX1_word 44 = .ok (.getfield 157, 3) := dk_180 0 157 (dk_at dksX1_word_2 0 rfl rfl)
theorem dX1_word_47 : decode cX1_word 47 = .ok (.invokestatic 160, 3) := dk_184 0 160 (dk_at dksX1_word_2 3 rfl rfl)
theorem dX1_word_50 : decode cX1_word 50 = .ok (.aload_n 0, 1) := dk_42 (dk_at dksX1_word_2 6 rfl rfl)
theorem dX1_word_51 : decode cX1_word 51 = .ok (.getfield 40, 3) := dk_180 0 40 (dk_at dksX1_word_2 7 rfl rfl)
theorem dX1_word_54 : decode cX1_word 54 = .ok (.getfield 153, 3) := dk_180 0 153 (dk_at dksX1_word_2 10 rfl rfl)
theorem dX1_word_57 : decode cX1_word 57 = .ok (.iconst 0, 1) := dk_3 (dk_at dksX1_word_2 13 rfl rfl)
theorem dX1_word_58 : decode cX1_word 58 = .ok (.aload 4, 2) := dk_25 4 (dk_at dksX1_word_2 14 rfl rfl)
theorem dX1_word_60 : decode cX1_word 60 = .ok (.iconst 1, 1) := dk_4 (dk_at dksX1_word_2 16 rfl rfl)
theorem dX1_word_61 : decode cX1_word 61 = .ok (.aaload, 1) := dk_50 (dk_at dksX1_word_2 17 rfl rfl)
theorem dX1_word_62 : decode cX1_word 62 = .ok (.iconst 0, 1) := dk_3 (dk_at dksX1_word_2 18 rfl rfl)
theorem dX1_word_63 : decode cX1_word 63 = .ok (.aload_n 0, 1) := dk_42 (dk_at dksX1_word_2 19 rfl rfl)
theorem dX1_word_64 : decode cX1_word 64 = .ok (.getfield 40, 3) := dk_180 0 40 (dk_at dksX1_word_2 20 rfl rfl)
theorem dX1_word_67 : decode cX1_word 67 = .ok (.getfield 157, 3) := dk_180 0 157 (dk_at dksX1_word_3 0 rfl rfl)
theorem dX1_word_70 : decode cX1_word 70 = .ok (.invokestatic 160, 3) := dk_184 0 160 (dk_at dksX1_word_3 3 rfl rfl)
theorem dX1_word_73 : decode cX1_word 73 = .ok (.aload 4, 2) := dk_25 4 (dk_at dksX1_word_3 6 rfl rfl)
theorem dX1_word_75 : decode cX1_word 75 = .ok (.iload_n 2, 1) := dk_28 (dk_at dksX1_word_3 8 rfl rfl)
theorem dX1_word_76 : decode cX1_word 76 = .ok (.iconst 3, 1) := dk_6 (dk_at dksX1_word_3 9 rfl rfl)
theorem dX1_word_77 : decode cX1_word 77 = .ok (.ishr, 1) := dk_122 (dk_at dksX1_word_3 10 rfl rfl)
theorem dX1_word_78 : decode cX1_word 78 = .ok (.aaload, 1) := dk_50 (dk_at dksX1_word_3 11 rfl rfl)
theorem dX1_word_79 : decode cX1_word 79 = .ok (.iload_n 2, 1) := dk_28 (dk_at dksX1_word_3 12 rfl rfl)
theorem dX1_word_80 : decode cX1_word 80 = .ok (.bipush 7, 2) := dk_16 7 (dk_at dksX1_word_3 13 rfl rfl)
theorem dX1_word_82 : decode cX1_word 82 = .ok (.iand, 1) := dk_126 (dk_at dksX1_word_3 15 rfl rfl)
theorem dX1_word_83 : decode cX1_word 83 = .ok (.iaload, 1) := dk_46 (dk_at dksX1_word_3 16 rfl rfl)
theorem dX1_word_84 : decode cX1_word 84 = .ok (.i2l, 1) := dk_133 (dk_at dksX1_word_3 17 rfl rfl)
theorem dX1_word_85 : decode cX1_word 85 = .ok (.ldc2_w 254, 3) := dk_20 0 254 (dk_at dksX1_word_3 18 rfl rfl)
theorem dX1_word_88 : decode cX1_word 88 = .ok (.land, 1) := dk_127 (dk_at dksX1_word_3 21 rfl rfl)
theorem dX1_word_89 : decode cX1_word 89 = .ok (.lreturn, 1) := dk_173 (dk_at dksX1_word_3 22 rfl rfl)
theorem dX1_word_90 : decode cX1_word 90 = .ok (.astore 5, 2) := dk_58 5 (dk_at dksX1_word_4 0 rfl rfl)
theorem dX1_word_92 : decode cX1_word 92 = .ok (.new 73, 3) := dk_187 0 73 (dk_at dksX1_word_4 2 rfl rfl)
theorem dX1_word_95 : decode cX1_word 95 = .ok (.dup, 1) := dk_89 (dk_at dksX1_word_4 5 rfl rfl)
theorem dX1_word_96 : decode cX1_word 96 = .ok (.invokespecial 75, 3) := dk_183 0 75 (dk_at dksX1_word_4 6 rfl rfl)
theorem dX1_word_99 : decode cX1_word 99 = .ok (.athrow, 1) := dk_191 (dk_at dksX1_word_4 9 rfl rfl)
abbrev cX1_sign : ByteArray := prog_1_method_25_code
def yX1_sign : MethodName := ⟨RX1, "sign", "(I)I"⟩
def dkwX1_sign_0 : List UInt8 := [42, 27, 182, 0, 203, 180, 0, 67, 172]
abbrev dktX1_sign_0 : List UInt8 := dkwX1_sign_0 ++ []
theorem dksX1_sign_0 : cX1_sign.data.toList.drop 0 = dktX1_sign_0 := by decide +kernel
theorem dX1_sign_0 : decode cX1_sign 0 = .ok (.aload_n 0, 1) := dk_42 (dk_at dksX1_sign_0 0 rfl rfl)
theorem dX1_sign_1 : decode cX1_sign 1 = .ok (.iload_n 1, 1) := dk_27 (dk_at dksX1_sign_0 1 rfl rfl)
theorem dX1_sign_2 : decode cX1_sign 2 = .ok (.invokevirtual 203, 3) := dk_182 0 203 (dk_at dksX1_sign_0 2 rfl rfl)
theorem dX1_sign_5 : decode cX1_sign 5 = .ok (.getfield 67, 3) := dk_180 0 67 (dk_at dksX1_sign_0 5 rfl rfl)
theorem dX1_sign_8 : decode cX1_sign 8 = .ok (.ireturn, 1) := dk_172 (dk_at dksX1_sign_0 8 rfl rfl)
abbrev cX1_bits : ByteArray := prog_1_method_26_code
def yX1_bits : MethodName := ⟨RX1, "bits", "(IZ)I"⟩
def dkwX1_bits_1 : List UInt8 := [182, 0, 144, 167, 0, 10, 42, 180, 0, 40, 182, 0, 144, 172]
abbrev dktX1_bits_1 : List UInt8 := dkwX1_bits_1 ++ []
def dkwX1_bits_0 : List UInt8 := [42, 27, 182, 0, 203, 42, 180, 0, 36, 42, 180, 0, 40, 182, 0, 214, 28, 153, 0, 13, 42, 180, 0, 36]
abbrev dktX1_bits_0 : List UInt8 := dkwX1_bits_0 ++ dktX1_bits_1
theorem dksX1_bits_0 : cX1_bits.data.toList.drop 0 = dktX1_bits_0 := by decide +kernel
theorem dksX1_bits_1 : cX1_bits.data.toList.drop 24 = dktX1_bits_1 := dk_seg dksX1_bits_0 24 rfl rfl
theorem dX1_bits_0 : decode cX1_bits 0 = .ok (.aload_n 0, 1) := dk_42 (dk_at dksX1_bits_0 0 rfl rfl)
theorem dX1_bits_1 : decode cX1_bits 1 = .ok (.iload_n 1, 1) := dk_27 (dk_at dksX1_bits_0 1 rfl rfl)
theorem dX1_bits_2 : decode cX1_bits 2 = .ok (.invokevirtual 203, 3) := dk_182 0 203 (dk_at dksX1_bits_0 2 rfl rfl)
theorem dX1_bits_5 : decode cX1_bits 5 = .ok (.aload_n 0, 1) := dk_42 (dk_at dksX1_bits_0 5 rfl rfl)
theorem dX1_bits_6 : decode cX1_bits 6 = .ok (.getfield 36, 3) := dk_180 0 36 (dk_at dksX1_bits_0 6 rfl rfl)
theorem dX1_bits_9 : decode cX1_bits 9 = .ok (.aload_n 0, 1) := dk_42 (dk_at dksX1_bits_0 9 rfl rfl)
theorem dX1_bits_10 : decode cX1_bits 10 = .ok (.getfield 40, 3) := dk_180 0 40 (dk_at dksX1_bits_0 10 rfl rfl)
theorem dX1_bits_13 : decode cX1_bits 13 = .ok (.invokevirtual 214, 3) := dk_182 0 214 (dk_at dksX1_bits_0 13 rfl rfl)
theorem dX1_bits_16 : decode cX1_bits 16 = .ok (.iload_n 2, 1) := dk_28 (dk_at dksX1_bits_0 16 rfl rfl)
theorem dX1_bits_17 : decode cX1_bits 17 = .ok (.ifCond .eq 13, 3) := dk_153 0 13 (dk_at dksX1_bits_0 17 rfl rfl)
theorem dX1_bits_20 : decode cX1_bits 20 = .ok (.aload_n 0, 1) := dk_42 (dk_at dksX1_bits_0 20 rfl rfl)
theorem dX1_bits_21 : decode cX1_bits 21 = .ok (.getfield 36, 3) := dk_180 0 36 (dk_at dksX1_bits_0 21 rfl rfl)
theorem dX1_bits_24 : decode cX1_bits 24 = .ok (.invokevirtual 144, 3) := dk_182 0 144 (dk_at dksX1_bits_1 0 rfl rfl)
theorem dX1_bits_27 : decode cX1_bits 27 = .ok (.goto 10, 3) := dk_167 0 10 (dk_at dksX1_bits_1 3 rfl rfl)
theorem dX1_bits_30 : decode cX1_bits 30 = .ok (.aload_n 0, 1) := dk_42 (dk_at dksX1_bits_1 6 rfl rfl)
theorem dX1_bits_31 : decode cX1_bits 31 = .ok (.getfield 40, 3) := dk_180 0 40 (dk_at dksX1_bits_1 7 rfl rfl)
theorem dX1_bits_34 : decode cX1_bits 34 = .ok (.invokevirtual 144, 3) := dk_182 0 144 (dk_at dksX1_bits_1 10 rfl rfl)
theorem dX1_bits_37 : decode cX1_bits 37 = .ok (.ireturn, 1) := dk_172 (dk_at dksX1_bits_1 13 rfl rfl)
abbrev cX1_wrap : ByteArray := prog_1_method_27_code
def yX1_wrap : MethodName := ⟨RX1, "wrap", "(IIZ)J"⟩
def dkwX1_wrap_4 : List UInt8 := [153, 0, 14, 22, 5, 21, 7, 121, 21, 7, 123, 167, 0, 11, 22, 5, 21, 7, 121, 21, 7, 125, 173]
abbrev dktX1_wrap_4 : List UInt8 := dkwX1_wrap_4 ++ []
def dkwX1_wrap_3 : List UInt8 := [182, 0, 147, 117, 167, 0, 10, 42, 180, 0, 58, 182, 0, 147, 55, 5, 16, 64, 28, 100, 54, 7, 29]
abbrev dktX1_wrap_3 : List UInt8 := dkwX1_wrap_3 ++ dktX1_wrap_4
def dkwX1_wrap_2 : List UInt8 := [42, 180, 0, 58, 42, 180, 0, 64, 182, 0, 133, 25, 4, 180, 0, 67, 156, 0, 14, 42, 180, 0, 58]
abbrev dktX1_wrap_2 : List UInt8 := dkwX1_wrap_2 ++ dktX1_wrap_3
def dkwX1_wrap_1 : List UInt8 := [184, 0, 210, 25, 4, 42, 180, 0, 36, 42, 180, 0, 40, 182, 0, 214, 42, 180, 0, 36, 42, 180, 0, 40]
abbrev dktX1_wrap_1 : List UInt8 := dkwX1_wrap_1 ++ dktX1_wrap_2
def dkwX1_wrap_0 : List UInt8 := [42, 27, 182, 0, 203, 58, 4, 28, 4, 161, 0, 13, 28, 16, 64, 163, 0, 7, 4, 167, 0, 4, 3]
abbrev dktX1_wrap_0 : List UInt8 := dkwX1_wrap_0 ++ dktX1_wrap_1
theorem dksX1_wrap_0 : cX1_wrap.data.toList.drop 0 = dktX1_wrap_0 := by decide +kernel
theorem dksX1_wrap_1 : cX1_wrap.data.toList.drop 23 = dktX1_wrap_1 := dk_seg dksX1_wrap_0 23 rfl rfl
theorem dksX1_wrap_2 : cX1_wrap.data.toList.drop 47 = dktX1_wrap_2 := dk_seg dksX1_wrap_1 24 rfl rfl
theorem dksX1_wrap_3 : cX1_wrap.data.toList.drop 70 = dktX1_wrap_3 := dk_seg dksX1_wrap_2 23 rfl rfl
theorem dksX1_wrap_4 : cX1_wrap.data.toList.drop 93 = dktX1_wrap_4 := dk_seg dksX1_wrap_3 23 rfl rfl
theorem dX1_wrap_0 : decode cX1_wrap 0 = .ok (.aload_n 0, 1) := dk_42 (dk_at dksX1_wrap_0 0 rfl rfl)
theorem dX1_wrap_1 : decode cX1_wrap 1 = .ok (.iload_n 1, 1) := dk_27 (dk_at dksX1_wrap_0 1 rfl rfl)
theorem dX1_wrap_2 : decode cX1_wrap 2 = .ok (.invokevirtual 203, 3) := dk_182 0 203 (dk_at dksX1_wrap_0 2 rfl rfl)
theorem dX1_wrap_5 : decode cX1_wrap 5 = .ok (.astore 4, 2) := dk_58 4 (dk_at dksX1_wrap_0 5 rfl rfl)
theorem dX1_wrap_7 : decode cX1_wrap 7 = .ok (.iload_n 2, 1) := dk_28 (dk_at dksX1_wrap_0 7 rfl rfl)
theorem dX1_wrap_8 : decode cX1_wrap 8 = .ok (.iconst 1, 1) := dk_4 (dk_at dksX1_wrap_0 8 rfl rfl)
theorem dX1_wrap_9 : decode cX1_wrap 9 = .ok (.if_icmp .lt 13, 3) := dk_161 0 13 (dk_at dksX1_wrap_0 9 rfl rfl)
theorem dX1_wrap_12 : decode cX1_wrap 12 = .ok (.iload_n 2, 1) := dk_28 (dk_at dksX1_wrap_0 12 rfl rfl)
theorem dX1_wrap_13 : decode cX1_wrap 13 = .ok (.bipush 64, 2) := dk_16 64 (dk_at dksX1_wrap_0 13 rfl rfl)
theorem dX1_wrap_15 : decode cX1_wrap 15 = .ok (.if_icmp .gt 7, 3) := dk_163 0 7 (dk_at dksX1_wrap_0 15 rfl rfl)
theorem dX1_wrap_18 : decode cX1_wrap 18 = .ok (.iconst 1, 1) := dk_4 (dk_at dksX1_wrap_0 18 rfl rfl)
theorem dX1_wrap_19 : decode cX1_wrap 19 = .ok (.goto 4, 3) := dk_167 0 4 (dk_at dksX1_wrap_0 19 rfl rfl)
theorem dX1_wrap_22 : decode cX1_wrap 22 = .ok (.iconst 0, 1) := dk_3 (dk_at dksX1_wrap_0 22 rfl rfl)
theorem dX1_wrap_23 : decode cX1_wrap 23 = .ok (.invokestatic 210, 3) := dk_184 0 210 (dk_at dksX1_wrap_1 0 rfl rfl)
theorem dX1_wrap_26 : decode cX1_wrap 26 = .ok (.aload 4, 2) := dk_25 4 (dk_at dksX1_wrap_1 3 rfl rfl)
theorem dX1_wrap_28 : decode cX1_wrap 28 = .ok (.aload_n 0, 1) := dk_42 (dk_at dksX1_wrap_1 5 rfl rfl)
theorem dX1_wrap_29 : decode cX1_wrap 29 = .ok (.getfield 36, 3) := dk_180 0 36 (dk_at dksX1_wrap_1 6 rfl rfl)
theorem dX1_wrap_32 : decode cX1_wrap 32 = .ok (.aload_n 0, 1) := dk_42 (dk_at dksX1_wrap_1 9 rfl rfl)
theorem dX1_wrap_33 : decode cX1_wrap 33 = .ok (.getfield 40, 3) := dk_180 0 40 (dk_at dksX1_wrap_1 10 rfl rfl)
theorem dX1_wrap_36 : decode cX1_wrap 36 = .ok (.invokevirtual 214, 3) := dk_182 0 214 (dk_at dksX1_wrap_1 13 rfl rfl)
theorem dX1_wrap_39 : decode cX1_wrap 39 = .ok (.aload_n 0, 1) := dk_42 (dk_at dksX1_wrap_1 16 rfl rfl)
theorem dX1_wrap_40 : decode cX1_wrap 40 = .ok (.getfield 36, 3) := dk_180 0 36 (dk_at dksX1_wrap_1 17 rfl rfl)
theorem dX1_wrap_43 : decode cX1_wrap 43 = .ok (.aload_n 0, 1) := dk_42 (dk_at dksX1_wrap_1 20 rfl rfl)
theorem dX1_wrap_44 : decode cX1_wrap 44 = .ok (.getfield 40, 3) := dk_180 0 40 (dk_at dksX1_wrap_1 21 rfl rfl)
theorem dX1_wrap_47 : decode cX1_wrap 47 = .ok (.aload_n 0, 1) := dk_42 (dk_at dksX1_wrap_2 0 rfl rfl)
theorem dX1_wrap_48 : decode cX1_wrap 48 = .ok (.getfield 58, 3) := dk_180 0 58 (dk_at dksX1_wrap_2 1 rfl rfl)
theorem dX1_wrap_51 : decode cX1_wrap 51 = .ok (.aload_n 0, 1) := dk_42 (dk_at dksX1_wrap_2 4 rfl rfl)
theorem dX1_wrap_52 : decode cX1_wrap 52 = .ok (.getfield 64, 3) := dk_180 0 64 (dk_at dksX1_wrap_2 5 rfl rfl)
theorem dX1_wrap_55 : decode cX1_wrap 55 = .ok (.invokevirtual 133, 3) := dk_182 0 133 (dk_at dksX1_wrap_2 8 rfl rfl)
theorem dX1_wrap_58 : decode cX1_wrap 58 = .ok (.aload 4, 2) := dk_25 4 (dk_at dksX1_wrap_2 11 rfl rfl)
theorem dX1_wrap_60 : decode cX1_wrap 60 = .ok (.getfield 67, 3) := dk_180 0 67 (dk_at dksX1_wrap_2 13 rfl rfl)
theorem dX1_wrap_63 : decode cX1_wrap 63 = .ok (.ifCond .ge 14, 3) := dk_156 0 14 (dk_at dksX1_wrap_2 16 rfl rfl)
theorem dX1_wrap_66 : decode cX1_wrap 66 = .ok (.aload_n 0, 1) := dk_42 (dk_at dksX1_wrap_2 19 rfl rfl)
theorem dX1_wrap_67 : decode cX1_wrap 67 = .ok (.getfield 58, 3) := dk_180 0 58 (dk_at dksX1_wrap_2 20 rfl rfl)
theorem dX1_wrap_70 : decode cX1_wrap 70 = .ok (.invokevirtual 147, 3) := dk_182 0 147 (dk_at dksX1_wrap_3 0 rfl rfl)
theorem dX1_wrap_73 : decode cX1_wrap 73 = .ok (.lneg, 1) := dk_117 (dk_at dksX1_wrap_3 3 rfl rfl)
theorem dX1_wrap_74 : decode cX1_wrap 74 = .ok (.goto 10, 3) := dk_167 0 10 (dk_at dksX1_wrap_3 4 rfl rfl)
theorem dX1_wrap_77 : decode cX1_wrap 77 = .ok (.aload_n 0, 1) := dk_42 (dk_at dksX1_wrap_3 7 rfl rfl)
theorem dX1_wrap_78 : decode cX1_wrap 78 = .ok (.getfield 58, 3) := dk_180 0 58 (dk_at dksX1_wrap_3 8 rfl rfl)
theorem dX1_wrap_81 : decode cX1_wrap 81 = .ok (.invokevirtual 147, 3) := dk_182 0 147 (dk_at dksX1_wrap_3 11 rfl rfl)
theorem dX1_wrap_84 : decode cX1_wrap 84 = .ok (.lstore 5, 2) := dk_55 5 (dk_at dksX1_wrap_3 14 rfl rfl)
theorem dX1_wrap_86 : decode cX1_wrap 86 = .ok (.bipush 64, 2) := dk_16 64 (dk_at dksX1_wrap_3 16 rfl rfl)
theorem dX1_wrap_88 : decode cX1_wrap 88 = .ok (.iload_n 2, 1) := dk_28 (dk_at dksX1_wrap_3 18 rfl rfl)
theorem dX1_wrap_89 : decode cX1_wrap 89 = .ok (.isub, 1) := dk_100 (dk_at dksX1_wrap_3 19 rfl rfl)
theorem dX1_wrap_90 : decode cX1_wrap 90 = .ok (.istore 7, 2) := dk_54 7 (dk_at dksX1_wrap_3 20 rfl rfl)
theorem dX1_wrap_92 : decode cX1_wrap 92 = .ok (.iload_n 3, 1) := dk_29 (dk_at dksX1_wrap_3 22 rfl rfl)
theorem dX1_wrap_93 : decode cX1_wrap 93 = .ok (.ifCond .eq 14, 3) := dk_153 0 14 (dk_at dksX1_wrap_4 0 rfl rfl)
theorem dX1_wrap_96 : decode cX1_wrap 96 = .ok (.lload 5, 2) := dk_22 5 (dk_at dksX1_wrap_4 3 rfl rfl)
theorem dX1_wrap_98 : decode cX1_wrap 98 = .ok (.iload 7, 2) := dk_21 7 (dk_at dksX1_wrap_4 5 rfl rfl)
theorem dX1_wrap_100 : decode cX1_wrap 100 = .ok (.lshl, 1) := dk_121 (dk_at dksX1_wrap_4 7 rfl rfl)
theorem dX1_wrap_101 : decode cX1_wrap 101 = .ok (.iload 7, 2) := dk_21 7 (dk_at dksX1_wrap_4 8 rfl rfl)
theorem dX1_wrap_103 : decode cX1_wrap 103 = .ok (.lshr, 1) := dk_123 (dk_at dksX1_wrap_4 10 rfl rfl)
theorem dX1_wrap_104 : decode cX1_wrap 104 = .ok (.goto 11, 3) := dk_167 0 11 (dk_at dksX1_wrap_4 11 rfl rfl)
theorem dX1_wrap_107 : decode cX1_wrap 107 = .ok (.lload 5, 2) := dk_22 5 (dk_at dksX1_wrap_4 14 rfl rfl)
theorem dX1_wrap_109 : decode cX1_wrap 109 = .ok (.iload 7, 2) := dk_21 7 (dk_at dksX1_wrap_4 16 rfl rfl)
theorem dX1_wrap_111 : decode cX1_wrap 111 = .ok (.lshl, 1) := dk_121 (dk_at dksX1_wrap_4 18 rfl rfl)
theorem dX1_wrap_112 : decode cX1_wrap 112 = .ok (.iload 7, 2) := dk_21 7 (dk_at dksX1_wrap_4 19 rfl rfl)
theorem dX1_wrap_114 : decode cX1_wrap 114 = .ok (.lushr, 1) := dk_125 (dk_at dksX1_wrap_4 21 rfl rfl)
theorem dX1_wrap_115 : decode cX1_wrap 115 = .ok (.lreturn, 1) := dk_173 (dk_at dksX1_wrap_4 22 rfl rfl)
abbrev cX1_order : ByteArray := prog_1_method_28_code
def yX1_order : MethodName := ⟨RX1, "orde\x72", "(II)I"⟩
def dkwX1_order_0 : List UInt8 := [42, 42, 27, 182, 0, 203, 42, 28, 182, 0, 203, 182, 0, 239, 172]
abbrev dktX1_order_0 : List UInt8 := dkwX1_order_0 ++ []
theorem dksX1_order_0 : cX1_order.data.toList.drop 0 = dktX1_order_0 := by decide +kernel
theorem dX1_order_0 : decode cX1_order 0 = .ok (.aload_n 0, 1) := dk_42 (dk_at dksX1_order_0 0 rfl rfl)
theorem dX1_order_1 : decode cX1_order 1 = .ok (.aload_n 0, 1) := dk_42 (dk_at dksX1_order_0 1 rfl rfl)
theorem dX1_order_2 : decode cX1_order 2 = .ok (.iload_n 1, 1) := dk_27 (dk_at dksX1_order_0 2 rfl rfl)
theorem dX1_order_3 : decode cX1_order 3 = .ok (.invokevirtual 203, 3) := dk_182 0 203 (dk_at dksX1_order_0 3 rfl rfl)
theorem dX1_order_6 : decode cX1_order 6 = .ok (.aload_n 0, 1) := dk_42 (dk_at dksX1_order_0 6 rfl rfl)
theorem dX1_order_7 : decode cX1_order 7 = .ok (.iload_n 2, 1) := dk_28 (dk_at dksX1_order_0 7 rfl rfl)
theorem dX1_order_8 : decode cX1_order 8 = .ok (.invokevirtual 203, 3) := dk_182 0 203 (dk_at dksX1_order_0 8 rfl rfl)
theorem dX1_order_11 : decode cX1_order 11 = .ok (.invokevirtual 239, 3) := dk_182 0 239 (dk_at dksX1_order_0 11 rfl rfl)
theorem dX1_order_14 : decode cX1_order 14 = .ok (.ireturn, 1) := dk_172 (dk_at dksX1_order_0 14 rfl rfl)
abbrev cX1_meets : ByteArray := prog_1_method_29_code
def yX1_meets : MethodName := ⟨RX1, "meets", "(IJ)I"⟩
def dkwX1_meets_12 : List UInt8 := [160, 0, 7, 2, 167, 0, 4, 4, 172]
abbrev dktX1_meets_12 : List UInt8 := dkwX1_meets_12 ++ []
def dkwX1_meets_11 : List UInt8 := [167, 0, 31, 21, 10, 156, 0, 7, 4, 167, 0, 4, 3, 21, 7, 158, 0, 7, 4, 167, 0, 4, 3]
abbrev dktX1_meets_11 : List UInt8 := dkwX1_meets_11 ++ dktX1_meets_12
def dkwX1_meets_10 : List UInt8 := [182, 0, 114, 42, 180, 0, 36, 42, 180, 0, 49, 182, 0, 106, 54, 10, 21, 10, 154, 0, 7, 3]
abbrev dktX1_meets_10 : List UInt8 := dkwX1_meets_10 ++ dktX1_meets_11
def dkwX1_meets_9 : List UInt8 := [167, 0, 4, 3, 182, 0, 114, 42, 180, 0, 49, 21, 9, 158, 0, 8, 21, 9, 167, 0, 4, 3]
abbrev dktX1_meets_9 : List UInt8 := dkwX1_meets_9 ++ dktX1_meets_10
def dkwX1_meets_8 : List UInt8 := [42, 180, 0, 43, 42, 180, 0, 40, 182, 0, 242, 42, 180, 0, 36, 21, 9, 156, 0, 9, 21, 9, 116]
abbrev dktX1_meets_8 : List UInt8 := dkwX1_meets_8 ++ dktX1_meets_9
def dkwX1_meets_7 : List UInt8 := [180, 0, 36, 182, 0, 84, 87, 25, 4, 42, 180, 0, 36, 42, 180, 0, 40, 182, 0, 214, 42, 180, 0, 49]
abbrev dktX1_meets_7 : List UInt8 := dkwX1_meets_7 ++ dktX1_meets_8
def dkwX1_meets_6 : List UInt8 := [160, 0, 7, 2, 167, 0, 4, 4, 172, 42, 24, 5, 182, 0, 200, 54, 9, 42, 180, 0, 43, 42]
abbrev dktX1_meets_6 : List UInt8 := dkwX1_meets_6 ++ dktX1_meets_7
def dkwX1_meets_5 : List UInt8 := [21, 8, 17, 1, 44, 164, 0, 7, 4, 167, 0, 4, 3, 21, 7, 158, 0, 7, 4, 167, 0, 4, 3]
abbrev dktX1_meets_5 : List UInt8 := dkwX1_meets_5 ++ dktX1_meets_6
def dkwX1_meets_4 : List UInt8 := [24, 5, 184, 0, 177, 54, 8, 21, 8, 17, 1, 44, 163, 0, 11, 21, 8, 17, 254, 212, 162, 0, 35]
abbrev dktX1_meets_4 : List UInt8 := dkwX1_meets_4 ++ dktX1_meets_5
def dkwX1_meets_3 : List UInt8 := [25, 4, 180, 0, 67, 21, 7, 162, 0, 7, 2, 167, 0, 4, 4, 172, 21, 7, 154, 0, 5, 3, 172]
abbrev dktX1_meets_3 : List UInt8 := dkwX1_meets_3 ++ dktX1_meets_4
def dkwX1_meets_2 : List UInt8 := [2, 167, 0, 4, 4, 172, 24, 5, 184, 1, 0, 142, 54, 7, 25, 4, 180, 0, 67, 21, 7, 159, 0, 19]
abbrev dktX1_meets_2 : List UInt8 := dkwX1_meets_2 ++ dktX1_meets_3
def dkwX1_meets_1 : List UInt8 := [156, 0, 5, 5, 172, 24, 5, 184, 0, 184, 20, 0, 198, 151, 158, 0, 16, 24, 5, 14, 151, 158, 0, 7]
abbrev dktX1_meets_1 : List UInt8 := dkwX1_meets_1 ++ dktX1_meets_2
def dkwX1_meets_0 : List UInt8 := [42, 27, 182, 0, 203, 58, 4, 32, 184, 0, 192, 57, 5, 24, 5, 14, 152, 158, 0, 12, 24, 5, 14, 151]
abbrev dktX1_meets_0 : List UInt8 := dkwX1_meets_0 ++ dktX1_meets_1
theorem dksX1_meets_0 : cX1_meets.data.toList.drop 0 = dktX1_meets_0 := by decide +kernel
theorem dksX1_meets_1 : cX1_meets.data.toList.drop 24 = dktX1_meets_1 := dk_seg dksX1_meets_0 24 rfl rfl
theorem dksX1_meets_2 : cX1_meets.data.toList.drop 48 = dktX1_meets_2 := dk_seg dksX1_meets_1 24 rfl rfl
theorem dksX1_meets_3 : cX1_meets.data.toList.drop 72 = dktX1_meets_3 := dk_seg dksX1_meets_2 24 rfl rfl
theorem dksX1_meets_4 : cX1_meets.data.toList.drop 95 = dktX1_meets_4 := dk_seg dksX1_meets_3 23 rfl rfl
theorem dksX1_meets_5 : cX1_meets.data.toList.drop 118 = dktX1_meets_5 := dk_seg dksX1_meets_4 23 rfl rfl
theorem dksX1_meets_6 : cX1_meets.data.toList.drop 141 = dktX1_meets_6 := dk_seg dksX1_meets_5 23 rfl rfl
theorem dksX1_meets_7 : cX1_meets.data.toList.drop 163 = dktX1_meets_7 := dk_seg dksX1_meets_6 22 rfl rfl
theorem dksX1_meets_8 : cX1_meets.data.toList.drop 187 = dktX1_meets_8 := dk_seg dksX1_meets_7 24 rfl rfl
theorem dksX1_meets_9 : cX1_meets.data.toList.drop 210 = dktX1_meets_9 := dk_seg dksX1_meets_8 23 rfl rfl
theorem dksX1_meets_10 : cX1_meets.data.toList.drop 232 = dktX1_meets_10 := dk_seg dksX1_meets_9 22 rfl rfl
theorem dksX1_meets_11 : cX1_meets.data.toList.drop 254 = dktX1_meets_11 := dk_seg dksX1_meets_10 22 rfl rfl
theorem dksX1_meets_12 : cX1_meets.data.toList.drop 277 = dktX1_meets_12 := dk_seg dksX1_meets_11 23 rfl rfl
theorem dX1_meets_0 : decode cX1_meets 0 = .ok (.aload_n 0, 1) := dk_42 (dk_at dksX1_meets_0 0 rfl rfl)
theorem dX1_meets_1 : decode cX1_meets 1 = .ok (.iload_n 1, 1) := dk_27 (dk_at dksX1_meets_0 1 rfl rfl)
theorem dX1_meets_2 : decode cX1_meets 2 = .ok (.invokevirtual 203, 3) := dk_182 0 203 (dk_at dksX1_meets_0 2 rfl rfl)
theorem dX1_meets_5 : decode cX1_meets 5 = .ok (.astore 4, 2) := dk_58 4 (dk_at dksX1_meets_0 5 rfl rfl)
theorem dX1_meets_7 : decode cX1_meets 7 = .ok (.lload_n 2, 1) := dk_32 (dk_at dksX1_meets_0 7 rfl rfl)
theorem dX1_meets_8 : decode cX1_meets 8 = .ok (.invokestatic 192, 3) := dk_184 0 192 (dk_at dksX1_meets_0 8 rfl rfl)
theorem dX1_meets_11 : decode cX1_meets 11 = .ok (.dstore 5, 2) := dk_57 5 (dk_at dksX1_meets_0 11 rfl rfl)
theorem dX1_meets_13 : decode cX1_meets 13 = .ok (.dload 5, 2) := dk_24 5 (dk_at dksX1_meets_0 13 rfl rfl)
theorem dX1_meets_15 : decode cX1_meets 15 = .ok (.dconst 0, 1) := dk_14 (dk_at dksX1_meets_0 15 rfl rfl)
theorem dX1_meets_16 : decode cX1_meets 16 = .ok (.dcmp .g, 1) := dk_152 (dk_at dksX1_meets_0 16 rfl rfl)
theorem dX1_meets_17 : decode cX1_meets 17 = .ok (.ifCond .le 12, 3) := dk_158 0 12 (dk_at dksX1_meets_0 17 rfl rfl)
theorem dX1_meets_20 : decode cX1_meets 20 = .ok (.dload 5, 2) := dk_24 5 (dk_at dksX1_meets_0 20 rfl rfl)
theorem dX1_meets_22 : decode cX1_meets 22 = .ok (.dconst 0, 1) := dk_14 (dk_at dksX1_meets_0 22 rfl rfl)
theorem dX1_meets_23 : decode cX1_meets 23 = .ok (.dcmp .l, 1) := dk_151 (dk_at dksX1_meets_0 23 rfl rfl)
theorem dX1_meets_24 : decode cX1_meets 24 = .ok (.ifCond .ge 5, 3) := dk_156 0 5 (dk_at dksX1_meets_1 0 rfl rfl)
theorem dX1_meets_27 : decode cX1_meets 27 = .ok (.iconst 2, 1) := dk_5 (dk_at dksX1_meets_1 3 rfl rfl)
theorem dX1_meets_28 : decode cX1_meets 28 = .ok (.ireturn, 1) := dk_172 (dk_at dksX1_meets_1 4 rfl rfl)
theorem dX1_meets_29 : decode cX1_meets 29 = .ok (.dload 5, 2) := dk_24 5 (dk_at dksX1_meets_1 5 rfl rfl)
theorem dX1_meets_31 : decode cX1_meets 31 = .ok (.invokestatic 184, 3) := dk_184 0 184 (dk_at dksX1_meets_1 7 rfl rfl)
theorem dX1_meets_34 : decode cX1_meets 34 = .ok (.ldc2_w 198, 3) := dk_20 0 198 (dk_at dksX1_meets_1 10 rfl rfl)
theorem dX1_meets_37 : decode cX1_meets 37 = .ok (.dcmp .l, 1) := dk_151 (dk_at dksX1_meets_1 13 rfl rfl)
theorem dX1_meets_38 : decode cX1_meets 38 = .ok (.ifCond .le 16, 3) := dk_158 0 16 (dk_at dksX1_meets_1 14 rfl rfl)
theorem dX1_meets_41 : decode cX1_meets 41 = .ok (.dload 5, 2) := dk_24 5 (dk_at dksX1_meets_1 17 rfl rfl)
theorem dX1_meets_43 : decode cX1_meets 43 = .ok (.dconst 0, 1) := dk_14 (dk_at dksX1_meets_1 19 rfl rfl)
theorem dX1_meets_44 : decode cX1_meets 44 = .ok (.dcmp .l, 1) := dk_151 (dk_at dksX1_meets_1 20 rfl rfl)
theorem dX1_meets_45 : decode cX1_meets 45 = .ok (.ifCond .le 7, 3) := dk_158 0 7 (dk_at dksX1_meets_1 21 rfl rfl)
theorem dX1_meets_48 : decode cX1_meets 48 = .ok (.iconst (-1), 1) := dk_2 (dk_at dksX1_meets_2 0 rfl rfl)
theorem dX1_meets_49 : decode cX1_meets 49 = .ok (.goto 4, 3) := dk_167 0 4 (dk_at dksX1_meets_2 1 rfl rfl)
theorem dX1_meets_52 : decode cX1_meets 52 = .ok (.iconst 1, 1) := dk_4 (dk_at dksX1_meets_2 4 rfl rfl)
theorem dX1_meets_53 : decode cX1_meets 53 = .ok (.ireturn, 1) := dk_172 (dk_at dksX1_meets_2 5 rfl rfl)
theorem dX1_meets_54 : decode cX1_meets 54 = .ok (.dload 5, 2) := dk_24 5 (dk_at dksX1_meets_2 6 rfl rfl)
theorem dX1_meets_56 : decode cX1_meets 56 = .ok (.invokestatic 256, 3) := dk_184 1 0 (dk_at dksX1_meets_2 8 rfl rfl)
theorem dX1_meets_59 : decode cX1_meets 59 = .ok (.d2i, 1) := dk_142 (dk_at dksX1_meets_2 11 rfl rfl)
theorem dX1_meets_60 : decode cX1_meets 60 = .ok (.istore 7, 2) := dk_54 7 (dk_at dksX1_meets_2 12 rfl rfl)
theorem dX1_meets_62 : decode cX1_meets 62 = .ok (.aload 4, 2) := dk_25 4 (dk_at dksX1_meets_2 14 rfl rfl)
theorem dX1_meets_64 : decode cX1_meets 64 = .ok (.getfield 67, 3) := dk_180 0 67 (dk_at dksX1_meets_2 16 rfl rfl)
theorem dX1_meets_67 : decode cX1_meets 67 = .ok (.iload 7, 2) := dk_21 7 (dk_at dksX1_meets_2 19 rfl rfl)
theorem dX1_meets_69 : decode cX1_meets 69 = .ok (.if_icmp .eq 19, 3) := dk_159 0 19 (dk_at dksX1_meets_2 21 rfl rfl)
theorem dX1_meets_72 : decode cX1_meets 72 = .ok (.aload 4, 2) := dk_25 4 (dk_at dksX1_meets_3 0 rfl rfl)
theorem dX1_meets_74 : decode cX1_meets 74 = .ok (.getfield 67, 3) := dk_180 0 67 (dk_at dksX1_meets_3 2 rfl rfl)
theorem dX1_meets_77 : decode cX1_meets 77 = .ok (.iload 7, 2) := dk_21 7 (dk_at dksX1_meets_3 5 rfl rfl)
theorem dX1_meets_79 : decode cX1_meets 79 = .ok (.if_icmp .ge 7, 3) := dk_162 0 7 (dk_at dksX1_meets_3 7 rfl rfl)
theorem dX1_meets_82 : decode cX1_meets 82 = .ok (.iconst (-1), 1) := dk_2 (dk_at dksX1_meets_3 10 rfl rfl)
theorem dX1_meets_83 : decode cX1_meets 83 = .ok (.goto 4, 3) := dk_167 0 4 (dk_at dksX1_meets_3 11 rfl rfl)
theorem dX1_meets_86 : decode cX1_meets 86 = .ok (.iconst 1, 1) := dk_4 (dk_at dksX1_meets_3 14 rfl rfl)
theorem dX1_meets_87 : decode cX1_meets 87 = .ok (.ireturn, 1) := dk_172 (dk_at dksX1_meets_3 15 rfl rfl)
theorem dX1_meets_88 : decode cX1_meets 88 = .ok (.iload 7, 2) := dk_21 7 (dk_at dksX1_meets_3 16 rfl rfl)
theorem dX1_meets_90 : decode cX1_meets 90 = .ok (.ifCond .ne 5, 3) := dk_154 0 5 (dk_at dksX1_meets_3 18 rfl rfl)
theorem dX1_meets_93 : decode cX1_meets 93 = .ok (.iconst 0, 1) := dk_3 (dk_at dksX1_meets_3 21 rfl rfl)
theorem dX1_meets_94 : decode cX1_meets 94 = .ok (.ireturn, 1) := dk_172 (dk_at dksX1_meets_3 22 rfl rfl)
theorem dX1_meets_95 : decode cX1_meets 95 = .ok (.dload 5, 2) := dk_24 5 (dk_at dksX1_meets_4 0 rfl rfl)
theorem dX1_meets_97 : decode cX1_meets 97 = .ok (.invokestatic 177, 3) := dk_184 0 177 (dk_at dksX1_meets_4 2 rfl rfl)
theorem dX1_meets_100 : decode cX1_meets 100 = .ok (.istore 8, 2) := dk_54 8 (dk_at dksX1_meets_4 5 rfl rfl)
theorem dX1_meets_102 : decode cX1_meets 102 = .ok (.iload 8, 2) := dk_21 8 (dk_at dksX1_meets_4 7 rfl rfl)
theorem dX1_meets_104 : decode cX1_meets 104 = .ok (.sipush 300, 3) := dk_17 1 44 (dk_at dksX1_meets_4 9 rfl rfl)
theorem dX1_meets_107 : decode cX1_meets 107 = .ok (.if_icmp .gt 11, 3) := dk_163 0 11 (dk_at dksX1_meets_4 12 rfl rfl)
theorem dX1_meets_110 : decode cX1_meets 110 = .ok (.iload 8, 2) := dk_21 8 (dk_at dksX1_meets_4 15 rfl rfl)
theorem dX1_meets_112 : decode cX1_meets 112 = .ok (.sipush (-300), 3) := dk_17 254 212 (dk_at dksX1_meets_4 17 rfl rfl)
theorem dX1_meets_115 : decode cX1_meets 115 = .ok (.if_icmp .ge 35, 3) := dk_162 0 35 (dk_at dksX1_meets_4 20 rfl rfl)
theorem dX1_meets_118 : decode cX1_meets 118 = .ok (.iload 8, 2) := dk_21 8 (dk_at dksX1_meets_5 0 rfl rfl)
theorem dX1_meets_120 : decode cX1_meets 120 = .ok (.sipush 300, 3) := dk_17 1 44 (dk_at dksX1_meets_5 2 rfl rfl)
theorem dX1_meets_123 : decode cX1_meets 123 = .ok (.if_icmp .le 7, 3) := dk_164 0 7 (dk_at dksX1_meets_5 5 rfl rfl)
theorem dX1_meets_126 : decode cX1_meets 126 = .ok (.iconst 1, 1) := dk_4 (dk_at dksX1_meets_5 8 rfl rfl)
theorem dX1_meets_127 : decode cX1_meets 127 = .ok (.goto 4, 3) := dk_167 0 4 (dk_at dksX1_meets_5 9 rfl rfl)
theorem dX1_meets_130 : decode cX1_meets 130 = .ok (.iconst 0, 1) := dk_3 (dk_at dksX1_meets_5 12 rfl rfl)
theorem dX1_meets_131 : decode cX1_meets 131 = .ok (.iload 7, 2) := dk_21 7 (dk_at dksX1_meets_5 13 rfl rfl)
theorem dX1_meets_133 : decode cX1_meets 133 = .ok (.ifCond .le 7, 3) := dk_158 0 7 (dk_at dksX1_meets_5 15 rfl rfl)
theorem dX1_meets_136 : decode cX1_meets 136 = .ok (.iconst 1, 1) := dk_4 (dk_at dksX1_meets_5 18 rfl rfl)
theorem dX1_meets_137 : decode cX1_meets 137 = .ok (.goto 4, 3) := dk_167 0 4 (dk_at dksX1_meets_5 19 rfl rfl)
theorem dX1_meets_140 : decode cX1_meets 140 = .ok (.iconst 0, 1) := dk_3 (dk_at dksX1_meets_5 22 rfl rfl)
theorem dX1_meets_141 : decode cX1_meets 141 = .ok (.if_icmp .ne 7, 3) := dk_160 0 7 (dk_at dksX1_meets_6 0 rfl rfl)
theorem dX1_meets_144 : decode cX1_meets 144 = .ok (.iconst (-1), 1) := dk_2 (dk_at dksX1_meets_6 3 rfl rfl)
theorem dX1_meets_145 : decode cX1_meets 145 = .ok (.goto 4, 3) := dk_167 0 4 (dk_at dksX1_meets_6 4 rfl rfl)
theorem dX1_meets_148 : decode cX1_meets 148 = .ok (.iconst 1, 1) := dk_4 (dk_at dksX1_meets_6 7 rfl rfl)
theorem dX1_meets_149 : decode cX1_meets 149 = .ok (.ireturn, 1) := dk_172 (dk_at dksX1_meets_6 8 rfl rfl)
theorem dX1_meets_150 : decode cX1_meets 150 = .ok (.aload_n 0, 1) := dk_42 (dk_at dksX1_meets_6 9 rfl rfl)
theorem dX1_meets_151 : decode cX1_meets 151 = .ok (.dload 5, 2) := dk_24 5 (dk_at dksX1_meets_6 10 rfl rfl)
theorem dX1_meets_153 : decode cX1_meets 153 = .ok (.invokevirtual 200, 3) := dk_182 0 200 (dk_at dksX1_meets_6 12 rfl rfl)
theorem dX1_meets_156 : decode cX1_meets 156 = .ok (.istore 9, 2) := dk_54 9 (dk_at dksX1_meets_6 15 rfl rfl)
theorem dX1_meets_158 : decode cX1_meets 158 = .ok (.aload_n 0, 1) := dk_42 (dk_at dksX1_meets_6 17 rfl rfl)
theorem dX1_meets_159 : decode cX1_meets 159 = .ok (.getfield 43, 3) := dk_180 0 43 (dk_at dksX1_meets_6 18 rfl rfl)
theorem dX1_meets_162 : decode cX1_meets 162 = .ok (.aload_n 0, 1) := dk_42 (dk_at dksX1_meets_6 21 rfl rfl)
theorem dX1_meets_163 : decode cX1_meets 163 = .ok (.getfield 36, 3) := dk_180 0 36 (dk_at dksX1_meets_7 0 rfl rfl)
theorem dX1_meets_166 : decode cX1_meets 166 = .ok (.invokevirtual 84, 3) := dk_182 0 84 (dk_at dksX1_meets_7 3 rfl rfl)
theorem dX1_meets_169 : decode cX1_meets 169 = .ok (.pop, 1) := dk_87 (dk_at dksX1_meets_7 6 rfl rfl)
theorem dX1_meets_170 : decode cX1_meets 170 = .ok (.aload 4, 2) := dk_25 4 (dk_at dksX1_meets_7 7 rfl rfl)
theorem dX1_meets_172 : decode cX1_meets 172 = .ok (.aload_n 0, 1) := dk_42 (dk_at dksX1_meets_7 9 rfl rfl)
theorem dX1_meets_173 : decode cX1_meets 173 = .ok (.getfield 36, 3) := dk_180 0 36 (dk_at dksX1_meets_7 10 rfl rfl)
theorem dX1_meets_176 : decode cX1_meets 176 = .ok (.aload_n 0, 1) := dk_42 (dk_at dksX1_meets_7 13 rfl rfl)
theorem dX1_meets_177 : decode cX1_meets 177 = .ok (.getfield 40, 3) := dk_180 0 40 (dk_at dksX1_meets_7 14 rfl rfl)
theorem dX1_meets_180 : decode cX1_meets 180 = .ok (.invokevirtual 214, 3) := dk_182 0 214 (dk_at dksX1_meets_7 17 rfl rfl)
theorem dX1_meets_183 : decode cX1_meets 183 = .ok (.aload_n 0, 1) := dk_42 (dk_at dksX1_meets_7 20 rfl rfl)
theorem dX1_meets_184 : decode cX1_meets 184 = .ok (.getfield 49, 3) := dk_180 0 49 (dk_at dksX1_meets_7 21 rfl rfl)
theorem dX1_meets_187 : decode cX1_meets 187 = .ok (.aload_n 0, 1) := dk_42 (dk_at dksX1_meets_8 0 rfl rfl)
theorem dX1_meets_188 : decode cX1_meets 188 = .ok (.getfield 43, 3) := dk_180 0 43 (dk_at dksX1_meets_8 1 rfl rfl)
theorem dX1_meets_191 : decode cX1_meets 191 = .ok (.aload_n 0, 1) := dk_42 (dk_at dksX1_meets_8 4 rfl rfl)
theorem dX1_meets_192 : decode cX1_meets 192 = .ok (.getfield 40, 3) := dk_180 0 40 (dk_at dksX1_meets_8 5 rfl rfl)
theorem dX1_meets_195 : decode cX1_meets 195 = .ok (.invokevirtual 242, 3) := dk_182 0 242 (dk_at dksX1_meets_8 8 rfl rfl)
theorem dX1_meets_198 : decode cX1_meets 198 = .ok (.aload_n 0, 1) := dk_42 (dk_at dksX1_meets_8 11 rfl rfl)
theorem dX1_meets_199 : decode cX1_meets 199 = .ok (.getfield 36, 3) := dk_180 0 36 (dk_at dksX1_meets_8 12 rfl rfl)
theorem dX1_meets_202 : decode cX1_meets 202 = .ok (.iload 9, 2) := dk_21 9 (dk_at dksX1_meets_8 15 rfl rfl)
theorem dX1_meets_204 : decode cX1_meets 204 = .ok (.ifCond .ge 9, 3) := dk_156 0 9 (dk_at dksX1_meets_8 17 rfl rfl)
theorem dX1_meets_207 : decode cX1_meets 207 = .ok (.iload 9, 2) := dk_21 9 (dk_at dksX1_meets_8 20 rfl rfl)
theorem dX1_meets_209 : decode cX1_meets 209 = .ok (.ineg, 1) := dk_116 (dk_at dksX1_meets_8 22 rfl rfl)
theorem dX1_meets_210 : decode cX1_meets 210 = .ok (.goto 4, 3) := dk_167 0 4 (dk_at dksX1_meets_9 0 rfl rfl)
theorem dX1_meets_213 : decode cX1_meets 213 = .ok (.iconst 0, 1) := dk_3 (dk_at dksX1_meets_9 3 rfl rfl)
theorem dX1_meets_214 : decode cX1_meets 214 = .ok (.invokevirtual 114, 3) := dk_182 0 114 (dk_at dksX1_meets_9 4 rfl rfl)
theorem dX1_meets_217 : decode cX1_meets 217 = .ok (.aload_n 0, 1) := dk_42 (dk_at dksX1_meets_9 7 rfl rfl)
theorem dX1_meets_218 : decode cX1_meets 218 = .ok (.getfield 49, 3) := dk_180 0 49 (dk_at dksX1_meets_9 8 rfl rfl)
theorem dX1_meets_221 : decode cX1_meets 221 = .ok (.iload 9, 2) := dk_21 9 (dk_at dksX1_meets_9 11 rfl rfl)
theorem dX1_meets_223 : decode cX1_meets 223 = .ok (.ifCond .le 8, 3) := dk_158 0 8 (dk_at dksX1_meets_9 13 rfl rfl)
theorem dX1_meets_226 : decode cX1_meets 226 = .ok (.iload 9, 2) := dk_21 9 (dk_at dksX1_meets_9 16 rfl rfl)
theorem dX1_meets_228 : decode cX1_meets 228 = .ok (.goto 4, 3) := dk_167 0 4 (dk_at dksX1_meets_9 18 rfl rfl)
theorem dX1_meets_231 : decode cX1_meets 231 = .ok (.iconst 0, 1) := dk_3 (dk_at dksX1_meets_9 21 rfl rfl)
theorem dX1_meets_232 : decode cX1_meets 232 = .ok (.invokevirtual 114, 3) := dk_182 0 114 (dk_at dksX1_meets_10 0 rfl rfl)
theorem dX1_meets_235 : decode cX1_meets 235 = .ok (.aload_n 0, 1) := dk_42 (dk_at dksX1_meets_10 3 rfl rfl)
theorem dX1_meets_236 : decode cX1_meets 236 = .ok (.getfield 36, 3) := dk_180 0 36 (dk_at dksX1_meets_10 4 rfl rfl)
theorem dX1_meets_239 : decode cX1_meets 239 = .ok (.aload_n 0, 1) := dk_42 (dk_at dksX1_meets_10 7 rfl rfl)
theorem dX1_meets_240 : decode cX1_meets 240 = .ok (.getfield 49, 3) := dk_180 0 49 (dk_at dksX1_meets_10 8 rfl rfl)
theorem dX1_meets_243 : decode cX1_meets 243 = .ok (.invokevirtual 106, 3) := dk_182 0 106 (dk_at dksX1_meets_10 11 rfl rfl)
theorem dX1_meets_246 : decode cX1_meets 246 = .ok (.istore 10, 2) := dk_54 10 (dk_at dksX1_meets_10 14 rfl rfl)
theorem dX1_meets_248 : decode cX1_meets 248 = .ok (.iload 10, 2) := dk_21 10 (dk_at dksX1_meets_10 16 rfl rfl)
theorem dX1_meets_250 : decode cX1_meets 250 = .ok (.ifCond .ne 7, 3) := dk_154 0 7 (dk_at dksX1_meets_10 18 rfl rfl)
theorem dX1_meets_253 : decode cX1_meets 253 = .ok (.iconst 0, 1) := dk_3 (dk_at dksX1_meets_10 21 rfl rfl)
theorem dX1_meets_254 : decode cX1_meets 254 = .ok (.goto 31, 3) := dk_167 0 31 (dk_at dksX1_meets_11 0 rfl rfl)
theorem dX1_meets_257 : decode cX1_meets 257 = .ok (.iload 10, 2) := dk_21 10 (dk_at dksX1_meets_11 3 rfl rfl)
theorem dX1_meets_259 : decode cX1_meets 259 = .ok (.ifCond .ge 7, 3) := dk_156 0 7 (dk_at dksX1_meets_11 5 rfl rfl)
theorem dX1_meets_262 : decode cX1_meets 262 = .ok (.iconst 1, 1) := dk_4 (dk_at dksX1_meets_11 8 rfl rfl)
theorem dX1_meets_263 : decode cX1_meets 263 = .ok (.goto 4, 3) := dk_167 0 4 (dk_at dksX1_meets_11 9 rfl rfl)
theorem dX1_meets_266 : decode cX1_meets 266 = .ok (.iconst 0, 1) := dk_3 (dk_at dksX1_meets_11 12 rfl rfl)
theorem dX1_meets_267 : decode cX1_meets 267 = .ok (.iload 7, 2) := dk_21 7 (dk_at dksX1_meets_11 13 rfl rfl)
theorem dX1_meets_269 : decode cX1_meets 269 = .ok (.ifCond .le 7, 3) := dk_158 0 7 (dk_at dksX1_meets_11 15 rfl rfl)
theorem dX1_meets_272 : decode cX1_meets 272 = .ok (.iconst 1, 1) := dk_4 (dk_at dksX1_meets_11 18 rfl rfl)
theorem dX1_meets_273 : decode cX1_meets 273 = .ok (.goto 4, 3) := dk_167 0 4 (dk_at dksX1_meets_11 19 rfl rfl)
theorem dX1_meets_276 : decode cX1_meets 276 = .ok (.iconst 0, 1) := dk_3 (dk_at dksX1_meets_11 22 rfl rfl)
theorem dX1_meets_277 : decode cX1_meets 277 = .ok (.if_icmp .ne 7, 3) := dk_160 0 7 (dk_at dksX1_meets_12 0 rfl rfl)
theorem dX1_meets_280 : decode cX1_meets 280 = .ok (.iconst (-1), 1) := dk_2 (dk_at dksX1_meets_12 3 rfl rfl)
theorem dX1_meets_281 : decode cX1_meets 281 = .ok (.goto 4, 3) := dk_167 0 4 (dk_at dksX1_meets_12 4 rfl rfl)
theorem dX1_meets_284 : decode cX1_meets 284 = .ok (.iconst 1, 1) := dk_4 (dk_at dksX1_meets_12 7 rfl rfl)
theorem dX1_meets_285 : decode cX1_meets 285 = .ok (.ireturn, 1) := dk_172 (dk_at dksX1_meets_12 8 rfl rfl)
abbrev cX1_nearest : ByteArray := prog_1_method_32_code
def yX1_nearest : MethodName := ⟨RX1, "nearest", "(II)J"⟩
def dkwX1_nearest_6 : List UInt8 := [184, 1, 27, 184, 1, 31, 173]
abbrev dktX1_nearest_6 : List UInt8 := dkwX1_nearest_6 ++ []
def dkwX1_nearest_5 : List UInt8 := [185, 1, 20, 4, 0, 153, 0, 10, 24, 5, 184, 1, 24, 57, 5, 24, 5, 45, 180, 0, 67, 135]
abbrev dktX1_nearest_5 : List UInt8 := dkwX1_nearest_5 ++ dktX1_nearest_6
def dkwX1_nearest_4 : List UInt8 := [42, 180, 1, 3, 10, 127, 10, 148, 154, 0, 7, 4, 167, 0, 4, 3, 42, 180, 1, 11]
abbrev dktX1_nearest_4 : List UInt8 := dkwX1_nearest_4 ++ dktX1_nearest_5
def dkwX1_nearest_3 : List UInt8 := [180, 1, 7, 153, 0, 56, 42, 180, 0, 21, 28, 50, 45, 180, 0, 67, 156, 0, 7, 4, 167, 0, 4, 3]
abbrev dktX1_nearest_3 : List UInt8 := dkwX1_nearest_3 ++ dktX1_nearest_4
def dkwX1_nearest_2 : List UInt8 := [16, 52, 100, 54, 4, 42, 21, 4, 182, 1, 17, 42, 180, 1, 3, 138, 21, 4, 184, 0, 188, 57, 5, 42]
abbrev dktX1_nearest_2 : List UInt8 := dkwX1_nearest_2 ++ dktX1_nearest_3
def dkwX1_nearest_1 : List UInt8 := [180, 0, 67, 154, 0, 5, 9, 173, 45, 42, 180, 0, 36, 42, 180, 0, 40, 182, 0, 214, 42, 182, 1, 14]
abbrev dktX1_nearest_1 : List UInt8 := dkwX1_nearest_1 ++ dktX1_nearest_2
def dkwX1_nearest_0 : List UInt8 := [42, 27, 182, 0, 203, 78, 28, 155, 0, 12, 28, 6, 163, 0, 7, 4, 167, 0, 4, 3, 184, 0, 210, 45]
abbrev dktX1_nearest_0 : List UInt8 := dkwX1_nearest_0 ++ dktX1_nearest_1
theorem dksX1_nearest_0 : cX1_nearest.data.toList.drop 0 = dktX1_nearest_0 := by decide +kernel
theorem dksX1_nearest_1 : cX1_nearest.data.toList.drop 24 = dktX1_nearest_1 := dk_seg dksX1_nearest_0 24 rfl rfl
theorem dksX1_nearest_2 : cX1_nearest.data.toList.drop 48 = dktX1_nearest_2 := dk_seg dksX1_nearest_1 24 rfl rfl
theorem dksX1_nearest_3 : cX1_nearest.data.toList.drop 72 = dktX1_nearest_3 := dk_seg dksX1_nearest_2 24 rfl rfl
theorem dksX1_nearest_4 : cX1_nearest.data.toList.drop 96 = dktX1_nearest_4 := dk_seg dksX1_nearest_3 24 rfl rfl
theorem dksX1_nearest_5 : cX1_nearest.data.toList.drop 116 = dktX1_nearest_5 := dk_seg dksX1_nearest_4 20 rfl rfl
theorem dksX1_nearest_6 : cX1_nearest.data.toList.drop 138 = dktX1_nearest_6 := dk_seg dksX1_nearest_5 22 rfl rfl
theorem dX1_nearest_0 : decode cX1_nearest 0 = .ok (.aload_n 0, 1) := dk_42 (dk_at dksX1_nearest_0 0 rfl rfl)
theorem dX1_nearest_1 : decode cX1_nearest 1 = .ok (.iload_n 1, 1) := dk_27 (dk_at dksX1_nearest_0 1 rfl rfl)
theorem dX1_nearest_2 : decode cX1_nearest 2 = .ok (.invokevirtual 203, 3) := dk_182 0 203 (dk_at dksX1_nearest_0 2 rfl rfl)
theorem dX1_nearest_5 : decode cX1_nearest 5 = .ok (.astore_n 3, 1) := dk_78 (dk_at dksX1_nearest_0 5 rfl rfl)
theorem dX1_nearest_6 : decode cX1_nearest 6 = .ok (.iload_n 2, 1) := dk_28 (dk_at dksX1_nearest_0 6 rfl rfl)
theorem dX1_nearest_7 : decode cX1_nearest 7 = .ok (.ifCond .lt 12, 3) := dk_155 0 12 (dk_at dksX1_nearest_0 7 rfl rfl)
theorem dX1_nearest_10 : decode cX1_nearest 10 = .ok (.iload_n 2, 1) := dk_28 (dk_at dksX1_nearest_0 10 rfl rfl)
theorem dX1_nearest_11 : decode cX1_nearest 11 = .ok (.iconst 3, 1) := dk_6 (dk_at dksX1_nearest_0 11 rfl rfl)
theorem dX1_nearest_12 : decode cX1_nearest 12 = .ok (.if_icmp .gt 7, 3) := dk_163 0 7 (dk_at dksX1_nearest_0 12 rfl rfl)
theorem dX1_nearest_15 : decode cX1_nearest 15 = .ok (.iconst 1, 1) := dk_4 (dk_at dksX1_nearest_0 15 rfl rfl)
theorem dX1_nearest_16 : decode cX1_nearest 16 = .ok (.goto 4, 3) := dk_167 0 4 (dk_at dksX1_nearest_0 16 rfl rfl)
theorem dX1_nearest_19 : decode cX1_nearest 19 = .ok (.iconst 0, 1) := dk_3 (dk_at dksX1_nearest_0 19 rfl rfl)
theorem dX1_nearest_20 : decode cX1_nearest 20 = .ok (.invokestatic 210, 3) := dk_184 0 210 (dk_at dksX1_nearest_0 20 rfl rfl)
theorem dX1_nearest_23 : decode cX1_nearest 23 = .ok (.aload_n 3, 1) := dk_45 (dk_at dksX1_nearest_0 23 rfl rfl)
theorem dX1_nearest_24 : decode cX1_nearest 24 = .ok (.getfield 67, 3) := dk_180 0 67 (dk_at dksX1_nearest_1 0 rfl rfl)
theorem dX1_nearest_27 : decode cX1_nearest 27 = .ok (.ifCond .ne 5, 3) := dk_154 0 5 (dk_at dksX1_nearest_1 3 rfl rfl)
theorem dX1_nearest_30 : decode cX1_nearest 30 = .ok (.lconst 0, 1) := dk_9 (dk_at dksX1_nearest_1 6 rfl rfl)
theorem dX1_nearest_31 : decode cX1_nearest 31 = .ok (.lreturn, 1) := dk_173 (dk_at dksX1_nearest_1 7 rfl rfl)
theorem dX1_nearest_32 : decode cX1_nearest 32 = .ok (.aload_n 3, 1) := dk_45 (dk_at dksX1_nearest_1 8 rfl rfl)
theorem dX1_nearest_33 : decode cX1_nearest 33 = .ok (.aload_n 0, 1) := dk_42 (dk_at dksX1_nearest_1 9 rfl rfl)
theorem dX1_nearest_34 : decode cX1_nearest 34 = .ok (.getfield 36, 3) := dk_180 0 36 (dk_at dksX1_nearest_1 10 rfl rfl)
theorem dX1_nearest_37 : decode cX1_nearest 37 = .ok (.aload_n 0, 1) := dk_42 (dk_at dksX1_nearest_1 13 rfl rfl)
theorem dX1_nearest_38 : decode cX1_nearest 38 = .ok (.getfield 40, 3) := dk_180 0 40 (dk_at dksX1_nearest_1 14 rfl rfl)
theorem dX1_nearest_41 : decode cX1_nearest 41 = .ok (.invokevirtual 214, 3) := dk_182 0 214 (dk_at dksX1_nearest_1 17 rfl rfl)
theorem dX1_nearest_44 : decode cX1_nearest 44 = .ok (.aload_n 0, 1) := dk_42 (dk_at dksX1_nearest_1 20 rfl rfl)
theorem dX1_nearest_45 : decode cX1_nearest 45 = .ok (.invokevirtual 270, 3) := dk_182 1 14 (dk_at dksX1_nearest_1 21 rfl rfl)
theorem dX1_nearest_48 : decode cX1_nearest 48 = .ok (.bipush 52, 2) := dk_16 52 (dk_at dksX1_nearest_2 0 rfl rfl)
theorem dX1_nearest_50 : decode cX1_nearest 50 = .ok (.isub, 1) := dk_100 (dk_at dksX1_nearest_2 2 rfl rfl)
theorem dX1_nearest_51 : decode cX1_nearest 51 = .ok (.istore 4, 2) := dk_54 4 (dk_at dksX1_nearest_2 3 rfl rfl)
theorem dX1_nearest_53 : decode cX1_nearest 53 = .ok (.aload_n 0, 1) := dk_42 (dk_at dksX1_nearest_2 5 rfl rfl)
theorem dX1_nearest_54 : decode cX1_nearest 54 = .ok (.iload 4, 2) := dk_21 4 (dk_at dksX1_nearest_2 6 rfl rfl)
theorem dX1_nearest_56 : decode cX1_nearest 56 = .ok (.invokevirtual 273, 3) := dk_182 1 17 (dk_at dksX1_nearest_2 8 rfl rfl)
theorem dX1_nearest_59 : decode cX1_nearest 59 = .ok (.aload_n 0, 1) := dk_42 (dk_at dksX1_nearest_2 11 rfl rfl)
theorem dX1_nearest_60 : decode cX1_nearest 60 = .ok (.getfield 259, 3) := dk_180 1 3 (dk_at dksX1_nearest_2 12 rfl rfl)
theorem dX1_nearest_63 : decode cX1_nearest 63 = .ok (.l2d, 1) := dk_138 (dk_at dksX1_nearest_2 15 rfl rfl)
theorem dX1_nearest_64 : decode cX1_nearest 64 = .ok (.iload 4, 2) := dk_21 4 (dk_at dksX1_nearest_2 16 rfl rfl)
theorem dX1_nearest_66 : decode cX1_nearest 66 = .ok (.invokestatic 188, 3) := dk_184 0 188 (dk_at dksX1_nearest_2 18 rfl rfl)
theorem dX1_nearest_69 : decode cX1_nearest 69 = .ok (.dstore 5, 2) := dk_57 5 (dk_at dksX1_nearest_2 21 rfl rfl)
theorem dX1_nearest_71 : decode cX1_nearest 71 = .ok (.aload_n 0, 1) := dk_42 (dk_at dksX1_nearest_2 23 rfl rfl)
theorem dX1_nearest_72 : decode cX1_nearest 72 = .ok (.getfield 263, 3) := dk_180 1 7 (dk_at dksX1_nearest_3 0 rfl rfl)
theorem dX1_nearest_75 : decode cX1_nearest 75 = .ok (.ifCond .eq 56, 3) := dk_153 0 56 (dk_at dksX1_nearest_3 3 rfl rfl)
theorem dX1_nearest_78 : decode cX1_nearest 78 = .ok (.aload_n 0, 1) := dk_42 (dk_at dksX1_nearest_3 6 rfl rfl)
theorem dX1_nearest_79 : decode cX1_nearest 79 = .ok (.getfield 21, 3) := dk_180 0 21 (dk_at dksX1_nearest_3 7 rfl rfl)
theorem dX1_nearest_82 : decode cX1_nearest 82 = .ok (.iload_n 2, 1) := dk_28 (dk_at dksX1_nearest_3 10 rfl rfl)
theorem dX1_nearest_83 : decode cX1_nearest 83 = .ok (.aaload, 1) := dk_50 (dk_at dksX1_nearest_3 11 rfl rfl)
theorem dX1_nearest_84 : decode cX1_nearest 84 = .ok (.aload_n 3, 1) := dk_45 (dk_at dksX1_nearest_3 12 rfl rfl)
theorem dX1_nearest_85 : decode cX1_nearest 85 = .ok (.getfield 67, 3) := dk_180 0 67 (dk_at dksX1_nearest_3 13 rfl rfl)
theorem dX1_nearest_88 : decode cX1_nearest 88 = .ok (.ifCond .ge 7, 3) := dk_156 0 7 (dk_at dksX1_nearest_3 16 rfl rfl)
theorem dX1_nearest_91 : decode cX1_nearest 91 = .ok (.iconst 1, 1) := dk_4 (dk_at dksX1_nearest_3 19 rfl rfl)
theorem dX1_nearest_92 : decode cX1_nearest 92 = .ok (.goto 4, 3) := dk_167 0 4 (dk_at dksX1_nearest_3 20 rfl rfl)
theorem dX1_nearest_95 : decode cX1_nearest 95 = .ok (.iconst 0, 1) := dk_3 (dk_at dksX1_nearest_3 23 rfl rfl)
theorem dX1_nearest_96 : decode cX1_nearest 96 = .ok (.aload_n 0, 1) := dk_42 (dk_at dksX1_nearest_4 0 rfl rfl)
theorem dX1_nearest_97 : decode cX1_nearest 97 = .ok (.getfield 259, 3) := dk_180 1 3 (dk_at dksX1_nearest_4 1 rfl rfl)
theorem dX1_nearest_100 : decode cX1_nearest 100 = .ok (.lconst 1, 1) := dk_10 (dk_at dksX1_nearest_4 4 rfl rfl)
theorem dX1_nearest_101 : decode cX1_nearest 101 = .ok (.land, 1) := dk_127 (dk_at dksX1_nearest_4 5 rfl rfl)
theorem dX1_nearest_102 : decode cX1_nearest 102 = .ok (.lconst 1, 1) := dk_10 (dk_at dksX1_nearest_4 6 rfl rfl)
theorem dX1_nearest_103 : decode cX1_nearest 103 = .ok (.lcmp, 1) := dk_148 (dk_at dksX1_nearest_4 7 rfl rfl)
theorem dX1_nearest_104 : decode cX1_nearest 104 = .ok (.ifCond .ne 7, 3) := dk_154 0 7 (dk_at dksX1_nearest_4 8 rfl rfl)
theorem dX1_nearest_107 : decode cX1_nearest 107 = .ok (.iconst 1, 1) := dk_4 (dk_at dksX1_nearest_4 11 rfl rfl)
theorem dX1_nearest_108 : decode cX1_nearest 108 = .ok (.goto 4, 3) := dk_167 0 4 (dk_at dksX1_nearest_4 12 rfl rfl)
theorem dX1_nearest_111 : decode cX1_nearest 111 = .ok (.iconst 0, 1) := dk_3 (dk_at dksX1_nearest_4 15 rfl rfl)
theorem dX1_nearest_112 : decode cX1_nearest 112 = .ok (.aload_n 0, 1) := dk_42 (dk_at dksX1_nearest_4 16 rfl rfl)
theorem dX1_nearest_113 : decode cX1_nearest 113 = .ok (.getfield 267, 3) := dk_180 1 11 (dk_at dksX1_nearest_4 17 rfl rfl)
theorem dX1_nearest_116 : decode cX1_nearest 116 = .ok (.invokeinterface 276 4, 5) := by decide +kernel
theorem dX1_nearest_121 : decode cX1_nearest 121 = .ok (.ifCond .eq 10, 3) := dk_153 0 10 (dk_at dksX1_nearest_5 5 rfl rfl)
theorem dX1_nearest_124 : decode cX1_nearest 124 = .ok (.dload 5, 2) := dk_24 5 (dk_at dksX1_nearest_5 8 rfl rfl)
theorem dX1_nearest_126 : decode cX1_nearest 126 = .ok (.invokestatic 280, 3) := dk_184 1 24 (dk_at dksX1_nearest_5 10 rfl rfl)
theorem dX1_nearest_129 : decode cX1_nearest 129 = .ok (.dstore 5, 2) := dk_57 5 (dk_at dksX1_nearest_5 13 rfl rfl)
theorem dX1_nearest_131 : decode cX1_nearest 131 = .ok (.dload 5, 2) := dk_24 5 (dk_at dksX1_nearest_5 15 rfl rfl)
theorem dX1_nearest_133 : decode cX1_nearest 133 = .ok (.aload_n 3, 1) := dk_45 (dk_at dksX1_nearest_5 17 rfl rfl)
theorem dX1_nearest_134 : decode cX1_nearest 134 = .ok (.getfield 67, 3) := dk_180 0 67 (dk_at dksX1_nearest_5 18 rfl rfl)
theorem dX1_nearest_137 : decode cX1_nearest 137 = .ok (.i2d, 1) := dk_135 (dk_at dksX1_nearest_5 21 rfl rfl)
theorem dX1_nearest_138 : decode cX1_nearest 138 = .ok (.invokestatic 283, 3) := dk_184 1 27 (dk_at dksX1_nearest_6 0 rfl rfl)
theorem dX1_nearest_141 : decode cX1_nearest 141 = .ok (.invokestatic 287, 3) := dk_184 1 31 (dk_at dksX1_nearest_6 3 rfl rfl)
theorem dX1_nearest_144 : decode cX1_nearest 144 = .ok (.lreturn, 1) := dk_173 (dk_at dksX1_nearest_6 6 rfl rfl)
abbrev cX1_powerOf : ByteArray := prog_1_method_31_code
def yX1_powerOf : MethodName := ⟨RX1, "powerOf", "()I"⟩
def dkwX1_powerOf_4 : List UInt8 := [172]
abbrev dktX1_powerOf_4 : List UInt8 := dkwX1_powerOf_4 ++ []
def dkwX1_powerOf_3 : List UInt8 := [182, 0, 114, 42, 180, 0, 49, 42, 180, 0, 52, 182, 0, 106, 156, 0, 9, 27, 4, 100, 167, 0, 4, 27]
abbrev dktX1_powerOf_3 : List UInt8 := dkwX1_powerOf_3 ++ dktX1_powerOf_4
def dkwX1_powerOf_2 : List UInt8 := [27, 116, 167, 0, 4, 3, 182, 0, 114, 42, 180, 0, 52, 27, 158, 0, 7, 27, 167, 0, 4, 3]
abbrev dktX1_powerOf_2 : List UInt8 := dkwX1_powerOf_2 ++ dktX1_powerOf_3
def dkwX1_powerOf_1 : List UInt8 := [182, 0, 84, 87, 42, 180, 0, 52, 42, 180, 0, 40, 182, 0, 84, 87, 42, 180, 0, 49, 27, 156, 0, 8]
abbrev dktX1_powerOf_1 : List UInt8 := dkwX1_powerOf_1 ++ dktX1_powerOf_2
def dkwX1_powerOf_0 : List UInt8 := [42, 180, 0, 36, 182, 0, 144, 42, 180, 0, 40, 182, 0, 144, 100, 60, 42, 180, 0, 49, 42, 180, 0, 36]
abbrev dktX1_powerOf_0 : List UInt8 := dkwX1_powerOf_0 ++ dktX1_powerOf_1
theorem dksX1_powerOf_0 : cX1_powerOf.data.toList.drop 0 = dktX1_powerOf_0 := by decide +kernel
theorem dksX1_powerOf_1 : cX1_powerOf.data.toList.drop 24 = dktX1_powerOf_1 := dk_seg dksX1_powerOf_0 24 rfl rfl
theorem dksX1_powerOf_2 : cX1_powerOf.data.toList.drop 48 = dktX1_powerOf_2 := dk_seg dksX1_powerOf_1 24 rfl rfl
theorem dksX1_powerOf_3 : cX1_powerOf.data.toList.drop 70 = dktX1_powerOf_3 := dk_seg dksX1_powerOf_2 22 rfl rfl
theorem dksX1_powerOf_4 : cX1_powerOf.data.toList.drop 94 = dktX1_powerOf_4 := dk_seg dksX1_powerOf_3 24 rfl rfl
theorem dX1_powerOf_0 : decode cX1_powerOf 0 = .ok (.aload_n 0, 1) := dk_42 (dk_at dksX1_powerOf_0 0 rfl rfl)
theorem dX1_powerOf_1 : decode cX1_powerOf 1 = .ok (.getfield 36, 3) := dk_180 0 36 (dk_at dksX1_powerOf_0 1 rfl rfl)
theorem dX1_powerOf_4 : decode cX1_powerOf 4 = .ok (.invokevirtual 144, 3) := dk_182 0 144 (dk_at dksX1_powerOf_0 4 rfl rfl)
theorem dX1_powerOf_7 : decode cX1_powerOf 7 = .ok (.aload_n 0, 1) := dk_42 (dk_at dksX1_powerOf_0 7 rfl rfl)
theorem dX1_powerOf_8 : decode cX1_powerOf 8 = .ok (.getfield 40, 3) := dk_180 0 40 (dk_at dksX1_powerOf_0 8 rfl rfl)
theorem dX1_powerOf_11 : decode cX1_powerOf 11 = .ok (.invokevirtual 144, 3) := dk_182 0 144 (dk_at dksX1_powerOf_0 11 rfl rfl)
theorem dX1_powerOf_14 : decode cX1_powerOf 14 = .ok (.isub, 1) := dk_100 (dk_at dksX1_powerOf_0 14 rfl rfl)
theorem dX1_powerOf_15 : decode cX1_powerOf 15 = .ok (.istore_n 1, 1) := dk_60 (dk_at dksX1_powerOf_0 15 rfl rfl)
theorem dX1_powerOf_16 : decode cX1_powerOf 16 = .ok (.aload_n 0, 1) := dk_42 (dk_at dksX1_powerOf_0 16 rfl rfl)
theorem dX1_powerOf_17 : decode cX1_powerOf 17 = .ok (.getfield 49, 3) := dk_180 0 49 (dk_at dksX1_powerOf_0 17 rfl rfl)
theorem dX1_powerOf_20 : decode cX1_powerOf 20 = .ok (.aload_n 0, 1) := dk_42 (dk_at dksX1_powerOf_0 20 rfl rfl)
theorem dX1_powerOf_21 : decode cX1_powerOf 21 = .ok (.getfield 36, 3) := dk_180 0 36 (dk_at dksX1_powerOf_0 21 rfl rfl)
theorem dX1_powerOf_24 : decode cX1_powerOf 24 = .ok (.invokevirtual 84, 3) := dk_182 0 84 (dk_at dksX1_powerOf_1 0 rfl rfl)
theorem dX1_powerOf_27 : decode cX1_powerOf 27 = .ok (.pop, 1) := dk_87 (dk_at dksX1_powerOf_1 3 rfl rfl)
theorem dX1_powerOf_28 : decode cX1_powerOf 28 = .ok (.aload_n 0, 1) := dk_42 (dk_at dksX1_powerOf_1 4 rfl rfl)
theorem dX1_powerOf_29 : decode cX1_powerOf 29 = .ok (.getfield 52, 3) := dk_180 0 52 (dk_at dksX1_powerOf_1 5 rfl rfl)
theorem dX1_powerOf_32 : decode cX1_powerOf 32 = .ok (.aload_n 0, 1) := dk_42 (dk_at dksX1_powerOf_1 8 rfl rfl)
theorem dX1_powerOf_33 : decode cX1_powerOf 33 = .ok (.getfield 40, 3) := dk_180 0 40 (dk_at dksX1_powerOf_1 9 rfl rfl)
theorem dX1_powerOf_36 : decode cX1_powerOf 36 = .ok (.invokevirtual 84, 3) := dk_182 0 84 (dk_at dksX1_powerOf_1 12 rfl rfl)
theorem dX1_powerOf_39 : decode cX1_powerOf 39 = .ok (.pop, 1) := dk_87 (dk_at dksX1_powerOf_1 15 rfl rfl)
theorem dX1_powerOf_40 : decode cX1_powerOf 40 = .ok (.aload_n 0, 1) := dk_42 (dk_at dksX1_powerOf_1 16 rfl rfl)
theorem dX1_powerOf_41 : decode cX1_powerOf 41 = .ok (.getfield 49, 3) := dk_180 0 49 (dk_at dksX1_powerOf_1 17 rfl rfl)
theorem dX1_powerOf_44 : decode cX1_powerOf 44 = .ok (.iload_n 1, 1) := dk_27 (dk_at dksX1_powerOf_1 20 rfl rfl)
theorem dX1_powerOf_45 : decode cX1_powerOf 45 = .ok (.ifCond .ge 8, 3) := dk_156 0 8 (dk_at dksX1_powerOf_1 21 rfl rfl)
theorem dX1_powerOf_48 : decode cX1_powerOf 48 = .ok (.iload_n 1, 1) := dk_27 (dk_at dksX1_powerOf_2 0 rfl rfl)
theorem dX1_powerOf_49 : decode cX1_powerOf 49 = .ok (.ineg, 1) := dk_116 (dk_at dksX1_powerOf_2 1 rfl rfl)
theorem dX1_powerOf_50 : decode cX1_powerOf 50 = .ok (.goto 4, 3) := dk_167 0 4 (dk_at dksX1_powerOf_2 2 rfl rfl)
theorem dX1_powerOf_53 : decode cX1_powerOf 53 = .ok (.iconst 0, 1) := dk_3 (dk_at dksX1_powerOf_2 5 rfl rfl)
theorem dX1_powerOf_54 : decode cX1_powerOf 54 = .ok (.invokevirtual 114, 3) := dk_182 0 114 (dk_at dksX1_powerOf_2 6 rfl rfl)
theorem dX1_powerOf_57 : decode cX1_powerOf 57 = .ok (.aload_n 0, 1) := dk_42 (dk_at dksX1_powerOf_2 9 rfl rfl)
theorem dX1_powerOf_58 : decode cX1_powerOf 58 = .ok (.getfield 52, 3) := dk_180 0 52 (dk_at dksX1_powerOf_2 10 rfl rfl)
theorem dX1_powerOf_61 : decode cX1_powerOf 61 = .ok (.iload_n 1, 1) := dk_27 (dk_at dksX1_powerOf_2 13 rfl rfl)
theorem dX1_powerOf_62 : decode cX1_powerOf 62 = .ok (.ifCond .le 7, 3) := dk_158 0 7 (dk_at dksX1_powerOf_2 14 rfl rfl)
theorem dX1_powerOf_65 : decode cX1_powerOf 65 = .ok (.iload_n 1, 1) := dk_27 (dk_at dksX1_powerOf_2 17 rfl rfl)
theorem dX1_powerOf_66 : decode cX1_powerOf 66 = .ok (.goto 4, 3) := dk_167 0 4 (dk_at dksX1_powerOf_2 18 rfl rfl)
theorem dX1_powerOf_69 : decode cX1_powerOf 69 = .ok (.iconst 0, 1) := dk_3 (dk_at dksX1_powerOf_2 21 rfl rfl)
theorem dX1_powerOf_70 : decode cX1_powerOf 70 = .ok (.invokevirtual 114, 3) := dk_182 0 114 (dk_at dksX1_powerOf_3 0 rfl rfl)
theorem dX1_powerOf_73 : decode cX1_powerOf 73 = .ok (.aload_n 0, 1) := dk_42 (dk_at dksX1_powerOf_3 3 rfl rfl)
theorem dX1_powerOf_74 : decode cX1_powerOf 74 = .ok (.getfield 49, 3) := dk_180 0 49 (dk_at dksX1_powerOf_3 4 rfl rfl)
theorem dX1_powerOf_77 : decode cX1_powerOf 77 = .ok (.aload_n 0, 1) := dk_42 (dk_at dksX1_powerOf_3 7 rfl rfl)
theorem dX1_powerOf_78 : decode cX1_powerOf 78 = .ok (.getfield 52, 3) := dk_180 0 52 (dk_at dksX1_powerOf_3 8 rfl rfl)
theorem dX1_powerOf_81 : decode cX1_powerOf 81 = .ok (.invokevirtual 106, 3) := dk_182 0 106 (dk_at dksX1_powerOf_3 11 rfl rfl)
theorem dX1_powerOf_84 : decode cX1_powerOf 84 = .ok (.ifCond .ge 9, 3) := dk_156 0 9 (dk_at dksX1_powerOf_3 14 rfl rfl)
theorem dX1_powerOf_87 : decode cX1_powerOf 87 = .ok (.iload_n 1, 1) := dk_27 (dk_at dksX1_powerOf_3 17 rfl rfl)
theorem dX1_powerOf_88 : decode cX1_powerOf 88 = .ok (.iconst 1, 1) := dk_4 (dk_at dksX1_powerOf_3 18 rfl rfl)
theorem dX1_powerOf_89 : decode cX1_powerOf 89 = .ok (.isub, 1) := dk_100 (dk_at dksX1_powerOf_3 19 rfl rfl)
theorem dX1_powerOf_90 : decode cX1_powerOf 90 = .ok (.goto 4, 3) := dk_167 0 4 (dk_at dksX1_powerOf_3 20 rfl rfl)
theorem dX1_powerOf_93 : decode cX1_powerOf 93 = .ok (.iload_n 1, 1) := dk_27 (dk_at dksX1_powerOf_3 23 rfl rfl)
theorem dX1_powerOf_94 : decode cX1_powerOf 94 = .ok (.ireturn, 1) := dk_172 (dk_at dksX1_powerOf_4 0 rfl rfl)
abbrev cX1_reach : ByteArray := prog_1_method_30_code
def yX1_reach : MethodName := ⟨RX1, "reach", "(I)V"⟩
def dkwX1_reach_5 : List UInt8 := [181, 1, 11, 177]
abbrev dktX1_reach_5 : List UInt8 := dkwX1_reach_5 ++ []
def dkwX1_reach_4 : List UInt8 := [181, 1, 7, 42, 180, 0, 49, 4, 182, 0, 114, 42, 42, 180, 0, 49, 42, 180, 0, 52, 182, 0, 106]
abbrev dktX1_reach_4 : List UInt8 := dkwX1_reach_4 ++ dktX1_reach_5
def dkwX1_reach_3 : List UInt8 := [182, 0, 147, 181, 1, 3, 42, 42, 180, 0, 49, 182, 0, 88, 154, 0, 7, 4, 167, 0, 4, 3]
abbrev dktX1_reach_3 : List UInt8 := dkwX1_reach_3 ++ dktX1_reach_4
def dkwX1_reach_2 : List UInt8 := [42, 180, 0, 49, 42, 180, 0, 52, 42, 180, 0, 58, 42, 180, 0, 64, 182, 0, 133, 42, 42, 180, 0, 58]
abbrev dktX1_reach_2 : List UInt8 := dkwX1_reach_2 ++ dktX1_reach_3
def dkwX1_reach_1 : List UInt8 := [27, 158, 0, 14, 42, 180, 0, 52, 27, 182, 0, 114, 167, 0, 12, 42, 180, 0, 49, 27, 116, 182, 0, 114]
abbrev dktX1_reach_1 : List UInt8 := dkwX1_reach_1 ++ dktX1_reach_2
def dkwX1_reach_0 : List UInt8 := [42, 180, 0, 49, 42, 180, 0, 36, 182, 0, 84, 87, 42, 180, 0, 52, 42, 180, 0, 40, 182, 0, 84, 87]
abbrev dktX1_reach_0 : List UInt8 := dkwX1_reach_0 ++ dktX1_reach_1
theorem dksX1_reach_0 : cX1_reach.data.toList.drop 0 = dktX1_reach_0 := by decide +kernel
theorem dksX1_reach_1 : cX1_reach.data.toList.drop 24 = dktX1_reach_1 := dk_seg dksX1_reach_0 24 rfl rfl
theorem dksX1_reach_2 : cX1_reach.data.toList.drop 48 = dktX1_reach_2 := dk_seg dksX1_reach_1 24 rfl rfl
theorem dksX1_reach_3 : cX1_reach.data.toList.drop 72 = dktX1_reach_3 := dk_seg dksX1_reach_2 24 rfl rfl
theorem dksX1_reach_4 : cX1_reach.data.toList.drop 94 = dktX1_reach_4 := dk_seg dksX1_reach_3 22 rfl rfl
theorem dksX1_reach_5 : cX1_reach.data.toList.drop 117 = dktX1_reach_5 := dk_seg dksX1_reach_4 23 rfl rfl
theorem dX1_reach_0 : decode cX1_reach 0 = .ok (.aload_n 0, 1) := dk_42 (dk_at dksX1_reach_0 0 rfl rfl)
theorem dX1_reach_1 : decode cX1_reach 1 = .ok (.getfield 49, 3) := dk_180 0 49 (dk_at dksX1_reach_0 1 rfl rfl)
theorem dX1_reach_4 : decode cX1_reach 4 = .ok (.aload_n 0, 1) := dk_42 (dk_at dksX1_reach_0 4 rfl rfl)
theorem dX1_reach_5 : decode cX1_reach 5 = .ok (.getfield 36, 3) := dk_180 0 36 (dk_at dksX1_reach_0 5 rfl rfl)
theorem dX1_reach_8 : decode cX1_reach 8 = .ok (.invokevirtual 84, 3) := dk_182 0 84 (dk_at dksX1_reach_0 8 rfl rfl)
theorem dX1_reach_11 : decode cX1_reach 11 = .ok (.pop, 1) := dk_87 (dk_at dksX1_reach_0 11 rfl rfl)
theorem dX1_reach_12 : decode cX1_reach 12 = .ok (.aload_n 0, 1) := dk_42 (dk_at dksX1_reach_0 12 rfl rfl)
theorem dX1_reach_13 : decode cX1_reach 13 = .ok (.getfield 52, 3) := dk_180 0 52 (dk_at dksX1_reach_0 13 rfl rfl)
theorem dX1_reach_16 : decode cX1_reach 16 = .ok (.aload_n 0, 1) := dk_42 (dk_at dksX1_reach_0 16 rfl rfl)
theorem dX1_reach_17 : decode cX1_reach 17 = .ok (.getfield 40, 3) := dk_180 0 40 (dk_at dksX1_reach_0 17 rfl rfl)
theorem dX1_reach_20 : decode cX1_reach 20 = .ok (.invokevirtual 84, 3) := dk_182 0 84 (dk_at dksX1_reach_0 20 rfl rfl)
theorem dX1_reach_23 : decode cX1_reach 23 = .ok (.pop, 1) := dk_87 (dk_at dksX1_reach_0 23 rfl rfl)
theorem dX1_reach_24 : decode cX1_reach 24 = .ok (.iload_n 1, 1) := dk_27 (dk_at dksX1_reach_1 0 rfl rfl)
theorem dX1_reach_25 : decode cX1_reach 25 = .ok (.ifCond .le 14, 3) := dk_158 0 14 (dk_at dksX1_reach_1 1 rfl rfl)
theorem dX1_reach_28 : decode cX1_reach 28 = .ok (.aload_n 0, 1) := dk_42 (dk_at dksX1_reach_1 4 rfl rfl)
theorem dX1_reach_29 : decode cX1_reach 29 = .ok (.getfield 52, 3) := dk_180 0 52 (dk_at dksX1_reach_1 5 rfl rfl)
theorem dX1_reach_32 : decode cX1_reach 32 = .ok (.iload_n 1, 1) := dk_27 (dk_at dksX1_reach_1 8 rfl rfl)
theorem dX1_reach_33 : decode cX1_reach 33 = .ok (.invokevirtual 114, 3) := dk_182 0 114 (dk_at dksX1_reach_1 9 rfl rfl)
theorem dX1_reach_36 : decode cX1_reach 36 = .ok (.goto 12, 3) := dk_167 0 12 (dk_at dksX1_reach_1 12 rfl rfl)
theorem dX1_reach_39 : decode cX1_reach 39 = .ok (.aload_n 0, 1) := dk_42 (dk_at dksX1_reach_1 15 rfl rfl)
theorem dX1_reach_40 : decode cX1_reach 40 = .ok (.getfield 49, 3) := dk_180 0 49 (dk_at dksX1_reach_1 16 rfl rfl)
theorem dX1_reach_43 : decode cX1_reach 43 = .ok (.iload_n 1, 1) := dk_27 (dk_at dksX1_reach_1 19 rfl rfl)
theorem dX1_reach_44 : decode cX1_reach 44 = .ok (.ineg, 1) := dk_116 (dk_at dksX1_reach_1 20 rfl rfl)
theorem dX1_reach_45 : decode cX1_reach 45 = .ok (.invokevirtual 114, 3) := dk_182 0 114 (dk_at dksX1_reach_1 21 rfl rfl)
theorem dX1_reach_48 : decode cX1_reach 48 = .ok (.aload_n 0, 1) := dk_42 (dk_at dksX1_reach_2 0 rfl rfl)
theorem dX1_reach_49 : decode cX1_reach 49 = .ok (.getfield 49, 3) := dk_180 0 49 (dk_at dksX1_reach_2 1 rfl rfl)
theorem dX1_reach_52 : decode cX1_reach 52 = .ok (.aload_n 0, 1) := dk_42 (dk_at dksX1_reach_2 4 rfl rfl)
theorem dX1_reach_53 : decode cX1_reach 53 = .ok (.getfield 52, 3) := dk_180 0 52 (dk_at dksX1_reach_2 5 rfl rfl)
theorem dX1_reach_56 : decode cX1_reach 56 = .ok (.aload_n 0, 1) := dk_42 (dk_at dksX1_reach_2 8 rfl rfl)
theorem dX1_reach_57 : decode cX1_reach 57 = .ok (.getfield 58, 3) := dk_180 0 58 (dk_at dksX1_reach_2 9 rfl rfl)
theorem dX1_reach_60 : decode cX1_reach 60 = .ok (.aload_n 0, 1) := dk_42 (dk_at dksX1_reach_2 12 rfl rfl)
theorem dX1_reach_61 : decode cX1_reach 61 = .ok (.getfield 64, 3) := dk_180 0 64 (dk_at dksX1_reach_2 13 rfl rfl)
theorem dX1_reach_64 : decode cX1_reach 64 = .ok (.invokevirtual 133, 3) := dk_182 0 133 (dk_at dksX1_reach_2 16 rfl rfl)
theorem dX1_reach_67 : decode cX1_reach 67 = .ok (.aload_n 0, 1) := dk_42 (dk_at dksX1_reach_2 19 rfl rfl)
theorem dX1_reach_68 : decode cX1_reach 68 = .ok (.aload_n 0, 1) := dk_42 (dk_at dksX1_reach_2 20 rfl rfl)
theorem dX1_reach_69 : decode cX1_reach 69 = .ok (.getfield 58, 3) := dk_180 0 58 (dk_at dksX1_reach_2 21 rfl rfl)
theorem dX1_reach_72 : decode cX1_reach 72 = .ok (.invokevirtual 147, 3) := dk_182 0 147 (dk_at dksX1_reach_3 0 rfl rfl)
theorem dX1_reach_75 : decode cX1_reach 75 = .ok (.putfield 259, 3) := dk_181 1 3 (dk_at dksX1_reach_3 3 rfl rfl)
theorem dX1_reach_78 : decode cX1_reach 78 = .ok (.aload_n 0, 1) := dk_42 (dk_at dksX1_reach_3 6 rfl rfl)
theorem dX1_reach_79 : decode cX1_reach 79 = .ok (.aload_n 0, 1) := dk_42 (dk_at dksX1_reach_3 7 rfl rfl)
theorem dX1_reach_80 : decode cX1_reach 80 = .ok (.getfield 49, 3) := dk_180 0 49 (dk_at dksX1_reach_3 8 rfl rfl)
theorem dX1_reach_83 : decode cX1_reach 83 = .ok (.invokevirtual 88, 3) := dk_182 0 88 (dk_at dksX1_reach_3 11 rfl rfl)
theorem dX1_reach_86 : decode cX1_reach 86 = .ok (.ifCond .ne 7, 3) := dk_154 0 7 (dk_at dksX1_reach_3 14 rfl rfl)
theorem dX1_reach_89 : decode cX1_reach 89 = .ok (.iconst 1, 1) := dk_4 (dk_at dksX1_reach_3 17 rfl rfl)
theorem dX1_reach_90 : decode cX1_reach 90 = .ok (.goto 4, 3) := dk_167 0 4 (dk_at dksX1_reach_3 18 rfl rfl)
theorem dX1_reach_93 : decode cX1_reach 93 = .ok (.iconst 0, 1) := dk_3 (dk_at dksX1_reach_3 21 rfl rfl)
theorem dX1_reach_94 : decode cX1_reach 94 = .ok (.putfield 263, 3) := dk_181 1 7 (dk_at dksX1_reach_4 0 rfl rfl)
theorem dX1_reach_97 : decode cX1_reach 97 = .ok (.aload_n 0, 1) := dk_42 (dk_at dksX1_reach_4 3 rfl rfl)
theorem dX1_reach_98 : decode cX1_reach 98 = .ok (.getfield 49, 3) := dk_180 0 49 (dk_at dksX1_reach_4 4 rfl rfl)
theorem dX1_reach_101 : decode cX1_reach 101 = .ok (.iconst 1, 1) := dk_4 (dk_at dksX1_reach_4 7 rfl rfl)
theorem dX1_reach_102 : decode cX1_reach 102 = .ok (.invokevirtual 114, 3) := dk_182 0 114 (dk_at dksX1_reach_4 8 rfl rfl)
theorem dX1_reach_105 : decode cX1_reach 105 = .ok (.aload_n 0, 1) := dk_42 (dk_at dksX1_reach_4 11 rfl rfl)
theorem dX1_reach_106 : decode cX1_reach 106 = .ok (.aload_n 0, 1) := dk_42 (dk_at dksX1_reach_4 12 rfl rfl)
theorem dX1_reach_107 : decode cX1_reach 107 = .ok (.getfield 49, 3) := dk_180 0 49 (dk_at dksX1_reach_4 13 rfl rfl)
theorem dX1_reach_110 : decode cX1_reach 110 = .ok (.aload_n 0, 1) := dk_42 (dk_at dksX1_reach_4 16 rfl rfl)
theorem dX1_reach_111 : decode cX1_reach 111 = .ok (.getfield 52, 3) := dk_180 0 52 (dk_at dksX1_reach_4 17 rfl rfl)
theorem dX1_reach_114 : decode cX1_reach 114 = .ok (.invokevirtual 106, 3) := dk_182 0 106 (dk_at dksX1_reach_4 20 rfl rfl)
theorem dX1_reach_117 : decode cX1_reach 117 = .ok (.putfield 267, 3) := dk_181 1 11 (dk_at dksX1_reach_5 0 rfl rfl)
theorem dX1_reach_120 : decode cX1_reach 120 = .ok (.return_, 1) := dk_177 (dk_at dksX1_reach_5 3 rfl rfl)
abbrev cX1_single : ByteArray := prog_1_method_33_code
def yX1_single : MethodName := ⟨RX1, "single", "(II)I"⟩
def dkwX1_single_7 : List UInt8 := [184, 1, 41, 56, 5, 23, 5, 45, 180, 0, 67, 134, 184, 1, 44, 184, 1, 47, 172]
abbrev dktX1_single_7 : List UInt8 := dkwX1_single_7 ++ []
def dkwX1_single_6 : List UInt8 := [148, 154, 0, 7, 4, 167, 0, 4, 3, 42, 180, 1, 11, 185, 1, 20, 4, 0, 153, 0, 10, 23, 5]
abbrev dktX1_single_6 : List UInt8 := dkwX1_single_6 ++ dktX1_single_7
def dkwX1_single_5 : List UInt8 := [180, 0, 21, 28, 50, 45, 180, 0, 67, 156, 0, 7, 4, 167, 0, 4, 3, 42, 180, 1, 3, 10, 127, 10]
abbrev dktX1_single_5 : List UInt8 := dkwX1_single_5 ++ dktX1_single_6
def dkwX1_single_4 : List UInt8 := [182, 1, 17, 42, 180, 1, 3, 137, 21, 6, 184, 1, 38, 56, 5, 42, 180, 1, 7, 153, 0, 56, 42]
abbrev dktX1_single_4 : List UInt8 := dkwX1_single_4 ++ dktX1_single_5
def dkwX1_single_3 : List UInt8 := [42, 4, 181, 1, 7, 167, 0, 34, 21, 4, 16, 23, 100, 17, 255, 107, 184, 0, 181, 54, 6, 42, 21, 6]
abbrev dktX1_single_3 : List UInt8 := dkwX1_single_3 ++ dktX1_single_4
def dkwX1_single_2 : List UInt8 := [54, 4, 19, 1, 37, 56, 5, 21, 4, 16, 127, 164, 0, 21, 42, 10, 181, 1, 3, 42, 4, 181, 1, 11]
abbrev dktX1_single_2 : List UInt8 := dkwX1_single_2 ++ dktX1_single_3
def dkwX1_single_1 : List UInt8 := [180, 0, 67, 154, 0, 5, 3, 172, 45, 42, 180, 0, 36, 42, 180, 0, 40, 182, 0, 214, 42, 182, 1, 14]
abbrev dktX1_single_1 : List UInt8 := dkwX1_single_1 ++ dktX1_single_2
def dkwX1_single_0 : List UInt8 := [42, 27, 182, 0, 203, 78, 28, 155, 0, 12, 28, 6, 163, 0, 7, 4, 167, 0, 4, 3, 184, 0, 210, 45]
abbrev dktX1_single_0 : List UInt8 := dkwX1_single_0 ++ dktX1_single_1
theorem dksX1_single_0 : cX1_single.data.toList.drop 0 = dktX1_single_0 := by decide +kernel
theorem dksX1_single_1 : cX1_single.data.toList.drop 24 = dktX1_single_1 := dk_seg dksX1_single_0 24 rfl rfl
theorem dksX1_single_2 : cX1_single.data.toList.drop 48 = dktX1_single_2 := dk_seg dksX1_single_1 24 rfl rfl
theorem dksX1_single_3 : cX1_single.data.toList.drop 72 = dktX1_single_3 := dk_seg dksX1_single_2 24 rfl rfl
theorem dksX1_single_4 : cX1_single.data.toList.drop 96 = dktX1_single_4 := dk_seg dksX1_single_3 24 rfl rfl
theorem dksX1_single_5 : cX1_single.data.toList.drop 119 = dktX1_single_5 := dk_seg dksX1_single_4 23 rfl rfl
theorem dksX1_single_6 : cX1_single.data.toList.drop 143 = dktX1_single_6 := dk_seg dksX1_single_5 24 rfl rfl
theorem dksX1_single_7 : cX1_single.data.toList.drop 166 = dktX1_single_7 := dk_seg dksX1_single_6 23 rfl rfl
theorem dX1_single_0 : decode cX1_single 0 = .ok (.aload_n 0, 1) := dk_42 (dk_at dksX1_single_0 0 rfl rfl)
theorem dX1_single_1 : decode cX1_single 1 = .ok (.iload_n 1, 1) := dk_27 (dk_at dksX1_single_0 1 rfl rfl)
theorem dX1_single_2 : decode cX1_single 2 = .ok (.invokevirtual 203, 3) := dk_182 0 203 (dk_at dksX1_single_0 2 rfl rfl)
theorem dX1_single_5 : decode cX1_single 5 = .ok (.astore_n 3, 1) := dk_78 (dk_at dksX1_single_0 5 rfl rfl)
theorem dX1_single_6 : decode cX1_single 6 = .ok (.iload_n 2, 1) := dk_28 (dk_at dksX1_single_0 6 rfl rfl)
theorem dX1_single_7 : decode cX1_single 7 = .ok (.ifCond .lt 12, 3) := dk_155 0 12 (dk_at dksX1_single_0 7 rfl rfl)
theorem dX1_single_10 : decode cX1_single 10 = .ok (.iload_n 2, 1) := dk_28 (dk_at dksX1_single_0 10 rfl rfl)
theorem dX1_single_11 : decode cX1_single 11 = .ok (.iconst 3, 1) := dk_6 (dk_at dksX1_single_0 11 rfl rfl)
theorem dX1_single_12 : decode cX1_single 12 = .ok (.if_icmp .gt 7, 3) := dk_163 0 7 (dk_at dksX1_single_0 12 rfl rfl)
theorem dX1_single_15 : decode cX1_single 15 = .ok (.iconst 1, 1) := dk_4 (dk_at dksX1_single_0 15 rfl rfl)
theorem dX1_single_16 : decode cX1_single 16 = .ok (.goto 4, 3) := dk_167 0 4 (dk_at dksX1_single_0 16 rfl rfl)
theorem dX1_single_19 : decode cX1_single 19 = .ok (.iconst 0, 1) := dk_3 (dk_at dksX1_single_0 19 rfl rfl)
theorem dX1_single_20 : decode cX1_single 20 = .ok (.invokestatic 210, 3) := dk_184 0 210 (dk_at dksX1_single_0 20 rfl rfl)
theorem dX1_single_23 : decode cX1_single 23 = .ok (.aload_n 3, 1) := dk_45 (dk_at dksX1_single_0 23 rfl rfl)
theorem dX1_single_24 : decode cX1_single 24 = .ok (.getfield 67, 3) := dk_180 0 67 (dk_at dksX1_single_1 0 rfl rfl)
theorem dX1_single_27 : decode cX1_single 27 = .ok (.ifCond .ne 5, 3) := dk_154 0 5 (dk_at dksX1_single_1 3 rfl rfl)
theorem dX1_single_30 : decode cX1_single 30 = .ok (.iconst 0, 1) := dk_3 (dk_at dksX1_single_1 6 rfl rfl)
theorem dX1_single_31 : decode cX1_single 31 = .ok (.ireturn, 1) := dk_172 (dk_at dksX1_single_1 7 rfl rfl)
theorem dX1_single_32 : decode cX1_single 32 = .ok (.aload_n 3, 1) := dk_45 (dk_at dksX1_single_1 8 rfl rfl)
theorem dX1_single_33 : decode cX1_single 33 = .ok (.aload_n 0, 1) := dk_42 (dk_at dksX1_single_1 9 rfl rfl)
theorem dX1_single_34 : decode cX1_single 34 = .ok (.getfield 36, 3) := dk_180 0 36 (dk_at dksX1_single_1 10 rfl rfl)
theorem dX1_single_37 : decode cX1_single 37 = .ok (.aload_n 0, 1) := dk_42 (dk_at dksX1_single_1 13 rfl rfl)
theorem dX1_single_38 : decode cX1_single 38 = .ok (.getfield 40, 3) := dk_180 0 40 (dk_at dksX1_single_1 14 rfl rfl)
theorem dX1_single_41 : decode cX1_single 41 = .ok (.invokevirtual 214, 3) := dk_182 0 214 (dk_at dksX1_single_1 17 rfl rfl)
theorem dX1_single_44 : decode cX1_single 44 = .ok (.aload_n 0, 1) := dk_42 (dk_at dksX1_single_1 20 rfl rfl)
theorem dX1_single_45 : decode cX1_single 45 = .ok (.invokevirtual 270, 3) := dk_182 1 14 (dk_at dksX1_single_1 21 rfl rfl)
theorem dX1_single_48 : decode cX1_single 48 = .ok (.istore 4, 2) := dk_54 4 (dk_at dksX1_single_2 0 rfl rfl)
theorem dX1_single_50 : decode cX1_single 50 = .ok (.ldc_w 293, 3) := dk_19 1 37 (dk_at dksX1_single_2 2 rfl rfl)
theorem dX1_single_53 : decode cX1_single 53 = .ok (.fstore 5, 2) := dk_56 5 (dk_at dksX1_single_2 5 rfl rfl)
theorem dX1_single_55 : decode cX1_single 55 = .ok (.iload 4, 2) := dk_21 4 (dk_at dksX1_single_2 7 rfl rfl)
theorem dX1_single_57 : decode cX1_single 57 = .ok (.bipush 127, 2) := dk_16 127 (dk_at dksX1_single_2 9 rfl rfl)
theorem dX1_single_59 : decode cX1_single 59 = .ok (.if_icmp .le 21, 3) := dk_164 0 21 (dk_at dksX1_single_2 11 rfl rfl)
theorem dX1_single_62 : decode cX1_single 62 = .ok (.aload_n 0, 1) := dk_42 (dk_at dksX1_single_2 14 rfl rfl)
theorem dX1_single_63 : decode cX1_single 63 = .ok (.lconst 1, 1) := dk_10 (dk_at dksX1_single_2 15 rfl rfl)
theorem dX1_single_64 : decode cX1_single 64 = .ok (.putfield 259, 3) := dk_181 1 3 (dk_at dksX1_single_2 16 rfl rfl)
theorem dX1_single_67 : decode cX1_single 67 = .ok (.aload_n 0, 1) := dk_42 (dk_at dksX1_single_2 19 rfl rfl)
theorem dX1_single_68 : decode cX1_single 68 = .ok (.iconst 1, 1) := dk_4 (dk_at dksX1_single_2 20 rfl rfl)
theorem dX1_single_69 : decode cX1_single 69 = .ok (.putfield 267, 3) := dk_181 1 11 (dk_at dksX1_single_2 21 rfl rfl)
theorem dX1_single_72 : decode cX1_single 72 = .ok (.aload_n 0, 1) := dk_42 (dk_at dksX1_single_3 0 rfl rfl)
theorem dX1_single_73 : decode cX1_single 73 = .ok (.iconst 1, 1) := dk_4 (dk_at dksX1_single_3 1 rfl rfl)
theorem dX1_single_74 : decode cX1_single 74 = .ok (.putfield 263, 3) := dk_181 1 7 (dk_at dksX1_single_3 2 rfl rfl)
theorem dX1_single_77 : decode cX1_single 77 = .ok (.goto 34, 3) := dk_167 0 34 (dk_at dksX1_single_3 5 rfl rfl)
theorem dX1_single_80 : decode cX1_single 80 = .ok (.iload 4, 2) := dk_21 4 (dk_at dksX1_single_3 8 rfl rfl)
theorem dX1_single_82 : decode cX1_single 82 = .ok (.bipush 23, 2) := dk_16 23 (dk_at dksX1_single_3 10 rfl rfl)
theorem dX1_single_84 : decode cX1_single 84 = .ok (.isub, 1) := dk_100 (dk_at dksX1_single_3 12 rfl rfl)
theorem dX1_single_85 : decode cX1_single 85 = .ok (.sipush (-149), 3) := dk_17 255 107 (dk_at dksX1_single_3 13 rfl rfl)
theorem dX1_single_88 : decode cX1_single 88 = .ok (.invokestatic 181, 3) := dk_184 0 181 (dk_at dksX1_single_3 16 rfl rfl)
theorem dX1_single_91 : decode cX1_single 91 = .ok (.istore 6, 2) := dk_54 6 (dk_at dksX1_single_3 19 rfl rfl)
theorem dX1_single_93 : decode cX1_single 93 = .ok (.aload_n 0, 1) := dk_42 (dk_at dksX1_single_3 21 rfl rfl)
theorem dX1_single_94 : decode cX1_single 94 = .ok (.iload 6, 2) := dk_21 6 (dk_at dksX1_single_3 22 rfl rfl)
theorem dX1_single_96 : decode cX1_single 96 = .ok (.invokevirtual 273, 3) := dk_182 1 17 (dk_at dksX1_single_4 0 rfl rfl)
theorem dX1_single_99 : decode cX1_single 99 = .ok (.aload_n 0, 1) := dk_42 (dk_at dksX1_single_4 3 rfl rfl)
theorem dX1_single_100 : decode cX1_single 100 = .ok (.getfield 259, 3) := dk_180 1 3 (dk_at dksX1_single_4 4 rfl rfl)
theorem dX1_single_103 : decode cX1_single 103 = .ok (.l2f, 1) := dk_137 (dk_at dksX1_single_4 7 rfl rfl)
theorem dX1_single_104 : decode cX1_single 104 = .ok (.iload 6, 2) := dk_21 6 (dk_at dksX1_single_4 8 rfl rfl)
theorem dX1_single_106 : decode cX1_single 106 = .ok (.invokestatic 294, 3) := dk_184 1 38 (dk_at dksX1_single_4 10 rfl rfl)
theorem dX1_single_109 : decode cX1_single 109 = .ok (.fstore 5, 2) := dk_56 5 (dk_at dksX1_single_4 13 rfl rfl)
theorem dX1_single_111 : decode cX1_single 111 = .ok (.aload_n 0, 1) := dk_42 (dk_at dksX1_single_4 15 rfl rfl)
theorem dX1_single_112 : decode cX1_single 112 = .ok (.getfield 263, 3) := dk_180 1 7 (dk_at dksX1_single_4 16 rfl rfl)
theorem dX1_single_115 : decode cX1_single 115 = .ok (.ifCond .eq 56, 3) := dk_153 0 56 (dk_at dksX1_single_4 19 rfl rfl)
theorem dX1_single_118 : decode cX1_single 118 = .ok (.aload_n 0, 1) := dk_42 (dk_at dksX1_single_4 22 rfl rfl)
theorem dX1_single_119 : decode cX1_single 119 = .ok (.getfield 21, 3) := dk_180 0 21 (dk_at dksX1_single_5 0 rfl rfl)
theorem dX1_single_122 : decode cX1_single 122 = .ok (.iload_n 2, 1) := dk_28 (dk_at dksX1_single_5 3 rfl rfl)
theorem dX1_single_123 : decode cX1_single 123 = .ok (.aaload, 1) := dk_50 (dk_at dksX1_single_5 4 rfl rfl)
theorem dX1_single_124 : decode cX1_single 124 = .ok (.aload_n 3, 1) := dk_45 (dk_at dksX1_single_5 5 rfl rfl)
theorem dX1_single_125 : decode cX1_single 125 = .ok (.getfield 67, 3) := dk_180 0 67 (dk_at dksX1_single_5 6 rfl rfl)
theorem dX1_single_128 : decode cX1_single 128 = .ok (.ifCond .ge 7, 3) := dk_156 0 7 (dk_at dksX1_single_5 9 rfl rfl)
theorem dX1_single_131 : decode cX1_single 131 = .ok (.iconst 1, 1) := dk_4 (dk_at dksX1_single_5 12 rfl rfl)
theorem dX1_single_132 : decode cX1_single 132 = .ok (.goto 4, 3) := dk_167 0 4 (dk_at dksX1_single_5 13 rfl rfl)
theorem dX1_single_135 : decode cX1_single 135 = .ok (.iconst 0, 1) := dk_3 (dk_at dksX1_single_5 16 rfl rfl)
theorem dX1_single_136 : decode cX1_single 136 = .ok (.aload_n 0, 1) := dk_42 (dk_at dksX1_single_5 17 rfl rfl)
theorem dX1_single_137 : decode cX1_single 137 = .ok (.getfield 259, 3) := dk_180 1 3 (dk_at dksX1_single_5 18 rfl rfl)
theorem dX1_single_140 : decode cX1_single 140 = .ok (.lconst 1, 1) := dk_10 (dk_at dksX1_single_5 21 rfl rfl)
theorem dX1_single_141 : decode cX1_single 141 = .ok (.land, 1) := dk_127 (dk_at dksX1_single_5 22 rfl rfl)
theorem dX1_single_142 : decode cX1_single 142 = .ok (.lconst 1, 1) := dk_10 (dk_at dksX1_single_5 23 rfl rfl)
theorem dX1_single_143 : decode cX1_single 143 = .ok (.lcmp, 1) := dk_148 (dk_at dksX1_single_6 0 rfl rfl)
theorem dX1_single_144 : decode cX1_single 144 = .ok (.ifCond .ne 7, 3) := dk_154 0 7 (dk_at dksX1_single_6 1 rfl rfl)
theorem dX1_single_147 : decode cX1_single 147 = .ok (.iconst 1, 1) := dk_4 (dk_at dksX1_single_6 4 rfl rfl)
theorem dX1_single_148 : decode cX1_single 148 = .ok (.goto 4, 3) := dk_167 0 4 (dk_at dksX1_single_6 5 rfl rfl)
theorem dX1_single_151 : decode cX1_single 151 = .ok (.iconst 0, 1) := dk_3 (dk_at dksX1_single_6 8 rfl rfl)
theorem dX1_single_152 : decode cX1_single 152 = .ok (.aload_n 0, 1) := dk_42 (dk_at dksX1_single_6 9 rfl rfl)
theorem dX1_single_153 : decode cX1_single 153 = .ok (.getfield 267, 3) := dk_180 1 11 (dk_at dksX1_single_6 10 rfl rfl)
theorem dX1_single_156 : decode cX1_single 156 = .ok (.invokeinterface 276 4, 5) := by decide +kernel
theorem dX1_single_161 : decode cX1_single 161 = .ok (.ifCond .eq 10, 3) := dk_153 0 10 (dk_at dksX1_single_6 18 rfl rfl)
theorem dX1_single_164 : decode cX1_single 164 = .ok (.fload 5, 2) := dk_23 5 (dk_at dksX1_single_6 21 rfl rfl)
theorem dX1_single_166 : decode cX1_single 166 = .ok (.invokestatic 297, 3) := dk_184 1 41 (dk_at dksX1_single_7 0 rfl rfl)
theorem dX1_single_169 : decode cX1_single 169 = .ok (.fstore 5, 2) := dk_56 5 (dk_at dksX1_single_7 3 rfl rfl)
theorem dX1_single_171 : decode cX1_single 171 = .ok (.fload 5, 2) := dk_23 5 (dk_at dksX1_single_7 5 rfl rfl)
theorem dX1_single_173 : decode cX1_single 173 = .ok (.aload_n 3, 1) := dk_45 (dk_at dksX1_single_7 7 rfl rfl)
theorem dX1_single_174 : decode cX1_single 174 = .ok (.getfield 67, 3) := dk_180 0 67 (dk_at dksX1_single_7 8 rfl rfl)
theorem dX1_single_177 : decode cX1_single 177 = .ok (.i2f, 1) := dk_134 (dk_at dksX1_single_7 11 rfl rfl)
theorem dX1_single_178 : decode cX1_single 178 = .ok (.invokestatic 300, 3) := dk_184 1 44 (dk_at dksX1_single_7 12 rfl rfl)
theorem dX1_single_181 : decode cX1_single 181 = .ok (.invokestatic 303, 3) := dk_184 1 47 (dk_at dksX1_single_7 15 rfl rfl)
theorem dX1_single_184 : decode cX1_single 184 = .ok (.ireturn, 1) := dk_172 (dk_at dksX1_single_7 18 rfl rfl)
abbrev cX1_machine : ByteArray := prog_1_method_39_code
def yX1_machine : MethodName := ⟨RX1, "machine", "(IJJ)J"⟩
def dkwX1_machine_18 : List UInt8 := [20, 1, 106, 173, 24, 10, 184, 1, 31, 173]
abbrev dktX1_machine_18 : List UInt8 := dkwX1_machine_18 ++ []
def dkwX1_machine_17 : List UInt8 := [154, 0, 9, 20, 1, 102, 167, 0, 20, 24, 6, 24, 8, 151, 158, 0, 9, 20, 1, 104, 167, 0, 6]
abbrev dktX1_machine_17 : List UInt8 := dkwX1_machine_17 ++ dktX1_machine_18
def dkwX1_machine_16 : List UInt8 := [57, 10, 167, 0, 47, 24, 6, 24, 8, 152, 156, 0, 7, 10, 167, 0, 34, 24, 6, 24, 8, 151]
abbrev dktX1_machine_16 : List UInt8 := dkwX1_machine_16 ++ dktX1_machine_17
def dkwX1_machine_15 : List UInt8 := [167, 0, 23, 24, 6, 20, 1, 93, 20, 1, 95, 22, 4, 184, 1, 97, 184, 1, 100, 136, 184, 0, 188]
abbrev dktX1_machine_15 : List UInt8 := dkwX1_machine_15 ++ dktX1_machine_16
def dkwX1_machine_14 : List UInt8 := [167, 0, 8, 24, 6, 184, 1, 90, 57, 10, 167, 0, 86, 24, 6, 24, 6, 151, 153, 0, 9, 20, 1, 55]
abbrev dktX1_machine_14 : List UInt8 := dkwX1_machine_14 ++ dktX1_machine_15
def dkwX1_machine_13 : List UInt8 := [167, 0, 8, 24, 6, 184, 1, 24, 57, 10, 167, 0, 110, 24, 6, 24, 6, 151, 153, 0, 9, 20, 1, 55]
abbrev dktX1_machine_13 : List UInt8 := dkwX1_machine_13 ++ dktX1_machine_14
def dkwX1_machine_12 : List UInt8 := [167, 0, 4, 15, 184, 1, 27, 57, 10, 167, 0, 134, 24, 6, 24, 6, 151, 153, 0, 9, 20, 1, 55]
abbrev dktX1_machine_12 : List UInt8 := dkwX1_machine_12 ++ dktX1_machine_13
def dkwX1_machine_11 : List UInt8 := [24, 6, 151, 153, 0, 9, 20, 1, 55, 167, 0, 22, 24, 6, 22, 4, 9, 148, 156, 0, 9, 20, 1, 88]
abbrev dktX1_machine_11 : List UInt8 := dkwX1_machine_11 ++ dktX1_machine_12
def dkwX1_machine_10 : List UInt8 := [153, 0, 9, 20, 1, 55, 167, 0, 10, 24, 6, 24, 8, 184, 1, 86, 57, 10, 167, 0, 172, 24, 6]
abbrev dktX1_machine_10 : List UInt8 := dkwX1_machine_10 ++ dktX1_machine_11
def dkwX1_machine_9 : List UInt8 := [24, 8, 184, 1, 84, 57, 10, 167, 0, 206, 24, 6, 24, 6, 151, 154, 0, 11, 24, 8, 24, 8, 151]
abbrev dktX1_machine_9 : List UInt8 := dkwX1_machine_9 ++ dktX1_machine_10
def dkwX1_machine_8 : List UInt8 := [24, 6, 24, 6, 151, 154, 0, 11, 24, 8, 24, 8, 151, 153, 0, 9, 20, 1, 55, 167, 0, 10, 24, 6]
abbrev dktX1_machine_8 : List UInt8 := dkwX1_machine_8 ++ dktX1_machine_9
def dkwX1_machine_7 : List UInt8 := [24, 6, 24, 6, 151, 153, 0, 9, 20, 1, 55, 167, 0, 8, 24, 6, 184, 1, 81, 57, 10, 167, 0, 240]
abbrev dktX1_machine_7 : List UInt8 := dkwX1_machine_7 ++ dktX1_machine_8
def dkwX1_machine_6 : List UInt8 := [24, 6, 24, 6, 151, 153, 0, 9, 20, 1, 55, 167, 0, 8, 24, 6, 184, 1, 78, 57, 10, 167, 1, 8]
abbrev dktX1_machine_6 : List UInt8 := dkwX1_machine_6 ++ dktX1_machine_7
def dkwX1_machine_5 : List UInt8 := [24, 6, 24, 6, 151, 153, 0, 9, 20, 1, 55, 167, 0, 8, 24, 6, 184, 1, 75, 57, 10, 167, 1, 32]
abbrev dktX1_machine_5 : List UInt8 := dkwX1_machine_5 ++ dktX1_machine_6
def dkwX1_machine_4 : List UInt8 := [24, 8, 14, 151, 154, 0, 9, 20, 1, 55, 167, 0, 8, 24, 6, 24, 8, 115, 57, 10, 167, 1, 56]
abbrev dktX1_machine_4 : List UInt8 := dkwX1_machine_4 ++ dktX1_machine_5
def dkwX1_machine_3 : List UInt8 := [24, 6, 24, 6, 151, 154, 0, 26, 24, 8, 24, 8, 151, 154, 0, 18, 24, 6, 184, 1, 71, 154, 0, 10]
abbrev dktX1_machine_3 : List UInt8 := dkwX1_machine_3 ++ dktX1_machine_4
def dkwX1_machine_2 : List UInt8 := [170, 0, 0, 0, 0, 0, 1, 112, 0, 0, 0, 0, 0, 0, 0, 9, 0, 0, 0, 56, 0, 0, 0, 103, 0, 0, 0, 127, 0, 0, 0, 151, 0, 0, 0, 175, 0, 0, 0, 209, 0, 0, 0, 243, 0, 0, 1, 25, 0, 0, 1, 49, 0, 0, 1, 73]
abbrev dktX1_machine_2 : List UInt8 := dkwX1_machine_2 ++ dktX1_machine_3
def dkwX1_machine_1 : List UInt8 := [22, 4, 184, 0, 192, 57, 8, 27]
abbrev dktX1_machine_1 : List UInt8 := dkwX1_machine_1 ++ dktX1_machine_2
def dkwX1_machine_0 : List UInt8 := [27, 155, 0, 13, 27, 16, 10, 163, 0, 7, 4, 167, 0, 4, 3, 184, 0, 210, 32, 184, 0, 192, 57, 6]
abbrev dktX1_machine_0 : List UInt8 := dkwX1_machine_0 ++ dktX1_machine_1
theorem dksX1_machine_0 : cX1_machine.data.toList.drop 0 = dktX1_machine_0 := by decide +kernel
theorem dksX1_machine_1 : cX1_machine.data.toList.drop 24 = dktX1_machine_1 := dk_seg dksX1_machine_0 24 rfl rfl
theorem dksX1_machine_2 : cX1_machine.data.toList.drop 32 = dktX1_machine_2 := dk_seg dksX1_machine_1 8 rfl rfl
theorem dksX1_machine_3 : cX1_machine.data.toList.drop 88 = dktX1_machine_3 := dk_seg dksX1_machine_2 56 rfl rfl
theorem dksX1_machine_4 : cX1_machine.data.toList.drop 112 = dktX1_machine_4 := dk_seg dksX1_machine_3 24 rfl rfl
theorem dksX1_machine_5 : cX1_machine.data.toList.drop 135 = dktX1_machine_5 := dk_seg dksX1_machine_4 23 rfl rfl
theorem dksX1_machine_6 : cX1_machine.data.toList.drop 159 = dktX1_machine_6 := dk_seg dksX1_machine_5 24 rfl rfl
theorem dksX1_machine_7 : cX1_machine.data.toList.drop 183 = dktX1_machine_7 := dk_seg dksX1_machine_6 24 rfl rfl
theorem dksX1_machine_8 : cX1_machine.data.toList.drop 207 = dktX1_machine_8 := dk_seg dksX1_machine_7 24 rfl rfl
theorem dksX1_machine_9 : cX1_machine.data.toList.drop 231 = dktX1_machine_9 := dk_seg dksX1_machine_8 24 rfl rfl
theorem dksX1_machine_10 : cX1_machine.data.toList.drop 254 = dktX1_machine_10 := dk_seg dksX1_machine_9 23 rfl rfl
theorem dksX1_machine_11 : cX1_machine.data.toList.drop 277 = dktX1_machine_11 := dk_seg dksX1_machine_10 23 rfl rfl
theorem dksX1_machine_12 : cX1_machine.data.toList.drop 301 = dktX1_machine_12 := dk_seg dksX1_machine_11 24 rfl rfl
theorem dksX1_machine_13 : cX1_machine.data.toList.drop 324 = dktX1_machine_13 := dk_seg dksX1_machine_12 23 rfl rfl
theorem dksX1_machine_14 : cX1_machine.data.toList.drop 348 = dktX1_machine_14 := dk_seg dksX1_machine_13 24 rfl rfl
theorem dksX1_machine_15 : cX1_machine.data.toList.drop 372 = dktX1_machine_15 := dk_seg dksX1_machine_14 24 rfl rfl
theorem dksX1_machine_16 : cX1_machine.data.toList.drop 395 = dktX1_machine_16 := dk_seg dksX1_machine_15 23 rfl rfl
theorem dksX1_machine_17 : cX1_machine.data.toList.drop 417 = dktX1_machine_17 := dk_seg dksX1_machine_16 22 rfl rfl
theorem dksX1_machine_18 : cX1_machine.data.toList.drop 440 = dktX1_machine_18 := dk_seg dksX1_machine_17 23 rfl rfl
theorem dX1_machine_0 : decode cX1_machine 0 = .ok (.iload_n 1, 1) := dk_27 (dk_at dksX1_machine_0 0 rfl rfl)
theorem dX1_machine_1 : decode cX1_machine 1 = .ok (.ifCond .lt 13, 3) := dk_155 0 13 (dk_at dksX1_machine_0 1 rfl rfl)
theorem dX1_machine_4 : decode cX1_machine 4 = .ok (.iload_n 1, 1) := dk_27 (dk_at dksX1_machine_0 4 rfl rfl)
theorem dX1_machine_5 : decode cX1_machine 5 = .ok (.bipush 10, 2) := dk_16 10 (dk_at dksX1_machine_0 5 rfl rfl)
theorem dX1_machine_7 : decode cX1_machine 7 = .ok (.if_icmp .gt 7, 3) := dk_163 0 7 (dk_at dksX1_machine_0 7 rfl rfl)
theorem dX1_machine_10 : decode cX1_machine 10 = .ok (.iconst 1, 1) := dk_4 (dk_at dksX1_machine_0 10 rfl rfl)
theorem dX1_machine_11 : decode cX1_machine 11 = .ok (.goto 4, 3) := dk_167 0 4 (dk_at dksX1_machine_0 11 rfl rfl)
theorem dX1_machine_14 : decode cX1_machine 14 = .ok (.iconst 0, 1) := dk_3 (dk_at dksX1_machine_0 14 rfl rfl)
theorem dX1_machine_15 : decode cX1_machine 15 = .ok (.invokestatic 210, 3) := dk_184 0 210 (dk_at dksX1_machine_0 15 rfl rfl)
theorem dX1_machine_18 : decode cX1_machine 18 = .ok (.lload_n 2, 1) := dk_32 (dk_at dksX1_machine_0 18 rfl rfl)
theorem dX1_machine_19 : decode cX1_machine 19 = .ok (.invokestatic 192, 3) := dk_184 0 192 (dk_at dksX1_machine_0 19 rfl rfl)
theorem dX1_machine_22 : decode cX1_machine 22 = .ok (.dstore 6, 2) := dk_57 6 (dk_at dksX1_machine_0 22 rfl rfl)
theorem dX1_machine_24 : decode cX1_machine 24 = .ok (.lload 4, 2) := dk_22 4 (dk_at dksX1_machine_1 0 rfl rfl)
theorem dX1_machine_26 : decode cX1_machine 26 = .ok (.invokestatic 192, 3) := dk_184 0 192 (dk_at dksX1_machine_1 2 rfl rfl)
theorem dX1_machine_29 : decode cX1_machine 29 = .ok (.dstore 8, 2) := dk_57 8 (dk_at dksX1_machine_1 5 rfl rfl)
theorem dX1_machine_31 : decode cX1_machine 31 = .ok (.iload_n 1, 1) := dk_27 (dk_at dksX1_machine_1 7 rfl rfl)
theorem dX1_machine_32 : decode cX1_machine 32 = .ok (.tableswitch 368 0 9 #[56, 103, 127, 151, 175, 209, 243, 281, 305, 329], 56) := by decide +kernel
theorem dX1_machine_88 : decode cX1_machine 88 = .ok (.dload 6, 2) := dk_24 6 (dk_at dksX1_machine_3 0 rfl rfl)
theorem dX1_machine_90 : decode cX1_machine 90 = .ok (.dload 6, 2) := dk_24 6 (dk_at dksX1_machine_3 2 rfl rfl)
theorem dX1_machine_92 : decode cX1_machine 92 = .ok (.dcmp .l, 1) := dk_151 (dk_at dksX1_machine_3 4 rfl rfl)
theorem dX1_machine_93 : decode cX1_machine 93 = .ok (.ifCond .ne 26, 3) := dk_154 0 26 (dk_at dksX1_machine_3 5 rfl rfl)
theorem dX1_machine_96 : decode cX1_machine 96 = .ok (.dload 8, 2) := dk_24 8 (dk_at dksX1_machine_3 8 rfl rfl)
theorem dX1_machine_98 : decode cX1_machine 98 = .ok (.dload 8, 2) := dk_24 8 (dk_at dksX1_machine_3 10 rfl rfl)
theorem dX1_machine_100 : decode cX1_machine 100 = .ok (.dcmp .l, 1) := dk_151 (dk_at dksX1_machine_3 12 rfl rfl)
theorem dX1_machine_101 : decode cX1_machine 101 = .ok (.ifCond .ne 18, 3) := dk_154 0 18 (dk_at dksX1_machine_3 13 rfl rfl)
theorem dX1_machine_104 : decode cX1_machine 104 = .ok (.dload 6, 2) := dk_24 6 (dk_at dksX1_machine_3 16 rfl rfl)
theorem dX1_machine_106 : decode cX1_machine 106 = .ok (.invokestatic 327, 3) := dk_184 1 71 (dk_at dksX1_machine_3 18 rfl rfl)
theorem dX1_machine_109 : decode cX1_machine 109 = .ok (.ifCond .ne 10, 3) := dk_154 0 10 (dk_at dksX1_machine_3 21 rfl rfl)
theorem dX1_machine_112 : decode cX1_machine 112 = .ok (.dload 8, 2) := dk_24 8 (dk_at dksX1_machine_4 0 rfl rfl)
theorem dX1_machine_114 : decode cX1_machine 114 = .ok (.dconst 0, 1) := dk_14 (dk_at dksX1_machine_4 2 rfl rfl)
theorem dX1_machine_115 : decode cX1_machine 115 = .ok (.dcmp .l, 1) := dk_151 (dk_at dksX1_machine_4 3 rfl rfl)
theorem dX1_machine_116 : decode cX1_machine 116 = .ok (.ifCond .ne 9, 3) := dk_154 0 9 (dk_at dksX1_machine_4 4 rfl rfl)
theorem dX1_machine_119 : decode cX1_machine 119 = .ok (.ldc2_w 311, 3) := dk_20 1 55 (dk_at dksX1_machine_4 7 rfl rfl)
theorem dX1_machine_122 : decode cX1_machine 122 = .ok (.goto 8, 3) := dk_167 0 8 (dk_at dksX1_machine_4 10 rfl rfl)
theorem dX1_machine_125 : decode cX1_machine 125 = .ok (.dload 6, 2) := dk_24 6 (dk_at dksX1_machine_4 13 rfl rfl)
theorem dX1_machine_127 : decode cX1_machine 127 = .ok (.dload 8, 2) := dk_24 8 (dk_at dksX1_machine_4 15 rfl rfl)
theorem dX1_machine_129 : decode cX1_machine 129 = .ok (.drem, 1) := dk_115 (dk_at dksX1_machine_4 17 rfl rfl)
theorem dX1_machine_130 : decode cX1_machine 130 = .ok (.dstore 10, 2) := dk_57 10 (dk_at dksX1_machine_4 18 rfl rfl)
theorem dX1_machine_132 : decode cX1_machine 132 = .ok (.goto 312, 3) := dk_167 1 56 (dk_at dksX1_machine_4 20 rfl rfl)
theorem dX1_machine_135 : decode cX1_machine 135 = .ok (.dload 6, 2) := dk_24 6 (dk_at dksX1_machine_5 0 rfl rfl)
theorem dX1_machine_137 : decode cX1_machine 137 = .ok (.dload 6, 2) := dk_24 6 (dk_at dksX1_machine_5 2 rfl rfl)
theorem dX1_machine_139 : decode cX1_machine 139 = .ok (.dcmp .l, 1) := dk_151 (dk_at dksX1_machine_5 4 rfl rfl)
theorem dX1_machine_140 : decode cX1_machine 140 = .ok (.ifCond .eq 9, 3) := dk_153 0 9 (dk_at dksX1_machine_5 5 rfl rfl)
theorem dX1_machine_143 : decode cX1_machine 143 = .ok (.ldc2_w 311, 3) := dk_20 1 55 (dk_at dksX1_machine_5 8 rfl rfl)
theorem dX1_machine_146 : decode cX1_machine 146 = .ok (.goto 8, 3) := dk_167 0 8 (dk_at dksX1_machine_5 11 rfl rfl)
theorem dX1_machine_149 : decode cX1_machine 149 = .ok (.dload 6, 2) := dk_24 6 (dk_at dksX1_machine_5 14 rfl rfl)
theorem dX1_machine_151 : decode cX1_machine 151 = .ok (.invokestatic 331, 3) := dk_184 1 75 (dk_at dksX1_machine_5 16 rfl rfl)
theorem dX1_machine_154 : decode cX1_machine 154 = .ok (.dstore 10, 2) := dk_57 10 (dk_at dksX1_machine_5 19 rfl rfl)
theorem dX1_machine_156 : decode cX1_machine 156 = .ok (.goto 288, 3) := dk_167 1 32 (dk_at dksX1_machine_5 21 rfl rfl)
theorem dX1_machine_159 : decode cX1_machine 159 = .ok (.dload 6, 2) := dk_24 6 (dk_at dksX1_machine_6 0 rfl rfl)
theorem dX1_machine_161 : decode cX1_machine 161 = .ok (.dload 6, 2) := dk_24 6 (dk_at dksX1_machine_6 2 rfl rfl)
theorem dX1_machine_163 : decode cX1_machine 163 = .ok (.dcmp .l, 1) := dk_151 (dk_at dksX1_machine_6 4 rfl rfl)
theorem dX1_machine_164 : decode cX1_machine 164 = .ok (.ifCond .eq 9, 3) := dk_153 0 9 (dk_at dksX1_machine_6 5 rfl rfl)
theorem dX1_machine_167 : decode cX1_machine 167 = .ok (.ldc2_w 311, 3) := dk_20 1 55 (dk_at dksX1_machine_6 8 rfl rfl)
theorem dX1_machine_170 : decode cX1_machine 170 = .ok (.goto 8, 3) := dk_167 0 8 (dk_at dksX1_machine_6 11 rfl rfl)
theorem dX1_machine_173 : decode cX1_machine 173 = .ok (.dload 6, 2) := dk_24 6 (dk_at dksX1_machine_6 14 rfl rfl)
theorem dX1_machine_175 : decode cX1_machine 175 = .ok (.invokestatic 334, 3) := dk_184 1 78 (dk_at dksX1_machine_6 16 rfl rfl)
theorem dX1_machine_178 : decode cX1_machine 178 = .ok (.dstore 10, 2) := dk_57 10 (dk_at dksX1_machine_6 19 rfl rfl)
theorem dX1_machine_180 : decode cX1_machine 180 = .ok (.goto 264, 3) := dk_167 1 8 (dk_at dksX1_machine_6 21 rfl rfl)
theorem dX1_machine_183 : decode cX1_machine 183 = .ok (.dload 6, 2) := dk_24 6 (dk_at dksX1_machine_7 0 rfl rfl)
theorem dX1_machine_185 : decode cX1_machine 185 = .ok (.dload 6, 2) := dk_24 6 (dk_at dksX1_machine_7 2 rfl rfl)
theorem dX1_machine_187 : decode cX1_machine 187 = .ok (.dcmp .l, 1) := dk_151 (dk_at dksX1_machine_7 4 rfl rfl)
theorem dX1_machine_188 : decode cX1_machine 188 = .ok (.ifCond .eq 9, 3) := dk_153 0 9 (dk_at dksX1_machine_7 5 rfl rfl)
theorem dX1_machine_191 : decode cX1_machine 191 = .ok (.ldc2_w 311, 3) := dk_20 1 55 (dk_at dksX1_machine_7 8 rfl rfl)
theorem dX1_machine_194 : decode cX1_machine 194 = .ok (.goto 8, 3) := dk_167 0 8 (dk_at dksX1_machine_7 11 rfl rfl)
theorem dX1_machine_197 : decode cX1_machine 197 = .ok (.dload 6, 2) := dk_24 6 (dk_at dksX1_machine_7 14 rfl rfl)
theorem dX1_machine_199 : decode cX1_machine 199 = .ok (.invokestatic 337, 3) := dk_184 1 81 (dk_at dksX1_machine_7 16 rfl rfl)
theorem dX1_machine_202 : decode cX1_machine 202 = .ok (.dstore 10, 2) := dk_57 10 (dk_at dksX1_machine_7 19 rfl rfl)
theorem dX1_machine_204 : decode cX1_machine 204 = .ok (.goto 240, 3) := dk_167 0 240 (dk_at dksX1_machine_7 21 rfl rfl)
theorem dX1_machine_207 : decode cX1_machine 207 = .ok (.dload 6, 2) := dk_24 6 (dk_at dksX1_machine_8 0 rfl rfl)
theorem dX1_machine_209 : decode cX1_machine 209 = .ok (.dload 6, 2) := dk_24 6 (dk_at dksX1_machine_8 2 rfl rfl)
theorem dX1_machine_211 : decode cX1_machine 211 = .ok (.dcmp .l, 1) := dk_151 (dk_at dksX1_machine_8 4 rfl rfl)
theorem dX1_machine_212 : decode cX1_machine 212 = .ok (.ifCond .ne 11, 3) := dk_154 0 11 (dk_at dksX1_machine_8 5 rfl rfl)
theorem dX1_machine_215 : decode cX1_machine 215 = .ok (.dload 8, 2) := dk_24 8 (dk_at dksX1_machine_8 8 rfl rfl)
theorem dX1_machine_217 : decode cX1_machine 217 = .ok (.dload 8, 2) := dk_24 8 (dk_at dksX1_machine_8 10 rfl rfl)
theorem dX1_machine_219 : decode cX1_machine 219 = .ok (.dcmp .l, 1) := dk_151 (dk_at dksX1_machine_8 12 rfl rfl)
theorem dX1_machine_220 : decode cX1_machine 220 = .ok (.ifCond .eq 9, 3) := dk_153 0 9 (dk_at dksX1_machine_8 13 rfl rfl)
theorem dX1_machine_223 : decode cX1_machine 223 = .ok (.ldc2_w 311, 3) := dk_20 1 55 (dk_at dksX1_machine_8 16 rfl rfl)
theorem dX1_machine_226 : decode cX1_machine 226 = .ok (.goto 10, 3) := dk_167 0 10 (dk_at dksX1_machine_8 19 rfl rfl)
theorem dX1_machine_229 : decode cX1_machine 229 = .ok (.dload 6, 2) := dk_24 6 (dk_at dksX1_machine_8 22 rfl rfl)
theorem dX1_machine_231 : decode cX1_machine 231 = .ok (.dload 8, 2) := dk_24 8 (dk_at dksX1_machine_9 0 rfl rfl)
theorem dX1_machine_233 : decode cX1_machine 233 = .ok (.invokestatic 340, 3) := dk_184 1 84 (dk_at dksX1_machine_9 2 rfl rfl)
theorem dX1_machine_236 : decode cX1_machine 236 = .ok (.dstore 10, 2) := dk_57 10 (dk_at dksX1_machine_9 5 rfl rfl)
theorem dX1_machine_238 : decode cX1_machine 238 = .ok (.goto 206, 3) := dk_167 0 206 (dk_at dksX1_machine_9 7 rfl rfl)
theorem dX1_machine_241 : decode cX1_machine 241 = .ok (.dload 6, 2) := dk_24 6 (dk_at dksX1_machine_9 10 rfl rfl)
theorem dX1_machine_243 : decode cX1_machine 243 = .ok (.dload 6, 2) := dk_24 6 (dk_at dksX1_machine_9 12 rfl rfl)
theorem dX1_machine_245 : decode cX1_machine 245 = .ok (.dcmp .l, 1) := dk_151 (dk_at dksX1_machine_9 14 rfl rfl)
theorem dX1_machine_246 : decode cX1_machine 246 = .ok (.ifCond .ne 11, 3) := dk_154 0 11 (dk_at dksX1_machine_9 15 rfl rfl)
theorem dX1_machine_249 : decode cX1_machine 249 = .ok (.dload 8, 2) := dk_24 8 (dk_at dksX1_machine_9 18 rfl rfl)
theorem dX1_machine_251 : decode cX1_machine 251 = .ok (.dload 8, 2) := dk_24 8 (dk_at dksX1_machine_9 20 rfl rfl)
theorem dX1_machine_253 : decode cX1_machine 253 = .ok (.dcmp .l, 1) := dk_151 (dk_at dksX1_machine_9 22 rfl rfl)
theorem dX1_machine_254 : decode cX1_machine 254 = .ok (.ifCond .eq 9, 3) := dk_153 0 9 (dk_at dksX1_machine_10 0 rfl rfl)
theorem dX1_machine_257 : decode cX1_machine 257 = .ok (.ldc2_w 311, 3) := dk_20 1 55 (dk_at dksX1_machine_10 3 rfl rfl)
theorem dX1_machine_260 : decode cX1_machine 260 = .ok (.goto 10, 3) := dk_167 0 10 (dk_at dksX1_machine_10 6 rfl rfl)
theorem dX1_machine_263 : decode cX1_machine 263 = .ok (.dload 6, 2) := dk_24 6 (dk_at dksX1_machine_10 9 rfl rfl)
theorem dX1_machine_265 : decode cX1_machine 265 = .ok (.dload 8, 2) := dk_24 8 (dk_at dksX1_machine_10 11 rfl rfl)
theorem dX1_machine_267 : decode cX1_machine 267 = .ok (.invokestatic 342, 3) := dk_184 1 86 (dk_at dksX1_machine_10 13 rfl rfl)
theorem dX1_machine_270 : decode cX1_machine 270 = .ok (.dstore 10, 2) := dk_57 10 (dk_at dksX1_machine_10 16 rfl rfl)
theorem dX1_machine_272 : decode cX1_machine 272 = .ok (.goto 172, 3) := dk_167 0 172 (dk_at dksX1_machine_10 18 rfl rfl)
theorem dX1_machine_275 : decode cX1_machine 275 = .ok (.dload 6, 2) := dk_24 6 (dk_at dksX1_machine_10 21 rfl rfl)
theorem dX1_machine_277 : decode cX1_machine 277 = .ok (.dload 6, 2) := dk_24 6 (dk_at dksX1_machine_11 0 rfl rfl)
theorem dX1_machine_279 : decode cX1_machine 279 = .ok (.dcmp .l, 1) := dk_151 (dk_at dksX1_machine_11 2 rfl rfl)
theorem dX1_machine_280 : decode cX1_machine 280 = .ok (.ifCond .eq 9, 3) := dk_153 0 9 (dk_at dksX1_machine_11 3 rfl rfl)
theorem dX1_machine_283 : decode cX1_machine 283 = .ok (.ldc2_w 311, 3) := dk_20 1 55 (dk_at dksX1_machine_11 6 rfl rfl)
theorem dX1_machine_286 : decode cX1_machine 286 = .ok (.goto 22, 3) := dk_167 0 22 (dk_at dksX1_machine_11 9 rfl rfl)
theorem dX1_machine_289 : decode cX1_machine 289 = .ok (.dload 6, 2) := dk_24 6 (dk_at dksX1_machine_11 12 rfl rfl)
theorem dX1_machine_291 : decode cX1_machine 291 = .ok (.lload 4, 2) := dk_22 4 (dk_at dksX1_machine_11 14 rfl rfl)
theorem dX1_machine_293 : decode cX1_machine 293 = .ok (.lconst 0, 1) := dk_9 (dk_at dksX1_machine_11 16 rfl rfl)
theorem dX1_machine_294 : decode cX1_machine 294 = .ok (.lcmp, 1) := dk_148 (dk_at dksX1_machine_11 17 rfl rfl)
theorem dX1_machine_295 : decode cX1_machine 295 = .ok (.ifCond .ge 9, 3) := dk_156 0 9 (dk_at dksX1_machine_11 18 rfl rfl)
theorem dX1_machine_298 : decode cX1_machine 298 = .ok (.ldc2_w 344, 3) := dk_20 1 88 (dk_at dksX1_machine_11 21 rfl rfl)
theorem dX1_machine_301 : decode cX1_machine 301 = .ok (.goto 4, 3) := dk_167 0 4 (dk_at dksX1_machine_12 0 rfl rfl)
theorem dX1_machine_304 : decode cX1_machine 304 = .ok (.dconst 1, 1) := dk_15 (dk_at dksX1_machine_12 3 rfl rfl)
theorem dX1_machine_305 : decode cX1_machine 305 = .ok (.invokestatic 283, 3) := dk_184 1 27 (dk_at dksX1_machine_12 4 rfl rfl)
theorem dX1_machine_308 : decode cX1_machine 308 = .ok (.dstore 10, 2) := dk_57 10 (dk_at dksX1_machine_12 7 rfl rfl)
theorem dX1_machine_310 : decode cX1_machine 310 = .ok (.goto 134, 3) := dk_167 0 134 (dk_at dksX1_machine_12 9 rfl rfl)
theorem dX1_machine_313 : decode cX1_machine 313 = .ok (.dload 6, 2) := dk_24 6 (dk_at dksX1_machine_12 12 rfl rfl)
theorem dX1_machine_315 : decode cX1_machine 315 = .ok (.dload 6, 2) := dk_24 6 (dk_at dksX1_machine_12 14 rfl rfl)
theorem dX1_machine_317 : decode cX1_machine 317 = .ok (.dcmp .l, 1) := dk_151 (dk_at dksX1_machine_12 16 rfl rfl)
theorem dX1_machine_318 : decode cX1_machine 318 = .ok (.ifCond .eq 9, 3) := dk_153 0 9 (dk_at dksX1_machine_12 17 rfl rfl)
theorem dX1_machine_321 : decode cX1_machine 321 = .ok (.ldc2_w 311, 3) := dk_20 1 55 (dk_at dksX1_machine_12 20 rfl rfl)
theorem dX1_machine_324 : decode cX1_machine 324 = .ok (.goto 8, 3) := dk_167 0 8 (dk_at dksX1_machine_13 0 rfl rfl)
theorem dX1_machine_327 : decode cX1_machine 327 = .ok (.dload 6, 2) := dk_24 6 (dk_at dksX1_machine_13 3 rfl rfl)
theorem dX1_machine_329 : decode cX1_machine 329 = .ok (.invokestatic 280, 3) := dk_184 1 24 (dk_at dksX1_machine_13 5 rfl rfl)
theorem dX1_machine_332 : decode cX1_machine 332 = .ok (.dstore 10, 2) := dk_57 10 (dk_at dksX1_machine_13 8 rfl rfl)
theorem dX1_machine_334 : decode cX1_machine 334 = .ok (.goto 110, 3) := dk_167 0 110 (dk_at dksX1_machine_13 10 rfl rfl)
theorem dX1_machine_337 : decode cX1_machine 337 = .ok (.dload 6, 2) := dk_24 6 (dk_at dksX1_machine_13 13 rfl rfl)
theorem dX1_machine_339 : decode cX1_machine 339 = .ok (.dload 6, 2) := dk_24 6 (dk_at dksX1_machine_13 15 rfl rfl)
theorem dX1_machine_341 : decode cX1_machine 341 = .ok (.dcmp .l, 1) := dk_151 (dk_at dksX1_machine_13 17 rfl rfl)
theorem dX1_machine_342 : decode cX1_machine 342 = .ok (.ifCond .eq 9, 3) := dk_153 0 9 (dk_at dksX1_machine_13 18 rfl rfl)
theorem dX1_machine_345 : decode cX1_machine 345 = .ok (.ldc2_w 311, 3) := dk_20 1 55 (dk_at dksX1_machine_13 21 rfl rfl)
theorem dX1_machine_348 : decode cX1_machine 348 = .ok (.goto 8, 3) := dk_167 0 8 (dk_at dksX1_machine_14 0 rfl rfl)
theorem dX1_machine_351 : decode cX1_machine 351 = .ok (.dload 6, 2) := dk_24 6 (dk_at dksX1_machine_14 3 rfl rfl)
theorem dX1_machine_353 : decode cX1_machine 353 = .ok (.invokestatic 346, 3) := dk_184 1 90 (dk_at dksX1_machine_14 5 rfl rfl)
theorem dX1_machine_356 : decode cX1_machine 356 = .ok (.dstore 10, 2) := dk_57 10 (dk_at dksX1_machine_14 8 rfl rfl)
theorem dX1_machine_358 : decode cX1_machine 358 = .ok (.goto 86, 3) := dk_167 0 86 (dk_at dksX1_machine_14 10 rfl rfl)
theorem dX1_machine_361 : decode cX1_machine 361 = .ok (.dload 6, 2) := dk_24 6 (dk_at dksX1_machine_14 13 rfl rfl)
theorem dX1_machine_363 : decode cX1_machine 363 = .ok (.dload 6, 2) := dk_24 6 (dk_at dksX1_machine_14 15 rfl rfl)
theorem dX1_machine_365 : decode cX1_machine 365 = .ok (.dcmp .l, 1) := dk_151 (dk_at dksX1_machine_14 17 rfl rfl)
theorem dX1_machine_366 : decode cX1_machine 366 = .ok (.ifCond .eq 9, 3) := dk_153 0 9 (dk_at dksX1_machine_14 18 rfl rfl)
theorem dX1_machine_369 : decode cX1_machine 369 = .ok (.ldc2_w 311, 3) := dk_20 1 55 (dk_at dksX1_machine_14 21 rfl rfl)
theorem dX1_machine_372 : decode cX1_machine 372 = .ok (.goto 23, 3) := dk_167 0 23 (dk_at dksX1_machine_15 0 rfl rfl)
theorem dX1_machine_375 : decode cX1_machine 375 = .ok (.dload 6, 2) := dk_24 6 (dk_at dksX1_machine_15 3 rfl rfl)
theorem dX1_machine_377 : decode cX1_machine 377 = .ok (.ldc2_w 349, 3) := dk_20 1 93 (dk_at dksX1_machine_15 5 rfl rfl)
theorem dX1_machine_380 : decode cX1_machine 380 = .ok (.ldc2_w 351, 3) := dk_20 1 95 (dk_at dksX1_machine_15 8 rfl rfl)
theorem dX1_machine_383 : decode cX1_machine 383 = .ok (.lload 4, 2) := dk_22 4 (dk_at dksX1_machine_15 11 rfl rfl)
theorem dX1_machine_385 : decode cX1_machine 385 = .ok (.invokestatic 353, 3) := dk_184 1 97 (dk_at dksX1_machine_15 13 rfl rfl)
theorem dX1_machine_388 : decode cX1_machine 388 = .ok (.invokestatic 356, 3) := dk_184 1 100 (dk_at dksX1_machine_15 16 rfl rfl)
theorem dX1_machine_391 : decode cX1_machine 391 = .ok (.l2i, 1) := dk_136 (dk_at dksX1_machine_15 19 rfl rfl)
theorem dX1_machine_392 : decode cX1_machine 392 = .ok (.invokestatic 188, 3) := dk_184 0 188 (dk_at dksX1_machine_15 20 rfl rfl)
theorem dX1_machine_395 : decode cX1_machine 395 = .ok (.dstore 10, 2) := dk_57 10 (dk_at dksX1_machine_16 0 rfl rfl)
theorem dX1_machine_397 : decode cX1_machine 397 = .ok (.goto 47, 3) := dk_167 0 47 (dk_at dksX1_machine_16 2 rfl rfl)
theorem dX1_machine_400 : decode cX1_machine 400 = .ok (.dload 6, 2) := dk_24 6 (dk_at dksX1_machine_16 5 rfl rfl)
theorem dX1_machine_402 : decode cX1_machine 402 = .ok (.dload 8, 2) := dk_24 8 (dk_at dksX1_machine_16 7 rfl rfl)
theorem dX1_machine_404 : decode cX1_machine 404 = .ok (.dcmp .g, 1) := dk_152 (dk_at dksX1_machine_16 9 rfl rfl)
theorem dX1_machine_405 : decode cX1_machine 405 = .ok (.ifCond .ge 7, 3) := dk_156 0 7 (dk_at dksX1_machine_16 10 rfl rfl)
theorem dX1_machine_408 : decode cX1_machine 408 = .ok (.lconst 1, 1) := dk_10 (dk_at dksX1_machine_16 13 rfl rfl)
theorem dX1_machine_409 : decode cX1_machine 409 = .ok (.goto 34, 3) := dk_167 0 34 (dk_at dksX1_machine_16 14 rfl rfl)
theorem dX1_machine_412 : decode cX1_machine 412 = .ok (.dload 6, 2) := dk_24 6 (dk_at dksX1_machine_16 17 rfl rfl)
theorem dX1_machine_414 : decode cX1_machine 414 = .ok (.dload 8, 2) := dk_24 8 (dk_at dksX1_machine_16 19 rfl rfl)
theorem dX1_machine_416 : decode cX1_machine 416 = .ok (.dcmp .l, 1) := dk_151 (dk_at dksX1_machine_16 21 rfl rfl)
theorem dX1_machine_417 : decode cX1_machine 417 = .ok (.ifCond .ne 9, 3) := dk_154 0 9 (dk_at dksX1_machine_17 0 rfl rfl)
theorem dX1_machine_420 : decode cX1_machine 420 = .ok (.ldc2_w 358, 3) := dk_20 1 102 (dk_at dksX1_machine_17 3 rfl rfl)
theorem dX1_machine_423 : decode cX1_machine 423 = .ok (.goto 20, 3) := dk_167 0 20 (dk_at dksX1_machine_17 6 rfl rfl)
theorem dX1_machine_426 : decode cX1_machine 426 = .ok (.dload 6, 2) := dk_24 6 (dk_at dksX1_machine_17 9 rfl rfl)
theorem dX1_machine_428 : decode cX1_machine 428 = .ok (.dload 8, 2) := dk_24 8 (dk_at dksX1_machine_17 11 rfl rfl)
theorem dX1_machine_430 : decode cX1_machine 430 = .ok (.dcmp .l, 1) := dk_151 (dk_at dksX1_machine_17 13 rfl rfl)
theorem dX1_machine_431 : decode cX1_machine 431 = .ok (.ifCond .le 9, 3) := dk_158 0 9 (dk_at dksX1_machine_17 14 rfl rfl)
theorem dX1_machine_434 : decode cX1_machine 434 = .ok (.ldc2_w 360, 3) := dk_20 1 104 (dk_at dksX1_machine_17 17 rfl rfl)
theorem dX1_machine_437 : decode cX1_machine 437 = .ok (.goto 6, 3) := dk_167 0 6 (dk_at dksX1_machine_17 20 rfl rfl)
theorem dX1_machine_440 : decode cX1_machine 440 = .ok (.ldc2_w 362, 3) := dk_20 1 106 (dk_at dksX1_machine_18 0 rfl rfl)
theorem dX1_machine_443 : decode cX1_machine 443 = .ok (.lreturn, 1) := dk_173 (dk_at dksX1_machine_18 3 rfl rfl)
theorem dX1_machine_444 : decode cX1_machine 444 = .ok (.dload 10, 2) := dk_24 10 (dk_at dksX1_machine_18 4 rfl rfl)
theorem dX1_machine_446 : decode cX1_machine 446 = .ok (.invokestatic 287, 3) := dk_184 1 31 (dk_at dksX1_machine_18 6 rfl rfl)
theorem dX1_machine_449 : decode cX1_machine 449 = .ok (.lreturn, 1) := dk_173 (dk_at dksX1_machine_18 9 rfl rfl)
abbrev cX1_isEndless : ByteArray := prog_1_method_34_code
def yX1_isEndless : MethodName := ⟨RX1, "isEndless", "(D)Z"⟩
def dkwX1_isEndless_0 : List UInt8 := [38, 20, 1, 51, 151, 153, 0, 11, 38, 20, 1, 53, 151, 154, 0, 7, 4, 167, 0, 4, 3, 172]
abbrev dktX1_isEndless_0 : List UInt8 := dkwX1_isEndless_0 ++ []
theorem dksX1_isEndless_0 : cX1_isEndless.data.toList.drop 0 = dktX1_isEndless_0 := by decide +kernel
theorem dX1_isEndless_0 : decode cX1_isEndless 0 = .ok (.dload_n 0, 1) := dk_38 (dk_at dksX1_isEndless_0 0 rfl rfl)
theorem dX1_isEndless_1 : decode cX1_isEndless 1 = .ok (.ldc2_w 307, 3) := dk_20 1 51 (dk_at dksX1_isEndless_0 1 rfl rfl)
theorem dX1_isEndless_4 : decode cX1_isEndless 4 = .ok (.dcmp .l, 1) := dk_151 (dk_at dksX1_isEndless_0 4 rfl rfl)
theorem dX1_isEndless_5 : decode cX1_isEndless 5 = .ok (.ifCond .eq 11, 3) := dk_153 0 11 (dk_at dksX1_isEndless_0 5 rfl rfl)
theorem dX1_isEndless_8 : decode cX1_isEndless 8 = .ok (.dload_n 0, 1) := dk_38 (dk_at dksX1_isEndless_0 8 rfl rfl)
theorem dX1_isEndless_9 : decode cX1_isEndless 9 = .ok (.ldc2_w 309, 3) := dk_20 1 53 (dk_at dksX1_isEndless_0 9 rfl rfl)
theorem dX1_isEndless_12 : decode cX1_isEndless 12 = .ok (.dcmp .l, 1) := dk_151 (dk_at dksX1_isEndless_0 12 rfl rfl)
theorem dX1_isEndless_13 : decode cX1_isEndless 13 = .ok (.ifCond .ne 7, 3) := dk_154 0 7 (dk_at dksX1_isEndless_0 13 rfl rfl)
theorem dX1_isEndless_16 : decode cX1_isEndless 16 = .ok (.iconst 1, 1) := dk_4 (dk_at dksX1_isEndless_0 16 rfl rfl)
theorem dX1_isEndless_17 : decode cX1_isEndless 17 = .ok (.goto 4, 3) := dk_167 0 4 (dk_at dksX1_isEndless_0 17 rfl rfl)
theorem dX1_isEndless_20 : decode cX1_isEndless 20 = .ok (.iconst 0, 1) := dk_3 (dk_at dksX1_isEndless_0 20 rfl rfl)
theorem dX1_isEndless_21 : decode cX1_isEndless 21 = .ok (.ireturn, 1) := dk_172 (dk_at dksX1_isEndless_0 21 rfl rfl)
abbrev cX1_cast : ByteArray := prog_1_method_40_code
def yX1_cast : MethodName := ⟨RX1, "cast", "(IJ)J"⟩
def dkwX1_cast_5 : List UInt8 := [173]
abbrev dktX1_cast_5 : List UInt8 := dkwX1_cast_5 ++ []
def dkwX1_cast_4 : List UInt8 := [146, 133, 173, 24, 4, 184, 1, 108, 184, 1, 47, 133, 173, 32, 136, 184, 1, 112, 184, 1, 115, 184, 1, 31]
abbrev dktX1_cast_4 : List UInt8 := dkwX1_cast_4 ++ dktX1_cast_5
def dkwX1_cast_3 : List UInt8 := [24, 4, 143, 173, 24, 4, 142, 133, 173, 24, 4, 142, 147, 133, 173, 24, 4, 142, 145, 133, 173, 24, 4, 142]
abbrev dktX1_cast_3 : List UInt8 := dkwX1_cast_3 ++ dktX1_cast_4
def dkwX1_cast_2 : List UInt8 := [170, 0, 0, 0, 0, 0, 76, 0, 0, 0, 0, 0, 0, 0, 5, 0, 0, 0, 39, 0, 0, 0, 43, 0, 0, 0, 48, 0, 0, 0, 54, 0, 0, 0, 60, 0, 0, 0, 66]
abbrev dktX1_cast_2 : List UInt8 := dkwX1_cast_2 ++ dktX1_cast_3
def dkwX1_cast_1 : List UInt8 := [27]
abbrev dktX1_cast_1 : List UInt8 := dkwX1_cast_1 ++ dktX1_cast_2
def dkwX1_cast_0 : List UInt8 := [27, 155, 0, 13, 27, 16, 6, 163, 0, 7, 4, 167, 0, 4, 3, 184, 0, 210, 32, 184, 0, 192, 57, 4]
abbrev dktX1_cast_0 : List UInt8 := dkwX1_cast_0 ++ dktX1_cast_1
theorem dksX1_cast_0 : cX1_cast.data.toList.drop 0 = dktX1_cast_0 := by decide +kernel
theorem dksX1_cast_1 : cX1_cast.data.toList.drop 24 = dktX1_cast_1 := dk_seg dksX1_cast_0 24 rfl rfl
theorem dksX1_cast_2 : cX1_cast.data.toList.drop 25 = dktX1_cast_2 := dk_seg dksX1_cast_1 1 rfl rfl
theorem dksX1_cast_3 : cX1_cast.data.toList.drop 64 = dktX1_cast_3 := dk_seg dksX1_cast_2 39 rfl rfl
theorem dksX1_cast_4 : cX1_cast.data.toList.drop 88 = dktX1_cast_4 := dk_seg dksX1_cast_3 24 rfl rfl
theorem dksX1_cast_5 : cX1_cast.data.toList.drop 112 = dktX1_cast_5 := dk_seg dksX1_cast_4 24 rfl rfl
theorem dX1_cast_0 : decode cX1_cast 0 = .ok (.iload_n 1, 1) := dk_27 (dk_at dksX1_cast_0 0 rfl rfl)
theorem dX1_cast_1 : decode cX1_cast 1 = .ok (.ifCond .lt 13, 3) := dk_155 0 13 (dk_at dksX1_cast_0 1 rfl rfl)
theorem dX1_cast_4 : decode cX1_cast 4 = .ok (.iload_n 1, 1) := dk_27 (dk_at dksX1_cast_0 4 rfl rfl)
theorem dX1_cast_5 : decode cX1_cast 5 = .ok (.bipush 6, 2) := dk_16 6 (dk_at dksX1_cast_0 5 rfl rfl)
theorem dX1_cast_7 : decode cX1_cast 7 = .ok (.if_icmp .gt 7, 3) := dk_163 0 7 (dk_at dksX1_cast_0 7 rfl rfl)
theorem dX1_cast_10 : decode cX1_cast 10 = .ok (.iconst 1, 1) := dk_4 (dk_at dksX1_cast_0 10 rfl rfl)
theorem dX1_cast_11 : decode cX1_cast 11 = .ok (.goto 4, 3) := dk_167 0 4 (dk_at dksX1_cast_0 11 rfl rfl)
theorem dX1_cast_14 : decode cX1_cast 14 = .ok (.iconst 0, 1) := dk_3 (dk_at dksX1_cast_0 14 rfl rfl)
theorem dX1_cast_15 : decode cX1_cast 15 = .ok (.invokestatic 210, 3) := dk_184 0 210 (dk_at dksX1_cast_0 15 rfl rfl)
theorem dX1_cast_18 : decode cX1_cast 18 = .ok (.lload_n 2, 1) := dk_32 (dk_at dksX1_cast_0 18 rfl rfl)
theorem dX1_cast_19 : decode cX1_cast 19 = .ok (.invokestatic 192, 3) := dk_184 0 192 (dk_at dksX1_cast_0 19 rfl rfl)
theorem dX1_cast_22 : decode cX1_cast 22 = .ok (.dstore 4, 2) := dk_57 4 (dk_at dksX1_cast_0 22 rfl rfl)
theorem dX1_cast_24 : decode cX1_cast 24 = .ok (.iload_n 1, 1) := dk_27 (dk_at dksX1_cast_1 0 rfl rfl)
theorem dX1_cast_25 : decode cX1_cast 25 = .ok (.tableswitch 76 0 5 #[39, 43, 48, 54, 60, 66], 39) := by decide +kernel
theorem dX1_cast_64 : decode cX1_cast 64 = .ok (.dload 4, 2) := dk_24 4 (dk_at dksX1_cast_3 0 rfl rfl)
theorem dX1_cast_66 : decode cX1_cast 66 = .ok (.d2l, 1) := dk_143 (dk_at dksX1_cast_3 2 rfl rfl)
theorem dX1_cast_67 : decode cX1_cast 67 = .ok (.lreturn, 1) := dk_173 (dk_at dksX1_cast_3 3 rfl rfl)
theorem dX1_cast_68 : decode cX1_cast 68 = .ok (.dload 4, 2) := dk_24 4 (dk_at dksX1_cast_3 4 rfl rfl)
theorem dX1_cast_70 : decode cX1_cast 70 = .ok (.d2i, 1) := dk_142 (dk_at dksX1_cast_3 6 rfl rfl)
theorem dX1_cast_71 : decode cX1_cast 71 = .ok (.i2l, 1) := dk_133 (dk_at dksX1_cast_3 7 rfl rfl)
theorem dX1_cast_72 : decode cX1_cast 72 = .ok (.lreturn, 1) := dk_173 (dk_at dksX1_cast_3 8 rfl rfl)
theorem dX1_cast_73 : decode cX1_cast 73 = .ok (.dload 4, 2) := dk_24 4 (dk_at dksX1_cast_3 9 rfl rfl)
theorem dX1_cast_75 : decode cX1_cast 75 = .ok (.d2i, 1) := dk_142 (dk_at dksX1_cast_3 11 rfl rfl)
theorem dX1_cast_76 : decode cX1_cast 76 = .ok (.i2s, 1) := dk_147 (dk_at dksX1_cast_3 12 rfl rfl)
theorem dX1_cast_77 : decode cX1_cast 77 = .ok (.i2l, 1) := dk_133 (dk_at dksX1_cast_3 13 rfl rfl)
theorem dX1_cast_78 : decode cX1_cast 78 = .ok (.lreturn, 1) := dk_173 (dk_at dksX1_cast_3 14 rfl rfl)
theorem dX1_cast_79 : decode cX1_cast 79 = .ok (.dload 4, 2) := dk_24 4 (dk_at dksX1_cast_3 15 rfl rfl)
theorem dX1_cast_81 : decode cX1_cast 81 = .ok (.d2i, 1) := dk_142 (dk_at dksX1_cast_3 17 rfl rfl)
theorem dX1_cast_82 : decode cX1_cast 82 = .ok (.i2b, 1) := dk_145 (dk_at dksX1_cast_3 18 rfl rfl)
theorem dX1_cast_83 : decode cX1_cast 83 = .ok (.i2l, 1) := dk_133 (dk_at dksX1_cast_3 19 rfl rfl)
theorem dX1_cast_84 : decode cX1_cast 84 = .ok (.lreturn, 1) := dk_173 (dk_at dksX1_cast_3 20 rfl rfl)
theorem dX1_cast_85 : decode cX1_cast 85 = .ok (.dload 4, 2) := dk_24 4 (dk_at dksX1_cast_3 21 rfl rfl)
theorem dX1_cast_87 : decode cX1_cast 87 = .ok (.d2i, 1) := dk_142 (dk_at dksX1_cast_3 23 rfl rfl)
theorem dX1_cast_88 : decode cX1_cast 88 = .ok (.i2c, 1) := dk_146 (dk_at dksX1_cast_4 0 rfl rfl)
theorem dX1_cast_89 : decode cX1_cast 89 = .ok (.i2l, 1) := dk_133 (dk_at dksX1_cast_4 1 rfl rfl)
theorem dX1_cast_90 : decode cX1_cast 90 = .ok (.lreturn, 1) := dk_173 (dk_at dksX1_cast_4 2 rfl rfl)
theorem dX1_cast_91 : decode cX1_cast 91 = .ok (.dload 4, 2) := dk_24 4 (dk_at dksX1_cast_4 3 rfl rfl)
theorem dX1_cast_93 : decode cX1_cast 93 = .ok (.invokestatic 364, 3) := dk_184 1 108 (dk_at dksX1_cast_4 5 rfl rfl)
theorem dX1_cast_96 : decode cX1_cast 96 = .ok (.invokestatic 303, 3) := dk_184 1 47 (dk_at dksX1_cast_4 8 rfl rfl)
theorem dX1_cast_99 : decode cX1_cast 99 = .ok (.i2l, 1) := dk_133 (dk_at dksX1_cast_4 11 rfl rfl)
theorem dX1_cast_100 : decode cX1_cast 100 = .ok (.lreturn, 1) := dk_173 (dk_at dksX1_cast_4 12 rfl rfl)
theorem dX1_cast_101 : decode cX1_cast 101 = .ok (.lload_n 2, 1) := dk_32 (dk_at dksX1_cast_4 13 rfl rfl)
theorem dX1_cast_102 : decode cX1_cast 102 = .ok (.l2i, 1) := dk_136 (dk_at dksX1_cast_4 14 rfl rfl)
theorem dX1_cast_103 : decode cX1_cast 103 = .ok (.invokestatic 368, 3) := dk_184 1 112 (dk_at dksX1_cast_4 15 rfl rfl)
theorem dX1_cast_106 : decode cX1_cast 106 = .ok (.invokestatic 371, 3) := dk_184 1 115 (dk_at dksX1_cast_4 18 rfl rfl)
theorem dX1_cast_109 : decode cX1_cast 109 = .ok (.invokestatic 287, 3) := dk_184 1 31 (dk_at dksX1_cast_4 21 rfl rfl)
theorem dX1_cast_112 : decode cX1_cast 112 = .ok (.lreturn, 1) := dk_173 (dk_at dksX1_cast_5 0 rfl rfl)
abbrev cX1_narrow : ByteArray := prog_1_method_36_code
def yX1_narrow : MethodName := ⟨RX1, "narrow", "(D)F"⟩
def dkwX1_narrow_0 : List UInt8 := [38, 38, 151, 153, 0, 9, 19, 1, 57, 167, 0, 5, 38, 144, 174]
abbrev dktX1_narrow_0 : List UInt8 := dkwX1_narrow_0 ++ []
theorem dksX1_narrow_0 : cX1_narrow.data.toList.drop 0 = dktX1_narrow_0 := by decide +kernel
theorem dX1_narrow_0 : decode cX1_narrow 0 = .ok (.dload_n 0, 1) := dk_38 (dk_at dksX1_narrow_0 0 rfl rfl)
theorem dX1_narrow_1 : decode cX1_narrow 1 = .ok (.dload_n 0, 1) := dk_38 (dk_at dksX1_narrow_0 1 rfl rfl)
theorem dX1_narrow_2 : decode cX1_narrow 2 = .ok (.dcmp .l, 1) := dk_151 (dk_at dksX1_narrow_0 2 rfl rfl)
theorem dX1_narrow_3 : decode cX1_narrow 3 = .ok (.ifCond .eq 9, 3) := dk_153 0 9 (dk_at dksX1_narrow_0 3 rfl rfl)
theorem dX1_narrow_6 : decode cX1_narrow 6 = .ok (.ldc_w 313, 3) := dk_19 1 57 (dk_at dksX1_narrow_0 6 rfl rfl)
theorem dX1_narrow_9 : decode cX1_narrow 9 = .ok (.goto 5, 3) := dk_167 0 5 (dk_at dksX1_narrow_0 9 rfl rfl)
theorem dX1_narrow_12 : decode cX1_narrow 12 = .ok (.dload_n 0, 1) := dk_38 (dk_at dksX1_narrow_0 12 rfl rfl)
theorem dX1_narrow_13 : decode cX1_narrow 13 = .ok (.d2f, 1) := dk_144 (dk_at dksX1_narrow_0 13 rfl rfl)
theorem dX1_narrow_14 : decode cX1_narrow 14 = .ok (.freturn, 1) := dk_174 (dk_at dksX1_narrow_0 14 rfl rfl)
abbrev cX1_floatOf : ByteArray := prog_1_method_38_code
def yX1_floatOf : MethodName := ⟨RX1, "floatOf", "(I)F"⟩
def dkwX1_floatOf_0 : List UInt8 := [26, 19, 1, 65, 126, 19, 1, 66, 164, 0, 9, 19, 1, 57, 167, 0, 7, 26, 184, 1, 67, 174]
abbrev dktX1_floatOf_0 : List UInt8 := dkwX1_floatOf_0 ++ []
theorem dksX1_floatOf_0 : cX1_floatOf.data.toList.drop 0 = dktX1_floatOf_0 := by decide +kernel
theorem dX1_floatOf_0 : decode cX1_floatOf 0 = .ok (.iload_n 0, 1) := dk_26 (dk_at dksX1_floatOf_0 0 rfl rfl)
theorem dX1_floatOf_1 : decode cX1_floatOf 1 = .ok (.ldc_w 321, 3) := dk_19 1 65 (dk_at dksX1_floatOf_0 1 rfl rfl)
theorem dX1_floatOf_4 : decode cX1_floatOf 4 = .ok (.iand, 1) := dk_126 (dk_at dksX1_floatOf_0 4 rfl rfl)
theorem dX1_floatOf_5 : decode cX1_floatOf 5 = .ok (.ldc_w 322, 3) := dk_19 1 66 (dk_at dksX1_floatOf_0 5 rfl rfl)
theorem dX1_floatOf_8 : decode cX1_floatOf 8 = .ok (.if_icmp .le 9, 3) := dk_164 0 9 (dk_at dksX1_floatOf_0 8 rfl rfl)
theorem dX1_floatOf_11 : decode cX1_floatOf 11 = .ok (.ldc_w 313, 3) := dk_19 1 57 (dk_at dksX1_floatOf_0 11 rfl rfl)
theorem dX1_floatOf_14 : decode cX1_floatOf 14 = .ok (.goto 7, 3) := dk_167 0 7 (dk_at dksX1_floatOf_0 14 rfl rfl)
theorem dX1_floatOf_17 : decode cX1_floatOf 17 = .ok (.iload_n 0, 1) := dk_26 (dk_at dksX1_floatOf_0 17 rfl rfl)
theorem dX1_floatOf_18 : decode cX1_floatOf 18 = .ok (.invokestatic 323, 3) := dk_184 1 67 (dk_at dksX1_floatOf_0 18 rfl rfl)
theorem dX1_floatOf_21 : decode cX1_floatOf 21 = .ok (.freturn, 1) := dk_174 (dk_at dksX1_floatOf_0 21 rfl rfl)
abbrev cX1_wide : ByteArray := prog_1_method_35_code
def yX1_wide : MethodName := ⟨RX1, "wide", "(F)D"⟩
def dkwX1_wide_0 : List UInt8 := [34, 34, 149, 153, 0, 9, 20, 1, 55, 167, 0, 5, 34, 141, 175]
abbrev dktX1_wide_0 : List UInt8 := dkwX1_wide_0 ++ []
theorem dksX1_wide_0 : cX1_wide.data.toList.drop 0 = dktX1_wide_0 := by decide +kernel
theorem dX1_wide_0 : decode cX1_wide 0 = .ok (.fload_n 0, 1) := dk_34 (dk_at dksX1_wide_0 0 rfl rfl)
theorem dX1_wide_1 : decode cX1_wide 1 = .ok (.fload_n 0, 1) := dk_34 (dk_at dksX1_wide_0 1 rfl rfl)
theorem dX1_wide_2 : decode cX1_wide 2 = .ok (.fcmp .l, 1) := dk_149 (dk_at dksX1_wide_0 2 rfl rfl)
theorem dX1_wide_3 : decode cX1_wide 3 = .ok (.ifCond .eq 9, 3) := dk_153 0 9 (dk_at dksX1_wide_0 3 rfl rfl)
theorem dX1_wide_6 : decode cX1_wide 6 = .ok (.ldc2_w 311, 3) := dk_20 1 55 (dk_at dksX1_wide_0 6 rfl rfl)
theorem dX1_wide_9 : decode cX1_wide 9 = .ok (.goto 5, 3) := dk_167 0 5 (dk_at dksX1_wide_0 9 rfl rfl)
theorem dX1_wide_12 : decode cX1_wide 12 = .ok (.fload_n 0, 1) := dk_34 (dk_at dksX1_wide_0 12 rfl rfl)
theorem dX1_wide_13 : decode cX1_wide 13 = .ok (.f2d, 1) := dk_141 (dk_at dksX1_wide_0 13 rfl rfl)
theorem dX1_wide_14 : decode cX1_wide 14 = .ok (.dreturn, 1) := dk_175 (dk_at dksX1_wide_0 14 rfl rfl)
theorem q59 : (Jvm.Cond.initialized "NumberModels") ∈ lw_all := lw_g (lw_at lw_m1 1 rfl) rfl
theorem q87 : (Jvm.Cond.instantiable "NumberModels" (17 : Nat)) ∈ lw_all := lw_g (lw_at lw_m1 29 rfl) rfl
theorem q89 : (Jvm.Cond.instanceMethod ({ cls := "NumberModels", name := "<init>", desc := "()V" } : Jvm.MethodName)) ∈ lw_all := lw_g (lw_at lw_m1 31 rfl) rfl
theorem q90 : (Jvm.Cond.code ({ cls := "NumberModels", name := "<init>", desc := "()V" } : Jvm.MethodName) prog_1_method_1_code (1 : Nat) (Option.none : Option Jvm.ClassFile.FieldType)) ∈ lw_all := lw_g (lw_at lw_m1 32 rfl) rfl
theorem q91 : (Jvm.Cond.methodLink "NumberModels" (1 : Nat) ({ cls := "java/lang/Object", name := "<init>", desc := "()V" } : Jvm.MethodName)) ∈ lw_all := lw_g (lw_at lw_m1 33 rfl) rfl
theorem q94 : (Jvm.Cond.classLink "NumberModels" (7 : Nat) "NumberModels$Rounds") ∈ lw_all := lw_g (lw_at lw_m1 36 rfl) rfl
theorem q96 : (Jvm.Cond.classLink "NumberModels" (9 : Nat) "NumberModels$Nearest") ∈ lw_all := lw_g (lw_at lw_m1 38 rfl) rfl
theorem q98 : (Jvm.Cond.methodLinkNest "NumberModels" (11 : Nat) ({ cls := "NumberModels$Nearest", name := "<init>", desc := "()V" } : Jvm.MethodName) "NumberModels") ∈ lw_tbl := lw_at lw_m1 40 rfl
theorem q103 : (Jvm.Cond.classLink "NumberModels" (12 : Nat) "NumberModels$Upward") ∈ lw_all := lw_g (lw_at lw_m1 45 rfl) rfl
theorem q105 : (Jvm.Cond.methodLinkNest "NumberModels" (14 : Nat) ({ cls := "NumberModels$Upward", name := "<init>", desc := "()V" } : Jvm.MethodName) "NumberModels") ∈ lw_tbl := lw_at lw_m1 47 rfl
theorem q113 : (Jvm.Cond.classLink "NumberModels" (15 : Nat) "NumberModels$Downward") ∈ lw_all := lw_g (lw_at lw_m1 55 rfl) rfl
theorem q115 : (Jvm.Cond.methodLinkNest "NumberModels" (17 : Nat) ({ cls := "NumberModels$Downward", name := "<init>", desc := "()V" } : Jvm.MethodName) "NumberModels") ∈ lw_tbl := lw_at lw_m1 57 rfl
theorem q120 : (Jvm.Cond.classLink "NumberModels" (18 : Nat) "NumberModels$ToZero") ∈ lw_all := lw_g (lw_at lw_m1 62 rfl) rfl
theorem q122 : (Jvm.Cond.methodLinkNest "NumberModels" (20 : Nat) ({ cls := "NumberModels$ToZero", name := "<init>", desc := "()V" } : Jvm.MethodName) "NumberModels") ∈ lw_tbl := lw_at lw_m1 64 rfl
theorem q127 : (Jvm.Cond.classLink "NumberModels" (27 : Nat) "NumberModels$Item") ∈ lw_all := lw_g (lw_at lw_m1 69 rfl) rfl
theorem q129 : (Jvm.Cond.classLink "NumberModels" (33 : Nat) "NumberModels$Wide") ∈ lw_all := lw_g (lw_at lw_m1 71 rfl) rfl
theorem q131 : (Jvm.Cond.methodLinkNest "NumberModels" (35 : Nat) ({ cls := "NumberModels$Wide", name := "<init>", desc := "()V" } : Jvm.MethodName) "NumberModels") ∈ lw_tbl := lw_at lw_m1 73 rfl
theorem q136 : (Jvm.Cond.fieldLinkNest "NumberModels" (153 : Nat) "NumberModels$Wide" "word" "[I" "NumberModels") ∈ lw_tbl := lw_at lw_m1 78 rfl
theorem q138 : (Jvm.Cond.fieldLinkNest "NumberModels" (157 : Nat) "NumberModels$Wide" "size" "I" "NumberModels") ∈ lw_tbl := lw_at lw_m1 80 rfl
theorem q145 : (Jvm.Cond.fieldLink "NumberModels" (21 : Nat) "NumberModels" "directions" "[LNumberModels$Rounds;") ∈ lw_all := lw_g (lw_at lw_m1 87 rfl) rfl
theorem q146 : (Jvm.Cond.fieldLink "NumberModels" (29 : Nat) "NumberModels" "items" "[LNumberModels$Item;") ∈ lw_all := lw_g (lw_at lw_m1 88 rfl) rfl
theorem q147 : (Jvm.Cond.fieldLink "NumberModels" (123 : Nat) "NumberModels" "many" "I") ∈ lw_all := lw_g (lw_at lw_m1 89 rfl) rfl
theorem q148 : (Jvm.Cond.fieldLink "NumberModels" (36 : Nat) "NumberModels" "p" "LNumberModels$Wide;") ∈ lw_all := lw_g (lw_at lw_m1 90 rfl) rfl
theorem q149 : (Jvm.Cond.fieldLink "NumberModels" (40 : Nat) "NumberModels" "q" "LNumberModels$Wide;") ∈ lw_all := lw_g (lw_at lw_m1 91 rfl) rfl
theorem q150 : (Jvm.Cond.fieldLink "NumberModels" (43 : Nat) "NumberModels" "\x72" "LNumberModels$Wide;") ∈ lw_all := lw_g (lw_at lw_m1 92 rfl) rfl
theorem q151 : (Jvm.Cond.fieldLink "NumberModels" (46 : Nat) "NumberModels" "s" "LNumberModels$Wide;") ∈ lw_all := lw_g (lw_at lw_m1 93 rfl) rfl
theorem q152 : (Jvm.Cond.fieldLink "NumberModels" (49 : Nat) "NumberModels" "t" "LNumberModels$Wide;") ∈ lw_all := lw_g (lw_at lw_m1 94 rfl) rfl
theorem q153 : (Jvm.Cond.fieldLink "NumberModels" (52 : Nat) "NumberModels" "u" "LNumberModels$Wide;") ∈ lw_all := lw_g (lw_at lw_m1 95 rfl) rfl
theorem q154 : (Jvm.Cond.fieldLink "NumberModels" (55 : Nat) "NumberModels" "v" "LNumberModels$Wide;") ∈ lw_all := lw_g (lw_at lw_m1 96 rfl) rfl
theorem q155 : (Jvm.Cond.fieldLink "NumberModels" (58 : Nat) "NumberModels" "x" "LNumberModels$Wide;") ∈ lw_all := lw_g (lw_at lw_m1 97 rfl) rfl
theorem q156 : (Jvm.Cond.fieldLink "NumberModels" (61 : Nat) "NumberModels" "y" "LNumberModels$Wide;") ∈ lw_all := lw_g (lw_at lw_m1 98 rfl) rfl
theorem q157 : (Jvm.Cond.fieldLink "NumberModels" (64 : Nat) "NumberModels" "z" "LNumberModels$Wide;") ∈ lw_all := lw_g (lw_at lw_m1 99 rfl) rfl
theorem q158 : (Jvm.Cond.fieldLink "NumberModels" (136 : Nat) "NumberModels" "sign" "I") ∈ lw_all := lw_g (lw_at lw_m1 100 rfl) rfl
theorem q159 : (Jvm.Cond.fieldLink "NumberModels" (259 : Nat) "NumberModels" "reached" "J") ∈ lw_all := lw_g (lw_at lw_m1 101 rfl) rfl
theorem q160 : (Jvm.Cond.fieldLink "NumberModels" (267 : Nat) "NumberModels" "left" "I") ∈ lw_all := lw_g (lw_at lw_m1 102 rfl) rfl
theorem q161 : (Jvm.Cond.fieldLink "NumberModels" (263 : Nat) "NumberModels" "isLeft" "Z") ∈ lw_all := lw_g (lw_at lw_m1 103 rfl) rfl
theorem q162 : (Jvm.Cond.laysFinal "NumberModels" "NumberModels" "directions" "[LNumberModels$Rounds;") ∈ lw_all := lw_g (lw_at lw_m1 104 rfl) rfl
theorem q163 : (Jvm.Cond.soleField "NumberModels" "directions") ∈ lw_all := lw_g (lw_at lw_m1 105 rfl) rfl
theorem q164 : (Jvm.Cond.laysFinal "NumberModels" "NumberModels" "items" "[LNumberModels$Item;") ∈ lw_all := lw_g (lw_at lw_m1 106 rfl) rfl
theorem q165 : (Jvm.Cond.soleField "NumberModels" "items") ∈ lw_all := lw_g (lw_at lw_m1 107 rfl) rfl
theorem q166 : (Jvm.Cond.lays "NumberModels" "NumberModels" "many" "I") ∈ lw_all := lw_g (lw_at lw_m1 108 rfl) rfl
theorem q167 : (Jvm.Cond.soleField "NumberModels" "many") ∈ lw_all := lw_g (lw_at lw_m1 109 rfl) rfl
theorem q168 : (Jvm.Cond.laysFinal "NumberModels" "NumberModels" "p" "LNumberModels$Wide;") ∈ lw_all := lw_g (lw_at lw_m1 110 rfl) rfl
theorem q169 : (Jvm.Cond.soleField "NumberModels" "p") ∈ lw_all := lw_g (lw_at lw_m1 111 rfl) rfl
theorem q170 : (Jvm.Cond.laysFinal "NumberModels" "NumberModels" "q" "LNumberModels$Wide;") ∈ lw_all := lw_g (lw_at lw_m1 112 rfl) rfl
theorem q171 : (Jvm.Cond.soleField "NumberModels" "q") ∈ lw_all := lw_g (lw_at lw_m1 113 rfl) rfl
theorem q172 : (Jvm.Cond.laysFinal "NumberModels" "NumberModels" "\x72" "LNumberModels$Wide;") ∈ lw_all := lw_g (lw_at lw_m1 114 rfl) rfl
theorem q173 : (Jvm.Cond.soleField "NumberModels" "\x72") ∈ lw_all := lw_g (lw_at lw_m1 115 rfl) rfl
theorem q174 : (Jvm.Cond.laysFinal "NumberModels" "NumberModels" "s" "LNumberModels$Wide;") ∈ lw_all := lw_g (lw_at lw_m1 116 rfl) rfl
theorem q175 : (Jvm.Cond.soleField "NumberModels" "s") ∈ lw_all := lw_g (lw_at lw_m1 117 rfl) rfl
theorem q176 : (Jvm.Cond.laysFinal "NumberModels" "NumberModels" "t" "LNumberModels$Wide;") ∈ lw_all := lw_g (lw_at lw_m1 118 rfl) rfl
theorem q177 : (Jvm.Cond.soleField "NumberModels" "t") ∈ lw_all := lw_g (lw_at lw_m1 119 rfl) rfl
theorem q178 : (Jvm.Cond.laysFinal "NumberModels" "NumberModels" "u" "LNumberModels$Wide;") ∈ lw_all := lw_g (lw_at lw_m1 120 rfl) rfl
theorem q179 : (Jvm.Cond.soleField "NumberModels" "u") ∈ lw_all := lw_g (lw_at lw_m1 121 rfl) rfl
theorem q180 : (Jvm.Cond.laysFinal "NumberModels" "NumberModels" "v" "LNumberModels$Wide;") ∈ lw_all := lw_g (lw_at lw_m1 122 rfl) rfl
theorem q181 : (Jvm.Cond.soleField "NumberModels" "v") ∈ lw_all := lw_g (lw_at lw_m1 123 rfl) rfl
theorem q182 : (Jvm.Cond.laysFinal "NumberModels" "NumberModels" "x" "LNumberModels$Wide;") ∈ lw_all := lw_g (lw_at lw_m1 124 rfl) rfl
theorem q183 : (Jvm.Cond.soleField "NumberModels" "x") ∈ lw_all := lw_g (lw_at lw_m1 125 rfl) rfl
theorem q184 : (Jvm.Cond.laysFinal "NumberModels" "NumberModels" "y" "LNumberModels$Wide;") ∈ lw_all := lw_g (lw_at lw_m1 126 rfl) rfl
theorem q185 : (Jvm.Cond.soleField "NumberModels" "y") ∈ lw_all := lw_g (lw_at lw_m1 127 rfl) rfl
theorem q186 : (Jvm.Cond.laysFinal "NumberModels" "NumberModels" "z" "LNumberModels$Wide;") ∈ lw_all := lw_g (lw_at lw_m1 128 rfl) rfl
theorem q187 : (Jvm.Cond.soleField "NumberModels" "z") ∈ lw_all := lw_g (lw_at lw_m1 129 rfl) rfl
theorem q188 : (Jvm.Cond.lays "NumberModels" "NumberModels" "sign" "I") ∈ lw_all := lw_g (lw_at lw_m1 130 rfl) rfl
theorem q189 : (Jvm.Cond.soleField "NumberModels" "sign") ∈ lw_all := lw_g (lw_at lw_m1 131 rfl) rfl
theorem q190 : (Jvm.Cond.lays "NumberModels" "NumberModels" "reached" "J") ∈ lw_all := lw_g (lw_at lw_m1 132 rfl) rfl
theorem q191 : (Jvm.Cond.soleField "NumberModels" "reached") ∈ lw_all := lw_g (lw_at lw_m1 133 rfl) rfl
theorem q192 : (Jvm.Cond.lays "NumberModels" "NumberModels" "left" "I") ∈ lw_all := lw_g (lw_at lw_m1 134 rfl) rfl
theorem q193 : (Jvm.Cond.soleField "NumberModels" "left") ∈ lw_all := lw_g (lw_at lw_m1 135 rfl) rfl
theorem q194 : (Jvm.Cond.lays "NumberModels" "NumberModels" "isLeft" "Z") ∈ lw_all := lw_g (lw_at lw_m1 136 rfl) rfl
theorem q195 : (Jvm.Cond.soleField "NumberModels" "isLeft") ∈ lw_all := lw_g (lw_at lw_m1 137 rfl) rfl
theorem q196 : (Jvm.Cond.superclass "NumberModels" "java/lang/Object") ∈ lw_all := lw_g (lw_at lw_m1 138 rfl) rfl
theorem q198 : (Jvm.Cond.instanceMethod ({ cls := "NumberModels", name := "clea\x72", desc := "()I" } : Jvm.MethodName)) ∈ lw_all := lw_g (lw_at lw_m1 140 rfl) rfl
theorem q199 : (Jvm.Cond.selects "NumberModels" ({ cls := "NumberModels", name := "clea\x72", desc := "()I" } : Jvm.MethodName) ({ cls := "NumberModels", name := "clea\x72", desc := "()I" } : Jvm.MethodName)) ∈ lw_all := lw_g (lw_at lw_m1 141 rfl) rfl
theorem q200 : (Jvm.Cond.code ({ cls := "NumberModels", name := "clea\x72", desc := "()I" } : Jvm.MethodName) prog_1_method_22_code (3 : Nat) (Option.some Jvm.ClassFile.FieldType.int)) ∈ lw_all := lw_g (lw_at lw_m1 142 rfl) rfl
theorem q202 : (Jvm.Cond.instanceMethod ({ cls := "NumberModels", name := "count", desc := "()I" } : Jvm.MethodName)) ∈ lw_all := lw_g (lw_at lw_m1 144 rfl) rfl
theorem q203 : (Jvm.Cond.selects "NumberModels" ({ cls := "NumberModels", name := "count", desc := "()I" } : Jvm.MethodName) ({ cls := "NumberModels", name := "count", desc := "()I" } : Jvm.MethodName)) ∈ lw_all := lw_g (lw_at lw_m1 145 rfl) rfl
theorem q204 : (Jvm.Cond.code ({ cls := "NumberModels", name := "count", desc := "()I" } : Jvm.MethodName) prog_1_method_23_code (1 : Nat) (Option.some Jvm.ClassFile.FieldType.int)) ∈ lw_all := lw_g (lw_at lw_m1 146 rfl) rfl
theorem q210 : (Jvm.Cond.instanceMethod ({ cls := "NumberModels", name := "whole", desc := "(J)I" } : Jvm.MethodName)) ∈ lw_all := lw_g (lw_at lw_m1 152 rfl) rfl
theorem q211 : (Jvm.Cond.selects "NumberModels" ({ cls := "NumberModels", name := "whole", desc := "(J)I" } : Jvm.MethodName) ({ cls := "NumberModels", name := "whole", desc := "(J)I" } : Jvm.MethodName)) ∈ lw_all := lw_g (lw_at lw_m1 153 rfl) rfl
theorem q212 : (Jvm.Cond.code ({ cls := "NumberModels", name := "whole", desc := "(J)I" } : Jvm.MethodName) prog_1_method_10_code (3 : Nat) (Option.some Jvm.ClassFile.FieldType.int)) ∈ lw_all := lw_g (lw_at lw_m1 154 rfl) rfl
theorem q213 : (Jvm.Cond.methodLink "NumberModels" (166 : Nat) ({ cls := "NumberModels", name := "signOf", desc := "(J)I" } : Jvm.MethodName)) ∈ lw_all := lw_g (lw_at lw_m1 155 rfl) rfl
theorem q214 : (Jvm.Cond.privateMethod ({ cls := "NumberModels", name := "signOf", desc := "(J)I" } : Jvm.MethodName)) ∈ lw_tbl := lw_at lw_m1 156 rfl
theorem q215 : (Jvm.Cond.instanceMethod ({ cls := "NumberModels", name := "signOf", desc := "(J)I" } : Jvm.MethodName)) ∈ lw_all := lw_g (lw_at lw_m1 157 rfl) rfl
theorem q216 : (Jvm.Cond.code ({ cls := "NumberModels", name := "signOf", desc := "(J)I" } : Jvm.MethodName) prog_1_method_9_code (3 : Nat) (Option.some Jvm.ClassFile.FieldType.int)) ∈ lw_all := lw_g (lw_at lw_m1 158 rfl) rfl
theorem q217 : (Jvm.Cond.methodLink "NumberModels" (126 : Nat) ({ cls := "NumberModels$Wide", name := "set", desc := "(J)LNumberModels$Wide;" } : Jvm.MethodName)) ∈ lw_all := lw_g (lw_at lw_m1 159 rfl) rfl
theorem q225 : (Jvm.Cond.methodLink "NumberModels" (170 : Nat) ({ cls := "NumberModels", name := "make", desc := "()I" } : Jvm.MethodName)) ∈ lw_all := lw_g (lw_at lw_m1 167 rfl) rfl
theorem q226 : (Jvm.Cond.privateMethod ({ cls := "NumberModels", name := "make", desc := "()I" } : Jvm.MethodName)) ∈ lw_tbl := lw_at lw_m1 168 rfl
theorem q227 : (Jvm.Cond.instanceMethod ({ cls := "NumberModels", name := "make", desc := "()I" } : Jvm.MethodName)) ∈ lw_all := lw_g (lw_at lw_m1 169 rfl) rfl
theorem q228 : (Jvm.Cond.codeWith ({ cls := "NumberModels", name := "make", desc := "()I" } : Jvm.MethodName) prog_1_method_6_code (2 : Nat) (Option.some Jvm.ClassFile.FieldType.int) [((0 : Nat), (4 : Nat), (5 : Nat), (71 : Nat))]) ∈ lw_all := lw_g (lw_at lw_m1 170 rfl) rfl
theorem q229 : (Jvm.Cond.classLink "NumberModels" (71 : Nat) "java/lang/ArrayIndexOutOfBoundsException") ∈ lw_all := lw_g (lw_at lw_m1 171 rfl) rfl
theorem q322 : (Jvm.Cond.methodLink "NumberModels" (117 : Nat) ({ cls := "NumberModels", name := "keep", desc := "()I" } : Jvm.MethodName)) ∈ lw_all := lw_g (lw_at lw_m2 24 rfl) rfl
theorem q323 : (Jvm.Cond.privateMethod ({ cls := "NumberModels", name := "keep", desc := "()I" } : Jvm.MethodName)) ∈ lw_tbl := lw_at lw_m2 25 rfl
theorem q324 : (Jvm.Cond.instanceMethod ({ cls := "NumberModels", name := "keep", desc := "()I" } : Jvm.MethodName)) ∈ lw_all := lw_g (lw_at lw_m2 26 rfl) rfl
theorem q325 : (Jvm.Cond.codeWith ({ cls := "NumberModels", name := "keep", desc := "()I" } : Jvm.MethodName) prog_1_method_7_code (3 : Nat) (Option.some Jvm.ClassFile.FieldType.int) [((5 : Nat), (140 : Nat), (148 : Nat), (0 : Nat))]) ∈ lw_all := lw_g (lw_at lw_m2 27 rfl) rfl
theorem q326 : (Jvm.Cond.methodLink "NumberModels" (88 : Nat) ({ cls := "NumberModels$Wide", name := "isZero", desc := "()Z" } : Jvm.MethodName)) ∈ lw_all := lw_g (lw_at lw_m2 28 rfl) rfl
theorem q330 : (Jvm.Cond.methodLink "NumberModels" (129 : Nat) ({ cls := "NumberModels", name := "commons", desc := "(LNumberModels$Wide;LNumberModels$Wide;LNumberModels$Wide;)V" } : Jvm.MethodName)) ∈ lw_all := lw_g (lw_at lw_m2 32 rfl) rfl
theorem q331 : (Jvm.Cond.privateMethod ({ cls := "NumberModels", name := "commons", desc := "(LNumberModels$Wide;LNumberModels$Wide;LNumberModels$Wide;)V" } : Jvm.MethodName)) ∈ lw_tbl := lw_at lw_m2 33 rfl
theorem q332 : (Jvm.Cond.instanceMethod ({ cls := "NumberModels", name := "commons", desc := "(LNumberModels$Wide;LNumberModels$Wide;LNumberModels$Wide;)V" } : Jvm.MethodName)) ∈ lw_all := lw_g (lw_at lw_m2 34 rfl) rfl
theorem q333 : (Jvm.Cond.code ({ cls := "NumberModels", name := "commons", desc := "(LNumberModels$Wide;LNumberModels$Wide;LNumberModels$Wide;)V" } : Jvm.MethodName) prog_1_method_5_code (5 : Nat) (Option.none : Option Jvm.ClassFile.FieldType)) ∈ lw_all := lw_g (lw_at lw_m2 35 rfl) rfl
theorem q334 : (Jvm.Cond.methodLink "NumberModels" (84 : Nat) ({ cls := "NumberModels$Wide", name := "set", desc := "(LNumberModels$Wide;)LNumberModels$Wide;" } : Jvm.MethodName)) ∈ lw_all := lw_g (lw_at lw_m2 36 rfl) rfl
theorem q341 : (Jvm.Cond.methodLink "NumberModels" (92 : Nat) ({ cls := "NumberModels$Wide", name := "zeros", desc := "()I" } : Jvm.MethodName)) ∈ lw_all := lw_g (lw_at lw_m2 43 rfl) rfl
theorem q349 : (Jvm.Cond.methodLink "NumberModels" (96 : Nat) ({ cls := "java/lang/Math", name := "min", desc := "(II)I" } : Jvm.MethodName)) ∈ lw_all := lw_g (lw_at lw_m2 51 rfl) rfl
theorem q352 : (Jvm.Cond.methodLink "NumberModels" (102 : Nat) ({ cls := "NumberModels$Wide", name := "down", desc := "(I)V" } : Jvm.MethodName)) ∈ lw_all := lw_g (lw_at lw_m2 54 rfl) rfl
theorem q364 : (Jvm.Cond.methodLink "NumberModels" (106 : Nat) ({ cls := "NumberModels$Wide", name := "compare", desc := "(LNumberModels$Wide;)I" } : Jvm.MethodName)) ∈ lw_all := lw_g (lw_at lw_m2 66 rfl) rfl
theorem q375 : (Jvm.Cond.methodLink "NumberModels" (110 : Nat) ({ cls := "NumberModels$Wide", name := "subtract", desc := "(LNumberModels$Wide;)V" } : Jvm.MethodName)) ∈ lw_all := lw_g (lw_at lw_m2 77 rfl) rfl
theorem q379 : (Jvm.Cond.methodLink "NumberModels" (114 : Nat) ({ cls := "NumberModels$Wide", name := "up", desc := "(I)V" } : Jvm.MethodName)) ∈ lw_all := lw_g (lw_at lw_m2 81 rfl) rfl
theorem q383 : (Jvm.Cond.methodLink "NumberModels" (133 : Nat) ({ cls := "NumberModels$Wide", name := "divide", desc := "(LNumberModels$Wide;LNumberModels$Wide;LNumberModels$Wide;)V" } : Jvm.MethodName)) ∈ lw_all := lw_g (lw_at lw_m2 85 rfl) rfl
theorem q400 : (Jvm.Cond.methodLink "NumberModels" (137 : Nat) ({ cls := "NumberModels", name := "form", desc := "()Ljava/lang/Object;" } : Jvm.MethodName)) ∈ lw_all := lw_g (lw_at lw_m2 102 rfl) rfl
theorem q401 : (Jvm.Cond.privateMethod ({ cls := "NumberModels", name := "form", desc := "()Ljava/lang/Object;" } : Jvm.MethodName)) ∈ lw_tbl := lw_at lw_m2 103 rfl
theorem q402 : (Jvm.Cond.instanceMethod ({ cls := "NumberModels", name := "form", desc := "()Ljava/lang/Object;" } : Jvm.MethodName)) ∈ lw_all := lw_g (lw_at lw_m2 104 rfl) rfl
theorem q403 : (Jvm.Cond.code ({ cls := "NumberModels", name := "form", desc := "()Ljava/lang/Object;" } : Jvm.MethodName) prog_1_method_8_code (2 : Nat) (Option.some (Jvm.ClassFile.FieldType.object "java/lang/Object"))) ∈ lw_all := lw_g (lw_at lw_m2 105 rfl) rfl
theorem q404 : (Jvm.Cond.methodLink "NumberModels" (144 : Nat) ({ cls := "NumberModels$Wide", name := "bits", desc := "()I" } : Jvm.MethodName)) ∈ lw_all := lw_g (lw_at lw_m2 106 rfl) rfl
theorem q405 : (Jvm.Cond.methodLink "NumberModels" (147 : Nat) ({ cls := "NumberModels$Wide", name := "low", desc := "()J" } : Jvm.MethodName)) ∈ lw_all := lw_g (lw_at lw_m2 107 rfl) rfl
theorem q409 : (Jvm.Cond.classLink "NumberModels" (151 : Nat) "[[I") ∈ lw_all := lw_g (lw_at lw_m2 111 rfl) rfl
theorem q411 : (Jvm.Cond.methodLink "NumberModels" (160 : Nat) ({ cls := "java/lang/System", name := "arraycopy", desc := "(Ljava/lang/Object;ILjava/lang/Object;II)V" } : Jvm.MethodName)) ∈ lw_all := lw_g (lw_at lw_m2 113 rfl) rfl
theorem q412 : (Jvm.Cond.methodLink "NumberModels" (141 : Nat) ({ cls := "NumberModels$Item", name := "<init>", desc := "(ILjava/lang/Object;)V" } : Jvm.MethodName)) ∈ lw_all := lw_g (lw_at lw_m2 114 rfl) rfl
theorem q417 : (Jvm.Cond.fieldLinkNest "NumberModels" (67 : Nat) "NumberModels$Item" "sign" "I" "NumberModels") ∈ lw_tbl := lw_at lw_m2 119 rfl
theorem q425 : (Jvm.Cond.classLink "NumberModels" (120 : Nat) "java/lang/IllegalStateException") ∈ lw_all := lw_g (lw_at lw_m2 127 rfl) rfl
theorem q434 : (Jvm.Cond.methodLink "NumberModels" (122 : Nat) ({ cls := "java/lang/IllegalStateException", name := "<init>", desc := "()V" } : Jvm.MethodName)) ∈ lw_all := lw_g (lw_at lw_m2 136 rfl) rfl
theorem q464 : (Jvm.Cond.instanceMethod ({ cls := "NumberModels", name := "fraction", desc := "(JJ)I" } : Jvm.MethodName)) ∈ lw_all := lw_g (lw_at lw_m2 166 rfl) rfl
theorem q465 : (Jvm.Cond.selects "NumberModels" ({ cls := "NumberModels", name := "fraction", desc := "(JJ)I" } : Jvm.MethodName) ({ cls := "NumberModels", name := "fraction", desc := "(JJ)I" } : Jvm.MethodName)) ∈ lw_all := lw_g (lw_at lw_m2 167 rfl) rfl
theorem q466 : (Jvm.Cond.codeWith ({ cls := "NumberModels", name := "fraction", desc := "(JJ)I" } : Jvm.MethodName) prog_1_method_11_code (6 : Nat) (Option.some Jvm.ClassFile.FieldType.int) [((0 : Nat), (17 : Nat), (20 : Nat), (81 : Nat))]) ∈ lw_all := lw_g (lw_at lw_m2 168 rfl) rfl
theorem q467 : (Jvm.Cond.classLink "NumberModels" (81 : Nat) "java/lang/ArithmeticException") ∈ lw_all := lw_g (lw_at lw_m2 169 rfl) rfl
theorem q468 : (Jvm.Cond.methodLink "NumberModels" (173 : Nat) ({ cls := "NumberModels", name := "divided", desc := "()Ljava/lang/ArithmeticException;" } : Jvm.MethodName)) ∈ lw_all := lw_g (lw_at lw_m2 170 rfl) rfl
theorem q469 : (Jvm.Cond.static ({ cls := "NumberModels", name := "divided", desc := "()Ljava/lang/ArithmeticException;" } : Jvm.MethodName)) ∈ lw_all := lw_g (lw_at lw_m2 171 rfl) rfl
theorem q470 : (Jvm.Cond.code ({ cls := "NumberModels", name := "divided", desc := "()Ljava/lang/ArithmeticException;" } : Jvm.MethodName) prog_1_method_4_code (0 : Nat) (Option.some (Jvm.ClassFile.FieldType.object "java/lang/ArithmeticException"))) ∈ lw_all := lw_g (lw_at lw_m2 172 rfl) rfl
theorem q471 : (Jvm.Cond.methodLink "NumberModels" (83 : Nat) ({ cls := "java/lang/ArithmeticException", name := "<init>", desc := "()V" } : Jvm.MethodName)) ∈ lw_all := lw_g (lw_at lw_m2 173 rfl) rfl
theorem q479 : (Jvm.Cond.instanceMethod ({ cls := "NumberModels", name := "real", desc := "(J)I" } : Jvm.MethodName)) ∈ lw_all := lw_g (lw_at lw_m2 181 rfl) rfl
theorem q480 : (Jvm.Cond.selects "NumberModels" ({ cls := "NumberModels", name := "real", desc := "(J)I" } : Jvm.MethodName) ({ cls := "NumberModels", name := "real", desc := "(J)I" } : Jvm.MethodName)) ∈ lw_all := lw_g (lw_at lw_m2 182 rfl) rfl
theorem q481 : (Jvm.Cond.code ({ cls := "NumberModels", name := "real", desc := "(J)I" } : Jvm.MethodName) prog_1_method_13_code (6 : Nat) (Option.some Jvm.ClassFile.FieldType.int)) ∈ lw_all := lw_g (lw_at lw_m2 183 rfl) rfl
theorem q482 : (Jvm.Cond.methodLink "NumberModels" (192 : Nat) ({ cls := "NumberModels", name := "doubleOf", desc := "(J)D" } : Jvm.MethodName)) ∈ lw_all := lw_g (lw_at lw_m2 184 rfl) rfl
theorem q483 : (Jvm.Cond.static ({ cls := "NumberModels", name := "doubleOf", desc := "(J)D" } : Jvm.MethodName)) ∈ lw_all := lw_g (lw_at lw_m2 185 rfl) rfl
theorem q484 : (Jvm.Cond.code ({ cls := "NumberModels", name := "doubleOf", desc := "(J)D" } : Jvm.MethodName) prog_1_method_37_code (2 : Nat) (Option.some Jvm.ClassFile.FieldType.double)) ∈ lw_all := lw_g (lw_at lw_m2 186 rfl) rfl
theorem q485 : (Jvm.Cond.constantLong "NumberModels" (314 : Nat) (9223372036854775807 : Int64)) ∈ lw_all := lw_g (lw_at lw_m2 187 rfl) rfl
theorem q486 : (Jvm.Cond.constantLong "NumberModels" (316 : Nat) (9218868437227405312 : Int64)) ∈ lw_all := lw_g (lw_at lw_m2 188 rfl) rfl
theorem q487 : (Jvm.Cond.constantDouble "NumberModels" (311 : Nat) (9221120237041090560 : UInt64)) ∈ lw_all := lw_g (lw_at lw_m2 189 rfl) rfl
theorem q488 : (Jvm.Cond.methodLink "NumberModels" (318 : Nat) ({ cls := "java/lang/Double", name := "longBitsToDouble", desc := "(J)D" } : Jvm.MethodName)) ∈ lw_all := lw_g (lw_at lw_m2 190 rfl) rfl
theorem q491 : (Jvm.Cond.methodLink "NumberModels" (184 : Nat) ({ cls := "java/lang/Math", name := "abs", desc := "(D)D" } : Jvm.MethodName)) ∈ lw_all := lw_g (lw_at lw_m2 193 rfl) rfl
theorem q499 : (Jvm.Cond.constantDouble "NumberModels" (198 : Nat) (9218868437227405311 : UInt64)) ∈ lw_all := lw_g (lw_at lw_m2 201 rfl) rfl
theorem q500 : (Jvm.Cond.methodLink "NumberModels" (200 : Nat) ({ cls := "NumberModels", name := "digits", desc := "(D)I" } : Jvm.MethodName)) ∈ lw_all := lw_g (lw_at lw_m2 202 rfl) rfl
theorem q501 : (Jvm.Cond.privateMethod ({ cls := "NumberModels", name := "digits", desc := "(D)I" } : Jvm.MethodName)) ∈ lw_tbl := lw_at lw_m2 203 rfl
theorem q502 : (Jvm.Cond.instanceMethod ({ cls := "NumberModels", name := "digits", desc := "(D)I" } : Jvm.MethodName)) ∈ lw_all := lw_g (lw_at lw_m2 204 rfl) rfl
theorem q503 : (Jvm.Cond.code ({ cls := "NumberModels", name := "digits", desc := "(D)I" } : Jvm.MethodName) prog_1_method_12_code (4 : Nat) (Option.some Jvm.ClassFile.FieldType.int)) ∈ lw_all := lw_g (lw_at lw_m2 205 rfl) rfl
theorem q504 : (Jvm.Cond.methodLink "NumberModels" (177 : Nat) ({ cls := "java/lang/Math", name := "getExponent", desc := "(D)I" } : Jvm.MethodName)) ∈ lw_all := lw_g (lw_at lw_m2 206 rfl) rfl
theorem q509 : (Jvm.Cond.methodLink "NumberModels" (181 : Nat) ({ cls := "java/lang/Math", name := "max", desc := "(II)I" } : Jvm.MethodName)) ∈ lw_all := lw_g (lw_at lw_m2 211 rfl) rfl
theorem q510 : (Jvm.Cond.methodLink "NumberModels" (188 : Nat) ({ cls := "java/lang/Math", name := "scalb", desc := "(DI)D" } : Jvm.MethodName)) ∈ lw_all := lw_g (lw_at lw_m2 212 rfl) rfl
theorem q531 : (Jvm.Cond.instanceMethod ({ cls := "NumberModels", name := "act", desc := "(III)I" } : Jvm.MethodName)) ∈ lw_all := lw_g (lw_at lw_m2 233 rfl) rfl
theorem q532 : (Jvm.Cond.selects "NumberModels" ({ cls := "NumberModels", name := "act", desc := "(III)I" } : Jvm.MethodName) ({ cls := "NumberModels", name := "act", desc := "(III)I" } : Jvm.MethodName)) ∈ lw_all := lw_g (lw_at lw_m2 234 rfl) rfl
theorem q533 : (Jvm.Cond.code ({ cls := "NumberModels", name := "act", desc := "(III)I" } : Jvm.MethodName) prog_1_method_14_code (7 : Nat) (Option.some Jvm.ClassFile.FieldType.int)) ∈ lw_all := lw_g (lw_at lw_m2 235 rfl) rfl
theorem q534 : (Jvm.Cond.methodLink "NumberModels" (203 : Nat) ({ cls := "NumberModels", name := "item", desc := "(I)LNumberModels$Item;" } : Jvm.MethodName)) ∈ lw_all := lw_g (lw_at lw_m2 236 rfl) rfl
theorem q535 : (Jvm.Cond.privateMethod ({ cls := "NumberModels", name := "item", desc := "(I)LNumberModels$Item;" } : Jvm.MethodName)) ∈ lw_tbl := lw_at lw_m2 237 rfl
theorem q536 : (Jvm.Cond.instanceMethod ({ cls := "NumberModels", name := "item", desc := "(I)LNumberModels$Item;" } : Jvm.MethodName)) ∈ lw_all := lw_g (lw_at lw_m2 238 rfl) rfl
theorem q537 : (Jvm.Cond.codeWith ({ cls := "NumberModels", name := "item", desc := "(I)LNumberModels$Item;" } : Jvm.MethodName) prog_1_method_2_code (3 : Nat) (Option.some (Jvm.ClassFile.FieldType.object "NumberModels$Item")) [((0 : Nat), (20 : Nat), (21 : Nat), (71 : Nat)), ((0 : Nat), (20 : Nat), (30 : Nat), (76 : Nat))]) ∈ lw_all := lw_g (lw_at lw_m2 239 rfl) rfl
theorem q538 : (Jvm.Cond.classLink "NumberModels" (76 : Nat) "java/lang/NullPointerException") ∈ lw_all := lw_g (lw_at lw_m3 0 rfl) rfl
theorem q557 : (Jvm.Cond.classLink "NumberModels" (73 : Nat) "java/lang/IndexOutOfBoundsException") ∈ lw_all := lw_g (lw_at lw_m3 19 rfl) rfl
theorem q566 : (Jvm.Cond.methodLink "NumberModels" (75 : Nat) ({ cls := "java/lang/IndexOutOfBoundsException", name := "<init>", desc := "()V" } : Jvm.MethodName)) ∈ lw_all := lw_g (lw_at lw_m3 28 rfl) rfl
theorem q572 : (Jvm.Cond.methodLink "NumberModels" (207 : Nat) ({ cls := "NumberModels$Item", name := "isWhole", desc := "()Z" } : Jvm.MethodName)) ∈ lw_all := lw_g (lw_at lw_m3 34 rfl) rfl
theorem q578 : (Jvm.Cond.methodLink "NumberModels" (210 : Nat) ({ cls := "NumberModels", name := "argument", desc := "(Z)V" } : Jvm.MethodName)) ∈ lw_all := lw_g (lw_at lw_m3 40 rfl) rfl
theorem q579 : (Jvm.Cond.static ({ cls := "NumberModels", name := "argument", desc := "(Z)V" } : Jvm.MethodName)) ∈ lw_all := lw_g (lw_at lw_m3 41 rfl) rfl
theorem q580 : (Jvm.Cond.code ({ cls := "NumberModels", name := "argument", desc := "(Z)V" } : Jvm.MethodName) prog_1_method_3_code (1 : Nat) (Option.none : Option Jvm.ClassFile.FieldType)) ∈ lw_all := lw_g (lw_at lw_m3 42 rfl) rfl
theorem q581 : (Jvm.Cond.classLink "NumberModels" (78 : Nat) "java/lang/IllegalArgumentException") ∈ lw_all := lw_g (lw_at lw_m3 43 rfl) rfl
theorem q590 : (Jvm.Cond.methodLink "NumberModels" (80 : Nat) ({ cls := "java/lang/IllegalArgumentException", name := "<init>", desc := "()V" } : Jvm.MethodName)) ∈ lw_all := lw_g (lw_at lw_m3 52 rfl) rfl
theorem q596 : (Jvm.Cond.methodLink "NumberModels" (214 : Nat) ({ cls := "NumberModels$Item", name := "take", desc := "(LNumberModels$Wide;LNumberModels$Wide;)V" } : Jvm.MethodName)) ∈ lw_all := lw_g (lw_at lw_m3 58 rfl) rfl
theorem q619 : (Jvm.Cond.methodLink "NumberModels" (218 : Nat) ({ cls := "NumberModels", name := "add", desc := "(I)V" } : Jvm.MethodName)) ∈ lw_all := lw_g (lw_at lw_m3 81 rfl) rfl
theorem q620 : (Jvm.Cond.privateMethod ({ cls := "NumberModels", name := "add", desc := "(I)V" } : Jvm.MethodName)) ∈ lw_tbl := lw_at lw_m3 82 rfl
theorem q621 : (Jvm.Cond.instanceMethod ({ cls := "NumberModels", name := "add", desc := "(I)V" } : Jvm.MethodName)) ∈ lw_all := lw_g (lw_at lw_m3 83 rfl) rfl
theorem q622 : (Jvm.Cond.code ({ cls := "NumberModels", name := "add", desc := "(I)V" } : Jvm.MethodName) prog_1_method_15_code (2 : Nat) (Option.none : Option Jvm.ClassFile.FieldType)) ∈ lw_all := lw_g (lw_at lw_m3 84 rfl) rfl
theorem q623 : (Jvm.Cond.methodLink "NumberModels" (242 : Nat) ({ cls := "NumberModels$Wide", name := "multiply", desc := "(LNumberModels$Wide;LNumberModels$Wide;)V" } : Jvm.MethodName)) ∈ lw_all := lw_g (lw_at lw_m3 85 rfl) rfl
theorem q627 : (Jvm.Cond.methodLink "NumberModels" (245 : Nat) ({ cls := "NumberModels$Wide", name := "add", desc := "(LNumberModels$Wide;)V" } : Jvm.MethodName)) ∈ lw_all := lw_g (lw_at lw_m3 89 rfl) rfl
theorem q631 : (Jvm.Cond.methodLink "NumberModels" (221 : Nat) ({ cls := "NumberModels", name := "product", desc := "(I)V" } : Jvm.MethodName)) ∈ lw_all := lw_g (lw_at lw_m3 93 rfl) rfl
theorem q632 : (Jvm.Cond.privateMethod ({ cls := "NumberModels", name := "product", desc := "(I)V" } : Jvm.MethodName)) ∈ lw_tbl := lw_at lw_m3 94 rfl
theorem q633 : (Jvm.Cond.instanceMethod ({ cls := "NumberModels", name := "product", desc := "(I)V" } : Jvm.MethodName)) ∈ lw_all := lw_g (lw_at lw_m3 95 rfl) rfl
theorem q634 : (Jvm.Cond.code ({ cls := "NumberModels", name := "product", desc := "(I)V" } : Jvm.MethodName) prog_1_method_16_code (2 : Nat) (Option.none : Option Jvm.ClassFile.FieldType)) ∈ lw_all := lw_g (lw_at lw_m3 96 rfl) rfl
theorem q635 : (Jvm.Cond.methodLink "NumberModels" (224 : Nat) ({ cls := "NumberModels", name := "ratio", desc := "(I)V" } : Jvm.MethodName)) ∈ lw_all := lw_g (lw_at lw_m3 97 rfl) rfl
theorem q636 : (Jvm.Cond.privateMethod ({ cls := "NumberModels", name := "ratio", desc := "(I)V" } : Jvm.MethodName)) ∈ lw_tbl := lw_at lw_m3 98 rfl
theorem q637 : (Jvm.Cond.instanceMethod ({ cls := "NumberModels", name := "ratio", desc := "(I)V" } : Jvm.MethodName)) ∈ lw_all := lw_g (lw_at lw_m3 99 rfl) rfl
theorem q638 : (Jvm.Cond.codeWith ({ cls := "NumberModels", name := "ratio", desc := "(I)V" } : Jvm.MethodName) prog_1_method_17_code (3 : Nat) (Option.none : Option Jvm.ClassFile.FieldType) [((0 : Nat), (10 : Nat), (13 : Nat), (81 : Nat))]) ∈ lw_all := lw_g (lw_at lw_m3 100 rfl) rfl
theorem q639 : (Jvm.Cond.methodLink "NumberModels" (227 : Nat) ({ cls := "NumberModels", name := "quotient", desc := "(II)V" } : Jvm.MethodName)) ∈ lw_all := lw_g (lw_at lw_m3 101 rfl) rfl
theorem q640 : (Jvm.Cond.privateMethod ({ cls := "NumberModels", name := "quotient", desc := "(II)V" } : Jvm.MethodName)) ∈ lw_tbl := lw_at lw_m3 102 rfl
theorem q641 : (Jvm.Cond.instanceMethod ({ cls := "NumberModels", name := "quotient", desc := "(II)V" } : Jvm.MethodName)) ∈ lw_all := lw_g (lw_at lw_m3 103 rfl) rfl
theorem q642 : (Jvm.Cond.code ({ cls := "NumberModels", name := "quotient", desc := "(II)V" } : Jvm.MethodName) prog_1_method_18_code (5 : Nat) (Option.none : Option Jvm.ClassFile.FieldType)) ∈ lw_all := lw_g (lw_at lw_m3 104 rfl) rfl
theorem q643 : (Jvm.Cond.methodLink "NumberModels" (231 : Nat) ({ cls := "NumberModels", name := "powe\x72", desc := "(LNumberModels$Item;LNumberModels$Item;)V" } : Jvm.MethodName)) ∈ lw_all := lw_g (lw_at lw_m3 105 rfl) rfl
theorem q644 : (Jvm.Cond.privateMethod ({ cls := "NumberModels", name := "powe\x72", desc := "(LNumberModels$Item;LNumberModels$Item;)V" } : Jvm.MethodName)) ∈ lw_tbl := lw_at lw_m3 106 rfl
theorem q645 : (Jvm.Cond.instanceMethod ({ cls := "NumberModels", name := "powe\x72", desc := "(LNumberModels$Item;LNumberModels$Item;)V" } : Jvm.MethodName)) ∈ lw_all := lw_g (lw_at lw_m3 107 rfl) rfl
theorem q646 : (Jvm.Cond.code ({ cls := "NumberModels", name := "powe\x72", desc := "(LNumberModels$Item;LNumberModels$Item;)V" } : Jvm.MethodName) prog_1_method_19_code (5 : Nat) (Option.none : Option Jvm.ClassFile.FieldType)) ∈ lw_all := lw_g (lw_at lw_m3 108 rfl) rfl
theorem q647 : (Jvm.Cond.constantLong "NumberModels" (247 : Nat) (300 : Int64)) ∈ lw_all := lw_g (lw_at lw_m3 109 rfl) rfl
theorem q648 : (Jvm.Cond.methodLink "NumberModels" (249 : Nat) ({ cls := "NumberModels$Wide", name := "isOne", desc := "()Z" } : Jvm.MethodName)) ∈ lw_all := lw_g (lw_at lw_m3 110 rfl) rfl
theorem q652 : (Jvm.Cond.methodLink "NumberModels" (235 : Nat) ({ cls := "NumberModels", name := "shift", desc := "(LNumberModels$Item;)V" } : Jvm.MethodName)) ∈ lw_all := lw_g (lw_at lw_m3 114 rfl) rfl
theorem q653 : (Jvm.Cond.privateMethod ({ cls := "NumberModels", name := "shift", desc := "(LNumberModels$Item;)V" } : Jvm.MethodName)) ∈ lw_tbl := lw_at lw_m3 115 rfl
theorem q654 : (Jvm.Cond.instanceMethod ({ cls := "NumberModels", name := "shift", desc := "(LNumberModels$Item;)V" } : Jvm.MethodName)) ∈ lw_all := lw_g (lw_at lw_m3 116 rfl) rfl
theorem q655 : (Jvm.Cond.code ({ cls := "NumberModels", name := "shift", desc := "(LNumberModels$Item;)V" } : Jvm.MethodName) prog_1_method_20_code (3 : Nat) (Option.none : Option Jvm.ClassFile.FieldType)) ∈ lw_all := lw_g (lw_at lw_m3 117 rfl) rfl
theorem q656 : (Jvm.Cond.constantLong "NumberModels" (252 : Nat) (600 : Int64)) ∈ lw_all := lw_g (lw_at lw_m3 118 rfl) rfl
theorem q657 : (Jvm.Cond.methodLink "NumberModels" (239 : Nat) ({ cls := "NumberModels", name := "compare", desc := "(LNumberModels$Item;LNumberModels$Item;)I" } : Jvm.MethodName)) ∈ lw_all := lw_g (lw_at lw_m3 119 rfl) rfl
theorem q658 : (Jvm.Cond.privateMethod ({ cls := "NumberModels", name := "compare", desc := "(LNumberModels$Item;LNumberModels$Item;)I" } : Jvm.MethodName)) ∈ lw_tbl := lw_at lw_m3 120 rfl
theorem q659 : (Jvm.Cond.instanceMethod ({ cls := "NumberModels", name := "compare", desc := "(LNumberModels$Item;LNumberModels$Item;)I" } : Jvm.MethodName)) ∈ lw_all := lw_g (lw_at lw_m3 121 rfl) rfl
theorem q660 : (Jvm.Cond.code ({ cls := "NumberModels", name := "compare", desc := "(LNumberModels$Item;LNumberModels$Item;)I" } : Jvm.MethodName) prog_1_method_21_code (4 : Nat) (Option.some Jvm.ClassFile.FieldType.int)) ∈ lw_all := lw_g (lw_at lw_m3 122 rfl) rfl
theorem q665 : (Jvm.Cond.instanceMethod ({ cls := "NumberModels", name := "word", desc := "(II)J" } : Jvm.MethodName)) ∈ lw_all := lw_g (lw_at lw_m3 127 rfl) rfl
theorem q666 : (Jvm.Cond.selects "NumberModels" ({ cls := "NumberModels", name := "word", desc := "(II)J" } : Jvm.MethodName) ({ cls := "NumberModels", name := "word", desc := "(II)J" } : Jvm.MethodName)) ∈ lw_all := lw_g (lw_at lw_m3 128 rfl) rfl
theorem q667 : (Jvm.Cond.codeWith ({ cls := "NumberModels", name := "word", desc := "(II)J" } : Jvm.MethodName) prog_1_method_24_code (6 : Nat) (Option.some Jvm.ClassFile.FieldType.long) [((73 : Nat), (89 : Nat), (90 : Nat), (71 : Nat))]) ∈ lw_all := lw_g (lw_at lw_m3 129 rfl) rfl
theorem q668 : (Jvm.Cond.constantLong "NumberModels" (254 : Nat) (4294967295 : Int64)) ∈ lw_all := lw_g (lw_at lw_m3 130 rfl) rfl
theorem q673 : (Jvm.Cond.instanceMethod ({ cls := "NumberModels", name := "sign", desc := "(I)I" } : Jvm.MethodName)) ∈ lw_all := lw_g (lw_at lw_m3 135 rfl) rfl
theorem q674 : (Jvm.Cond.selects "NumberModels" ({ cls := "NumberModels", name := "sign", desc := "(I)I" } : Jvm.MethodName) ({ cls := "NumberModels", name := "sign", desc := "(I)I" } : Jvm.MethodName)) ∈ lw_all := lw_g (lw_at lw_m3 136 rfl) rfl
theorem q675 : (Jvm.Cond.code ({ cls := "NumberModels", name := "sign", desc := "(I)I" } : Jvm.MethodName) prog_1_method_25_code (2 : Nat) (Option.some Jvm.ClassFile.FieldType.int)) ∈ lw_all := lw_g (lw_at lw_m3 137 rfl) rfl
theorem q680 : (Jvm.Cond.instanceMethod ({ cls := "NumberModels", name := "bits", desc := "(IZ)I" } : Jvm.MethodName)) ∈ lw_all := lw_g (lw_at lw_m3 142 rfl) rfl
theorem q681 : (Jvm.Cond.selects "NumberModels" ({ cls := "NumberModels", name := "bits", desc := "(IZ)I" } : Jvm.MethodName) ({ cls := "NumberModels", name := "bits", desc := "(IZ)I" } : Jvm.MethodName)) ∈ lw_all := lw_g (lw_at lw_m3 143 rfl) rfl
theorem q682 : (Jvm.Cond.code ({ cls := "NumberModels", name := "bits", desc := "(IZ)I" } : Jvm.MethodName) prog_1_method_26_code (3 : Nat) (Option.some Jvm.ClassFile.FieldType.int)) ∈ lw_all := lw_g (lw_at lw_m3 144 rfl) rfl
theorem q687 : (Jvm.Cond.instanceMethod ({ cls := "NumberModels", name := "wrap", desc := "(IIZ)J" } : Jvm.MethodName)) ∈ lw_all := lw_g (lw_at lw_m3 149 rfl) rfl
theorem q688 : (Jvm.Cond.selects "NumberModels" ({ cls := "NumberModels", name := "wrap", desc := "(IIZ)J" } : Jvm.MethodName) ({ cls := "NumberModels", name := "wrap", desc := "(IIZ)J" } : Jvm.MethodName)) ∈ lw_all := lw_g (lw_at lw_m3 150 rfl) rfl
theorem q689 : (Jvm.Cond.code ({ cls := "NumberModels", name := "wrap", desc := "(IIZ)J" } : Jvm.MethodName) prog_1_method_27_code (8 : Nat) (Option.some Jvm.ClassFile.FieldType.long)) ∈ lw_all := lw_g (lw_at lw_m3 151 rfl) rfl
theorem q694 : (Jvm.Cond.instanceMethod ({ cls := "NumberModels", name := "orde\x72", desc := "(II)I" } : Jvm.MethodName)) ∈ lw_all := lw_g (lw_at lw_m3 156 rfl) rfl
theorem q695 : (Jvm.Cond.selects "NumberModels" ({ cls := "NumberModels", name := "orde\x72", desc := "(II)I" } : Jvm.MethodName) ({ cls := "NumberModels", name := "orde\x72", desc := "(II)I" } : Jvm.MethodName)) ∈ lw_all := lw_g (lw_at lw_m3 157 rfl) rfl
theorem q696 : (Jvm.Cond.code ({ cls := "NumberModels", name := "orde\x72", desc := "(II)I" } : Jvm.MethodName) prog_1_method_28_code (3 : Nat) (Option.some Jvm.ClassFile.FieldType.int)) ∈ lw_all := lw_g (lw_at lw_m3 158 rfl) rfl
theorem q701 : (Jvm.Cond.instanceMethod ({ cls := "NumberModels", name := "meets", desc := "(IJ)I" } : Jvm.MethodName)) ∈ lw_all := lw_g (lw_at lw_m3 163 rfl) rfl
theorem q702 : (Jvm.Cond.selects "NumberModels" ({ cls := "NumberModels", name := "meets", desc := "(IJ)I" } : Jvm.MethodName) ({ cls := "NumberModels", name := "meets", desc := "(IJ)I" } : Jvm.MethodName)) ∈ lw_all := lw_g (lw_at lw_m3 164 rfl) rfl
theorem q703 : (Jvm.Cond.code ({ cls := "NumberModels", name := "meets", desc := "(IJ)I" } : Jvm.MethodName) prog_1_method_29_code (11 : Nat) (Option.some Jvm.ClassFile.FieldType.int)) ∈ lw_all := lw_g (lw_at lw_m3 165 rfl) rfl
theorem q704 : (Jvm.Cond.methodLink "NumberModels" (256 : Nat) ({ cls := "java/lang/Math", name := "signum", desc := "(D)D" } : Jvm.MethodName)) ∈ lw_all := lw_g (lw_at lw_m3 166 rfl) rfl
theorem q718 : (Jvm.Cond.instanceMethod ({ cls := "NumberModels", name := "nearest", desc := "(II)J" } : Jvm.MethodName)) ∈ lw_all := lw_g (lw_at lw_m3 180 rfl) rfl
theorem q719 : (Jvm.Cond.selects "NumberModels" ({ cls := "NumberModels", name := "nearest", desc := "(II)J" } : Jvm.MethodName) ({ cls := "NumberModels", name := "nearest", desc := "(II)J" } : Jvm.MethodName)) ∈ lw_all := lw_g (lw_at lw_m3 181 rfl) rfl
theorem q720 : (Jvm.Cond.code ({ cls := "NumberModels", name := "nearest", desc := "(II)J" } : Jvm.MethodName) prog_1_method_32_code (7 : Nat) (Option.some Jvm.ClassFile.FieldType.long)) ∈ lw_all := lw_g (lw_at lw_m3 182 rfl) rfl
theorem q721 : (Jvm.Cond.methodLink "NumberModels" (270 : Nat) ({ cls := "NumberModels", name := "powerOf", desc := "()I" } : Jvm.MethodName)) ∈ lw_all := lw_g (lw_at lw_m3 183 rfl) rfl
theorem q722 : (Jvm.Cond.privateMethod ({ cls := "NumberModels", name := "powerOf", desc := "()I" } : Jvm.MethodName)) ∈ lw_tbl := lw_at lw_m3 184 rfl
theorem q723 : (Jvm.Cond.instanceMethod ({ cls := "NumberModels", name := "powerOf", desc := "()I" } : Jvm.MethodName)) ∈ lw_all := lw_g (lw_at lw_m3 185 rfl) rfl
theorem q724 : (Jvm.Cond.code ({ cls := "NumberModels", name := "powerOf", desc := "()I" } : Jvm.MethodName) prog_1_method_31_code (2 : Nat) (Option.some Jvm.ClassFile.FieldType.int)) ∈ lw_all := lw_g (lw_at lw_m3 186 rfl) rfl
theorem q725 : (Jvm.Cond.methodLink "NumberModels" (273 : Nat) ({ cls := "NumberModels", name := "reach", desc := "(I)V" } : Jvm.MethodName)) ∈ lw_all := lw_g (lw_at lw_m3 187 rfl) rfl
theorem q726 : (Jvm.Cond.privateMethod ({ cls := "NumberModels", name := "reach", desc := "(I)V" } : Jvm.MethodName)) ∈ lw_tbl := lw_at lw_m3 188 rfl
theorem q727 : (Jvm.Cond.instanceMethod ({ cls := "NumberModels", name := "reach", desc := "(I)V" } : Jvm.MethodName)) ∈ lw_all := lw_g (lw_at lw_m3 189 rfl) rfl
theorem q728 : (Jvm.Cond.code ({ cls := "NumberModels", name := "reach", desc := "(I)V" } : Jvm.MethodName) prog_1_method_30_code (2 : Nat) (Option.none : Option Jvm.ClassFile.FieldType)) ∈ lw_all := lw_g (lw_at lw_m3 190 rfl) rfl
theorem q729 : (Jvm.Cond.interfaceEntry "NumberModels" (276 : Nat)) ∈ lw_tbl := lw_at lw_m3 191 rfl
theorem q730 : (Jvm.Cond.methodLink "NumberModels" (276 : Nat) ({ cls := "NumberModels$Rounds", name := "goes", desc := "(ZZI)Z" } : Jvm.MethodName)) ∈ lw_all := lw_g (lw_at lw_m3 192 rfl) rfl
theorem q770 : (Jvm.Cond.methodLink "NumberModels" (280 : Nat) ({ cls := "java/lang/Math", name := "nextUp", desc := "(D)D" } : Jvm.MethodName)) ∈ lw_all := lw_g (lw_at lw_m3 232 rfl) rfl
theorem q775 : (Jvm.Cond.methodLink "NumberModels" (283 : Nat) ({ cls := "java/lang/Math", name := "copySign", desc := "(DD)D" } : Jvm.MethodName)) ∈ lw_all := lw_g (lw_at lw_m3 237 rfl) rfl
theorem q776 : (Jvm.Cond.methodLink "NumberModels" (287 : Nat) ({ cls := "java/lang/Double", name := "doubleToLongBits", desc := "(D)J" } : Jvm.MethodName)) ∈ lw_all := lw_g (lw_at lw_m3 238 rfl) rfl
theorem q786 : (Jvm.Cond.instanceMethod ({ cls := "NumberModels", name := "single", desc := "(II)I" } : Jvm.MethodName)) ∈ lw_all := lw_g (lw_at lw_m4 8 rfl) rfl
theorem q787 : (Jvm.Cond.selects "NumberModels" ({ cls := "NumberModels", name := "single", desc := "(II)I" } : Jvm.MethodName) ({ cls := "NumberModels", name := "single", desc := "(II)I" } : Jvm.MethodName)) ∈ lw_all := lw_g (lw_at lw_m4 9 rfl) rfl
theorem q788 : (Jvm.Cond.code ({ cls := "NumberModels", name := "single", desc := "(II)I" } : Jvm.MethodName) prog_1_method_33_code (7 : Nat) (Option.some Jvm.ClassFile.FieldType.int)) ∈ lw_all := lw_g (lw_at lw_m4 10 rfl) rfl
theorem q789 : (Jvm.Cond.constantFloat "NumberModels" (293 : Nat) (2139095039 : UInt32)) ∈ lw_all := lw_g (lw_at lw_m4 11 rfl) rfl
theorem q790 : (Jvm.Cond.methodLink "NumberModels" (294 : Nat) ({ cls := "java/lang/Math", name := "scalb", desc := "(FI)F" } : Jvm.MethodName)) ∈ lw_all := lw_g (lw_at lw_m4 12 rfl) rfl
theorem q793 : (Jvm.Cond.methodLink "NumberModels" (297 : Nat) ({ cls := "java/lang/Math", name := "nextUp", desc := "(F)F" } : Jvm.MethodName)) ∈ lw_all := lw_g (lw_at lw_m4 15 rfl) rfl
theorem q803 : (Jvm.Cond.methodLink "NumberModels" (300 : Nat) ({ cls := "java/lang/Math", name := "copySign", desc := "(FF)F" } : Jvm.MethodName)) ∈ lw_all := lw_g (lw_at lw_m4 25 rfl) rfl
theorem q808 : (Jvm.Cond.methodLink "NumberModels" (303 : Nat) ({ cls := "java/lang/Float", name := "floatToIntBits", desc := "(F)I" } : Jvm.MethodName)) ∈ lw_all := lw_g (lw_at lw_m4 30 rfl) rfl
theorem q820 : (Jvm.Cond.instanceMethod ({ cls := "NumberModels", name := "machine", desc := "(IJJ)J" } : Jvm.MethodName)) ∈ lw_all := lw_g (lw_at lw_m4 42 rfl) rfl
theorem q821 : (Jvm.Cond.selects "NumberModels" ({ cls := "NumberModels", name := "machine", desc := "(IJJ)J" } : Jvm.MethodName) ({ cls := "NumberModels", name := "machine", desc := "(IJJ)J" } : Jvm.MethodName)) ∈ lw_all := lw_g (lw_at lw_m4 43 rfl) rfl
theorem q822 : (Jvm.Cond.code ({ cls := "NumberModels", name := "machine", desc := "(IJJ)J" } : Jvm.MethodName) prog_1_method_39_code (12 : Nat) (Option.some Jvm.ClassFile.FieldType.long)) ∈ lw_all := lw_g (lw_at lw_m4 44 rfl) rfl
theorem q823 : (Jvm.Cond.methodLink "NumberModels" (327 : Nat) ({ cls := "NumberModels", name := "isEndless", desc := "(D)Z" } : Jvm.MethodName)) ∈ lw_all := lw_g (lw_at lw_m4 45 rfl) rfl
theorem q824 : (Jvm.Cond.static ({ cls := "NumberModels", name := "isEndless", desc := "(D)Z" } : Jvm.MethodName)) ∈ lw_all := lw_g (lw_at lw_m4 46 rfl) rfl
theorem q825 : (Jvm.Cond.code ({ cls := "NumberModels", name := "isEndless", desc := "(D)Z" } : Jvm.MethodName) prog_1_method_34_code (2 : Nat) (Option.some Jvm.ClassFile.FieldType.boolean)) ∈ lw_all := lw_g (lw_at lw_m4 47 rfl) rfl
theorem q826 : (Jvm.Cond.constantDouble "NumberModels" (307 : Nat) (9218868437227405312 : UInt64)) ∈ lw_all := lw_g (lw_at lw_m4 48 rfl) rfl
theorem q827 : (Jvm.Cond.constantDouble "NumberModels" (309 : Nat) (18442240474082181120 : UInt64)) ∈ lw_all := lw_g (lw_at lw_m4 49 rfl) rfl
theorem q828 : (Jvm.Cond.methodLink "NumberModels" (331 : Nat) ({ cls := "java/lang/Math", name := "floo\x72", desc := "(D)D" } : Jvm.MethodName)) ∈ lw_all := lw_g (lw_at lw_m4 50 rfl) rfl
theorem q845 : (Jvm.Cond.methodLink "NumberModels" (334 : Nat) ({ cls := "java/lang/Math", name := "ceil", desc := "(D)D" } : Jvm.MethodName)) ∈ lw_all := lw_g (lw_at lw_m4 67 rfl) rfl
theorem q852 : (Jvm.Cond.methodLink "NumberModels" (337 : Nat) ({ cls := "java/lang/Math", name := "rint", desc := "(D)D" } : Jvm.MethodName)) ∈ lw_all := lw_g (lw_at lw_m4 74 rfl) rfl
theorem q861 : (Jvm.Cond.methodLink "NumberModels" (340 : Nat) ({ cls := "java/lang/Math", name := "max", desc := "(DD)D" } : Jvm.MethodName)) ∈ lw_all := lw_g (lw_at lw_m4 83 rfl) rfl
theorem q866 : (Jvm.Cond.methodLink "NumberModels" (342 : Nat) ({ cls := "java/lang/Math", name := "min", desc := "(DD)D" } : Jvm.MethodName)) ∈ lw_all := lw_g (lw_at lw_m4 88 rfl) rfl
theorem q869 : (Jvm.Cond.constantDouble "NumberModels" (344 : Nat) (13830554455654793216 : UInt64)) ∈ lw_all := lw_g (lw_at lw_m4 91 rfl) rfl
theorem q870 : (Jvm.Cond.methodLink "NumberModels" (346 : Nat) ({ cls := "java/lang/Math", name := "ulp", desc := "(D)D" } : Jvm.MethodName)) ∈ lw_all := lw_g (lw_at lw_m4 92 rfl) rfl
theorem q876 : (Jvm.Cond.constantLong "NumberModels" (349 : Nat) (-3000 : Int64)) ∈ lw_all := lw_g (lw_at lw_m4 98 rfl) rfl
theorem q877 : (Jvm.Cond.constantLong "NumberModels" (351 : Nat) (3000 : Int64)) ∈ lw_all := lw_g (lw_at lw_m4 99 rfl) rfl
theorem q878 : (Jvm.Cond.methodLink "NumberModels" (353 : Nat) ({ cls := "java/lang/Math", name := "min", desc := "(JJ)J" } : Jvm.MethodName)) ∈ lw_all := lw_g (lw_at lw_m4 100 rfl) rfl
theorem q881 : (Jvm.Cond.methodLink "NumberModels" (356 : Nat) ({ cls := "java/lang/Math", name := "max", desc := "(JJ)J" } : Jvm.MethodName)) ∈ lw_all := lw_g (lw_at lw_m4 103 rfl) rfl
theorem q884 : (Jvm.Cond.constantLong "NumberModels" (358 : Nat) (2 : Int64)) ∈ lw_all := lw_g (lw_at lw_m4 106 rfl) rfl
theorem q885 : (Jvm.Cond.constantLong "NumberModels" (360 : Nat) (3 : Int64)) ∈ lw_all := lw_g (lw_at lw_m4 107 rfl) rfl
theorem q886 : (Jvm.Cond.constantLong "NumberModels" (362 : Nat) (4 : Int64)) ∈ lw_all := lw_g (lw_at lw_m4 108 rfl) rfl
theorem q891 : (Jvm.Cond.instanceMethod ({ cls := "NumberModels", name := "cast", desc := "(IJ)J" } : Jvm.MethodName)) ∈ lw_all := lw_g (lw_at lw_m4 113 rfl) rfl
theorem q892 : (Jvm.Cond.selects "NumberModels" ({ cls := "NumberModels", name := "cast", desc := "(IJ)J" } : Jvm.MethodName) ({ cls := "NumberModels", name := "cast", desc := "(IJ)J" } : Jvm.MethodName)) ∈ lw_all := lw_g (lw_at lw_m4 114 rfl) rfl
theorem q893 : (Jvm.Cond.code ({ cls := "NumberModels", name := "cast", desc := "(IJ)J" } : Jvm.MethodName) prog_1_method_40_code (6 : Nat) (Option.some Jvm.ClassFile.FieldType.long)) ∈ lw_all := lw_g (lw_at lw_m4 115 rfl) rfl
theorem q894 : (Jvm.Cond.methodLink "NumberModels" (364 : Nat) ({ cls := "NumberModels", name := "narrow", desc := "(D)F" } : Jvm.MethodName)) ∈ lw_all := lw_g (lw_at lw_m4 116 rfl) rfl
theorem q895 : (Jvm.Cond.static ({ cls := "NumberModels", name := "narrow", desc := "(D)F" } : Jvm.MethodName)) ∈ lw_all := lw_g (lw_at lw_m4 117 rfl) rfl
theorem q896 : (Jvm.Cond.code ({ cls := "NumberModels", name := "narrow", desc := "(D)F" } : Jvm.MethodName) prog_1_method_36_code (2 : Nat) (Option.some Jvm.ClassFile.FieldType.float)) ∈ lw_all := lw_g (lw_at lw_m4 118 rfl) rfl
theorem q897 : (Jvm.Cond.constantFloat "NumberModels" (313 : Nat) (2143289344 : UInt32)) ∈ lw_all := lw_g (lw_at lw_m4 119 rfl) rfl
theorem q898 : (Jvm.Cond.methodLink "NumberModels" (368 : Nat) ({ cls := "NumberModels", name := "floatOf", desc := "(I)F" } : Jvm.MethodName)) ∈ lw_all := lw_g (lw_at lw_m4 120 rfl) rfl
theorem q899 : (Jvm.Cond.static ({ cls := "NumberModels", name := "floatOf", desc := "(I)F" } : Jvm.MethodName)) ∈ lw_all := lw_g (lw_at lw_m4 121 rfl) rfl
theorem q900 : (Jvm.Cond.code ({ cls := "NumberModels", name := "floatOf", desc := "(I)F" } : Jvm.MethodName) prog_1_method_38_code (1 : Nat) (Option.some Jvm.ClassFile.FieldType.float)) ∈ lw_all := lw_g (lw_at lw_m4 122 rfl) rfl
theorem q901 : (Jvm.Cond.constant "NumberModels" (321 : Nat) (2147483647 : Int32)) ∈ lw_all := lw_g (lw_at lw_m4 123 rfl) rfl
theorem q902 : (Jvm.Cond.constant "NumberModels" (322 : Nat) (2139095040 : Int32)) ∈ lw_all := lw_g (lw_at lw_m4 124 rfl) rfl
theorem q903 : (Jvm.Cond.methodLink "NumberModels" (323 : Nat) ({ cls := "java/lang/Float", name := "intBitsToFloat", desc := "(I)F" } : Jvm.MethodName)) ∈ lw_all := lw_g (lw_at lw_m4 125 rfl) rfl
theorem q904 : (Jvm.Cond.methodLink "NumberModels" (371 : Nat) ({ cls := "NumberModels", name := "wide", desc := "(F)D" } : Jvm.MethodName)) ∈ lw_all := lw_g (lw_at lw_m4 126 rfl) rfl
theorem q905 : (Jvm.Cond.static ({ cls := "NumberModels", name := "wide", desc := "(F)D" } : Jvm.MethodName)) ∈ lw_all := lw_g (lw_at lw_m4 127 rfl) rfl
theorem q906 : (Jvm.Cond.code ({ cls := "NumberModels", name := "wide", desc := "(F)D" } : Jvm.MethodName) prog_1_method_35_code (1 : Nat) (Option.some Jvm.ClassFile.FieldType.double)) ∈ lw_all := lw_g (lw_at lw_m4 128 rfl) rfl
theorem in_X1 : ∀ w ∈ wsX10, w ∈ lw_all := lw_in wsX10 [162, 164, 166, 168, 170, 172, 174, 176, 178, 180, 182, 184, 186, 188, 190, 192, 194] (by decide +kernel) (by decide +kernel)
