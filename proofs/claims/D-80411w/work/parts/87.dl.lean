/-! bits of doubles and floats: exponents, signs *-/
set_option maxRecDepth 100000
theorem nat_and_shl (n m k : Nat) : n &&& (m <<< k) = ((n >>> k) &&& m) <<< k := by
  apply Nat.eq_of_testBit_eq
  intro i
  rw [Nat.testBit_and, Nat.testBit_shiftLeft, Nat.testBit_shiftLeft, Nat.testBit_and, Nat.testBit_shiftRight]
  by_cases h : k ≤ i
  · simp [h]
  · simp [h]
theorem zand6_ex (v : Int) : zand6 v 9218868437227405312 = eX v * 4503599627370496 := by
  have he := eX_r v
  have h : (L6 v &&& L6 9218868437227405312) = L6 (eX v * 4503599627370496) := by
    apply Int64.toBitVec_inj.mp
    rw [Int64.toBitVec_and]
    show BitVec.ofInt 64 v &&& BitVec.ofInt 64 9218868437227405312 = BitVec.ofInt 64 (eX v * 4503599627370496)
    apply BitVec.eq_of_toNat_eq
    rw [BitVec.toNat_and, BitVec.toNat_ofInt, BitVec.toNat_ofInt, BitVec.toNat_ofInt]
    have h64 : ((2 ^ 64 : Nat) : Int) = 18446744073709551616 := by decide
    rw [h64]
    have e1 : ((9218868437227405312 : Int) % 18446744073709551616).toNat = 2047 <<< 52 := by decide
    have e2 : (2047 : Nat) = 2 ^ 11 - 1 := by decide
    rw [e1, nat_and_shl, e2, Nat.and_two_pow_sub_one_eq_mod, Nat.shiftLeft_eq, Nat.shiftRight_eq_div_pow]
    have p1 : (2 : Nat) ^ 11 = 2048 := by decide
    have p2 : (2 : Nat) ^ 52 = 4503599627370496 := by decide
    rw [p1, p2]
    unfold eX
    omega
  unfold zand6
  rw [h, L6_t]
  constructor <;> omega
theorem zand3_sg {x : Int} (h : In3 x) : zand3 x (-2147483648) = if x < 0 then -2147483648 else 0 := by
  have e : (I3 x &&& I3 (-2147483648)) = I3 (if x < 0 then -2147483648 else 0) := by
    apply Int32.toBitVec_inj.mp
    rw [Int32.toBitVec_and]
    show BitVec.ofInt 32 x &&& BitVec.ofInt 32 (-2147483648) = BitVec.ofInt 32 (if x < 0 then -2147483648 else 0)
    apply BitVec.eq_of_toNat_eq
    rw [BitVec.toNat_and, BitVec.toNat_ofInt, BitVec.toNat_ofInt, BitVec.toNat_ofInt]
    have h32 : ((2 ^ 32 : Nat) : Int) = 4294967296 := by decide
    rw [h32]
    have e1 : ((-2147483648 : Int) % 4294967296).toNat = 1 <<< 31 := by decide
    have e2 : (1 : Nat) = 2 ^ 1 - 1 := by decide
    rw [e1, nat_and_shl]
    have e3 : (x % 4294967296).toNat >>> 31 &&& 1 = (x % 4294967296).toNat / 2147483648 % 2 := by
      rw [Nat.and_one_is_mod, Nat.shiftRight_eq_div_pow]
    rw [e3, Nat.shiftLeft_eq]
    have p1 : (2 : Nat) ^ 31 = 2147483648 := by decide
    rw [p1]
    split <;> omega
  unfold zand3
  rw [e, I3_t]
  split <;> decide
theorem zor3_sg {w m : Int} (hm : 0 ≤ m ∧ m < 2147483648) : zor3 (if w < 0 then -2147483648 else 0) m = sgf w m := by
  unfold sgf
  have key : ∀ s : Int, s = -2147483648 ∨ s = 0 → zor3 s m = s + m := by
    intro s hs
    have e : (I3 s ||| I3 m) = I3 (s + m) := by
      apply Int32.toBitVec_inj.mp
      rw [Int32.toBitVec_or]
      show BitVec.ofInt 32 s ||| BitVec.ofInt 32 m = BitVec.ofInt 32 (s + m)
      apply BitVec.eq_of_toNat_eq
      rw [BitVec.toNat_or, BitVec.toNat_ofInt, BitVec.toNat_ofInt, BitVec.toNat_ofInt]
      have h32 : ((2 ^ 32 : Nat) : Int) = 4294967296 := by decide
      rw [h32]
      rcases hs with rfl | rfl
      · have e1 : ((-2147483648 : Int) % 4294967296).toNat = 2 ^ 31 * 1 := by decide
        have e2 : (m % 4294967296).toNat < 2 ^ 31 := by
          have : (2 : Nat) ^ 31 = 2147483648 := by decide
          omega
        rw [e1, ← Nat.two_pow_add_eq_or_of_lt e2]
        have : (2 : Nat) ^ 31 = 2147483648 := by decide
        omega
      · have e1 : ((0 : Int) % 4294967296).toNat = 0 := by decide
        rw [e1, Nat.zero_or]
        omega
    unfold zor3
    rw [e, I3_t]
    rcases hs with rfl | rfl <;> constructor <;> omega
  split
  · rw [key _ (Or.inl rfl)]
    omega
  · rw [key _ (Or.inr rfl)]
    omega
