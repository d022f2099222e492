/-! Numbers as integers: I3 z the int, L6 z the long -/
set_option maxRecDepth 100000
def I3 (z : Int) : Int32 := Int32.ofInt z
def L6 (z : Int) : Int64 := Int64.ofInt z
abbrev In3 (z : Int) : Prop := -2147483648 ≤ z ∧ z < 2147483648
abbrev In6 (z : Int) : Prop := -9223372036854775808 ≤ z ∧ z < 9223372036854775808
theorem I3_add (x y : Int) : I3 x + I3 y = I3 (x + y) := (Int32.ofInt_add x y).symm
theorem I3_sub (x y : Int) : I3 x - I3 y = I3 (x - y) := by
  rw [I3, I3, I3, Int32.sub_eq_add_neg, Int32.neg_ofInt, ← Int32.ofInt_add, Int.sub_eq_add_neg]
theorem I3_mul (x y : Int) : I3 x * I3 y = I3 (x * y) := (Int32.ofInt_mul x y).symm
theorem I3_neg (x : Int) : -I3 x = I3 (-x) := Int32.neg_ofInt
theorem L6_add (x y : Int) : L6 x + L6 y = L6 (x + y) := (Int64.ofInt_add x y).symm
theorem L6_sub (x y : Int) : L6 x - L6 y = L6 (x - y) := by
  rw [L6, L6, L6, Int64.sub_eq_add_neg, Int64.neg_ofInt, ← Int64.ofInt_add, Int.sub_eq_add_neg]
theorem L6_mul (x y : Int) : L6 x * L6 y = L6 (x * y) := (Int64.ofInt_mul x y).symm
theorem L6_neg (x : Int) : -L6 x = L6 (-x) := Int64.neg_ofInt
theorem I3_t {x : Int} (h : In3 x) : (I3 x).toInt = x := Int32.toInt_ofInt_of_le (by omega) (by omega)
theorem L6_t {x : Int} (h : In6 x) : (L6 x).toInt = x := Int64.toInt_ofInt_of_le (by omega) (by omega)
theorem I3_of (v : Int32) : I3 v.toInt = v := Int32.ofInt_toInt v
theorem L6_of (v : Int64) : L6 v.toInt = v := Int64.ofInt_toInt v
theorem In3_of (v : Int32) : In3 v.toInt := by
  have h1 := Int32.le_toInt v
  have h2 := Int32.toInt_lt v
  constructor <;> omega
theorem In6_of (v : Int64) : In6 v.toInt := by
  have h1 := Int64.le_toInt v
  have h2 := Int64.toInt_lt v
  constructor <;> omega
theorem I3_inj {x y : Int} (hx : In3 x) (hy : In3 y) : I3 x = I3 y ↔ x = y := by
  rw [← Int32.toInt_inj, I3_t hx, I3_t hy]
theorem L6_inj {x y : Int} (hx : In6 x) (hy : In6 y) : L6 x = L6 y ↔ x = y := by
  rw [← Int64.toInt_inj, L6_t hx, L6_t hy]
theorem I3_le {x y : Int} (hx : In3 x) (hy : In3 y) : I3 x ≤ I3 y ↔ x ≤ y := by
  rw [Int32.le_iff_toInt_le, I3_t hx, I3_t hy]
theorem I3_lt {x y : Int} (hx : In3 x) (hy : In3 y) : I3 x < I3 y ↔ x < y := by
  rw [Int32.lt_iff_toInt_lt, I3_t hx, I3_t hy]
theorem L6_lt {x y : Int} (hx : In6 x) (hy : In6 y) : L6 x < L6 y ↔ x < y := by
  rw [Int64.lt_iff_toInt_lt, L6_t hx, L6_t hy]
theorem I3_congr {x y : Int} (h : x % 4294967296 = y % 4294967296) : I3 x = I3 y := by
  apply Int32.toInt_inj.mp
  rw [I3, I3, Int32.toInt_ofInt, Int32.toInt_ofInt, ← Int.emod_bmod x, ← Int.emod_bmod y]
  exact congrArg (fun z => Int.bmod z Int32.size) h
theorem L6_congr {x y : Int} (h : x % 18446744073709551616 = y % 18446744073709551616) : L6 x = L6 y := by
  apply Int64.toInt_inj.mp
  rw [L6, L6, Int64.toInt_ofInt, Int64.toInt_ofInt, ← Int.emod_bmod x, ← Int.emod_bmod y]
  exact congrArg (fun z => Int.bmod z Int64.size) h
theorem I3_eqm {x y : Int} (h : I3 x = I3 y) : x % 4294967296 = y % 4294967296 := by
  have h := congrArg Int32.toInt h
  rw [I3, I3, Int32.toInt_ofInt, Int32.toInt_ofInt] at h
  have h := congrArg (fun z => z % ((Int32.size : Nat) : Int)) h
  rw [Int.bmod_emod, Int.bmod_emod] at h
  exact h
theorem L6_eqm {x y : Int} (h : L6 x = L6 y) : x % 18446744073709551616 = y % 18446744073709551616 := by
  have h := congrArg Int64.toInt h
  rw [L6, L6, Int64.toInt_ofInt, Int64.toInt_ofInt] at h
  have h := congrArg (fun z => z % ((Int64.size : Nat) : Int)) h
  rw [Int.bmod_emod, Int.bmod_emod] at h
  exact h
theorem In3_0 : In3 0 := by decide
theorem I3_eqm' {x y : Int} (h : ¬ I3 x = I3 y) : ¬ x % 4294967296 = y % 4294967296 := fun q => h (I3_congr q)
theorem I3_eqm0 {x : Int} (h : I3 x = 0) : x % 4294967296 = 0 := I3_eqm (y := 0) h
theorem I3_eqm0' {x : Int} (h : ¬ I3 x = 0) : ¬ x % 4294967296 = 0 := I3_eqm' (y := 0) h
/-- the int's own integer out of any -/
def sm3 (z : Int) : Int := (z + 2147483648) % 4294967296 - 2147483648
def sm6 (z : Int) : Int := (z + 9223372036854775808) % 18446744073709551616 - 9223372036854775808
theorem I3_sm (z : Int) : I3 z = I3 (sm3 z) := I3_congr (by unfold sm3; omega)
theorem sm3_in (z : Int) : In3 (sm3 z) := by unfold sm3; constructor <;> omega
theorem sm6_in (z : Int) : In6 (sm6 z) := by unfold sm6; constructor <;> omega
theorem sm3_id {z : Int} (h : In3 z) : sm3 z = z := by unfold sm3; omega
theorem sm6_id {z : Int} (h : In6 z) : sm6 z = z := by unfold sm6; omega
theorem L6_sm (z : Int) : L6 z = L6 (sm6 z) := L6_congr (by unfold sm6; omega)
theorem I3_tm (z : Int) : (I3 z).toInt = sm3 z := by rw [I3_sm, I3_t (sm3_in z)]
theorem L6_tm (z : Int) : (L6 z).toInt = sm6 z := by rw [L6_sm, L6_t (sm6_in z)]
theorem i2l_eq (z : Int) : (I3 z).toInt64 = L6 (sm3 z) := by
  rw [← Int64.toInt_inj, Int32.toInt_toInt64, I3_tm, L6_t]
  have h := sm3_in z
  constructor <;> omega
theorem i2l_in {z : Int} (h : In3 z) : (I3 z).toInt64 = L6 z := by rw [i2l_eq, sm3_id h]
theorem l2i_eq (z : Int) : (L6 z).toInt32 = I3 z := by
  have h : (L6 z).toInt32 = I3 (L6 z).toInt := (Int32.ofInt_int64ToInt _).symm
  rw [h, L6_tm]
  exact I3_congr (by unfold sm6; omega)
theorem I3_clamp {z : Int} (h0 : 0 ≤ z) (h : z < 2147483648) : (I3 z).toNatClampNeg = z.toNat := by
  show (I3 z).toInt.toNat = z.toNat
  rw [I3_t ⟨by omega, h⟩]
theorem I3_vin {z : Int} {n : Nat} (hn : n < 2147483648) (h : 0 ≤ z ∧ z < (n : Int)) : vp_in (I3 z) n := by
  rw [vp_in_iff, I3_t ⟨by omega, by omega⟩]
  exact h
/-- arrays -/
def iA (f : Int → Int) : Nat → Int32 := fun k => I3 (f k)
def lA (f : Int → Int) : Nat → Int64 := fun k => L6 (f k)
def uZ (f : Int → Int) (i v : Int) : Int → Int := fun j => if j = i then v else f j
theorem uZ_s {f : Int → Int} {i v : Int} : uZ f i v i = v := by simp [uZ]
theorem uZ_n {f : Int → Int} {i j v : Int} (h : j ≠ i) : uZ f i v j = f j := by simp [uZ, h]
theorem iA_at {f : Int → Int} {z : Int} (h0 : 0 ≤ z) (h : z < 2147483648) : iA f (I3 z).toNatClampNeg = I3 (f z) := by
  unfold iA
  rw [I3_clamp h0 h, Int.toNat_of_nonneg h0]
theorem lA_at {f : Int → Int} {z : Int} (h0 : 0 ≤ z) (h : z < 2147483648) : lA f (I3 z).toNatClampNeg = L6 (f z) := by
  unfold lA
  rw [I3_clamp h0 h, Int.toNat_of_nonneg h0]
theorem iA_up {f : Int → Int} {z v : Int} (h0 : 0 ≤ z) (h : z < 2147483648) : upd (iA f) (I3 z).toNatClampNeg (I3 v) = iA (uZ f z v) := by
  funext j
  rw [I3_clamp h0 h]
  by_cases e : j = z.toNat
  · subst e
    rw [pk_us]
    show I3 v = I3 (uZ f z v (z.toNat : Int))
    rw [Int.toNat_of_nonneg h0, uZ_s]
  · rw [pk_un e]
    show I3 (f j) = I3 (uZ f z v j)
    rw [uZ_n (by omega)]
theorem lA_up {f : Int → Int} {z v : Int} (h0 : 0 ≤ z) (h : z < 2147483648) : vp_updL (lA f) (I3 z).toNatClampNeg (L6 v) = lA (uZ f z v) := by
  funext j
  rw [I3_clamp h0 h]
  by_cases e : j = z.toNat
  · subst e
    rw [pk_uLs]
    show L6 v = L6 (uZ f z v (z.toNat : Int))
    rw [Int.toNat_of_nonneg h0, uZ_s]
  · rw [pk_uLn e]
    show L6 (f j) = L6 (uZ f z v j)
    rw [uZ_n (by omega)]
/-- fallback: any operation of two longs as an integer -/
def zand6 (x y : Int) : Int := (L6 x &&& L6 y).toInt
def zor6 (x y : Int) : Int := (L6 x ||| L6 y).toInt
def zxor6 (x y : Int) : Int := (L6 x ^^^ L6 y).toInt
def zand3 (x y : Int) : Int := (I3 x &&& I3 y).toInt
def zor3 (x y : Int) : Int := (I3 x ||| I3 y).toInt
def zxor3 (x y : Int) : Int := (I3 x ^^^ I3 y).toInt
theorem shc6 : ∀ k : Nat, k < 64 → ((I3 (k : Int)).toInt64 &&& 63).toBitVec.smod 64 = BitVec.ofNat 64 k := by decide +kernel
theorem shu6 : ∀ k : Nat, k < 64 → ((I3 (k : Int)).toInt64.toUInt64 &&& Int64.toUInt64 63).toBitVec % 64 = BitVec.ofNat 64 k := by decide +kernel
theorem shc3 : ∀ k : Nat, k < 32 → (I3 (k : Int) &&& 31).toBitVec.smod 32 = BitVec.ofNat 32 k := by decide +kernel
theorem shu3 : ∀ k : Nat, k < 32 → ((I3 (k : Int)).toUInt32 &&& Int32.toUInt32 31).toBitVec % 32 = BitVec.ofNat 32 k := by decide +kernel
theorem bv_shl {w : Nat} (x : Int) (k : Nat) : (BitVec.ofInt w x) <<< k = BitVec.ofInt w (x * 2 ^ k) := by
  rw [BitVec.shiftLeft_eq_mul_twoPow, BitVec.ofInt_mul]
  congr 1
  apply BitVec.eq_of_toNat_eq
  rw [BitVec.toNat_twoPow, BitVec.toNat_ofInt]
  have h : ((2 : Int) ^ k) = ((2 ^ k : Nat) : Int) := by simp
  rw [h]
  have h2 : ((2 ^ k : Nat) : Int) % ((2 ^ w : Nat) : Int) = ((2 ^ k % 2 ^ w : Nat) : Int) := (Int.natCast_emod _ _).symm
  simp only [h2, Int.toNat_natCast]
theorem L6_shl (x : Int) {z : Int} (h : 0 ≤ z ∧ z < 64) : L6 x <<< ((I3 z).toInt64 &&& 63) = L6 (x * 2 ^ z.toNat) := by
  obtain ⟨k, rfl⟩ := Int.eq_ofNat_of_zero_le h.1
  have hk : k < 64 := by omega
  apply Int64.toBitVec_inj.mp
  rw [Int64.toBitVec_shiftLeft, shc6 k hk, BitVec.shiftLeft_eq', BitVec.toNat_ofNat, Nat.mod_eq_of_lt (Nat.lt_trans hk (by decide))]
  exact bv_shl x k
theorem I3_shl (x : Int) {z : Int} (h : 0 ≤ z ∧ z < 32) : I3 x <<< (I3 z &&& 31) = I3 (x * 2 ^ z.toNat) := by
  obtain ⟨k, rfl⟩ := Int.eq_ofNat_of_zero_le h.1
  have hk : k < 32 := by omega
  apply Int32.toBitVec_inj.mp
  rw [Int32.toBitVec_shiftLeft, shc3 k hk, BitVec.shiftLeft_eq', BitVec.toNat_ofNat, Nat.mod_eq_of_lt (Nat.lt_trans hk (by decide))]
  exact bv_shl x k
theorem pw_cast (k : Nat) : ((2 ^ k : Nat) : Int) = 2 ^ k := by simp
theorem L6_shr {x : Int} (hx : In6 x) {z : Int} (h : 0 ≤ z ∧ z < 64) : L6 x >>> ((I3 z).toInt64 &&& 63) = L6 (x / 2 ^ z.toNat) := by
  obtain ⟨k, rfl⟩ := Int.eq_ofNat_of_zero_le h.1
  have hk : k < 64 := by omega
  have e : (L6 x >>> ((I3 (k : Int)).toInt64 &&& 63)).toInt = x / 2 ^ k := by
    show (L6 x >>> ((I3 (k : Int)).toInt64 &&& 63)).toBitVec.toInt = _
    rw [Int64.toBitVec_shiftRight, shc6 k hk, BitVec.sshiftRight_eq', BitVec.toInt_sshiftRight, BitVec.toNat_ofNat, Nat.mod_eq_of_lt (Nat.lt_trans hk (by decide))]
    show (L6 x).toInt >>> k = _
    rw [L6_t hx, Int.shiftRight_eq_div_pow, pw_cast]
  rw [← L6_of (L6 x >>> _), e]
  rfl
theorem I3_shr {x : Int} (hx : In3 x) {z : Int} (h : 0 ≤ z ∧ z < 32) : I3 x >>> (I3 z &&& 31) = I3 (x / 2 ^ z.toNat) := by
  obtain ⟨k, rfl⟩ := Int.eq_ofNat_of_zero_le h.1
  have hk : k < 32 := by omega
  have e : (I3 x >>> (I3 (k : Int) &&& 31)).toInt = x / 2 ^ k := by
    show (I3 x >>> (I3 (k : Int) &&& 31)).toBitVec.toInt = _
    rw [Int32.toBitVec_shiftRight, shc3 k hk, BitVec.sshiftRight_eq', BitVec.toInt_sshiftRight, BitVec.toNat_ofNat, Nat.mod_eq_of_lt (Nat.lt_trans hk (by decide))]
    show (I3 x).toInt >>> k = _
    rw [I3_t hx, Int.shiftRight_eq_div_pow, pw_cast]
  rw [← I3_of (I3 x >>> _), e]
  rfl
theorem bv_ofInt_nn {w : Nat} (x : Int) : ((BitVec.ofInt w x).toNat : Int) = x % ((2 ^ w : Nat) : Int) := by
  rw [BitVec.toNat_ofInt]
  exact Int.toNat_of_nonneg (Int.emod_nonneg _ (by exact Int.ne_of_gt (by exact_mod_cast Nat.two_pow_pos w)))
theorem L6_ushr (x : Int) {z : Int} (h : 0 ≤ z ∧ z < 64) : ((L6 x).toUInt64 >>> ((I3 z).toInt64.toUInt64 &&& Int64.toUInt64 63)).toInt64 = L6 (x % 18446744073709551616 / 2 ^ z.toNat) := by
  obtain ⟨k, rfl⟩ := Int.eq_ofNat_of_zero_le h.1
  have hk : k < 64 := by omega
  apply Int64.toBitVec_inj.mp
  have e : ((L6 x).toUInt64 >>> ((I3 (k : Int)).toInt64.toUInt64 &&& Int64.toUInt64 63)).toInt64.toBitVec = (BitVec.ofInt 64 x) >>> k := by
    show ((L6 x).toUInt64 >>> ((I3 (k : Int)).toInt64.toUInt64 &&& Int64.toUInt64 63)).toBitVec = _
    rw [UInt64.toBitVec_shiftRight, shu6 k hk, BitVec.ushiftRight_eq', BitVec.toNat_ofNat, Nat.mod_eq_of_lt (Nat.lt_trans hk (by decide))]
    rfl
  rw [e]
  apply BitVec.eq_of_toNat_eq
  apply Int.ofNat.inj
  show (((BitVec.ofInt 64 x) >>> k).toNat : Int) = ((BitVec.ofInt 64 (x % 18446744073709551616 / 2 ^ k)).toNat : Int)
  have hx := bv_ofInt_nn (w := 64) x
  rw [BitVec.toNat_ushiftRight, bv_ofInt_nn, Nat.shiftRight_eq_div_pow, Int.natCast_ediv, hx, pw_cast k]
  have h3 : ((2 ^ 64 : Nat) : Int) = 18446744073709551616 := by decide
  rw [h3]
  have h1 : 0 ≤ x % 18446744073709551616 := by omega
  have h2 : x % 18446744073709551616 / 2 ^ k ≤ x % 18446744073709551616 := Int.ediv_le_self _ h1
  have h4 : 0 ≤ x % 18446744073709551616 / 2 ^ k := Int.ediv_nonneg h1 (Int.le_of_lt (Int.pow_pos (by decide)))
  exact (Int.emod_eq_of_lt h4 (by omega)).symm
theorem I3_ushr (x : Int) {z : Int} (h : 0 ≤ z ∧ z < 32) : ((I3 x).toUInt32 >>> ((I3 z).toUInt32 &&& Int32.toUInt32 31)).toInt32 = I3 (x % 4294967296 / 2 ^ z.toNat) := by
  obtain ⟨k, rfl⟩ := Int.eq_ofNat_of_zero_le h.1
  have hk : k < 32 := by omega
  apply Int32.toBitVec_inj.mp
  have e : ((I3 x).toUInt32 >>> ((I3 (k : Int)).toUInt32 &&& Int32.toUInt32 31)).toInt32.toBitVec = (BitVec.ofInt 32 x) >>> k := by
    show ((I3 x).toUInt32 >>> ((I3 (k : Int)).toUInt32 &&& Int32.toUInt32 31)).toBitVec = _
    rw [UInt32.toBitVec_shiftRight, shu3 k hk, BitVec.ushiftRight_eq', BitVec.toNat_ofNat, Nat.mod_eq_of_lt (Nat.lt_trans hk (by decide))]
    rfl
  rw [e]
  apply BitVec.eq_of_toNat_eq
  apply Int.ofNat.inj
  show (((BitVec.ofInt 32 x) >>> k).toNat : Int) = ((BitVec.ofInt 32 (x % 4294967296 / 2 ^ k)).toNat : Int)
  have hx := bv_ofInt_nn (w := 32) x
  rw [BitVec.toNat_ushiftRight, bv_ofInt_nn, Nat.shiftRight_eq_div_pow, Int.natCast_ediv, hx, pw_cast k]
  have h3 : ((2 ^ 32 : Nat) : Int) = 4294967296 := by decide
  rw [h3]
  have h1 : 0 ≤ x % 4294967296 := by omega
  have h2 : x % 4294967296 / 2 ^ k ≤ x % 4294967296 := Int.ediv_le_self _ h1
  have h4 : 0 ≤ x % 4294967296 / 2 ^ k := Int.ediv_nonneg h1 (Int.le_of_lt (Int.pow_pos (by decide)))
  exact (Int.emod_eq_of_lt h4 (by omega)).symm
theorem L6_mask {x M : Int} (k : Nat) (hk : k < 64) (hM : M = 2 ^ k - 1) : L6 x &&& L6 M = L6 (x % 2 ^ k) := by
  subst hM
  apply Int64.toBitVec_inj.mp
  rw [Int64.toBitVec_and]
  show BitVec.ofInt 64 x &&& BitVec.ofInt 64 (2 ^ k - 1) = BitVec.ofInt 64 (x % 2 ^ k)
  have hp : (0 : Int) < 2 ^ k := Int.pow_pos (by decide)
  have hle : ((2 : Int) ^ k) ≤ 2 ^ 63 := by
    have : 2 ^ k ≤ 2 ^ 63 := Nat.pow_le_pow_right (by decide) (by omega)
    exact_mod_cast this
  apply BitVec.eq_of_toNat_eq
  apply Int.ofNat.inj
  rw [BitVec.toNat_and]
  have e1 : (BitVec.ofInt 64 (2 ^ k - 1)).toNat = 2 ^ k - 1 := by
    apply Int.ofNat.inj
    show ((BitVec.ofInt 64 (2 ^ k - 1)).toNat : Int) = ((2 ^ k - 1 : Nat) : Int)
    rw [bv_ofInt_nn, Int.emod_eq_of_lt (by omega) (by simp only [Nat.reducePow]; omega)]
    have := Nat.two_pow_pos k
    rw [Int.natCast_sub (by omega), pw_cast]
    rfl
  rw [e1, Nat.and_two_pow_sub_one_eq_mod]
  show (((BitVec.ofInt 64 x).toNat % 2 ^ k : Nat) : Int) = ((BitVec.ofInt 64 (x % 2 ^ k)).toNat : Int)
  rw [Int.natCast_emod, bv_ofInt_nn, bv_ofInt_nn, pw_cast k]
  have hd : (2 : Int) ^ k ∣ ((2 ^ 64 : Nat) : Int) := by
    rw [pw_cast]
    exact ⟨2 ^ (64 - k), by rw [← Int.pow_add]; congr 1; omega⟩
  rw [Int.emod_emod_of_dvd _ hd]
  have h4 := Int.emod_nonneg x (Int.ne_of_gt hp)
  have h5 := Int.emod_lt_of_pos x hp
  exact (Int.emod_eq_of_lt h4 (by simp only [Nat.reducePow]; omega)).symm
theorem I3_mask {x M : Int} (k : Nat) (hk : k < 32) (hM : M = 2 ^ k - 1) : I3 x &&& I3 M = I3 (x % 2 ^ k) := by
  subst hM
  apply Int32.toBitVec_inj.mp
  rw [Int32.toBitVec_and]
  show BitVec.ofInt 32 x &&& BitVec.ofInt 32 (2 ^ k - 1) = BitVec.ofInt 32 (x % 2 ^ k)
  have hp : (0 : Int) < 2 ^ k := Int.pow_pos (by decide)
  have hle : ((2 : Int) ^ k) ≤ 2 ^ 31 := by
    have : 2 ^ k ≤ 2 ^ 31 := Nat.pow_le_pow_right (by decide) (by omega)
    exact_mod_cast this
  apply BitVec.eq_of_toNat_eq
  apply Int.ofNat.inj
  rw [BitVec.toNat_and]
  have e1 : (BitVec.ofInt 32 (2 ^ k - 1)).toNat = 2 ^ k - 1 := by
    apply Int.ofNat.inj
    show ((BitVec.ofInt 32 (2 ^ k - 1)).toNat : Int) = ((2 ^ k - 1 : Nat) : Int)
    rw [bv_ofInt_nn, Int.emod_eq_of_lt (by omega) (by simp only [Nat.reducePow]; omega)]
    have := Nat.two_pow_pos k
    rw [Int.natCast_sub (by omega), pw_cast]
    rfl
  rw [e1, Nat.and_two_pow_sub_one_eq_mod]
  show (((BitVec.ofInt 32 x).toNat % 2 ^ k : Nat) : Int) = ((BitVec.ofInt 32 (x % 2 ^ k)).toNat : Int)
  rw [Int.natCast_emod, bv_ofInt_nn, bv_ofInt_nn, pw_cast k]
  have hd : (2 : Int) ^ k ∣ ((2 ^ 32 : Nat) : Int) := by
    rw [pw_cast]
    exact ⟨2 ^ (32 - k), by rw [← Int.pow_add]; congr 1; omega⟩
  rw [Int.emod_emod_of_dvd _ hd]
  have h4 := Int.emod_nonneg x (Int.ne_of_gt hp)
  have h5 := Int.emod_lt_of_pos x hp
  exact (Int.emod_eq_of_lt h4 (by simp only [Nat.reducePow]; omega)).symm
theorem I3_div {x y : Int} (hx : In3 x) (hy : In3 y) (h : ¬ y = 0) (ho : ¬ (x = -2147483648 ∧ y = -1)) : I3 x / I3 y = I3 (x.tdiv y) := by
  rw [← I3_of (I3 x / I3 y)]
  congr 1
  by_cases h1 : y = -1
  · rw [Int32.toInt_div_of_ne_left, I3_t hx, I3_t hy]
    intro q
    have q := congrArg Int32.toInt q
    rw [I3_t hx] at q
    exact ho ⟨q, h1⟩
  · rw [Int32.toInt_div_of_ne_right, I3_t hx, I3_t hy]
    intro q
    have q := congrArg Int32.toInt q
    rw [I3_t hy] at q
    exact h1 q
theorem L6_div {x y : Int} (hx : In6 x) (hy : In6 y) (h : ¬ y = 0) (ho : ¬ (x = -9223372036854775808 ∧ y = -1)) : L6 x / L6 y = L6 (x.tdiv y) := by
  rw [← L6_of (L6 x / L6 y)]
  congr 1
  by_cases h1 : y = -1
  · rw [Int64.toInt_div_of_ne_left, L6_t hx, L6_t hy]
    intro q
    have q := congrArg Int64.toInt q
    rw [L6_t hx] at q
    exact ho ⟨q, h1⟩
  · rw [Int64.toInt_div_of_ne_right, L6_t hx, L6_t hy]
    intro q
    have q := congrArg Int64.toInt q
    rw [L6_t hy] at q
    exact h1 q
theorem I3_rem {x y : Int} (hx : In3 x) (hy : In3 y) (h : ¬ y = 0) (ho : ¬ (x = -2147483648 ∧ y = -1)) : I3 x - I3 x / I3 y * I3 y = I3 (x.tmod y) := by
  rw [I3_div hx hy h ho, I3_mul, I3_sub]
  congr 1
  have := Int.mul_tdiv_add_tmod x y
  rw [Int.mul_comm (x.tdiv y) y]
  omega
theorem L6_rem {x y : Int} (hx : In6 x) (hy : In6 y) (h : ¬ y = 0) (ho : ¬ (x = -9223372036854775808 ∧ y = -1)) : L6 x - L6 x / L6 y * L6 y = L6 (x.tmod y) := by
  rw [L6_div hx hy h ho, L6_mul, L6_sub]
  congr 1
  have := Int.mul_tdiv_add_tmod x y
  rw [Int.mul_comm (x.tdiv y) y]
  omega
theorem lgc_if {x y : Int} (hx : In6 x) (hy : In6 y) : lg_cmp (L6 x) (L6 y) = I3 (if x > y then 1 else if x = y then 0 else -1) := by
  unfold lg_cmp
  have h1 : (L6 x > L6 y) ↔ x > y := L6_lt hy hx
  have h2 := L6_inj hx hy
  by_cases a : x > y
  · rw [if_pos (h1.mpr a), if_pos a]; rfl
  · rw [if_neg (fun q => a (h1.mp q)), if_neg a]
    by_cases b : x = y
    · rw [if_pos (h2.mpr b), if_pos b]; rfl
    · rw [if_neg (fun q => b (h2.mp q)), if_neg b]; rfl
theorem ofBV_I (n : Int) : (Int8.ofInt n).toInt32 = I3 (n.bmod 256) := by
  rw [← Int32.toInt_inj, Int8.toInt_toInt32, Int8.toInt_ofInt, I3_t]
  · have h1 := Int.le_bmod (x := n) (m := 256) (by decide)
    have h2 := Int.bmod_lt (x := n) (m := 256) (by decide)
    constructor <;> omega
section IX
variable {p : Program} {l : Launch} {e : Env} {R : Room} {s : State} {m : MethodId} {args : Array Value} {below : List Frame} {meth : Method} {c : Code} {H : Heap} {locs : List Loc} {cells slots : Nat} {Q : State → Prop}
variable {cc : ByteArray} {pc : Nat} {ls : Array Slot} {rest : List Value}

theorem ix_iadd (hx : p.tables.exec = Jvm.exec) (hb : c.code = cc) {x y : Int} (hd : decode cc pc = .ok (.iadd, 1)) (k : W p l e R s m args below meth c H locs cells slots Q (F0 m (pc + 1) ls (.int (I3 (x + y)) :: rest))) : W p l e R s m args below meth c H locs cells slots Q (F0 m pc ls (.int (I3 y) :: .int (I3 x) :: rest)) := lv_iadd hx hb hd (by rw [I3_add]; exact k)
theorem ix_isub (hx : p.tables.exec = Jvm.exec) (hb : c.code = cc) {x y : Int} (hd : decode cc pc = .ok (.isub, 1)) (k : W p l e R s m args below meth c H locs cells slots Q (F0 m (pc + 1) ls (.int (I3 (x - y)) :: rest))) : W p l e R s m args below meth c H locs cells slots Q (F0 m pc ls (.int (I3 y) :: .int (I3 x) :: rest)) := lv_isub hx hb hd (by rw [I3_sub]; exact k)
theorem ix_imul (hx : p.tables.exec = Jvm.exec) (hb : c.code = cc) {x y : Int} (hd : decode cc pc = .ok (.imul, 1)) (k : W p l e R s m args below meth c H locs cells slots Q (F0 m (pc + 1) ls (.int (I3 (x * y)) :: rest))) : W p l e R s m args below meth c H locs cells slots Q (F0 m pc ls (.int (I3 y) :: .int (I3 x) :: rest)) := lv_imul hx hb hd (by rw [I3_mul]; exact k)
theorem ix_ladd (hx : p.tables.exec = Jvm.exec) (hb : c.code = cc) {x y : Int} (hd : decode cc pc = .ok (.ladd, 1)) (k : W p l e R s m args below meth c H locs cells slots Q (F0 m (pc + 1) ls (.long (L6 (x + y)) :: rest))) : W p l e R s m args below meth c H locs cells slots Q (F0 m pc ls (.long (L6 y) :: .long (L6 x) :: rest)) := lv_ladd hx hb hd (by rw [L6_add]; exact k)
theorem ix_lsub (hx : p.tables.exec = Jvm.exec) (hb : c.code = cc) {x y : Int} (hd : decode cc pc = .ok (.lsub, 1)) (k : W p l e R s m args below meth c H locs cells slots Q (F0 m (pc + 1) ls (.long (L6 (x - y)) :: rest))) : W p l e R s m args below meth c H locs cells slots Q (F0 m pc ls (.long (L6 y) :: .long (L6 x) :: rest)) := lv_lsub hx hb hd (by rw [L6_sub]; exact k)
theorem ix_lmul (hx : p.tables.exec = Jvm.exec) (hb : c.code = cc) {x y : Int} (hd : decode cc pc = .ok (.lmul, 1)) (k : W p l e R s m args below meth c H locs cells slots Q (F0 m (pc + 1) ls (.long (L6 (x * y)) :: rest))) : W p l e R s m args below meth c H locs cells slots Q (F0 m pc ls (.long (L6 y) :: .long (L6 x) :: rest)) := lv_lmul hx hb hd (by rw [L6_mul]; exact k)
theorem ix_ineg (hx : p.tables.exec = Jvm.exec) (hb : c.code = cc) {x : Int} (hd : decode cc pc = .ok (.ineg, 1)) (k : W p l e R s m args below meth c H locs cells slots Q (F0 m (pc + 1) ls (.int (I3 (-x)) :: rest))) : W p l e R s m args below meth c H locs cells slots Q (F0 m pc ls (.int (I3 x) :: rest)) := lv_ineg hx hb hd (by rw [I3_neg]; exact k)
theorem ix_lneg (hx : p.tables.exec = Jvm.exec) (hb : c.code = cc) {x : Int} (hd : decode cc pc = .ok (.lneg, 1)) (k : W p l e R s m args below meth c H locs cells slots Q (F0 m (pc + 1) ls (.long (L6 (-x)) :: rest))) : W p l e R s m args below meth c H locs cells slots Q (F0 m pc ls (.long (L6 x) :: rest)) := lv_lneg hx hb hd (by rw [L6_neg]; exact k)
theorem ix_idiv (hx : p.tables.exec = Jvm.exec) (hb : c.code = cc) {x y : Int} (hx1 : In3 x) (hy : In3 y) (hz : ¬ y = 0) (ho : ¬ (x = -2147483648 ∧ y = -1)) (hd : decode cc pc = .ok (.idiv, 1)) (k : W p l e R s m args below meth c H locs cells slots Q (F0 m (pc + 1) ls (.int (I3 (x.tdiv y)) :: rest))) : W p l e R s m args below meth c H locs cells slots Q (F0 m pc ls (.int (I3 y) :: .int (I3 x) :: rest)) := lv_idiv hx hb hd (fun q => hz ((I3_inj hy (by decide)).mp q)) (by rw [I3_div hx1 hy hz ho]; exact k)
theorem ix_irem (hx : p.tables.exec = Jvm.exec) (hb : c.code = cc) {x y : Int} (hx1 : In3 x) (hy : In3 y) (hz : ¬ y = 0) (ho : ¬ (x = -2147483648 ∧ y = -1)) (hd : decode cc pc = .ok (.irem, 1)) (k : W p l e R s m args below meth c H locs cells slots Q (F0 m (pc + 1) ls (.int (I3 (x.tmod y)) :: rest))) : W p l e R s m args below meth c H locs cells slots Q (F0 m pc ls (.int (I3 y) :: .int (I3 x) :: rest)) := lv_irem hx hb hd (fun q => hz ((I3_inj hy (by decide)).mp q)) (by rw [I3_rem hx1 hy hz ho]; exact k)
theorem ix_ldiv (hx : p.tables.exec = Jvm.exec) (hb : c.code = cc) {x y : Int} (hx1 : In6 x) (hy : In6 y) (hz : ¬ y = 0) (ho : ¬ (x = -9223372036854775808 ∧ y = -1)) (hd : decode cc pc = .ok (.ldiv, 1)) (k : W p l e R s m args below meth c H locs cells slots Q (F0 m (pc + 1) ls (.long (L6 (x.tdiv y)) :: rest))) : W p l e R s m args below meth c H locs cells slots Q (F0 m pc ls (.long (L6 y) :: .long (L6 x) :: rest)) := lv_ldiv hx hb hd (fun q => hz ((L6_inj hy (by decide)).mp q)) (by rw [L6_div hx1 hy hz ho]; exact k)
theorem ix_lrem (hx : p.tables.exec = Jvm.exec) (hb : c.code = cc) {x y : Int} (hx1 : In6 x) (hy : In6 y) (hz : ¬ y = 0) (ho : ¬ (x = -9223372036854775808 ∧ y = -1)) (hd : decode cc pc = .ok (.lrem, 1)) (k : W p l e R s m args below meth c H locs cells slots Q (F0 m (pc + 1) ls (.long (L6 (x.tmod y)) :: rest))) : W p l e R s m args below meth c H locs cells slots Q (F0 m pc ls (.long (L6 y) :: .long (L6 x) :: rest)) := lv_lrem hx hb hd (fun q => hz ((L6_inj hy (by decide)).mp q)) (by rw [L6_rem hx1 hy hz ho]; exact k)
theorem ix_landm (hx : p.tables.exec = Jvm.exec) (hb : c.code = cc) {x M : Int} (j : Nat) (hj : j < 64) (hM : M = 2 ^ j - 1) (hd : decode cc pc = .ok (.land, 1)) (k : W p l e R s m args below meth c H locs cells slots Q (F0 m (pc + 1) ls (.long (L6 (x % 2 ^ j)) :: rest))) : W p l e R s m args below meth c H locs cells slots Q (F0 m pc ls (.long (L6 M) :: .long (L6 x) :: rest)) := lv_land hx hb hd (by rw [L6_mask j hj hM]; exact k)
theorem ix_iandm (hx : p.tables.exec = Jvm.exec) (hb : c.code = cc) {x M : Int} (j : Nat) (hj : j < 32) (hM : M = 2 ^ j - 1) (hd : decode cc pc = .ok (.iand, 1)) (k : W p l e R s m args below meth c H locs cells slots Q (F0 m (pc + 1) ls (.int (I3 (x % 2 ^ j)) :: rest))) : W p l e R s m args below meth c H locs cells slots Q (F0 m pc ls (.int (I3 M) :: .int (I3 x) :: rest)) := lv_iand hx hb hd (by rw [I3_mask j hj hM]; exact k)
theorem ix_land (hx : p.tables.exec = Jvm.exec) (hb : c.code = cc) {x y : Int} (hd : decode cc pc = .ok (.land, 1)) (k : W p l e R s m args below meth c H locs cells slots Q (F0 m (pc + 1) ls (.long (L6 (zand6 x y)) :: rest))) : W p l e R s m args below meth c H locs cells slots Q (F0 m pc ls (.long (L6 y) :: .long (L6 x) :: rest)) := lv_land hx hb hd (by rw [zand6, L6_of] at k; exact k)
theorem ix_lor (hx : p.tables.exec = Jvm.exec) (hb : c.code = cc) {x y : Int} (hd : decode cc pc = .ok (.lor, 1)) (k : W p l e R s m args below meth c H locs cells slots Q (F0 m (pc + 1) ls (.long (L6 (zor6 x y)) :: rest))) : W p l e R s m args below meth c H locs cells slots Q (F0 m pc ls (.long (L6 y) :: .long (L6 x) :: rest)) := lv_lor hx hb hd (by rw [zor6, L6_of] at k; exact k)
theorem ix_lxor (hx : p.tables.exec = Jvm.exec) (hb : c.code = cc) {x y : Int} (hd : decode cc pc = .ok (.lxor, 1)) (k : W p l e R s m args below meth c H locs cells slots Q (F0 m (pc + 1) ls (.long (L6 (zxor6 x y)) :: rest))) : W p l e R s m args below meth c H locs cells slots Q (F0 m pc ls (.long (L6 y) :: .long (L6 x) :: rest)) := lv_lxor hx hb hd (by rw [zxor6, L6_of] at k; exact k)
theorem ix_iand (hx : p.tables.exec = Jvm.exec) (hb : c.code = cc) {x y : Int} (hd : decode cc pc = .ok (.iand, 1)) (k : W p l e R s m args below meth c H locs cells slots Q (F0 m (pc + 1) ls (.int (I3 (zand3 x y)) :: rest))) : W p l e R s m args below meth c H locs cells slots Q (F0 m pc ls (.int (I3 y) :: .int (I3 x) :: rest)) := lv_iand hx hb hd (by rw [zand3, I3_of] at k; exact k)
theorem ix_ior (hx : p.tables.exec = Jvm.exec) (hb : c.code = cc) {x y : Int} (hd : decode cc pc = .ok (.ior, 1)) (k : W p l e R s m args below meth c H locs cells slots Q (F0 m (pc + 1) ls (.int (I3 (zor3 x y)) :: rest))) : W p l e R s m args below meth c H locs cells slots Q (F0 m pc ls (.int (I3 y) :: .int (I3 x) :: rest)) := lv_ior hx hb hd (by rw [zor3, I3_of] at k; exact k)
theorem ix_ixor (hx : p.tables.exec = Jvm.exec) (hb : c.code = cc) {x y : Int} (hd : decode cc pc = .ok (.ixor, 1)) (k : W p l e R s m args below meth c H locs cells slots Q (F0 m (pc + 1) ls (.int (I3 (zxor3 x y)) :: rest))) : W p l e R s m args below meth c H locs cells slots Q (F0 m pc ls (.int (I3 y) :: .int (I3 x) :: rest)) := lv_ixor hx hb hd (by rw [zxor3, I3_of] at k; exact k)
theorem ix_lshl (hx : p.tables.exec = Jvm.exec) (hb : c.code = cc) {x z : Int} (hz : 0 ≤ z ∧ z < 64) (hd : decode cc pc = .ok (.lshl, 1)) (k : W p l e R s m args below meth c H locs cells slots Q (F0 m (pc + 1) ls (.long (L6 (x * 2 ^ z.toNat)) :: rest))) : W p l e R s m args below meth c H locs cells slots Q (F0 m pc ls (.int (I3 z) :: .long (L6 x) :: rest)) := lv_lshl hx hb hd (L6_shl x hz) k
theorem ix_lshr (hx : p.tables.exec = Jvm.exec) (hb : c.code = cc) {x z : Int} (hx1 : In6 x) (hz : 0 ≤ z ∧ z < 64) (hd : decode cc pc = .ok (.lshr, 1)) (k : W p l e R s m args below meth c H locs cells slots Q (F0 m (pc + 1) ls (.long (L6 (x / 2 ^ z.toNat)) :: rest))) : W p l e R s m args below meth c H locs cells slots Q (F0 m pc ls (.int (I3 z) :: .long (L6 x) :: rest)) := lv_lshr hx hb hd (L6_shr hx1 hz) k
theorem ix_lushr (hx : p.tables.exec = Jvm.exec) (hb : c.code = cc) {x z : Int} (hz : 0 ≤ z ∧ z < 64) (hd : decode cc pc = .ok (.lushr, 1)) (k : W p l e R s m args below meth c H locs cells slots Q (F0 m (pc + 1) ls (.long (L6 (x % 18446744073709551616 / 2 ^ z.toNat)) :: rest))) : W p l e R s m args below meth c H locs cells slots Q (F0 m pc ls (.int (I3 z) :: .long (L6 x) :: rest)) := lv_lushr hx hb hd (L6_ushr x hz) k
theorem ix_ishl (hx : p.tables.exec = Jvm.exec) (hb : c.code = cc) {x z : Int} (hz : 0 ≤ z ∧ z < 32) (hd : decode cc pc = .ok (.ishl, 1)) (k : W p l e R s m args below meth c H locs cells slots Q (F0 m (pc + 1) ls (.int (I3 (x * 2 ^ z.toNat)) :: rest))) : W p l e R s m args below meth c H locs cells slots Q (F0 m pc ls (.int (I3 z) :: .int (I3 x) :: rest)) := lv_ishl hx hb hd (by rw [I3_shl x hz]; exact k)
theorem ix_ishr (hx : p.tables.exec = Jvm.exec) (hb : c.code = cc) {x z : Int} (hx1 : In3 x) (hz : 0 ≤ z ∧ z < 32) (hd : decode cc pc = .ok (.ishr, 1)) (k : W p l e R s m args below meth c H locs cells slots Q (F0 m (pc + 1) ls (.int (I3 (x / 2 ^ z.toNat)) :: rest))) : W p l e R s m args below meth c H locs cells slots Q (F0 m pc ls (.int (I3 z) :: .int (I3 x) :: rest)) := lv_ishr hx hb hd (by rw [I3_shr hx1 hz]; exact k)
theorem ix_iushr (hx : p.tables.exec = Jvm.exec) (hb : c.code = cc) {x z : Int} (hz : 0 ≤ z ∧ z < 32) (hd : decode cc pc = .ok (.iushr, 1)) (k : W p l e R s m args below meth c H locs cells slots Q (F0 m (pc + 1) ls (.int (I3 (x % 4294967296 / 2 ^ z.toNat)) :: rest))) : W p l e R s m args below meth c H locs cells slots Q (F0 m pc ls (.int (I3 z) :: .int (I3 x) :: rest)) := lv_iushr hx hb hd (I3_ushr x hz) k
theorem ix_i2l (hx : p.tables.exec = Jvm.exec) (hb : c.code = cc) {x : Int} (hx1 : In3 x) (hd : decode cc pc = .ok (.i2l, 1)) (k : W p l e R s m args below meth c H locs cells slots Q (F0 m (pc + 1) ls (.long (L6 x) :: rest))) : W p l e R s m args below meth c H locs cells slots Q (F0 m pc ls (.int (I3 x) :: rest)) := lv_i2l hx hb hd (i2l_in hx1) k
theorem ix_i2ls (hx : p.tables.exec = Jvm.exec) (hb : c.code = cc) {x : Int} (hd : decode cc pc = .ok (.i2l, 1)) (k : W p l e R s m args below meth c H locs cells slots Q (F0 m (pc + 1) ls (.long (L6 (sm3 x)) :: rest))) : W p l e R s m args below meth c H locs cells slots Q (F0 m pc ls (.int (I3 x) :: rest)) := lv_i2l hx hb hd (i2l_eq x) k
theorem ix_l2i (hx : p.tables.exec = Jvm.exec) (hb : c.code = cc) {x : Int} (hd : decode cc pc = .ok (.l2i, 1)) (k : W p l e R s m args below meth c H locs cells slots Q (F0 m (pc + 1) ls (.int (I3 x) :: rest))) : W p l e R s m args below meth c H locs cells slots Q (F0 m pc ls (.long (L6 x) :: rest)) := lv_l2i hx hb hd (l2i_eq x) k
theorem ix_ti {x y : Int} (h : x = y) (k : W p l e R s m args below meth c H locs cells slots Q (F0 m pc ls (.int (I3 y) :: rest))) : W p l e R s m args below meth c H locs cells slots Q (F0 m pc ls (.int (I3 x) :: rest)) := by subst h; exact k
theorem ix_tl {x y : Int} (h : x = y) (k : W p l e R s m args below meth c H locs cells slots Q (F0 m pc ls (.long (L6 y) :: rest))) : W p l e R s m args below meth c H locs cells slots Q (F0 m pc ls (.long (L6 x) :: rest)) := by subst h; exact k
theorem ix_ni {x : Int} (k : ∀ y : Int, y = x → W p l e R s m args below meth c H locs cells slots Q (F0 m pc ls (.int (I3 y) :: rest))) : W p l e R s m args below meth c H locs cells slots Q (F0 m pc ls (.int (I3 x) :: rest)) := k x rfl
theorem ix_nl {x : Int} (k : ∀ y : Int, y = x → W p l e R s m args below meth c H locs cells slots Q (F0 m pc ls (.long (L6 y) :: rest))) : W p l e R s m args below meth c H locs cells slots Q (F0 m pc ls (.long (L6 x) :: rest)) := k x rfl
theorem ix_vi {v : Int32} {x : Int} (h : v = I3 x) (k : W p l e R s m args below meth c H locs cells slots Q (F0 m pc ls (.int (I3 x) :: rest))) : W p l e R s m args below meth c H locs cells slots Q (F0 m pc ls (.int v :: rest)) := by subst h; exact k
theorem ix_vl {v : Int64} {x : Int} (h : v = L6 x) (k : W p l e R s m args below meth c H locs cells slots Q (F0 m pc ls (.long (L6 x) :: rest))) : W p l e R s m args below meth c H locs cells slots Q (F0 m pc ls (.long v :: rest)) := by subst h; exact k
theorem ix_oi {v : Int32} (k : ∀ x : Int, In3 x → v = I3 x → W p l e R s m args below meth c H locs cells slots Q (F0 m pc ls (.int (I3 x) :: rest))) : W p l e R s m args below meth c H locs cells slots Q (F0 m pc ls (.int v :: rest)) := ix_vi (I3_of v).symm (k _ (In3_of v) (I3_of v).symm)
theorem ix_ol {v : Int64} (k : ∀ x : Int, In6 x → v = L6 x → W p l e R s m args below meth c H locs cells slots Q (F0 m pc ls (.long (L6 x) :: rest))) : W p l e R s m args below meth c H locs cells slots Q (F0 m pc ls (.long v :: rest)) := ix_vl (L6_of v).symm (k _ (In6_of v) (L6_of v).symm)
theorem ix_icmp_eq (hx : p.tables.exec = Jvm.exec) (hb : c.code = cc) {x y off : Int} {tgt : Nat} (hx1 : In3 x) (hy1 : In3 y) (hd : decode cc pc = .ok (.if_icmp .eq off, 3)) (ht : (pc : Int) + off = (tgt : Int)) (kt : x = y → W p l e R s m args below meth c H locs cells slots Q (F0 m tgt ls rest)) (kf : ¬ x = y → W p l e R s m args below meth c H locs cells slots Q (F0 m (pc + 3) ls rest)) : W p l e R s m args below meth c H locs cells slots Q (F0 m pc ls (.int (I3 y) :: .int (I3 x) :: rest)) := lv_icmp_eq hx hb hd ht (fun q => kt ((I3_inj hx1 hy1).mp q)) (fun q => kf ((fun q => fun w => q ((I3_inj hx1 hy1).mpr w)) q))
theorem ix_if_eq (hx : p.tables.exec = Jvm.exec) (hb : c.code = cc) {x off : Int} {tgt : Nat} (hx1 : In3 x) (hd : decode cc pc = .ok (.ifCond .eq off, 3)) (ht : (pc : Int) + off = (tgt : Int)) (kt : x = 0 → W p l e R s m args below meth c H locs cells slots Q (F0 m tgt ls rest)) (kf : ¬ x = 0 → W p l e R s m args below meth c H locs cells slots Q (F0 m (pc + 3) ls rest)) : W p l e R s m args below meth c H locs cells slots Q (F0 m pc ls (.int (I3 x) :: rest)) := lv_if_eq hx hb hd ht (fun q => kt ((I3_inj hx1 In3_0).mp q)) (fun q => kf ((fun q => fun w => q ((I3_inj hx1 In3_0).mpr w)) q))
theorem ix_lcmp_eq (hx : p.tables.exec = Jvm.exec) (hb : c.code = cc) {x y off : Int} {tgt : Nat} (hx1 : In6 x) (hy1 : In6 y) (hd : decode cc pc = .ok (.lcmp, 1)) (hd2 : decode cc (pc + 1) = .ok (.ifCond .eq off, 3)) (ht : ((pc + 1 : Nat) : Int) + off = (tgt : Int)) (kt : x = y → W p l e R s m args below meth c H locs cells slots Q (F0 m tgt ls rest)) (kf : ¬ x = y → W p l e R s m args below meth c H locs cells slots Q (F0 m (pc + 4) ls rest)) : W p l e R s m args below meth c H locs cells slots Q (F0 m pc ls (.long (L6 y) :: .long (L6 x) :: rest)) := W.lcmp hx hb hd (by rw [lgc_if hx1 hy1]; exact ix_if_eq hx hb (by split <;> (try split) <;> constructor <;> omega) hd2 ht (fun q => kt (by split at q <;> (try split at q) <;> omega)) (fun q => kf (by split at q <;> (try split at q) <;> omega)))
theorem ix_icmp_ne (hx : p.tables.exec = Jvm.exec) (hb : c.code = cc) {x y off : Int} {tgt : Nat} (hx1 : In3 x) (hy1 : In3 y) (hd : decode cc pc = .ok (.if_icmp .ne off, 3)) (ht : (pc : Int) + off = (tgt : Int)) (kt : ¬ x = y → W p l e R s m args below meth c H locs cells slots Q (F0 m tgt ls rest)) (kf : x = y → W p l e R s m args below meth c H locs cells slots Q (F0 m (pc + 3) ls rest)) : W p l e R s m args below meth c H locs cells slots Q (F0 m pc ls (.int (I3 y) :: .int (I3 x) :: rest)) := lv_icmp_ne hx hb hd ht (fun q => kt ((not_congr (I3_inj hx1 hy1)).mp q)) (fun q => kf ((fun q => (I3_inj hx1 hy1).mp q) q))
theorem ix_if_ne (hx : p.tables.exec = Jvm.exec) (hb : c.code = cc) {x off : Int} {tgt : Nat} (hx1 : In3 x) (hd : decode cc pc = .ok (.ifCond .ne off, 3)) (ht : (pc : Int) + off = (tgt : Int)) (kt : ¬ x = 0 → W p l e R s m args below meth c H locs cells slots Q (F0 m tgt ls rest)) (kf : x = 0 → W p l e R s m args below meth c H locs cells slots Q (F0 m (pc + 3) ls rest)) : W p l e R s m args below meth c H locs cells slots Q (F0 m pc ls (.int (I3 x) :: rest)) := lv_if_ne hx hb hd ht (fun q => kt ((not_congr (I3_inj hx1 In3_0)).mp q)) (fun q => kf ((fun q => (I3_inj hx1 In3_0).mp q) q))
theorem ix_lcmp_ne (hx : p.tables.exec = Jvm.exec) (hb : c.code = cc) {x y off : Int} {tgt : Nat} (hx1 : In6 x) (hy1 : In6 y) (hd : decode cc pc = .ok (.lcmp, 1)) (hd2 : decode cc (pc + 1) = .ok (.ifCond .ne off, 3)) (ht : ((pc + 1 : Nat) : Int) + off = (tgt : Int)) (kt : ¬ x = y → W p l e R s m args below meth c H locs cells slots Q (F0 m tgt ls rest)) (kf : x = y → W p l e R s m args below meth c H locs cells slots Q (F0 m (pc + 4) ls rest)) : W p l e R s m args below meth c H locs cells slots Q (F0 m pc ls (.long (L6 y) :: .long (L6 x) :: rest)) := W.lcmp hx hb hd (by rw [lgc_if hx1 hy1]; exact ix_if_ne hx hb (by split <;> (try split) <;> constructor <;> omega) hd2 ht (fun q => kt (by split at q <;> (try split at q) <;> omega)) (fun q => kf (by split at q <;> (try split at q) <;> omega)))
theorem ix_icmp_lt (hx : p.tables.exec = Jvm.exec) (hb : c.code = cc) {x y off : Int} {tgt : Nat} (hx1 : In3 x) (hy1 : In3 y) (hd : decode cc pc = .ok (.if_icmp .lt off, 3)) (ht : (pc : Int) + off = (tgt : Int)) (kt : x < y → W p l e R s m args below meth c H locs cells slots Q (F0 m tgt ls rest)) (kf : y ≤ x → W p l e R s m args below meth c H locs cells slots Q (F0 m (pc + 3) ls rest)) : W p l e R s m args below meth c H locs cells slots Q (F0 m pc ls (.int (I3 y) :: .int (I3 x) :: rest)) := lv_icmp_lt hx hb hd ht (fun q => kt ((I3_lt hx1 hy1).mp q)) (fun q => kf ((fun q => Int.not_lt.mp fun w => q ((I3_lt hx1 hy1).mpr w)) q))
theorem ix_if_lt (hx : p.tables.exec = Jvm.exec) (hb : c.code = cc) {x off : Int} {tgt : Nat} (hx1 : In3 x) (hd : decode cc pc = .ok (.ifCond .lt off, 3)) (ht : (pc : Int) + off = (tgt : Int)) (kt : x < 0 → W p l e R s m args below meth c H locs cells slots Q (F0 m tgt ls rest)) (kf : 0 ≤ x → W p l e R s m args below meth c H locs cells slots Q (F0 m (pc + 3) ls rest)) : W p l e R s m args below meth c H locs cells slots Q (F0 m pc ls (.int (I3 x) :: rest)) := lv_if_lt hx hb hd ht (fun q => kt ((I3_lt hx1 In3_0).mp q)) (fun q => kf ((fun q => Int.not_lt.mp fun w => q ((I3_lt hx1 In3_0).mpr w)) q))
theorem ix_lcmp_lt (hx : p.tables.exec = Jvm.exec) (hb : c.code = cc) {x y off : Int} {tgt : Nat} (hx1 : In6 x) (hy1 : In6 y) (hd : decode cc pc = .ok (.lcmp, 1)) (hd2 : decode cc (pc + 1) = .ok (.ifCond .lt off, 3)) (ht : ((pc + 1 : Nat) : Int) + off = (tgt : Int)) (kt : x < y → W p l e R s m args below meth c H locs cells slots Q (F0 m tgt ls rest)) (kf : y ≤ x → W p l e R s m args below meth c H locs cells slots Q (F0 m (pc + 4) ls rest)) : W p l e R s m args below meth c H locs cells slots Q (F0 m pc ls (.long (L6 y) :: .long (L6 x) :: rest)) := W.lcmp hx hb hd (by rw [lgc_if hx1 hy1]; exact ix_if_lt hx hb (by split <;> (try split) <;> constructor <;> omega) hd2 ht (fun q => kt (by split at q <;> (try split at q) <;> omega)) (fun q => kf (by split at q <;> (try split at q) <;> omega)))
theorem ix_icmp_ge (hx : p.tables.exec = Jvm.exec) (hb : c.code = cc) {x y off : Int} {tgt : Nat} (hx1 : In3 x) (hy1 : In3 y) (hd : decode cc pc = .ok (.if_icmp .ge off, 3)) (ht : (pc : Int) + off = (tgt : Int)) (kt : y ≤ x → W p l e R s m args below meth c H locs cells slots Q (F0 m tgt ls rest)) (kf : x < y → W p l e R s m args below meth c H locs cells slots Q (F0 m (pc + 3) ls rest)) : W p l e R s m args below meth c H locs cells slots Q (F0 m pc ls (.int (I3 y) :: .int (I3 x) :: rest)) := lv_icmp_ge hx hb hd ht (fun q => kt ((I3_le hy1 hx1).mp q)) (fun q => kf ((fun q => Int.not_le.mp fun w => q ((I3_le hy1 hx1).mpr w)) q))
theorem ix_if_ge (hx : p.tables.exec = Jvm.exec) (hb : c.code = cc) {x off : Int} {tgt : Nat} (hx1 : In3 x) (hd : decode cc pc = .ok (.ifCond .ge off, 3)) (ht : (pc : Int) + off = (tgt : Int)) (kt : 0 ≤ x → W p l e R s m args below meth c H locs cells slots Q (F0 m tgt ls rest)) (kf : x < 0 → W p l e R s m args below meth c H locs cells slots Q (F0 m (pc + 3) ls rest)) : W p l e R s m args below meth c H locs cells slots Q (F0 m pc ls (.int (I3 x) :: rest)) := lv_if_ge hx hb hd ht (fun q => kt ((I3_le In3_0 hx1).mp q)) (fun q => kf ((fun q => Int.not_le.mp fun w => q ((I3_le In3_0 hx1).mpr w)) q))
theorem ix_lcmp_ge (hx : p.tables.exec = Jvm.exec) (hb : c.code = cc) {x y off : Int} {tgt : Nat} (hx1 : In6 x) (hy1 : In6 y) (hd : decode cc pc = .ok (.lcmp, 1)) (hd2 : decode cc (pc + 1) = .ok (.ifCond .ge off, 3)) (ht : ((pc + 1 : Nat) : Int) + off = (tgt : Int)) (kt : y ≤ x → W p l e R s m args below meth c H locs cells slots Q (F0 m tgt ls rest)) (kf : x < y → W p l e R s m args below meth c H locs cells slots Q (F0 m (pc + 4) ls rest)) : W p l e R s m args below meth c H locs cells slots Q (F0 m pc ls (.long (L6 y) :: .long (L6 x) :: rest)) := W.lcmp hx hb hd (by rw [lgc_if hx1 hy1]; exact ix_if_ge hx hb (by split <;> (try split) <;> constructor <;> omega) hd2 ht (fun q => kt (by split at q <;> (try split at q) <;> omega)) (fun q => kf (by split at q <;> (try split at q) <;> omega)))
theorem ix_icmp_gt (hx : p.tables.exec = Jvm.exec) (hb : c.code = cc) {x y off : Int} {tgt : Nat} (hx1 : In3 x) (hy1 : In3 y) (hd : decode cc pc = .ok (.if_icmp .gt off, 3)) (ht : (pc : Int) + off = (tgt : Int)) (kt : y < x → W p l e R s m args below meth c H locs cells slots Q (F0 m tgt ls rest)) (kf : x ≤ y → W p l e R s m args below meth c H locs cells slots Q (F0 m (pc + 3) ls rest)) : W p l e R s m args below meth c H locs cells slots Q (F0 m pc ls (.int (I3 y) :: .int (I3 x) :: rest)) := lv_icmp_gt hx hb hd ht (fun q => kt ((I3_lt hy1 hx1).mp q)) (fun q => kf ((fun q => Int.not_lt.mp fun w => q ((I3_lt hy1 hx1).mpr w)) q))
theorem ix_if_gt (hx : p.tables.exec = Jvm.exec) (hb : c.code = cc) {x off : Int} {tgt : Nat} (hx1 : In3 x) (hd : decode cc pc = .ok (.ifCond .gt off, 3)) (ht : (pc : Int) + off = (tgt : Int)) (kt : 0 < x → W p l e R s m args below meth c H locs cells slots Q (F0 m tgt ls rest)) (kf : x ≤ 0 → W p l e R s m args below meth c H locs cells slots Q (F0 m (pc + 3) ls rest)) : W p l e R s m args below meth c H locs cells slots Q (F0 m pc ls (.int (I3 x) :: rest)) := lv_if_gt hx hb hd ht (fun q => kt ((I3_lt In3_0 hx1).mp q)) (fun q => kf ((fun q => Int.not_lt.mp fun w => q ((I3_lt In3_0 hx1).mpr w)) q))
theorem ix_lcmp_gt (hx : p.tables.exec = Jvm.exec) (hb : c.code = cc) {x y off : Int} {tgt : Nat} (hx1 : In6 x) (hy1 : In6 y) (hd : decode cc pc = .ok (.lcmp, 1)) (hd2 : decode cc (pc + 1) = .ok (.ifCond .gt off, 3)) (ht : ((pc + 1 : Nat) : Int) + off = (tgt : Int)) (kt : y < x → W p l e R s m args below meth c H locs cells slots Q (F0 m tgt ls rest)) (kf : x ≤ y → W p l e R s m args below meth c H locs cells slots Q (F0 m (pc + 4) ls rest)) : W p l e R s m args below meth c H locs cells slots Q (F0 m pc ls (.long (L6 y) :: .long (L6 x) :: rest)) := W.lcmp hx hb hd (by rw [lgc_if hx1 hy1]; exact ix_if_gt hx hb (by split <;> (try split) <;> constructor <;> omega) hd2 ht (fun q => kt (by split at q <;> (try split at q) <;> omega)) (fun q => kf (by split at q <;> (try split at q) <;> omega)))
theorem ix_icmp_le (hx : p.tables.exec = Jvm.exec) (hb : c.code = cc) {x y off : Int} {tgt : Nat} (hx1 : In3 x) (hy1 : In3 y) (hd : decode cc pc = .ok (.if_icmp .le off, 3)) (ht : (pc : Int) + off = (tgt : Int)) (kt : x ≤ y → W p l e R s m args below meth c H locs cells slots Q (F0 m tgt ls rest)) (kf : y < x → W p l e R s m args below meth c H locs cells slots Q (F0 m (pc + 3) ls rest)) : W p l e R s m args below meth c H locs cells slots Q (F0 m pc ls (.int (I3 y) :: .int (I3 x) :: rest)) := lv_icmp_le hx hb hd ht (fun q => kt ((I3_le hx1 hy1).mp q)) (fun q => kf ((fun q => Int.not_le.mp fun w => q ((I3_le hx1 hy1).mpr w)) q))
theorem ix_if_le (hx : p.tables.exec = Jvm.exec) (hb : c.code = cc) {x off : Int} {tgt : Nat} (hx1 : In3 x) (hd : decode cc pc = .ok (.ifCond .le off, 3)) (ht : (pc : Int) + off = (tgt : Int)) (kt : x ≤ 0 → W p l e R s m args below meth c H locs cells slots Q (F0 m tgt ls rest)) (kf : 0 < x → W p l e R s m args below meth c H locs cells slots Q (F0 m (pc + 3) ls rest)) : W p l e R s m args below meth c H locs cells slots Q (F0 m pc ls (.int (I3 x) :: rest)) := lv_if_le hx hb hd ht (fun q => kt ((I3_le hx1 In3_0).mp q)) (fun q => kf ((fun q => Int.not_le.mp fun w => q ((I3_le hx1 In3_0).mpr w)) q))
theorem ix_lcmp_le (hx : p.tables.exec = Jvm.exec) (hb : c.code = cc) {x y off : Int} {tgt : Nat} (hx1 : In6 x) (hy1 : In6 y) (hd : decode cc pc = .ok (.lcmp, 1)) (hd2 : decode cc (pc + 1) = .ok (.ifCond .le off, 3)) (ht : ((pc + 1 : Nat) : Int) + off = (tgt : Int)) (kt : x ≤ y → W p l e R s m args below meth c H locs cells slots Q (F0 m tgt ls rest)) (kf : y < x → W p l e R s m args below meth c H locs cells slots Q (F0 m (pc + 4) ls rest)) : W p l e R s m args below meth c H locs cells slots Q (F0 m pc ls (.long (L6 y) :: .long (L6 x) :: rest)) := W.lcmp hx hb hd (by rw [lgc_if hx1 hy1]; exact ix_if_le hx hb (by split <;> (try split) <;> constructor <;> omega) hd2 ht (fun q => kt (by split at q <;> (try split at q) <;> omega)) (fun q => kf (by split at q <;> (try split at q) <;> omega)))
theorem ix_icmpm_eq (hx : p.tables.exec = Jvm.exec) (hb : c.code = cc) {x y off : Int} {tgt : Nat} (hd : decode cc pc = .ok (.if_icmp .eq off, 3)) (ht : (pc : Int) + off = (tgt : Int)) (kt : x % 4294967296 = y % 4294967296 → W p l e R s m args below meth c H locs cells slots Q (F0 m tgt ls rest)) (kf : ¬ x % 4294967296 = y % 4294967296 → W p l e R s m args below meth c H locs cells slots Q (F0 m (pc + 3) ls rest)) : W p l e R s m args below meth c H locs cells slots Q (F0 m pc ls (.int (I3 y) :: .int (I3 x) :: rest)) := lv_icmp_eq hx hb hd ht (fun q => kt (I3_eqm q)) (fun q => kf (I3_eqm' q))
theorem ix_ifm_eq (hx : p.tables.exec = Jvm.exec) (hb : c.code = cc) {x off : Int} {tgt : Nat} (hd : decode cc pc = .ok (.ifCond .eq off, 3)) (ht : (pc : Int) + off = (tgt : Int)) (kt : x % 4294967296 = 0 → W p l e R s m args below meth c H locs cells slots Q (F0 m tgt ls rest)) (kf : ¬ x % 4294967296 = 0 → W p l e R s m args below meth c H locs cells slots Q (F0 m (pc + 3) ls rest)) : W p l e R s m args below meth c H locs cells slots Q (F0 m pc ls (.int (I3 x) :: rest)) := lv_if_eq hx hb hd ht (fun q => kt (I3_eqm0 q)) (fun q => kf (I3_eqm0' q))
theorem ix_icmpm_ne (hx : p.tables.exec = Jvm.exec) (hb : c.code = cc) {x y off : Int} {tgt : Nat} (hd : decode cc pc = .ok (.if_icmp .ne off, 3)) (ht : (pc : Int) + off = (tgt : Int)) (kt : ¬ x % 4294967296 = y % 4294967296 → W p l e R s m args below meth c H locs cells slots Q (F0 m tgt ls rest)) (kf : x % 4294967296 = y % 4294967296 → W p l e R s m args below meth c H locs cells slots Q (F0 m (pc + 3) ls rest)) : W p l e R s m args below meth c H locs cells slots Q (F0 m pc ls (.int (I3 y) :: .int (I3 x) :: rest)) := lv_icmp_ne hx hb hd ht (fun q => kt (I3_eqm' q)) (fun q => kf (I3_eqm q))
theorem ix_ifm_ne (hx : p.tables.exec = Jvm.exec) (hb : c.code = cc) {x off : Int} {tgt : Nat} (hd : decode cc pc = .ok (.ifCond .ne off, 3)) (ht : (pc : Int) + off = (tgt : Int)) (kt : ¬ x % 4294967296 = 0 → W p l e R s m args below meth c H locs cells slots Q (F0 m tgt ls rest)) (kf : x % 4294967296 = 0 → W p l e R s m args below meth c H locs cells slots Q (F0 m (pc + 3) ls rest)) : W p l e R s m args below meth c H locs cells slots Q (F0 m pc ls (.int (I3 x) :: rest)) := lv_if_ne hx hb hd ht (fun q => kt (I3_eqm0' q)) (fun q => kf (I3_eqm0 q))
end IX
section IXA
variable {p : Program} {l : Launch} {e : Env} {R : Room} {s : State} {m : MethodId} {args : Array Value} {below : List Frame} {meth : Method} {c : Code} {H : Heap} {locs : List Loc} {cells slots : Nat} {Q : State → Prop}
variable {cc : ByteArray} {pc : Nat} {ls : Array Slot} {rest : List Value}
variable {D : va_G} {cl : List vw_C} {tys : List (ClassId × FieldType)} {ws : va_W} {A : Nat → Prop} {H0 : Heap} {a : Nat}
theorem ix_iald (hx : p.tables.exec = Jvm.exec) (hb : c.code = cc) (hK : va_K D cl tys s) (hP : va_P D cl ws H) (q0 t0 : Nat) {cA : ClassId} {n : Nat} {f : Int → Int} (ha : ws[q0]? = some (a, .inl (cA, n, .inl (iA f)))) (ht : tys[t0]? = some (cA, .int)) {z : Int} (hn : n < 2147483648) (hz : 0 ≤ z ∧ z < (n : Int)) (hd : decode cc pc = .ok (.iaload, 1)) (k : W p l e R s m args below meth c H locs cells slots Q (F0 m (pc + 1) ls (.int (I3 (f z)) :: rest))) : W p l e R s m args below meth c H locs cells slots Q (F0 m pc ls (.int (I3 z) :: .ref a :: rest)) := va_iald hx hb hK hP q0 t0 ha ht (I3_vin hn hz) hd (by rw [iA_at hz.1 (by omega)]; exact k)
theorem ix_lald (hx : p.tables.exec = Jvm.exec) (hb : c.code = cc) (hK : va_K D cl tys s) (hP : va_P D cl ws H) (q0 t0 : Nat) {cA : ClassId} {n : Nat} {f : Int → Int} (ha : ws[q0]? = some (a, .inl (cA, n, .inr (.inl (lA f))))) (ht : tys[t0]? = some (cA, .long)) {z : Int} (hn : n < 2147483648) (hz : 0 ≤ z ∧ z < (n : Int)) (hd : decode cc pc = .ok (.laload, 1)) (k : W p l e R s m args below meth c H locs cells slots Q (F0 m (pc + 1) ls (.long (L6 (f z)) :: rest))) : W p l e R s m args below meth c H locs cells slots Q (F0 m pc ls (.int (I3 z) :: .ref a :: rest)) := va_lald hx hb hK hP q0 t0 ha ht (I3_vin hn hz) hd (by rw [lA_at hz.1 (by omega)]; exact k)
theorem ix_iast (hx : p.tables.exec = Jvm.exec) (hb : c.code = cc) (hK : va_K D cl tys s) (hP : va_P D cl ws H) (hD : va_D A ws) (hS : va_S A H0 H locs) (q0 t0 : Nat) {cA : ClassId} {n : Nat} {f : Int → Int} (ha : ws[q0]? = some (a, .inl (cA, n, .inl (iA f)))) (ht : tys[t0]? = some (cA, .int)) {z v : Int} (hn : n < 2147483648) (hz : 0 ≤ z ∧ z < (n : Int)) (hd : decode cc pc = .ok (.iastore, 1)) (k : ∀ (H1 : Heap) (locs1 : List Loc), va_P D cl (ws.set q0 (a, .inl (cA, n, .inl (iA (uZ f z v))))) H1 → va_D A (ws.set q0 (a, .inl (cA, n, .inl (iA (uZ f z v))))) → va_S A H0 H1 locs1 → W p l e R s m args below meth c H1 locs1 cells slots Q (F0 m (pc + 1) ls rest)) : W p l e R s m args below meth c H locs cells slots Q (F0 m pc ls (.int (I3 v) :: .int (I3 z) :: .ref a :: rest)) := va_iast hx hb hK hP hD hS q0 t0 ha ht (I3_vin hn hz) hd (by rw [iA_up hz.1 (by omega)]; exact k)
theorem ix_last (hx : p.tables.exec = Jvm.exec) (hb : c.code = cc) (hK : va_K D cl tys s) (hP : va_P D cl ws H) (hD : va_D A ws) (hS : va_S A H0 H locs) (q0 t0 : Nat) {cA : ClassId} {n : Nat} {f : Int → Int} (ha : ws[q0]? = some (a, .inl (cA, n, .inr (.inl (lA f))))) (ht : tys[t0]? = some (cA, .long)) {z v : Int} (hn : n < 2147483648) (hz : 0 ≤ z ∧ z < (n : Int)) (hd : decode cc pc = .ok (.lastore, 1)) (k : ∀ (H1 : Heap) (locs1 : List Loc), va_P D cl (ws.set q0 (a, .inl (cA, n, .inr (.inl (lA (uZ f z v)))))) H1 → va_D A (ws.set q0 (a, .inl (cA, n, .inr (.inl (lA (uZ f z v)))))) → va_S A H0 H1 locs1 → W p l e R s m args below meth c H1 locs1 cells slots Q (F0 m (pc + 1) ls rest)) : W p l e R s m args below meth c H locs cells slots Q (F0 m pc ls (.long (L6 v) :: .int (I3 z) :: .ref a :: rest)) := va_last hx hb hK hP hD hS q0 t0 ha ht (I3_vin hn hz) hd (by rw [lA_up hz.1 (by omega)]; exact k)
end IXA
