/-! a float's bits as a double's -/
set_option maxRecDepth 100000
theorem zor3_23 {x : Int} (h : 0 ≤ x ∧ x < 8388608) : zor3 x 8388608 = x + 8388608 := by
  obtain ⟨a, rfl⟩ := Int.eq_ofNat_of_zero_le h.1
  have e : (I3 (a : Int) ||| I3 8388608) = I3 ((a : Int) + 8388608) := by
    have e1 : ((a : Int) + 8388608) = ((a + 8388608 : Nat) : Int) := by omega
    rw [e1]
    apply Int32.toBitVec_inj.mp
    rw [Int32.toBitVec_or]
    show BitVec.ofInt 32 (a : Int) ||| BitVec.ofInt 32 ((8388608 : Nat) : Int) = BitVec.ofInt 32 ((a + 8388608 : Nat) : Int)
    rw [BitVec.ofInt_natCast, BitVec.ofInt_natCast, BitVec.ofInt_natCast]
    apply BitVec.eq_of_toNat_eq
    rw [BitVec.toNat_or, BitVec.toNat_ofNat, BitVec.toNat_ofNat, BitVec.toNat_ofNat, Nat.mod_eq_of_lt (by omega), Nat.mod_eq_of_lt (by omega), Nat.mod_eq_of_lt (by omega)]
    have h2 := Nat.two_pow_add_eq_or_of_lt (i := 23) (b := a) (by omega) 1
    have e3 : (2 : Nat) ^ 23 = 8388608 := by decide
    rw [e3, Nat.mul_one] at h2
    rw [Nat.or_comm, ← h2]
    omega
  unfold zor3
  rw [e, I3_t]
  constructor <;> omega
def eF (f : Int) : Int := f / 8388608 % 256
def pF (f : Int) : Int := f % 8388608
def ffX (f z : Int) : Prop := (eF f = 255 → z = if pF f = 0 then sgb f 9218868437227405312 else 9221120237041090560) ∧ (eF f ≠ 255 → ∃ e : Int, scS (if eF f = 0 then pF f else pF f + 8388608) (if eF f = 0 then -149 else eF f - 150) e ∧ z = sgb f e)
theorem eF_r (f : Int) : 0 ≤ eF f ∧ eF f < 256 := by
  unfold eF
  omega
theorem pF_r (f : Int) : 0 ≤ pF f ∧ pF f < 8388608 := by
  unfold pF
  omega
