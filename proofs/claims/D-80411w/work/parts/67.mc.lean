/-! the reference's machine: bits of a double cut, its order, its sign -/
set_option maxRecDepth 100000
theorem zxor6_m1 {x : Int} (h : In6 x) : zxor6 x (-1) = -1 - x := by
  have e : (L6 x ^^^ L6 (-1)) = L6 (-1 - x) := by
    have e1 : L6 (-1) = -1 := rfl
    rw [e1, Int64.xor_neg_one, Int64.not_eq_neg_add, L6_neg]
    show L6 (-x) - L6 1 = _
    rw [L6_sub]
    congr 1
    omega
  unfold zxor6
  rw [e, L6_t]
  constructor <;> omega
theorem zand6_sg {x : Int} (h : In6 x) : zand6 x (-9223372036854775808) = if x < 0 then -9223372036854775808 else 0 := by
  have e0 : L6 (-9223372036854775808) = L6 9223372036854775807 ^^^ L6 (-1) := by decide
  have e : (L6 x &&& L6 (-9223372036854775808)) = L6 (if x < 0 then -9223372036854775808 else 0) := by
    apply Int64.toBitVec_inj.mp
    rw [Int64.toBitVec_and]
    have hm : (L6 (-9223372036854775808)).toBitVec = BitVec.intMin 64 := by decide
    rw [hm]
    have hx : (L6 x).toBitVec.msb = decide (x < 0) := by
      rw [BitVec.msb_eq_toInt]
      show decide ((L6 x).toInt < 0) = _
      rw [L6_t h]
    by_cases c : x < 0
    · rw [if_pos c, hm]
      apply BitVec.eq_of_getLsbD_eq
      intro i hi
      rw [BitVec.getLsbD_and, BitVec.getLsbD_intMin]
      by_cases d : i = 63
      · subst d
        have := hx
        rw [BitVec.msb_eq_getLsbD_last] at this
        simp at this ⊢
        rw [this]
        simp [c]
      · simp
        intro _
        omega
    · rw [if_neg c]
      apply BitVec.eq_of_getLsbD_eq
      intro i hi
      rw [BitVec.getLsbD_and, BitVec.getLsbD_intMin]
      by_cases d : i = 63
      · subst d
        have := hx
        rw [BitVec.msb_eq_getLsbD_last] at this
        simp at this ⊢
        rw [this]
        show _ = (L6 0).toBitVec.getLsbD 63
        simp [c]
        decide
      · have h0 : (L6 0).toBitVec = 0#64 := by decide
        rw [h0]
        simp
        intro _
        omega
  unfold zand6
  rw [e, L6_t]
  split <;> decide
def rkX (v : Int) : Int := if v < 0 then -1 - v % 9223372036854775808 else v
def frR (m : Int) (n : Nat) : Int := if m % 2 ^ n = 0 then 0 else if 2 * (m % 2 ^ n) < 2 ^ n then 1 else if 2 * (m % 2 ^ n) = 2 ^ n then 2 else 3
theorem fr_far {m : Int} {n : Nat} (h : 0 < m ∧ m < 9007199254740992) (hn : 53 < n) : m / 2 ^ n = 0 ∧ frR m n = 1 := by
  have h1 : (2 : Int) ^ 54 ≤ 2 ^ n := by
    have h2 : 2 ^ 54 ≤ 2 ^ n := Nat.pow_le_pow_right (by decide) (by omega)
    have h3 : ((2 ^ 54 : Nat) : Int) ≤ ((2 ^ n : Nat) : Int) := Int.ofNat_le.mpr h2
    rw [pw_cast, pw_cast] at h3
    exact h3
  have h4 : (2 : Int) ^ 54 = 18014398509481984 := by decide
  have h5 : m % 2 ^ n = m := Int.emod_eq_of_lt (by omega) (by omega)
  refine ⟨Int.ediv_eq_zero_of_lt (by omega) (by omega), ?_⟩
  unfold frR
  rw [h5, if_neg (by omega), if_pos (by omega)]
theorem fr_0 (m : Int) : m / 2 ^ 0 = m ∧ frR m 0 = 0 := by
  constructor
  · rw [Int.pow_zero, Int.ediv_one]
  · unfold frR
    rw [Int.pow_zero, Int.emod_one]
    rfl
def scS (x v z : Int) : Prop := (x = 0 → z = 0) ∧ (x ≠ 0 → rnB 64 (x.toNat * 2 ^ v.toNat) (2 ^ (-v).toNat) 0 1 z)
def sgb (v e : Int) : Int := if v < 0 then e - 9223372036854775808 else e
abbrev rdG (kind v r w : Int) : Prop := (kind = 1 ∧ v < 0 ∧ 0 < r) ∨ (kind = 2 ∧ 0 ≤ v ∧ 0 < r) ∨ (kind ≠ 1 ∧ kind ≠ 2 ∧ (r = 3 ∨ r = 2 ∧ w % 2 = 1))
/-- a double to a whole number, down, up or to the nearest -/
def rdX (kind v z : Int) : Prop := (eX v = 2047 ∧ pX v ≠ 0 → z = 9221120237041090560) ∧ (¬ (eX v = 2047 ∧ pX v ≠ 0) → (eX v = 2047 ∨ 0 ≤ plX v → z = v) ∧ (¬ (eX v = 2047 ∨ 0 ≤ plX v) → ∃ e : Int, scS (fX v / 2 ^ (-plX v).toNat + if rdG kind v (frR (fX v) (-plX v).toNat) (fX v / 2 ^ (-plX v).toNat) then 1 else 0) 0 e ∧ z = sgb v e))
theorem frR_r (m : Int) (n : Nat) : 0 ≤ frR m n ∧ frR m n ≤ 3 := by
  unfold frR
  split
  · decide
  · split
    · decide
    · split <;> decide
theorem sgb_or {v e : Int} (he : 0 ≤ e ∧ e < 9223372036854775808) : zor6 e (if v < 0 then -9223372036854775808 else 0) = sgb v e := by
  unfold sgb
  split
  · exact zor6_sg he
  · exact zor6_0 (by constructor <;> omega)
theorem fd_r {v : Int} {n : Nat} : 0 ≤ fX v / 2 ^ n ∧ fX v / 2 ^ n < 9007199254740992 := by
  have h := fX_r v
  have h1 : 0 ≤ fX v / 2 ^ n := Int.ediv_nonneg h.1 (Int.le_of_lt (ppos n))
  have h2 : fX v / 2 ^ n ≤ fX v := Int.ediv_le_self _ h.1
  omega
