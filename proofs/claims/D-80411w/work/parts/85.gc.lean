/-! greatest divisors by halves; what the component's private methods do -/
set_option maxRecDepth 100000
theorem gc_odd {x o z : Nat} (hx : x % 2 = 1) : Nat.gcd x (2 ^ z * o) = Nat.gcd x o := by
  have h : Nat.Coprime 2 x := by
    show Nat.gcd 2 x = 1
    rw [Nat.gcd_rec, hx]
    decide
  rw [Nat.gcd_comm, Nat.Coprime.gcd_mul_left_cancel o (Nat.Coprime.pow_left z h), Nat.gcd_comm]
theorem gc_min {i j x y : Nat} (hx : x % 2 = 1) (hy : y % 2 = 1) : Nat.gcd (2 ^ i * x) (2 ^ j * y) = Nat.gcd x (2 ^ j * y) * 2 ^ min i j := by
  rw [gc_odd (z := j) hx]
  by_cases c : i ≤ j
  · have e : 2 ^ j * y = 2 ^ i * (2 ^ (j - i) * y) := by rw [← Nat.mul_assoc, ← Nat.pow_add, Nat.add_sub_cancel' c]
    rw [e, Nat.gcd_mul_left, gc_odd hx, Nat.min_eq_left c, Nat.mul_comm]
  · have e : 2 ^ i * x = 2 ^ j * (2 ^ (i - j) * x) := by rw [← Nat.mul_assoc, ← Nat.pow_add, Nat.add_sub_cancel' (by omega)]
    rw [e, Nat.gcd_mul_left, Nat.gcd_comm, gc_odd hy, Nat.gcd_comm, Nat.min_eq_right (by omega), Nat.mul_comm]
theorem gc_sub {x y : Nat} (h : x ≤ y) : Nat.gcd x (y - x) = Nat.gcd x y := by
  have e : y = (y - x) + x := by omega
  conv => rhs; rw [e]
  exact (Nat.gcd_add_self_right x (y - x)).symm
theorem odd_div {z q : Nat} : 2 ^ z * (2 * q + 1) / 2 ^ z = 2 * q + 1 := Nat.mul_div_cancel_left _ (Nat.two_pow_pos z)
/-- a step: u shifted, the lesser of both kept, taken from the other -/
theorem gc_step {T U1 : Nat} (hT : T % 2 = 1) (hU : U1 % 2 = 1) : (T ≤ U1 → Nat.gcd T (U1 - T) = Nat.gcd T U1 ∧ T + (U1 - T) < T + U1) ∧ (U1 < T → Nat.gcd U1 (T - U1) = Nat.gcd T U1 ∧ U1 + (T - U1) < T + U1) := by
  refine ⟨fun h => ⟨gc_sub h, by omega⟩, fun h => ⟨?_, by omega⟩⟩
  rw [gc_sub (by omega), Nat.gcd_comm]
theorem bl_mul_pow {x n : Nat} (hx : x ≠ 0) : bl (x * 2 ^ n) = bl x + n := by
  have h := bl_add (a := 0) (k := n) (Nat.two_pow_pos n) hx
  rw [Nat.zero_add] at h
  omega
theorem tz_uniq {x y : Int} (hx : 0 ≤ x) (hy : 0 ≤ y) {A p q : Nat} (h1 : A = 2 ^ x.toNat * (2 * p + 1)) (h2 : A = 2 ^ y.toNat * (2 * q + 1)) : x = y := by
  have key : ∀ a b p q : Nat, 2 ^ a * (2 * p + 1) = 2 ^ b * (2 * q + 1) → a < b → False := by
    intro a b p q h hab
    obtain ⟨k, rfl⟩ : ∃ k, b = a + (k + 1) := ⟨b - a - 1, by omega⟩
    rw [Nat.pow_add, Nat.mul_assoc] at h
    have h3 := Nat.eq_of_mul_eq_mul_left (Nat.two_pow_pos a) h
    rw [Nat.pow_succ] at h3
    have h4 : 2 ^ k * 2 * (2 * q + 1) = 2 * (2 ^ k * (2 * q + 1)) := by grind
    omega
  have h := h1.symm.trans h2
  rcases Nat.lt_trichotomy x.toNat y.toNat with c | c | c
  · exact absurd (key _ _ _ _ h c) id
  · omega
  · exact absurd (key _ _ _ _ h.symm c) id
theorem wN_szb {n : Int} {f : Int → Int} (h : OKw n f) {k : Nat} (hk : wN n f < 2 ^ (32 * k)) : n ≤ (k : Int) := by
  have := wN_sz h (bl_le.mpr hk)
  omega
theorem mul_sz {x y a b : Nat} (hx : x < 2 ^ (32 * a)) (hy : y < 2 ^ (32 * b)) : x * y < 2 ^ (32 * (a + b)) := by
  rw [Nat.mul_add]
  exact mul_p hx hy
theorem wN_up {n : Int} {f : Int → Int} (h : OKw n f) {k : Nat} (hk : n ≤ (k : Int)) : wN n f < 2 ^ (32 * k) := Nat.lt_of_lt_of_le (wN_lt h.2.1) (Nat.pow_le_pow_right (by decide) (by omega))
theorem wN_mulsz {n m k : Int} {f g h : Int → Int} (hf : OKw n f) (hg : OKw m g) (hh : OKw k h) (e : wN k h = wN n f * wN m g) : k ≤ n + m := by
  have h1 := mul_sz (wN_lt (n := n) hf.2.1) (wN_lt (n := m) hg.2.1)
  rw [← e] at h1
  have := wN_szb hh h1
  have := hf.1
  have := hg.1
  omega
theorem wN_addsz {n m k b : Int} {f g h : Int → Int} (hf : OKw n f) (hg : OKw m g) (hh : OKw k h) (e : wN k h ≤ wN n f + wN m g) (hn : n ≤ b) (hm : m ≤ b) : k ≤ b + 1 := by
  have h1 := wN_up hf (k := b.toNat) (by have := hf.1; omega)
  have h2 := wN_up hg (k := b.toNat) (by have := hf.1; omega)
  have h3 : 2 ^ (32 * (b.toNat + 1)) = 2 ^ (32 * b.toNat) * 4294967296 := by
    rw [Nat.mul_add, Nat.pow_add]
  have := wN_szb hh (k := b.toNat + 1) (by omega)
  have := hf.1
  omega
theorem up_sz {n : Int} {f : Int → Int} (h : OKw n f) (hn : n ≤ 8) {b : Int} (hb : b ≤ 700) : wN n f * 2 ^ b.toNat < 2 ^ (32 * 31) := by
  have h1 := wN_up h (k := 8) (by omega)
  have h2 : wN n f * 2 ^ b.toNat < 2 ^ (32 * 8) * 2 ^ b.toNat := Nat.mul_lt_mul_of_pos_right h1 (Nat.two_pow_pos _)
  rw [← Nat.pow_add] at h2
  exact Nat.lt_of_lt_of_le h2 (Nat.pow_le_pow_right (by decide) (by omega))
