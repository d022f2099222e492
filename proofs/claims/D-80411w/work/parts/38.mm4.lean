/-! pure laws: greatest divisors; small words -/
set_option maxRecDepth 100000
theorem b01 {z : Int} {P : Prop} [Decidable P] (h : z = if P then 1 else 0) : (z = 1 ∧ P) ∨ (z = 0 ∧ ¬ P) := by
  by_cases q : P
  · rw [if_pos q] at h
    exact Or.inl ⟨h, q⟩
  · rw [if_neg q] at h
    exact Or.inr ⟨h, q⟩
theorem cmpN3 {x y : Nat} {z : Int} (h : z = cmpN x y) : (z = -1 ∧ x < y) ∨ (z = 0 ∧ x = y) ∨ (z = 1 ∧ y < x) := by
  unfold cmpN at h
  split at h
  · omega
  · split at h <;> omega
theorem Fr2_rf {W : Int → Int} {r q : Int} : Fr2 W W r q := fun _ _ _ => rfl
theorem Fr2_1 {W W1 W2 : Int → Int} {r q : Int} (h : Fr2 W W1 r q) (h2 : Fr W1 W2 r) : Fr2 W W2 r q := fun i a b => (h2 i a).trans (h i a b)
theorem Fr2_2 {W W1 W2 : Int → Int} {r q : Int} (h : Fr2 W W1 r q) (h2 : Fr W1 W2 q) : Fr2 W W2 r q := fun i a b => (h2 i b).trans (h i a b)
theorem Fr2_tr {W W1 W2 : Int → Int} {r q : Int} (h : Fr2 W W1 r q) (h2 : Fr2 W1 W2 r q) : Fr2 W W2 r q := fun i a b => (h2 i a b).trans (h i a b)
theorem gcd_half {x y : Nat} (hx : x % 2 = 0) (h : Nat.gcd x y % 2 = 1) : Nat.gcd (x / 2) y = Nat.gcd x y := by
  have hy : y % 2 = 1 := by
    rcases Nat.mod_two_eq_zero_or_one y with q | q
    · have h1 : 2 ∣ Nat.gcd x y := Nat.dvd_gcd (Nat.dvd_of_mod_eq_zero hx) (Nat.dvd_of_mod_eq_zero q)
      have := Nat.mod_eq_zero_of_dvd h1
      omega
    · exact q
  have hc : Nat.Coprime 2 y := by
    show Nat.gcd 2 y = 1
    rw [Nat.gcd_rec, hy]
    decide
  have e : x = 2 * (x / 2) := by omega
  conv => rhs; rw [e]
  exact (Nat.Coprime.gcd_mul_left_cancel (x / 2) hc).symm
theorem gcd_half2 {x y : Nat} (hx : x % 2 = 0) (hy : y % 2 = 0) : Nat.gcd x y = Nat.gcd (x / 2) (y / 2) * 2 := by
  have e : x = 2 * (x / 2) := by omega
  have e2 : y = 2 * (y / 2) := by omega
  conv => lhs; rw [e, e2]
  rw [Nat.gcd_mul_left, Nat.mul_comm]
theorem gcd_odd {x y : Nat} (h : ¬ (x % 2 = 0) ∨ ¬ (y % 2 = 0)) : Nat.gcd x y % 2 = 1 := by
  rcases Nat.mod_two_eq_zero_or_one (Nat.gcd x y) with q | q
  · have h1 := Nat.mod_eq_zero_of_dvd (Nat.dvd_trans (Nat.dvd_of_mod_eq_zero q) (Nat.gcd_dvd_left x y))
    have h2 := Nat.mod_eq_zero_of_dvd (Nat.dvd_trans (Nat.dvd_of_mod_eq_zero q) (Nat.gcd_dvd_right x y))
    omega
  · exact q
theorem gcd_lt_BN {x y : Nat} (hx : x ≠ 0) (h : x < BN) : Nat.gcd x y < BN := Nat.lt_of_le_of_lt (Nat.gcd_le_left y (Nat.pos_of_ne_zero hx)) h
theorem tw_lt {g G : Nat} {tw : Int} (h0 : 0 ≤ tw) (hg : g * 2 ^ tw.toNat = G) (hG : G < BN) (hG0 : G ≠ 0) : tw < 2048 := by
  have h1 : 2 ^ tw.toNat ≤ G := by
    rcases Nat.eq_zero_or_pos g with q | q
    · subst q
      omega
    · have := Nat.mul_le_mul_right (2 ^ tw.toNat) q
      omega
  have h2 : (2 : Nat) ^ tw.toNat < 2 ^ 2048 := Nat.lt_of_le_of_lt h1 hG
  have := (Nat.pow_lt_pow_iff_right (by decide)).mp h2
  omega
theorem mod_BN {x : Nat} (h : x < BN) : x % BN = x := Nat.mod_eq_of_lt h
theorem tw_s {x : Nat} {tw : Int} (h : 0 ≤ tw) : x * 2 ^ (tw + 1).toNat = x * 2 * 2 ^ tw.toNat := by
  have e : (tw + 1).toNat = tw.toNat + 1 := by omega
  rw [e, Nat.pow_succ]
  grind
theorem dv_i {i : Int} (h : 0 ≤ i) : (i - 1 + 1).toNat = i.toNat ∧ (i + 1).toNat = i.toNat + 1 := by omega
theorem dv_m (Q n : Nat) : Q * 2 ^ (n + 1) % 2 ^ (n + 1) = 0 := Nat.mul_mod_left _ _
/-- one more bit: the quotient's and the remainder's rows -/
theorem dv_lo {A B Q R X n : Nat} (hB : B ≠ 0) (hq : Q = A / 2 ^ (n + 1) / B * 2 ^ (n + 1)) (hr : R = 2 * (A / 2 ^ (n + 1) % B) + A / 2 ^ n % 2) (h : R < B) : Q = A / 2 ^ n / B * 2 ^ n ∧ R = A / 2 ^ n % B := by
  rcases dv_nat A B n hB with ⟨h1, h2, h3⟩ | ⟨h1, h2, h3⟩
  · refine ⟨?_, by omega⟩
    rw [hq, h2, Nat.pow_succ]
    grind
  · omega
theorem dv_hi {A B Q R n : Nat} (hB : B ≠ 0) (hq : Q = A / 2 ^ (n + 1) / B * 2 ^ (n + 1)) (hr : R = 2 * (A / 2 ^ (n + 1) % B) + A / 2 ^ n % 2) (h : B ≤ R) : Q + 2 ^ n = A / 2 ^ n / B * 2 ^ n ∧ R - B = A / 2 ^ n % B := by
  rcases dv_nat A B n hB with ⟨h1, h2, h3⟩ | ⟨h1, h2, h3⟩
  · omega
  · refine ⟨?_, by omega⟩
    rw [hq, h2, Nat.pow_succ]
    grind
theorem dv_w {W : Int → Int} (hD : Dg W) {q i : Int} (hi : 0 ≤ i ∧ i < 2048) (hm : rv W q % 2 ^ (i + 1).toNat = 0) : Dg (uZ W (64 * q + i / 32) (W (64 * q + i / 32) + 2 ^ (i % 32).toNat)) ∧ rv (uZ W (64 * q + i / 32) (W (64 * q + i / 32) + 2 ^ (i % 32).toNat)) q = rv W q + 2 ^ i.toNat := by
  obtain ⟨h1, h2, h3, h4⟩ := dv_q hD hi hm
  have hD2 : Dg (uZ W (64 * q + i / 32) (W (64 * q + i / 32) + 2 ^ (i % 32).toNat)) := Dg_uZ hD h2 h3
  refine ⟨hD2, ?_⟩
  have h5 := rv_z hD2 q
  rw [h4, ← rv_z hD] at h5
  have h6 : ((rv W q + 2 ^ i.toNat : Nat) : Int) = (rv W q : Int) + 2 ^ i.toNat := by simp
  omega
theorem tw_gt {x y G : Nat} {tw : Int} (h0 : 0 ≤ tw) (hx : x ≠ 0) (hg : Nat.gcd x y * 2 ^ tw.toNat = G) (hG : G < BN) : 0 ≤ tw ∧ tw < 2048 := by
  refine ⟨h0, tw_lt h0 hg hG (fun q => ?_)⟩
  have h1 : 0 < Nat.gcd x y := Nat.gcd_pos_of_pos_left y (Nat.pos_of_ne_zero hx)
  have h2 := Nat.mul_pos h1 (Nat.two_pow_pos tw.toNat)
  omega
theorem zor6_c {x p : Int} (k : Nat) (hp : (2 : Int) ^ k = p) (hx : 0 ≤ x ∧ x < p) (hs : x + p < 9223372036854775808) : zor6 x p = x + p := by
  have h := zor6_p (x := x) (y := 1) (p := p) hp hx (by decide) (by rw [Int.one_mul]; exact hs)
  rw [Int.one_mul] at h
  exact h
