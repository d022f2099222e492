/-! pure laws of rows of words, third part: products, quotients -/
set_option maxRecDepth 100000
theorem mul_bd {x y : Int} (hx : 0 ≤ x ∧ x < 4294967296) (hy : 0 ≤ y ∧ y < 4294967296) : 0 ≤ x * y ∧ x * y ≤ 18446744065119617025 := by
  refine ⟨Int.mul_nonneg hx.1 hy.1, ?_⟩
  have := Int.mul_le_mul (show x ≤ 4294967295 by omega) (show y ≤ 4294967295 by omega) hy.1 (by decide)
  omega
/-- the same with the count an integer, kept closed -/
def vi (W : Int → Int) (o k : Int) : Int := vz W o k.toNat
def pz (k : Int) : Int := 2 ^ (32 * k.toNat)
theorem tm_step {W0 W1 wf : Int → Int} {c b i j x cr v lw : Int} (hi : 0 ≤ i) (hj : 0 ≤ j) (hs : W1 (64 * c + i + j) = W0 (64 * c + i + j)) (hb : W1 (64 * b + j) = wf (64 * b + j)) (hv : v = W1 (64 * c + i + j) + x * W1 (64 * b + j)) (hl : lw = v % 4294967296 + cr) (hv0 : 0 ≤ v ∧ v < 18446744073709551616) (hc : 0 ≤ cr ∧ cr < 4294967296)
    (hI : vi W1 (64 * c) (i + j) + cr * pz (i + j) = vi W0 (64 * c) (i + j) + x * pz i * vi wf (64 * b) j) :
    vi (uZ W1 (64 * c + i + j) (lw % 4294967296)) (64 * c) (i + (j + 1)) + (v % 18446744073709551616 / 4294967296 + lw % 18446744073709551616 / 4294967296) * pz (i + (j + 1)) = vi W0 (64 * c) (i + (j + 1)) + x * pz i * vi wf (64 * b) (j + 1) := by
  unfold vi pz at *
  have e1 : i + (j + 1) = i + j + 1 := by omega
  have e2 : 64 * c + (i + j) = 64 * c + i + j := by omega
  rw [e1, vzs (by omega), vzs (by omega), vzs hj, p32z (by omega), e2, vz_uo (Or.inr (by omega)), uZ_s]
  have e3 : (2 : Int) ^ (32 * (i + j).toNat) = 2 ^ (32 * i.toNat) * 2 ^ (32 * j.toNat) := by
    rw [← pow_split]
    congr 1
    omega
  have e4 : lw % 4294967296 + (v % 18446744073709551616 / 4294967296 + lw % 18446744073709551616 / 4294967296) * 4294967296 = v + cr := by omega
  generalize (v % 18446744073709551616 / 4294967296 + lw % 18446744073709551616 / 4294967296) = q at e4 ⊢
  generalize lw % 4294967296 = d at e4 ⊢
  rw [hv, hb] at e4
  rw [← hs]
  rw [e3] at hI ⊢
  clear hv hl hv0 hc e1 e2 e3 hs hb
  generalize (2 : Int) ^ (32 * i.toNat) = P at hI ⊢
  generalize (2 : Int) ^ (32 * j.toNat) = S at hI ⊢
  generalize vz W1 (64 * c) (i + j).toNat = V1 at hI ⊢
  generalize vz W0 (64 * c) (i + j).toNat = V0 at hI ⊢
  generalize vz wf (64 * b) j.toNat = vb at hI ⊢
  generalize W1 (64 * c + i + j) = w1 at e4 ⊢
  generalize wf (64 * b + j) = bj at e4 ⊢
  have e5 : V1 + d * (P * S) + q * (P * S * 4294967296) = V1 + (d + q * 4294967296) * (P * S) := by grind
  rw [e5, e4]
  grind
theorem tm_out {wf W1 W2 : Int → Int} {a b c i j x cr : Int} (hD2 : Dg W2) (hi : 0 ≤ i) (hj : 0 ≤ j) (hij : i + j ≤ 64) (hx : x = wf (64 * a + i)) (h : 64 ≤ i + j ∨ x = 0) (hx0 : x = 0 → j = 0 ∧ cr = 0) (hs : ∀ t : Int, i + j ≤ t → t < 64 → W2 (64 * c + t) = W1 (64 * c + t))
    (hI : vi W2 (64 * c) (i + j) + cr * pz (i + j) = vi W1 (64 * c) (i + j) + x * pz i * vi wf (64 * b) j) (hO : vz W1 (64 * c) 64 = vi wf (64 * a) i * vz wf (64 * b) 64 % (BN : Int)) :
    vz W2 (64 * c) 64 = vi wf (64 * a) (i + 1) * vz wf (64 * b) 64 % (BN : Int) := by
  unfold vi pz at *
  rw [vzs hi, ← hx]
  rcases h with h | h
  · have e : (i + j).toNat = 64 := by omega
    rw [e] at hI
    have e64 : (64 : Nat) = j.toNat + (64 - j.toNat) := by omega
    have ev : vz wf (64 * b) 64 = vz wf (64 * b) j.toNat + 2 ^ (32 * j.toNat) * vz wf (64 * b + (j.toNat : Int)) (64 - j.toNat) := by
      conv => lhs; rw [e64]
      rw [vz_split]
    have hM : (2 : Int) ^ (32 * i.toNat) * 2 ^ (32 * j.toNat) = (BN : Int) := by
      rw [BN_z, ← pow_split]
      congr 1
      omega
    have h1 := vz_nn hD2 (64 * c) 64
    have h2 := vz_lt hD2 (64 * c) 64
    rw [← BN_z] at h2 hI
    rw [← Int.emod_eq_of_lt h1 h2]
    have e5 : vz W2 (64 * c) 64 = vz W1 (64 * c) 64 + x * 2 ^ (32 * i.toNat) * vz wf (64 * b) j.toNat - cr * (BN : Int) := by omega
    have e6 : (vz wf (64 * a) i.toNat + x * 2 ^ (32 * i.toNat)) * vz wf (64 * b) 64 = (vz wf (64 * a) i.toNat * vz wf (64 * b) 64 + x * 2 ^ (32 * i.toNat) * vz wf (64 * b) j.toNat) + (BN : Int) * (x * vz wf (64 * b + (j.toNat : Int)) (64 - j.toNat)) := by
      rw [← hM]
      conv => lhs; rw [Int.add_mul]
      conv => lhs; arg 2; rw [ev]
      grind
    rw [e6, Int.add_mul_emod_self_left, e5, Int.sub_mul_emod_self_right, hO, Int.emod_add_emod]
  · obtain ⟨rfl, rfl⟩ := hx0 h
    subst h
    have e : vz W2 (64 * c) 64 = vz W1 (64 * c) 64 := by
      have e64 : (64 : Nat) = (i + 0).toNat + (64 - (i + 0).toNat) := by omega
      rw [e64, vz_split, vz_split]
      have e2 : vz W2 (64 * c + ((i + 0).toNat : Int)) (64 - (i + 0).toNat) = vz W1 (64 * c + ((i + 0).toNat : Int)) (64 - (i + 0).toNat) := vz_congr (fun k h0 hk => by
        rw [Int.add_assoc]
        exact hs _ (by omega) (by omega))
      rw [e2]
      omega
    rw [e, hO, Int.zero_mul, Int.add_zero]
theorem tm_end {wf W1 : Int → Int} {a b c i : Int} (hD : Dg wf) (hD1 : Dg W1) (hi : i = 64) (hO : vz W1 (64 * c) 64 = vi wf (64 * a) i * vz wf (64 * b) 64 % (BN : Int)) : rv W1 c = rv wf a * rv wf b % BN := by
  unfold vi at hO
  subst hi
  have e : (64 : Int).toNat = 64 := rfl
  rw [e, ← rv_z hD, ← rv_z hD, ← rv_z hD1] at hO
  have e4 : ((rv wf a * rv wf b % BN : Nat) : Int) = (rv wf a : Int) * rv wf b % (BN : Int) := by
    rw [Int.natCast_emod, Int.natCast_mul]
  omega
theorem tm_0 {wf W1 : Int → Int} {a b c : Int} (hz : ∀ i : Int, 64 * c ≤ i → i < 64 * c + 64 → W1 i = 0) : vz W1 (64 * c) 64 = vi wf (64 * a) 0 * vz wf (64 * b) 64 % (BN : Int) := by
  unfold vi
  rw [vz_zero (fun k h1 h2 => hz _ (by omega) (by omega))]
  have : vz wf (64 * a) (0 : Int).toNat = 0 := rfl
  rw [this, Int.zero_mul, Int.zero_emod]
abbrev Fr2 (W W1 : Int → Int) (r q : Int) : Prop := ∀ i : Int, ¬ (64 * r ≤ i ∧ i < 64 * r + 64) → ¬ (64 * q ≤ i ∧ i < 64 * q + 64) → W1 i = W i
theorem Fr2_rv {W W1 : Int → Int} {r q r' : Int} (h : Fr2 W W1 r q) (hr : r' ≠ r) (hq : r' ≠ q) : rv W1 r' = rv W r' := by
  unfold rv
  rw [vz_congr (W := W1) (W1 := W) (o1 := 64 * r')]
  intro k h0 hk
  exact h _ (by omega) (by omega)
theorem zor6_bit {x b : Int} (hx : 0 ≤ x ∧ x < 4294967296) (he : x % 2 = 0) (hb : 0 ≤ b ∧ b < 2) : zor6 x b = x + b := by
  have e : x = x / 2 * 2 ^ 1 := by omega
  have e2 := zor6_add' (x := b) (y := x / 2) (k := 1) hb (by omega) (by omega)
  rw [← e] at e2
  exact e2
theorem dv_bit {W : Int → Int} (hD : Dg W) {r z : Int} (hz : 0 ≤ z ∧ z < 2) (he : rv W r % 2 = 0) : Dg (uZ W (64 * r) (W (64 * r) + z)) ∧ ((rv (uZ W (64 * r) (W (64 * r) + z)) r : Nat) : Int) = rv W r + z ∧ W (64 * r) % 2 = 0 := by
  have h1 := ev_z hD r
  have h2 := hD (64 * r)
  have hD2 : Dg (uZ W (64 * r) (W (64 * r) + z)) := Dg_uZ hD (by omega) (by omega)
  refine ⟨hD2, ?_, by omega⟩
  rw [rv_z hD2, rv_z hD]
  have e : 64 * r + ((0 : Nat) : Int) = 64 * r := by omega
  have h0 := vz_u (W := W) (o := 64 * r) (v := W (64 * r) + z) (k := 0) (n := 64) (by decide)
  rw [e] at h0
  rw [h0]
  omega
theorem dv_q {W : Int → Int} (hD : Dg W) {q i : Int} (hi : 0 ≤ i ∧ i < 2048) (hm : rv W q % 2 ^ (i + 1).toNat = 0) :
    zor6 (W (64 * q + i / 32)) (1 * 2 ^ (i % 32).toNat) = W (64 * q + i / 32) + 2 ^ (i % 32).toNat ∧ 0 ≤ W (64 * q + i / 32) + 2 ^ (i % 32).toNat ∧ W (64 * q + i / 32) + 2 ^ (i % 32).toNat < 4294967296 ∧ vz (uZ W (64 * q + i / 32) (W (64 * q + i / 32) + 2 ^ (i % 32).toNat)) (64 * q) 64 = vz W (64 * q) 64 + 2 ^ i.toNat := by
  obtain ⟨n, rfl⟩ := Int.eq_ofNat_of_zero_le hi.1
  have e1 : ((n : Int)) / 32 = ((n / 32 : Nat) : Int) := by omega
  have e2 : (((n : Int)) % 32).toNat = n % 32 := by omega
  have e3 : ((n : Int) + 1).toNat = n + 1 := by omega
  have e4 : ((n : Int)).toNat = n := by omega
  rw [e3] at hm
  rw [e1, e2, e4]
  have hd := vz_dig hD (o := 64 * q) (k := n / 32) (n := 64) (by omega)
  rw [← rv_z hD] at hd
  have hdn : ((rv W q : Nat) : Int) / 2 ^ (32 * (n / 32)) % 4294967296 = ((rv W q / 2 ^ (32 * (n / 32)) % 4294967296 : Nat) : Int) := by
    simp
  rw [hdn] at hd
  have hdv : 2 ^ (n % 32 + 1) ∣ rv W q / 2 ^ (32 * (n / 32)) % 4294967296 := by
    have h5 : (4294967296 : Nat) = 2 ^ (n % 32 + 1) * 2 ^ (31 - n % 32) := by
      rw [← Nat.pow_add, show n % 32 + 1 + (31 - n % 32) = 32 by omega]
    obtain ⟨k, hk⟩ := Nat.dvd_of_mod_eq_zero hm
    have h6 : n + 1 = 32 * (n / 32) + (n % 32 + 1) := by omega
    rw [hk, h6, Nat.pow_add 2 (32 * (n / 32)) (n % 32 + 1), Nat.mul_assoc, Nat.mul_div_cancel_left _ (Nat.two_pow_pos _), h5]
    rw [Nat.mul_mod_mul_left]
    exact Nat.dvd_mul_right _ _
  obtain ⟨k, hk⟩ := hdv
  have hr := hD (64 * q + ((n / 32 : Nat) : Int))
  have hp := ppos (n % 32)
  have hle : (2 : Int) ^ (n % 32) ≤ 2 ^ 31 := by
    have : 2 ^ (n % 32) ≤ 2 ^ 31 := Nat.pow_le_pow_right (by decide) (by omega)
    exact_mod_cast this
  have ek : W (64 * q + ((n / 32 : Nat) : Int)) = (k : Int) * 2 ^ (n % 32 + 1) := by
    rw [hd, hk, Int.natCast_mul, pw_cast]
    exact Int.mul_comm _ _
  have hs : W (64 * q + ((n / 32 : Nat) : Int)) + 2 ^ (n % 32) < 4294967296 := by
    have h5 : (4294967296 : Int) = 2 ^ (32 - (n % 32 + 1)) * 2 ^ (n % 32 + 1) := by
      rw [← pow_split, show 32 - (n % 32 + 1) + (n % 32 + 1) = 32 by omega]
      rfl
    have h6 : (k : Int) < 2 ^ (32 - (n % 32 + 1)) := by
      apply Int.lt_of_mul_lt_mul_right (a := 2 ^ (n % 32 + 1)) _ (Int.le_of_lt (ppos _))
      rw [← ek, ← h5]
      exact hr.2
    have h7 : ((k : Int) + 1) * 2 ^ (n % 32 + 1) ≤ 2 ^ (32 - (n % 32 + 1)) * 2 ^ (n % 32 + 1) := Int.mul_le_mul_of_nonneg_right (by omega) (Int.le_of_lt (ppos _))
    rw [← h5, Int.add_mul, Int.one_mul, ← ek, Int.pow_succ] at h7
    omega
  refine ⟨?_, by omega, hs, ?_⟩
  · rw [Int.one_mul, ek]
    exact zor6_add' (x := 2 ^ (n % 32)) (y := k) (k := n % 32 + 1) ⟨by omega, by rw [Int.pow_succ]; omega⟩ (by omega) (by rw [← ek]; omega)
  · rw [vz_u (by omega)]
    have h8 : (2 : Int) ^ n = 2 ^ (n % 32) * 2 ^ (32 * (n / 32)) := by
      rw [← pow_split, show n % 32 + 32 * (n / 32) = n by omega]
    rw [h8]
    grind
theorem dv_nat (A B i : Nat) (hB : B ≠ 0) : 2 * (A / 2 ^ (i + 1) % B) + A / 2 ^ i % 2 < B ∧ A / 2 ^ i / B = 2 * (A / 2 ^ (i + 1) / B) ∧ A / 2 ^ i % B = 2 * (A / 2 ^ (i + 1) % B) + A / 2 ^ i % 2 ∨ B ≤ 2 * (A / 2 ^ (i + 1) % B) + A / 2 ^ i % 2 ∧ A / 2 ^ i / B = 2 * (A / 2 ^ (i + 1) / B) + 1 ∧ A / 2 ^ i % B = 2 * (A / 2 ^ (i + 1) % B) + A / 2 ^ i % 2 - B := by
  have e : A / 2 ^ (i + 1) = A / 2 ^ i / 2 := by rw [Nat.pow_succ, Nat.div_div_eq_div_mul]
  rw [e]
  generalize A / 2 ^ i = X
  have h1 := Nat.div_add_mod (X / 2) B
  have h2 := Nat.mod_lt (X / 2) (Nat.pos_of_ne_zero hB)
  have h3 := Nat.div_add_mod X 2
  generalize X / 2 / B = Q at h1 ⊢
  generalize X / 2 % B = r at h1 h2 ⊢
  have h4 : X = B * (2 * Q) + (2 * r + X % 2) := by
    have : B * (2 * Q) = 2 * (B * Q) := by grind
    omega
  by_cases c : 2 * r + X % 2 < B
  · left
    refine ⟨c, ?_, ?_⟩
    · conv => lhs; rw [h4]
      rw [Nat.mul_add_div (Nat.pos_of_ne_zero hB), Nat.div_eq_of_lt c, Nat.add_zero]
    · conv => lhs; rw [h4]
      rw [Nat.mul_add_mod, Nat.mod_eq_of_lt c]
  · right
    have h5 : X = B * (2 * Q + 1) + (2 * r + X % 2 - B) := by
      have : B * (2 * Q + 1) = B * (2 * Q) + B := by grind
      omega
    have h6 : 2 * r + X % 2 - B < B := by omega
    refine ⟨by omega, ?_, ?_⟩
    · conv => lhs; rw [h5]
      rw [Nat.mul_add_div (Nat.pos_of_ne_zero hB), Nat.div_eq_of_lt h6, Nat.add_zero]
    · conv => lhs; rw [h5]
      rw [Nat.mul_add_mod, Nat.mod_eq_of_lt h6]
