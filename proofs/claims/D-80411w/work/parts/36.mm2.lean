/-! pure laws of rows of words, second part: halving, shifting, lengths, bits -/
set_option maxRecDepth 100000
theorem zor6_p {x y p : Int} {k : Nat} (hp : (2 : Int) ^ k = p) (hx : 0 ≤ x ∧ x < p) (hy : 0 ≤ y) (hs : x + y * p < 9223372036854775808) : zor6 x (y * p) = x + y * p := by
  subst hp
  exact zor6_add hx hy hs
theorem halve_step {W W1 : Int → Int} {r k c : Int} (hk : 0 ≤ k ∧ k < 64) (hs : W1 (64 * r + k) = W (64 * r + k)) (hI : 2 * vz W1 (64 * r + (k + 1)) (63 - k).toNat + c = vz W (64 * r + (k + 1)) (63 - k).toNat) :
    2 * vz (uZ W1 (64 * r + k) (W1 (64 * r + k) / 2 + c * 2147483648)) (64 * r + (k - 1 + 1)) (63 - (k - 1)).toNat + W1 (64 * r + k) % 2 = vz W (64 * r + (k - 1 + 1)) (63 - (k - 1)).toNat := by
  have e : (63 - (k - 1)).toNat = (63 - k).toNat + 1 := by omega
  have e2 : 64 * r + (k - 1 + 1) = 64 * r + k := by omega
  have e3 : 64 * r + k + 1 = 64 * r + (k + 1) := by omega
  rw [e, e2, vz_front, vz_front, uZ_s, vz_uo (Or.inl (by omega)), hs, e3]
  omega
theorem halve_end {W W1 : Int → Int} {r k c : Int} (hD : Dg W) (hD1 : Dg W1) (hk : k = -1) (hc : 0 ≤ c ∧ c ≤ 1) (hI : 2 * vz W1 (64 * r + (k + 1)) (63 - k).toNat + c = vz W (64 * r + (k + 1)) (63 - k).toNat) : rv W1 r = rv W r / 2 := by
  subst hk
  have e : (63 - -1 : Int).toNat = 64 := rfl
  have e2 : 64 * r + (-1 + 1) = 64 * r := by omega
  rw [e, e2, ← rv_z hD, ← rv_z hD1] at hI
  omega
theorem vz_of {W : Int → Int} {o N : Int} (hN : 0 ≤ N) : ∀ {n : Nat}, (∀ k : Nat, k < n → W (o + (k : Int)) = N / 2 ^ (32 * k) % 4294967296) → vz W o n = N % 2 ^ (32 * n)
  | 0, _ => by
    show (0 : Int) = N % 1
    omega
  | n + 1, h => by
    rw [vz_s, vz_of hN (n := n) (fun k hk => h k (by omega)), h n (by omega), p32]
    have h3 := p32p n
    generalize (2 : Int) ^ (32 * n) = P at h3 ⊢
    have e1 := Int.emod_add_mul_ediv N P
    have e2 := Int.emod_add_mul_ediv (N / P) 4294967296
    have e4 := Int.emod_nonneg N (Int.ne_of_gt h3)
    have e5 := Int.emod_lt_of_pos N h3
    have e6 := Int.emod_nonneg (N / P) (show (4294967296 : Int) ≠ 0 by decide)
    have e7 := Int.emod_lt_of_pos (N / P) (show (0 : Int) < 4294967296 by decide)
    have e8 : N = (N % P + N / P % 4294967296 * P) + P * 4294967296 * (N / P / 4294967296) := by grind
    have e9 : N % P + N / P % 4294967296 * P < P * 4294967296 := by
      have : N / P % 4294967296 * P ≤ 4294967295 * P := Int.mul_le_mul_of_nonneg_right (by omega) (Int.le_of_lt h3)
      omega
    have e10 : 0 ≤ N / P % 4294967296 * P := Int.mul_nonneg e6 (Int.le_of_lt h3)
    conv => rhs; rw [e8]
    rw [Int.add_mul_emod_self_left, Int.emod_eq_of_lt (by omega) e9]
/-- what a word becomes that goes up by ws words and b bits -/
def ud (W : Int → Int) (o ws b j : Int) : Int := ((if ws ≤ j then W (o + j - ws) else 0) * 2 ^ b.toNat + (if ws + 1 ≤ j then W (o + j - ws - 1) else 0) / 2 ^ (32 - b).toNat) % 4294967296
theorem pow_split {a b : Nat} : (2 : Int) ^ (a + b) = 2 ^ a * 2 ^ b := Int.pow_add 2 a b
theorem ppos (n : Nat) : (0 : Int) < 2 ^ n := Int.pow_pos (by decide)
theorem ud_dig {W : Int → Int} {o : Int} (hD : Dg W) {ws b j : Nat} (hb : b < 32) (hj : j < 64) : ud W o (ws : Int) (b : Int) (j : Int) = vz W o 64 * 2 ^ (32 * ws + b) / 2 ^ (32 * j) % 4294967296 := by
  unfold ud
  have eb : ((b : Int)).toNat = b := by omega
  have eb2 : (32 - (b : Int)).toNat = 32 - b := by omega
  rw [eb, eb2]
  by_cases h : ws ≤ j
  · obtain ⟨t, rfl⟩ : ∃ t, j = ws + t := ⟨j - ws, by omega⟩
    rw [if_pos (by omega)]
    have e1 : o + ((ws + t : Nat) : Int) - (ws : Int) = o + (t : Int) := by omega
    have e2 : o + ((ws + t : Nat) : Int) - (ws : Int) - 1 = o + (t : Int) - 1 := by omega
    rw [e2, e1]
    have e3 : vz W o 64 * 2 ^ (32 * ws + b) / 2 ^ (32 * (ws + t)) = vz W o 64 * 2 ^ b / 2 ^ (32 * t) := by
      rw [pow_split, Nat.mul_add, pow_split]
      have : vz W o 64 * (2 ^ (32 * ws) * 2 ^ b) = 2 ^ (32 * ws) * (vz W o 64 * 2 ^ b) := by grind
      rw [this, Int.mul_ediv_mul_of_pos _ _ (ppos _)]
    rw [e3]
    by_cases ht : t = 0
    · subst ht
      rw [if_neg (by omega)]
      have e4 : (0 : Int) / 2 ^ (32 - b) = 0 := Int.zero_ediv _
      have e6 : (2 : Int) ^ (32 * 0) = 1 := rfl
      rw [e4, vz_front W o 63, e6, Int.ediv_one, Int.add_zero]
      have e5 : (W o + 4294967296 * vz W (o + 1) 63) * 2 ^ b = W o * 2 ^ b + 4294967296 * (vz W (o + 1) 63 * 2 ^ b) := by grind
      have e7 : o + ((0 : Nat) : Int) = o := by omega
      rw [e5, Int.add_mul_emod_self_left, e7]
    · obtain ⟨s, rfl⟩ : ∃ s, t = s + 1 := ⟨t - 1, by omega⟩
      rw [if_pos (by omega)]
      have e4 : o + ((s + 1 : Nat) : Int) - 1 = o + (s : Int) := by omega
      rw [e4]
      have e64 : (64 : Nat) = s + ((62 - s) + 1 + 1) := by omega
      have e5 : vz W o 64 = vz W o s + 2 ^ (32 * s) * (W (o + (s : Int)) + 4294967296 * (W (o + (s : Int) + 1) + 4294967296 * vz W (o + (s : Int) + 1 + 1) (62 - s))) := by
        conv => lhs; rw [e64]
        rw [vz_split, vz_front, vz_front]
      have e6 : (2 : Int) ^ (32 * (s + 1)) = 2 ^ (32 * s) * (2 ^ (32 - b) * 2 ^ b) := by
        rw [← pow_split, Nat.sub_add_cancel (by omega)]
        exact p32 s
      have e7 : (4294967296 : Int) = 2 ^ (32 - b) * 2 ^ b := by
        rw [← pow_split, Nat.sub_add_cancel (by omega)]
        rfl
      have e8 : (o + (s : Int)) + 1 = o + ((s + 1 : Nat) : Int) := by omega
      rw [e6, ← Int.mul_assoc]
      rw [Int.mul_ediv_mul_of_pos_left _ _ (ppos b)]
      rw [← Int.ediv_ediv_of_nonneg (Int.le_of_lt (ppos _)), e5, Int.add_mul_ediv_left _ _ (Int.ne_of_gt (ppos _)), Int.ediv_eq_zero_of_lt (vz_nn hD _ _) (vz_lt hD _ _), Int.zero_add, ← e8]
      generalize W (o + (s : Int) + 1) = y
      generalize vz W (o + (s : Int) + 1 + 1) (62 - s) = z
      have e9 : W (o + (s : Int)) + 4294967296 * (y + 4294967296 * z) = W (o + (s : Int)) + 2 ^ (32 - b) * (2 ^ b * y + 4294967296 * (2 ^ b * z)) := by
        have : (4294967296 : Int) * (y + 4294967296 * z) = 2 ^ (32 - b) * (2 ^ b * y + 4294967296 * (2 ^ b * z)) := by
          conv => lhs; arg 1; rw [e7]
          grind
        rw [this]
      rw [e9, Int.add_mul_ediv_left _ _ (Int.ne_of_gt (ppos _)), ← Int.add_assoc, Int.add_mul_emod_self_left]
      congr 1
      grind
  · rw [if_neg (by omega), if_neg (by omega)]
    have e1 : vz W o 64 * 2 ^ (32 * ws + b) / 2 ^ (32 * j) = vz W o 64 * 2 ^ (32 * (ws - j - 1) + b) * 4294967296 := by
      have e2 : 32 * ws + b = 32 * j + (32 * (ws - j - 1) + b + 32) := by omega
      rw [e2, pow_split, pow_split (b := 32)]
      have e3 : vz W o 64 * (2 ^ (32 * j) * (2 ^ (32 * (ws - j - 1) + b) * 2 ^ 32)) = 2 ^ (32 * j) * (vz W o 64 * 2 ^ (32 * (ws - j - 1) + b) * 4294967296) := by
        have : (2 : Int) ^ 32 = 4294967296 := rfl
        rw [this]
        grind
      rw [e3, Int.mul_ediv_cancel_left _ (Int.ne_of_gt (ppos _))]
    rw [e1, Int.mul_emod_left, Int.zero_mul, Int.zero_ediv]
    rfl
theorem up_end {W W1 : Int → Int} {r by_ : Int} (hD : Dg W) (hD1 : Dg W1) (hb : 0 ≤ by_ ∧ by_ < 2048) (h : ∀ j : Int, -1 < j → j < 64 → W1 (64 * r + j) = ud W (64 * r) (by_ / 32) (by_ % 32) j) : rv W1 r = rv W r * 2 ^ by_.toNat % BN := by
  obtain ⟨n, rfl⟩ := Int.eq_ofNat_of_zero_le hb.1
  have e := vz_of (W := W1) (o := 64 * r) (N := vz W (64 * r) 64 * 2 ^ n) (Int.mul_nonneg (vz_nn hD _ _) (Int.le_of_lt (ppos n))) (n := 64) (fun k hk => by
    rw [h (k : Int) (by omega) (by omega)]
    have e1 : ((n : Int)) / 32 = ((n / 32 : Nat) : Int) := by omega
    have e2 : ((n : Int)) % 32 = ((n % 32 : Nat) : Int) := by omega
    rw [e1, e2, ud_dig hD (by omega) hk]
    have e3 : 32 * (n / 32) + n % 32 = n := by omega
    rw [e3])
  rw [← rv_z hD1, ← rv_z hD] at e
  have e4 : ((rv W r * 2 ^ n % BN : Nat) : Int) = (rv W r : Int) * 2 ^ n % 2 ^ (32 * 64) := by
    rw [Int.natCast_emod, Int.natCast_mul, pw_cast, BN_z]
  have e5 : ((n : Int)).toNat = n := by omega
  rw [e5]
  omega
/-- how many bits -/
def bl (x : Nat) : Nat := if x = 0 then 0 else Nat.log2 x + 1
theorem bl_of {x n : Nat} (h1 : 2 ^ n ≤ x) (h2 : x < 2 ^ (n + 1)) : bl x = n + 1 := by
  have hx : x ≠ 0 := by
    have := Nat.two_pow_pos n
    omega
  unfold bl
  rw [if_neg hx]
  have := (Nat.log2_eq_iff hx).mpr ⟨h1, h2⟩
  omega
theorem bl_lo {x : Nat} (h : x ≠ 0) : 2 ^ (bl x - 1) ≤ x := by
  unfold bl
  rw [if_neg h]
  exact Nat.log2_self_le h
theorem bl_hi (x : Nat) : x < 2 ^ bl x := by
  unfold bl
  by_cases h : x = 0
  · subst h
    decide
  · rw [if_neg h]
    exact Nat.lt_log2_self
theorem bl_pos {x : Nat} (h : x ≠ 0) : 0 < bl x := by
  unfold bl
  rw [if_neg h]
  omega
theorem bl_le {x n : Nat} : bl x ≤ n ↔ x < 2 ^ n := by
  constructor
  · intro h
    exact Nat.lt_of_lt_of_le (bl_hi x) (Nat.pow_le_pow_right (by decide) h)
  · intro h
    apply Nat.le_of_not_lt
    intro q
    by_cases hx : x = 0
    · subst hx
      simp [bl] at q
    · have h1 := bl_lo hx
      have h2 : 2 ^ n ≤ 2 ^ (bl x - 1) := Nat.pow_le_pow_right (by decide) (by omega)
      omega
theorem len_step {d n : Int} (hn : 1 ≤ n) (h : 0 ≤ d ∧ d < 2 ^ n.toNat) (hb : d / 2 ^ (n - 1).toNat % 2 = 0) : d < 2 ^ (n - 1).toNat := by
  have e : n.toNat = (n - 1).toNat + 1 := by omega
  rw [e, Int.pow_succ] at h
  have hp := ppos (n - 1).toNat
  generalize (2 : Int) ^ (n - 1).toNat = P at h hb hp ⊢
  have h1 : 0 ≤ d / P := Int.ediv_nonneg h.1 (Int.le_of_lt hp)
  have h2 : d / P < 2 := Int.ediv_lt_of_lt_mul hp (by omega)
  have h3 : d / P = 0 := by omega
  have h4 := Int.emod_add_mul_ediv d P
  rw [h3] at h4
  have h5 := Int.emod_lt_of_pos d hp
  omega
theorem len_step' {d n : Int} (hn : 1 ≤ n) (h : 0 ≤ d) (hb : ¬ d / 2 ^ (n - 1).toNat % 2 = 0) : 2 ^ (n - 1).toNat ≤ d := by
  apply Int.not_lt.mp
  intro q
  rw [Int.ediv_eq_zero_of_lt h q] at hb
  exact hb rfl
theorem len_end {W : Int → Int} {r k n : Int} (hD : Dg W) (hk : 0 ≤ k ∧ k < 64) (hz : ∀ j : Int, k < j → j < 64 → W (64 * r + j) = 0) (hn : 1 ≤ n ∧ n ≤ 32) (h1 : 2 ^ (n - 1).toNat ≤ W (64 * r + k)) (h2 : W (64 * r + k) < 2 ^ n.toNat) : 32 * k + n = ((bl (rv W r) : Nat) : Int) := by
  obtain ⟨m, rfl⟩ := Int.eq_ofNat_of_zero_le hk.1
  obtain ⟨q, rfl⟩ : ∃ q : Nat, n = (q : Int) + 1 := ⟨(n - 1).toNat, by omega⟩
  have e1 : ((q : Int) + 1 - 1).toNat = q := by omega
  have e2 : ((q : Int) + 1).toNat = q + 1 := by omega
  rw [e1] at h1
  rw [e2] at h2
  have e64 : (64 : Nat) = m + 1 + (63 - m) := by omega
  have ev : vz W (64 * r) 64 = vz W (64 * r) m + W (64 * r + (m : Int)) * 2 ^ (32 * m) := by
    conv => lhs; rw [e64]
    rw [vz_split, vz_s, vz_zero (W := W) (o := 64 * r + ((m + 1 : Nat) : Int)) (fun j h0 hj => by
      rw [Int.add_assoc]
      exact hz _ (by omega) (by omega))]
    simp
  have hlo := vz_nn hD (64 * r) m
  have hhi := vz_lt hD (64 * r) m
  have hp := p32p m
  have hb : bl (rv W r) = 32 * m + q + 1 := by
    apply bl_of
    · have : (2 : Int) ^ (32 * m + q) ≤ (rv W r : Int) := by
        rw [rv_z hD, ev, pow_split]
        have := Int.mul_le_mul_of_nonneg_right h1 (Int.le_of_lt hp)
        have : (2 : Int) ^ (32 * m) * 2 ^ q = 2 ^ q * 2 ^ (32 * m) := Int.mul_comm _ _
        omega
      exact_mod_cast this
    · have : (rv W r : Int) < (2 : Int) ^ (32 * m + q + 1) := by
        rw [rv_z hD, ev, Nat.add_assoc, pow_split]
        have := Int.mul_le_mul_of_nonneg_right (show W (64 * r + (m : Int)) + 1 ≤ 2 ^ (q + 1) by omega) (Int.le_of_lt hp)
        rw [Int.add_mul, Int.one_mul] at this
        have : (2 : Int) ^ (32 * m) * 2 ^ (q + 1) = 2 ^ (q + 1) * 2 ^ (32 * m) := Int.mul_comm _ _
        omega
      exact_mod_cast this
  rw [hb]
  omega
theorem bl_z {W : Int → Int} {r : Int} (hz : ∀ j : Int, -1 < j → j < 64 → W (64 * r + j) = 0) : 0 = ((bl (rv W r) : Nat) : Int) := by
  rw [rv_zero (fun i h1 h2 => by
    have := hz (i - 64 * r) (by omega) (by omega)
    have e : 64 * r + (i - 64 * r) = i := by omega
    rw [e] at this
    exact this)]
  rfl
theorem bit_rv {W : Int → Int} {r i : Int} (hD : Dg W) (hi : 0 ≤ i ∧ i < 2048) : W (64 * r + i / 32) / 2 ^ (i % 32).toNat % 2 = ((rv W r / 2 ^ i.toNat % 2 : Nat) : Int) := by
  obtain ⟨n, rfl⟩ := Int.eq_ofNat_of_zero_le hi.1
  have e1 : ((n : Int)) / 32 = ((n / 32 : Nat) : Int) := by omega
  have e2 : (((n : Int)) % 32).toNat = n % 32 := by omega
  have e3 : ((n : Int)).toNat = n := by omega
  rw [e1, e2, e3, vz_dig hD (o := 64 * r) (k := n / 32) (n := 64) (by omega), ← rv_z hD]
  have h : ((rv W r : Nat) : Int) / 2 ^ (32 * (n / 32)) % 4294967296 / 2 ^ (n % 32) % 2 = ((rv W r / 2 ^ (32 * (n / 32)) % 4294967296 / 2 ^ (n % 32) % 2 : Nat) : Int) := by
    simp
  rw [h]
  congr 1
  have e5 : (4294967296 : Nat) = 2 ^ (n % 32) * 2 ^ (32 - n % 32) := by
    rw [← Nat.pow_add, Nat.add_sub_cancel' (by omega)]
  have e6 : 2 ^ (32 - n % 32) = 2 * 2 ^ (31 - n % 32) := by
    rw [show 32 - n % 32 = (31 - n % 32) + 1 by omega, Nat.pow_succ, Nat.mul_comm]
  rw [e5, Nat.mod_mul_right_div_self, Nat.div_div_eq_div_mul, ← Nat.pow_add, show 32 * (n / 32) + n % 32 = n by omega, e6, Nat.mod_mul_right_mod]
theorem up_or {hi lo b : Int} (h1 : 0 ≤ hi ∧ hi < 4294967296) (h2 : 0 ≤ lo ∧ lo < 4294967296) (hb : 0 ≤ b ∧ b < 32) : zor6 (hi * 2 ^ b.toNat) (lo / 2 ^ (32 - b).toNat) = hi * 2 ^ b.toNat + lo / 2 ^ (32 - b).toNat := by
  obtain ⟨n, rfl⟩ := Int.eq_ofNat_of_zero_le hb.1
  have e1 : ((n : Int)).toNat = n := by omega
  have e2 : (32 - (n : Int)).toNat = 32 - n := by omega
  rw [e1, e2]
  have e3 : (4294967296 : Int) = 2 ^ (32 - n) * 2 ^ n := by
    rw [← pow_split, Nat.sub_add_cancel (by omega)]
    rfl
  have h3 : lo / 2 ^ (32 - n) < 2 ^ n := by
    apply Int.ediv_lt_of_lt_mul (ppos _)
    rw [Int.mul_comm, ← e3]
    exact h2.2
  have h4 : 0 ≤ lo / 2 ^ (32 - n) := Int.ediv_nonneg h2.1 (Int.le_of_lt (ppos _))
  have h5 : (2 : Int) ^ n ≤ 2 ^ 31 := by
    have : 2 ^ n ≤ 2 ^ 31 := Nat.pow_le_pow_right (by decide) (by omega)
    exact_mod_cast this
  have h6 : (hi + 1) * 2 ^ n ≤ 4294967296 * 2 ^ 31 := Int.mul_le_mul (by omega) h5 (Int.le_of_lt (ppos _)) (by decide)
  apply zor6_add' ⟨h4, h3⟩ h1.1
  rw [Int.add_mul, Int.one_mul] at h6
  have h7 : (4294967296 : Int) * 2 ^ 31 = 9223372036854775808 := by decide
  omega
