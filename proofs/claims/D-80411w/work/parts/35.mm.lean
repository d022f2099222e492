/-! pure laws of rows of words -/
set_option maxRecDepth 100000
theorem vz_front (W : Int → Int) (o : Int) (n : Nat) : vz W o (n + 1) = W o + 4294967296 * vz W (o + 1) n := by
  rw [Nat.add_comm n 1, vz_split W o 1 n]
  have e : vz W o 1 = W o := by
    rw [vz_s]
    simp [vz]
  rw [e]
  rfl
theorem zor6_n {a b : Nat} (ha : a < 2 ^ 63) (hb : b < 2 ^ 63) : zor6 (a : Int) (b : Int) = ((a ||| b : Nat) : Int) := by
  have hab : a ||| b < 2 ^ 63 := Nat.or_lt_two_pow ha hb
  have e : (L6 (a : Int) ||| L6 (b : Int)) = L6 ((a ||| b : Nat) : Int) := by
    apply Int64.toBitVec_inj.mp
    rw [Int64.toBitVec_or]
    show BitVec.ofInt 64 (a : Int) ||| BitVec.ofInt 64 (b : Int) = BitVec.ofInt 64 ((a ||| b : Nat) : Int)
    rw [BitVec.ofInt_natCast, BitVec.ofInt_natCast, BitVec.ofInt_natCast]
    apply BitVec.eq_of_toNat_eq
    rw [BitVec.toNat_or, BitVec.toNat_ofNat, BitVec.toNat_ofNat, BitVec.toNat_ofNat, Nat.mod_eq_of_lt (by omega), Nat.mod_eq_of_lt (by omega), Nat.mod_eq_of_lt (by omega)]
  rw [zor6, e, L6_t]
  constructor <;> omega
/-- apart in their bits: 'or' adds -/
theorem zor6_add {x y : Int} {k : Nat} (hx : 0 ≤ x ∧ x < 2 ^ k) (hy : 0 ≤ y) (hs : x + y * 2 ^ k < 9223372036854775808) : zor6 x (y * 2 ^ k) = x + y * 2 ^ k := by
  obtain ⟨a, rfl⟩ := Int.eq_ofNat_of_zero_le hx.1
  obtain ⟨b, rfl⟩ := Int.eq_ofNat_of_zero_le hy
  have hp : ((b : Int) * 2 ^ k) = ((b * 2 ^ k : Nat) : Int) := by simp
  have ha : a < 2 ^ k := by
    have := hx.2
    exact_mod_cast this
  rw [hp] at hs ⊢
  rw [zor6_n (by omega) (by omega), Nat.or_comm, Nat.mul_comm b, ← Nat.two_pow_add_eq_or_of_lt ha]
  omega
theorem zor6_comm (x y : Int) : zor6 x y = zor6 y x := by
  unfold zor6
  rw [Int64.or_comm]
theorem zor6_add' {x y : Int} {k : Nat} (hx : 0 ≤ x ∧ x < 2 ^ k) (hy : 0 ≤ y) (hs : x + y * 2 ^ k < 9223372036854775808) : zor6 (y * 2 ^ k) x = y * 2 ^ k + x := by
  rw [zor6_comm, zor6_add hx hy hs, Int.add_comm]
def cmpN (x y : Nat) : Int := if x < y then -1 else if x = y then 0 else 1
theorem set_rv {W1 : Int → Int} {r v : Int} (hz : ∀ i : Int, 64 * r ≤ i → i < 64 * r + 64 → W1 i = 0) : rv (uZ (uZ W1 (64 * r) (v % 4294967296)) (64 * r + 1) (v % 18446744073709551616 / 4294967296)) r = (v % 18446744073709551616).toNat := by
  unfold rv
  have h1 := vz_u (W := uZ W1 (64 * r) (v % 4294967296)) (o := 64 * r) (v := v % 18446744073709551616 / 4294967296) (k := 1) (n := 64) (by decide)
  have h0 := vz_u (W := W1) (o := 64 * r) (v := v % 4294967296) (k := 0) (n := 64) (by decide)
  have hz0 : vz W1 (64 * r) 64 = 0 := vz_zero (fun k h1 h2 => hz _ (by omega) (by omega))
  have e0 : 64 * r + ((0 : Nat) : Int) = 64 * r := by omega
  have e1 : 64 * r + ((1 : Nat) : Int) = 64 * r + 1 := by omega
  rw [e0, hz0, hz _ (by omega) (by omega)] at h0
  rw [e1, h0, uZ_n (by omega), hz _ (by omega) (by omega)] at h1
  rw [h1]
  congr 1
  omega
theorem copy_rv {W W1 : Int → Int} {a b : Int} (h : ∀ k : Int, 0 ≤ k → k < 64 → W1 (64 * b + k) = W (64 * a + k)) : rv W1 b = rv W a := by
  unfold rv
  rw [vz_congr (W := W1) (W1 := W) (o1 := 64 * a)]
  intro k h0 hk
  exact h k h0 (by omega)
theorem rv_zero {W : Int → Int} {r : Int} (h : ∀ i : Int, 64 * r ≤ i → i < 64 * r + 64 → W i = 0) : rv W r = 0 := by
  unfold rv
  rw [vz_zero (fun k h1 h2 => h _ (by omega) (by omega))]
  rfl
theorem rv_ne0 {W : Int → Int} (hD : Dg W) {r k : Int} (hk : 0 ≤ k ∧ k < 64) (h : ¬ W (64 * r + k) = 0) : ¬ rv W r = 0 := by
  intro q
  have q2 := rv_z hD r
  rw [q] at q2
  exact h (vz_eq0 hD q2.symm k hk.1 (by omega))
theorem cmp_eq {W : Int → Int} {a b : Int} (h : ∀ j : Int, -1 < j → j < 64 → W (64 * a + j) = W (64 * b + j)) : 0 = cmpN (rv W a) (rv W b) := by
  have e : rv W a = rv W b := copy_rv (fun k h0 hk => h k (by omega) hk)
  unfold cmpN
  rw [e, if_neg (Nat.lt_irrefl _), if_pos rfl]
theorem rv_ltc {W : Int → Int} (hD : Dg W) {a b k : Int} (hk : 0 ≤ k ∧ k < 64) (h : ∀ j : Int, k < j → j < 64 → W (64 * a + j) = W (64 * b + j)) (hl : W (64 * a + k) < W (64 * b + k)) : rv W a < rv W b := by
  obtain ⟨n, rfl⟩ := Int.eq_ofNat_of_zero_le hk.1
  have := vz_cmp hD hD (o := 64 * a) (o1 := 64 * b) (k := n) (n := 64) (by omega) (fun j h1 h2 => h j h1 (by omega)) hl
  rw [← rv_z hD, ← rv_z hD] at this
  omega
theorem cmp_lt {W : Int → Int} (hD : Dg W) {a b k : Int} (hk : 0 ≤ k ∧ k < 64) (h : ∀ j : Int, k < j → j < 64 → W (64 * a + j) = W (64 * b + j)) (hl : W (64 * a + k) < W (64 * b + k)) : -1 = cmpN (rv W a) (rv W b) := by
  have := rv_ltc hD hk h hl
  unfold cmpN
  rw [if_pos this]
theorem cmp_gt {W : Int → Int} (hD : Dg W) {a b k : Int} (hk : 0 ≤ k ∧ k < 64) (h : ∀ j : Int, k < j → j < 64 → W (64 * a + j) = W (64 * b + j)) (hl : W (64 * b + k) < W (64 * a + k)) : 1 = cmpN (rv W a) (rv W b) := by
  have := rv_ltc hD hk (fun j h1 h2 => (h j h1 h2).symm) hl
  unfold cmpN
  rw [if_neg (by omega), if_neg (by omega)]
theorem vzs {W : Int → Int} {o k : Int} (hk : 0 ≤ k) : vz W o (k + 1).toNat = vz W o k.toNat + W (o + k) * 2 ^ (32 * k.toNat) := by
  obtain ⟨n, rfl⟩ := Int.eq_ofNat_of_zero_le hk
  exact vz_s W o n
theorem p32z {k : Int} (hk : 0 ≤ k) : (2 : Int) ^ (32 * (k + 1).toNat) = 2 ^ (32 * k.toNat) * 4294967296 := by
  obtain ⟨n, rfl⟩ := Int.eq_ofNat_of_zero_le hk
  exact p32 n
theorem add_step {W W1 : Int → Int} {a b k c : Int} (hk : 0 ≤ k ∧ k < 64) (hab : a ≠ b) (ha : W1 (64 * a + k) = W (64 * a + k)) (hb : W1 (64 * b + k) = W (64 * b + k)) (hI : vz W1 (64 * a) k.toNat + c * 2 ^ (32 * k.toNat) = vz W (64 * a) k.toNat + vz W (64 * b) k.toNat) :
    vz (uZ W1 (64 * a + k) ((W1 (64 * a + k) + W1 (64 * b + k) + c) % 4294967296)) (64 * a) (k + 1).toNat + (W1 (64 * a + k) + W1 (64 * b + k) + c) / 4294967296 * 2 ^ (32 * (k + 1).toNat) = vz W (64 * a) (k + 1).toNat + vz W (64 * b) (k + 1).toNat := by
  rw [vzs hk.1, vzs hk.1, vzs hk.1, p32z hk.1, vz_uo (Or.inr (by omega)), uZ_s, ha, hb]
  have h := Int.emod_add_mul_ediv (W (64 * a + k) + W (64 * b + k) + c) 4294967296
  generalize (W (64 * a + k) + W (64 * b + k) + c) % 4294967296 = d at h ⊢
  generalize (W (64 * a + k) + W (64 * b + k) + c) / 4294967296 = q at h ⊢
  grind
theorem add_end {W W1 : Int → Int} {a b c : Int} (hD : Dg W) (hD1 : Dg W1) (hI : vz W1 (64 * a) (64 : Int).toNat + c * 2 ^ (32 * (64 : Int).toNat) = vz W (64 * a) (64 : Int).toNat + vz W (64 * b) (64 : Int).toNat) : rv W1 a = (rv W a + rv W b) % BN := by
  have e : (64 : Int).toNat = 64 := rfl
  rw [e, ← rv_z hD1, ← rv_z hD, ← rv_z hD, ← BN_z] at hI
  have h1 := rv_lt hD1 a
  have e2 : ((rv W a : Int) + rv W b) % (BN : Int) = (rv W1 a : Int) := by
    rw [← hI, Int.add_mul_emod_self_right]
    exact Int.emod_eq_of_lt (by omega) (by omega)
  have e4 : (((rv W a + rv W b) % BN : Nat) : Int) = ((rv W a : Int) + rv W b) % (BN : Int) := by
    rw [Int.natCast_emod, Int.natCast_add]
  omega
theorem take_step {W W1 : Int → Int} {a b k c v d : Int} (hk : 0 ≤ k ∧ k < 64) (ha : W1 (64 * a + k) = W (64 * a + k)) (hb : W1 (64 * b + k) = W (64 * b + k)) (hI : vz W1 (64 * a) k.toNat + vz W (64 * b) k.toNat = vz W (64 * a) k.toNat + c * 2 ^ (32 * k.toNat)) (hv : v = W1 (64 * a + k) - W1 (64 * b + k) - c) (hd : v + d * 4294967296 = v % 4294967296) :
    vz (uZ W1 (64 * a + k) (v % 4294967296)) (64 * a) (k + 1).toNat + vz W (64 * b) (k + 1).toNat = vz W (64 * a) (k + 1).toNat + d * 2 ^ (32 * (k + 1).toNat) := by
  rw [vzs hk.1, vzs hk.1, vzs hk.1, p32z hk.1, vz_uo (Or.inr (by omega)), uZ_s]
  rw [ha, hb] at hv
  rw [← hd, hv]
  grind
theorem take_end {W W1 : Int → Int} {a b c : Int} (hD : Dg W) (hD1 : Dg W1) (hab : rv W b ≤ rv W a) (hc : 0 ≤ c ∧ c ≤ 1) (hI : vz W1 (64 * a) (64 : Int).toNat + vz W (64 * b) (64 : Int).toNat = vz W (64 * a) (64 : Int).toNat + c * 2 ^ (32 * (64 : Int).toNat)) : rv W1 a = rv W a - rv W b := by
  have e : (64 : Int).toNat = 64 := rfl
  rw [e, ← rv_z hD1, ← rv_z hD, ← rv_z hD] at hI
  have h1 := rv_lt hD1 a
  rw [← BN_z] at hI
  rcases (show c = 0 ∨ c = 1 by omega) with rfl | rfl
  · omega
  · omega
theorem ev_z {W : Int → Int} (hD : Dg W) (r : Int) : ((rv W r % 2 : Nat) : Int) = W (64 * r) % 2 := by
  rw [Int.natCast_emod, rv_z hD, vz_front W (64 * r) 63]
  omega
