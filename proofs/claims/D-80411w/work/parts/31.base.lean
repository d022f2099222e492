/-! the system's classes, its arrays; small rows for booleans -/
set_option maxRecDepth 100000
def TX0_ : u_T := fun _ => ("", "", "", false)
abbrev vwCl : List vw_C := [(RX8, TX8, 10), (RX1, TX1, 17), (RX7, TX7, 2), (RX9, TX9, 2), (RX2, TX0_, 0), (RX4, TX0_, 0), (RX5, TX0_, 0), (RX6, TX0_, 0), (RJ9, TX0_, 0)]
abbrev tyA (dA : Nat → ClassId) : List (ClassId × FieldType) := [(dA 0, .int), (dA 1, .long), (dA 2, .object "NumberModels$Rounds"), (dA 3, .object "NumberModels$Item"), (dA 4, .array .int)]
theorem nar_z {z : Int} (h : z = 0 ∨ z = 1) : narrow .boolean (.int (I3 z)) = .int (I3 z) := by
  rcases h with rfl | rfl <;> rfl
theorem fit_z {z : Int} (h : z = 0 ∨ z = 1) : fits .boolean (.int (I3 z)) = true := by
  rcases h with rfl | rfl <;> rfl
/-- digits of 32 bits; the number that n of them stand for -/
abbrev Dg (W : Int → Int) : Prop := ∀ i : Int, 0 ≤ W i ∧ W i < 4294967296
/-- the number that n words from o on stand for -/
def vz (W : Int → Int) (o : Int) : Nat → Int
  | 0 => 0
  | n + 1 => vz W o n + W (o + (n : Int)) * 2 ^ (32 * n)
theorem Dg_uZ {W : Int → Int} (h : Dg W) {i v : Int} (h0 : 0 ≤ v) (h1 : v < 4294967296) : Dg (uZ W i v) := by
  intro j
  unfold uZ
  split
  · exact ⟨h0, h1⟩
  · exact h j
/-- a row of the model's table -/
def rv (W : Int → Int) (r : Int) : Nat := (vz W (64 * r) 64).toNat
abbrev Fr (W W1 : Int → Int) (r : Int) : Prop := ∀ i : Int, ¬ (64 * r ≤ i ∧ i < 64 * r + 64) → W1 i = W i
theorem Fr_rf {W : Int → Int} {r : Int} : Fr W W r := fun _ _ => rfl
theorem Fr_uZ {W W1 : Int → Int} {r i v : Int} (h : Fr W W1 r) (hi : 64 * r ≤ i ∧ i < 64 * r + 64) : Fr W (uZ W1 i v) r := by
  intro j hj
  rw [uZ_n (by omega)]
  exact h j hj
theorem Fr_tr {W W1 W2 : Int → Int} {r : Int} (h : Fr W W1 r) (h2 : Fr W1 W2 r) : Fr W W2 r := fun j hj => (h2 j hj).trans (h j hj)
theorem vz_congr {W W1 : Int → Int} {o o1 : Int} : ∀ {n : Nat}, (∀ k : Int, 0 ≤ k → k < (n : Int) → W (o + k) = W1 (o1 + k)) → vz W o n = vz W1 o1 n
  | 0, _ => rfl
  | n + 1, h => by
    show vz W o n + W (o + (n : Int)) * _ = vz W1 o1 n + W1 (o1 + (n : Int)) * _
    rw [vz_congr (n := n) (fun k h0 hk => h k h0 (by omega)), h n (by omega) (by omega)]
theorem Fr_rv {W W1 : Int → Int} {r r' : Int} (h : Fr W W1 r) (hr : r' ≠ r) : rv W1 r' = rv W r' := by
  unfold rv
  rw [vz_congr (W := W1) (W1 := W) (o1 := 64 * r')]
  intro k h0 hk
  exact h _ (by omega)
theorem p32 (n : Nat) : (2 : Int) ^ (32 * (n + 1)) = 2 ^ (32 * n) * 4294967296 := by
  rw [Nat.mul_add, Int.pow_add]
  rfl
theorem p32p (n : Nat) : (0 : Int) < 2 ^ (32 * n) := Int.pow_pos (by decide)
theorem vz_s (W : Int → Int) (o : Int) (n : Nat) : vz W o (n + 1) = vz W o n + W (o + (n : Int)) * 2 ^ (32 * n) := rfl
theorem vz_nn {W : Int → Int} (h : Dg W) (o : Int) : ∀ n : Nat, 0 ≤ vz W o n
  | 0 => Int.le_refl 0
  | n + 1 => by
    have h1 := vz_nn h o n
    have h2 := Int.mul_nonneg (h (o + (n : Int))).1 (Int.le_of_lt (p32p n))
    rw [vz_s]
    omega
theorem vz_lt {W : Int → Int} (h : Dg W) (o : Int) : ∀ n : Nat, vz W o n < 2 ^ (32 * n)
  | 0 => by show (0 : Int) < 2 ^ (32 * 0); decide
  | n + 1 => by
    have h1 := vz_lt h o n
    have h2 : W (o + (n : Int)) * 2 ^ (32 * n) ≤ 4294967295 * 2 ^ (32 * n) := Int.mul_le_mul_of_nonneg_right (by have := (h (o + (n : Int))).2; omega) (Int.le_of_lt (p32p n))
    rw [vz_s, p32]
    omega
theorem rv_z {W : Int → Int} (h : Dg W) (r : Int) : ((rv W r : Nat) : Int) = vz W (64 * r) 64 := Int.toNat_of_nonneg (vz_nn h _ _)
/-- 2 to the 2048, kept closed -/
def BN : Nat := 2 ^ 2048
theorem BN_pos : 0 < BN := Nat.two_pow_pos 2048
theorem BN_z : ((BN : Nat) : Int) = 2 ^ (32 * 64) := by
  show ((2 ^ 2048 : Nat) : Int) = 2 ^ 2048
  rw [pw_cast]
theorem rv_lt {W : Int → Int} (h : Dg W) (r : Int) : rv W r < BN := by
  have h1 := vz_lt h (64 * r) 64
  rw [← rv_z h, ← BN_z] at h1
  exact_mod_cast h1
/-- a written word beyond, or ahead -/
theorem vz_uo {W : Int → Int} {o i v : Int} {n : Nat} (h : i < o ∨ o + (n : Int) ≤ i) : vz (uZ W i v) o n = vz W o n := vz_congr (fun k h0 h1 => uZ_n (by omega))
theorem vz_split (W : Int → Int) (o : Int) (i : Nat) : ∀ j : Nat, vz W o (i + j) = vz W o i + 2 ^ (32 * i) * vz W (o + (i : Int)) j
  | 0 => by simp [vz]
  | j + 1 => by
    rw [← Nat.add_assoc, vz_s, vz_s, vz_split W o i j, Nat.mul_add, Int.pow_add]
    have e : o + ((i + j : Nat) : Int) = o + (i : Int) + (j : Int) := by omega
    rw [e]
    grind
/-- one word changed in its place -/
theorem vz_u {W : Int → Int} {o v : Int} {k n : Nat} (h : k < n) : vz (uZ W (o + (k : Int)) v) o n = vz W o n + (v - W (o + (k : Int))) * 2 ^ (32 * k) := by
  obtain ⟨m, rfl⟩ : ∃ m, n = k + 1 + m := ⟨n - (k + 1), by omega⟩
  rw [vz_split _ _ (k + 1), vz_split _ _ (k + 1), vz_s, vz_s, vz_uo (Or.inr (by omega)), vz_uo (o := o + ((k + 1 : Nat) : Int)) (Or.inl (by omega)), uZ_s]
  grind
theorem vz_zero {W : Int → Int} {o : Int} : ∀ {n : Nat}, (∀ k : Int, 0 ≤ k → k < (n : Int) → W (o + k) = 0) → vz W o n = 0
  | 0, _ => rfl
  | n + 1, h => by
    rw [vz_s, vz_zero (n := n) (fun k h0 hk => h k h0 (by omega)), h n (by omega) (by omega)]
    simp
theorem vz_eq0 {W : Int → Int} (hD : Dg W) {o : Int} : ∀ {n : Nat}, vz W o n = 0 → ∀ k : Int, 0 ≤ k → k < (n : Int) → W (o + k) = 0
  | 0, _, k, h0, hk => by omega
  | n + 1, h, k, h0, hk => by
    rw [vz_s] at h
    have h1 := vz_nn hD o n
    have h2 := Int.mul_nonneg (hD (o + (n : Int))).1 (Int.le_of_lt (p32p n))
    by_cases e : k < (n : Int)
    · exact vz_eq0 hD (n := n) (by omega) k h0 e
    · have : k = (n : Int) := by omega
      subst this
      have h3 : W (o + (n : Int)) * 2 ^ (32 * n) = 0 := by omega
      rcases Int.mul_eq_zero.mp h3 with q | q
      · exact q
      · exact absurd q (Int.ne_of_gt (p32p n))
/-- the digit out of the number -/
theorem vz_dig {W : Int → Int} (hD : Dg W) {o : Int} {k n : Nat} (h : k < n) : W (o + (k : Int)) = vz W o n / 2 ^ (32 * k) % 4294967296 := by
  obtain ⟨m, rfl⟩ : ∃ m, n = k + 1 + m := ⟨n - (k + 1), by omega⟩
  rw [vz_split _ _ (k + 1), vz_s, p32]
  have h1 := vz_nn hD o k
  have h2 := vz_lt hD o k
  have h3 := p32p k
  have e : vz W o k + W (o + (k : Int)) * 2 ^ (32 * k) + 2 ^ (32 * k) * 4294967296 * vz W (o + ((k + 1 : Nat) : Int)) m = vz W o k + (W (o + (k : Int)) + 4294967296 * vz W (o + ((k + 1 : Nat) : Int)) m) * 2 ^ (32 * k) := by grind
  rw [e, Int.add_mul_ediv_right _ _ (Int.ne_of_gt h3), Int.ediv_eq_zero_of_lt h1 h2]
  have := hD (o + (k : Int))
  omega
theorem vz_ext {W W1 : Int → Int} (hD : Dg W) (hD1 : Dg W1) {o o1 : Int} {n : Nat} (h : vz W o n = vz W1 o1 n) : ∀ k : Int, 0 ≤ k → k < (n : Int) → W (o + k) = W1 (o1 + k) := by
  intro k h0 hk
  obtain ⟨j, rfl⟩ := Int.eq_ofNat_of_zero_le h0
  rw [vz_dig hD (o := o) (k := j) (n := n) (by omega), vz_dig hD1 (o := o1) (k := j) (n := n) (by omega), h]
theorem vz_cmp {W W1 : Int → Int} (hD : Dg W) (hD1 : Dg W1) {o o1 : Int} {k n : Nat} (hk : k < n) (he : ∀ j : Int, (k : Int) < j → j < (n : Int) → W (o + j) = W1 (o1 + j)) (hl : W (o + (k : Int)) < W1 (o1 + (k : Int))) : vz W o n < vz W1 o1 n := by
  obtain ⟨m, rfl⟩ : ∃ m, n = k + 1 + m := ⟨n - (k + 1), by omega⟩
  rw [vz_split _ _ (k + 1), vz_split W1 _ (k + 1), vz_s, vz_s]
  have e : vz W (o + ((k + 1 : Nat) : Int)) m = vz W1 (o1 + ((k + 1 : Nat) : Int)) m := vz_congr (fun j h0 hj => by
    have := he (((k + 1 : Nat) : Int) + j) (by omega) (by omega)
    rw [Int.add_assoc, Int.add_assoc]
    exact this)
  rw [e]
  have h1 := vz_nn hD1 o1 k
  have h2 := vz_lt hD o k
  have h3 : W (o + (k : Int)) * 2 ^ (32 * k) + 2 ^ (32 * k) ≤ W1 (o1 + (k : Int)) * 2 ^ (32 * k) := by
    have := Int.mul_le_mul_of_nonneg_right (show W (o + (k : Int)) + 1 ≤ W1 (o1 + (k : Int)) by omega) (Int.le_of_lt (p32p k))
    rw [Int.add_mul, Int.one_mul] at this
    exact this
  omega
