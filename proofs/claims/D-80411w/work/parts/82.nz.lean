/-! leading and trailing zeros of a word -/
set_option maxRecDepth 100000
theorem nlz_s {y cc B p : Int} {s : Nat} (hp : (2 : Int) ^ s = p) (hy : p ≤ y) (hB : B + cc = 31 + ((bl y.toNat : Nat) : Int)) : B + (cc - (s : Int)) = 31 + ((bl (y / p).toNat : Nat) : Int) := by
  have h0 := ppos s
  obtain ⟨n, rfl⟩ := Int.eq_ofNat_of_zero_le (show 0 ≤ y by omega)
  rw [← pw_cast] at hp
  subst hp
  have h1 : 2 ^ s ≤ n := Int.ofNat_le.mp hy
  have h2 := bl_div h1
  have e : (((n : Int)) / ((2 ^ s : Nat) : Int)).toNat = n / 2 ^ s := by
    rw [← Int.natCast_ediv]
    exact Int.toNat_natCast _
  have e2 : ((n : Int)).toNat = n := Int.toNat_natCast _
  rw [e2] at hB
  rw [e]
  omega
theorem nlz_0 {x : Int} (h : In3 x) (h0 : 0 < x) : ((bl (x % 4294967296).toNat : Nat) : Int) + 31 = 31 + ((bl x.toNat : Nat) : Int) := by
  rw [show x % 4294967296 = x by omega]
  omega
theorem nlz_n {x : Int} (h : In3 x) (h0 : x ≤ 0) (h1 : ¬ x = 0) : bl (x % 4294967296).toNat = 32 := by
  apply bl_of (n := 31)
  · have : (2 : Nat) ^ 31 = 2147483648 := by decide
    omega
  · have : (2 : Nat) ^ (31 + 1) = 4294967296 := by decide
    omega
theorem nlz_e {y : Int} (h : 1 ≤ y ∧ y < 4) : ((bl y.toNat : Nat) : Int) = 1 + y / 2 := by
  rcases (show y = 1 ∨ y = 2 ∨ y = 3 by omega) with rfl | rfl | rfl <;> decide
theorem tz_ex' : ∀ n : Nat, ∀ x : Int, x ≠ 0 → x.natAbs < 2 ^ n → ∃ t : Nat, t < n ∧ ∃ w : Int, x = 2 ^ t * (2 * w + 1)
  | 0, x, h0, h => by
    have : (2 : Nat) ^ 0 = 1 := rfl
    omega
  | n + 1, x, h0, h => by
    by_cases c : x % 2 = 1
    · exact ⟨0, by omega, x / 2, by rw [Int.pow_zero]; omega⟩
    · have h2 : (2 : Nat) ^ (n + 1) = 2 ^ n * 2 := Nat.pow_succ 2 n
      obtain ⟨t, ht, w, hw⟩ := tz_ex' n (x / 2) (by omega) (by omega)
      refine ⟨t + 1, by omega, w, ?_⟩
      have h3 : x = 2 * (x / 2) := by omega
      rw [h3, hw, Int.pow_succ]
      grind
theorem tz_ex {x : Int} (h : In3 x) (h0 : ¬ x = 0) : ∃ t : Nat, t < 32 ∧ ∃ w : Int, x = 2 ^ t * (2 * w + 1) := tz_ex' 32 x h0 (by
  have : (2 : Nat) ^ 32 = 4294967296 := by decide
  omega)
theorem tz_or {x : Int} {t : Nat} (ht : t < 32) {w : Int} (hx : x = 2 ^ t * (2 * w + 1)) : ∃ j : Nat, I3 x = I3 ((2 ^ (t + 1) * j + 2 ^ t : Nat) : Int) ∧ I3 (x - 1) = I3 ((2 ^ (t + 1) * j + (2 ^ t - 1) : Nat) : Int) := by
  have hp := ppos (31 - t)
  refine ⟨(w % 2 ^ (31 - t)).toNat, ?_⟩
  have e0 : (((w % 2 ^ (31 - t)).toNat : Nat) : Int) = w % 2 ^ (31 - t) := Int.toNat_of_nonneg (Int.emod_nonneg _ (Int.ne_of_gt hp))
  have e1 : ((2 ^ (t + 1) * (w % 2 ^ (31 - t)).toNat + 2 ^ t : Nat) : Int) = 2 ^ (t + 1) * (w % 2 ^ (31 - t)) + 2 ^ t := by
    rw [Int.natCast_add, Int.natCast_mul, pw_cast, pw_cast, e0]
  have e2 := Int.emod_add_mul_ediv w (2 ^ (31 - t))
  have e3 : (2 : Int) ^ (t + 1) * 2 ^ (31 - t) = 4294967296 := by
    rw [← pow_split, show t + 1 + (31 - t) = 32 by omega]
    decide
  have e4 : x = (2 ^ (t + 1) * (w % 2 ^ (31 - t)) + 2 ^ t) + 4294967296 * (w / 2 ^ (31 - t)) := by
    rw [hx, ← e3]
    conv => lhs; rw [← e2]
    rw [Int.pow_succ]
    grind
  have h2 := Nat.two_pow_pos t
  have e5 : ((2 ^ (t + 1) * (w % 2 ^ (31 - t)).toNat + (2 ^ t - 1) : Nat) : Int) = ((2 ^ (t + 1) * (w % 2 ^ (31 - t)).toNat + 2 ^ t : Nat) : Int) - 1 := by
    generalize 2 ^ (t + 1) * (w % 2 ^ (31 - t)).toNat = z
    omega
  rw [e5, e1]
  generalize 2 ^ (t + 1) * (w % 2 ^ (31 - t)) + 2 ^ t = y at *
  generalize w / 2 ^ (31 - t) = q at *
  exact ⟨I3_congr (by omega), I3_congr (by omega)⟩
theorem tz_and {x : Int} {t : Nat} (ht : t < 32) {w : Int} (hx : x = 2 ^ t * (2 * w + 1)) : zand3 (zxor3 x (-1)) (x - 1) = 2 ^ t - 1 := by
  obtain ⟨j, h1, h2⟩ := tz_or ht hx
  have hp := Nat.two_pow_pos t
  have e1 : I3 (zxor3 x (-1)) = ~~~ (I3 x) := by
    unfold zxor3
    rw [I3_of]
    have e0 : I3 (-1) = -1 := rfl
    rw [e0, Int32.xor_neg_one]
  have e2 : (~~~ (I3 x) &&& I3 (x - 1)) = I3 ((2 ^ t - 1 : Nat) : Int) := by
    rw [h1, h2]
    apply Int32.toBitVec_inj.mp
    rw [Int32.toBitVec_and, Int32.toBitVec_not]
    show ~~~ (BitVec.ofInt 32 ((2 ^ (t + 1) * j + 2 ^ t : Nat) : Int)) &&& BitVec.ofInt 32 ((2 ^ (t + 1) * j + (2 ^ t - 1) : Nat) : Int) = BitVec.ofInt 32 ((2 ^ t - 1 : Nat) : Int)
    rw [BitVec.ofInt_natCast, BitVec.ofInt_natCast, BitVec.ofInt_natCast]
    apply BitVec.eq_of_getLsbD_eq
    intro i hi
    rw [BitVec.getLsbD_and, BitVec.getLsbD_not, BitVec.getLsbD_ofNat, BitVec.getLsbD_ofNat, BitVec.getLsbD_ofNat]
    have hlt : 2 ^ t < 2 ^ (t + 1) := Nat.pow_lt_pow_right (by decide) (by omega)
    rw [Nat.testBit_two_pow_mul_add _ hlt, Nat.testBit_two_pow_mul_add _ (show 2 ^ t - 1 < 2 ^ (t + 1) by omega), Nat.testBit_two_pow_sub_one, Nat.testBit_two_pow]
    by_cases c : i < t
    · simp [hi, c, show i < t + 1 by omega, show ¬ t = i by omega]
    · by_cases d : i = t
      · subst d
        simp [hi]
      · simp [hi, c, show ¬ i < t + 1 by omega]
  unfold zand3
  rw [e1, e2, I3_t]
  · have : ((2 ^ t - 1 : Nat) : Int) = 2 ^ t - 1 := by
      rw [Int.natCast_sub hp, pw_cast]
      rfl
    exact this
  · have hle : 2 ^ t ≤ 2 ^ 31 := Nat.pow_le_pow_right (by decide) (by omega)
    have h31 : (2 : Nat) ^ 31 = 2147483648 := by decide
    constructor <;> omega
theorem tz_c {u : Nat} (k : Nat) {p : Int} (hp : (2 : Int) ^ k = p) : (u ≤ k → (2 : Int) ^ u ≤ p) ∧ (k + 1 ≤ u → 2 * p ≤ (2 : Int) ^ u) := by
  subst hp
  refine ⟨fun h => pw_mon h, fun h => ?_⟩
  have := pw_mon h
  rw [Int.pow_succ] at this
  omega
theorem tz_s {u s : Nat} {p : Int} (hp : (2 : Int) ^ s = p) (hs : s ≤ u) (hu : u < 32) : ((2 : Int) ^ u - 1) % 4294967296 / p = 2 ^ (u - s) - 1 := by
  subst hp
  have h1 := ppos u
  have h2 := pw_mon (a := u) (b := 31) (by omega)
  have h3 : (2 : Int) ^ 31 = 2147483648 := by decide
  rw [Int.emod_eq_of_lt (by omega) (by omega)]
  have e : (2 : Int) ^ u = 2 ^ (u - s) * 2 ^ s := by rw [← pow_split, Nat.sub_add_cancel hs]
  have h4 := ppos s
  have h5 : (2 : Int) ^ u - 1 = (2 ^ s - 1) + (2 ^ (u - s) - 1) * 2 ^ s := by rw [e]; grind
  rw [h5, Int.add_mul_ediv_right _ _ (Int.ne_of_gt h4), Int.ediv_eq_zero_of_lt (by omega) (by omega), Int.zero_add]
theorem tz_i {u : Nat} (h : u < 32) : In3 ((2 : Int) ^ u - 1) := by
  have h1 := ppos u
  have h2 := pw_mon (a := u) (b := 31) (by omega)
  have h3 : (2 : Int) ^ 31 = 2147483648 := by decide
  constructor <;> omega
/-- the trailing zeros of many words: out of those of the first that isn't 0 -/
theorem tz_w {f : Int → Int} (hD : Dg f) {n k z : Int} (hk : 0 ≤ k ∧ k < n) (h0 : ∀ j : Int, 0 ≤ j → j < k → f j = 0) (hz : 0 ≤ z ∧ z < 32) {w : Int} (hw : sm3 (f k) = 2 ^ z.toNat * (2 * w + 1)) : ∃ q : Nat, wN n f = 2 ^ (32 * k + z).toNat * (2 * q + 1) := by
  obtain ⟨m, rfl⟩ := Int.eq_ofNat_of_zero_le hk.1
  obtain ⟨t, rfl⟩ := Int.eq_ofNat_of_zero_le hz.1
  have et : ((t : Int)).toNat = t := Int.toNat_natCast _
  rw [et] at hw
  have e0 := wN_z hD n
  obtain ⟨r, hr⟩ : ∃ r : Nat, n.toNat = m + (r + 1) := ⟨n.toNat - m - 1, by omega⟩
  have e1 : (0 : Int) + (m : Int) = (m : Int) := by omega
  rw [hr, vz_split, vz_zero (n := m) (fun j h1 h2 => by rw [Int.zero_add]; exact h0 j h1 (by omega)), vz_front, e1] at e0
  have e2 : f (m : Int) = 2 ^ t * (2 * w + 1) + 4294967296 * ((f (m : Int) + 2147483648) / 4294967296) := by
    have : sm3 (f (m : Int)) + 4294967296 * ((f (m : Int) + 2147483648) / 4294967296) = f (m : Int) := by
      unfold sm3
      omega
    omega
  have e3 : (4294967296 : Int) = 2 ^ t * (2 * 2 ^ (31 - t)) := by
    have : (2 : Int) ^ t * (2 * 2 ^ (31 - t)) = 2 ^ (t + 1) * 2 ^ (31 - t) := by
      rw [Int.pow_succ]
      grind
    rw [this, ← pow_split, show t + 1 + (31 - t) = 32 by omega]
    decide
  have e4 : ((wN n f : Nat) : Int) = 2 ^ (32 * m + t) * (2 * (w + 2 ^ (31 - t) * ((f (m : Int) + 2147483648) / 4294967296 + vz f ((m : Int) + 1) r)) + 1) := by
    obtain ⟨a, ha⟩ : ∃ a : Int, a = (f (m : Int) + 2147483648) / 4294967296 := ⟨_, rfl⟩
    rw [← ha] at e2 ⊢
    rw [e0, e2, pow_split]
    generalize vz f ((m : Int) + 1) r = b
    rw [e3]
    generalize (2 : Int) ^ t = T
    generalize (2 : Int) ^ (32 * m) = P
    generalize (2 : Int) ^ (31 - t) = S
    grind
  have e5 : (32 * (m : Int) + (t : Int)).toNat = 32 * m + t := by omega
  rw [e5]
  generalize hx : w + 2 ^ (31 - t) * ((f (m : Int) + 2147483648) / 4294967296 + vz f ((m : Int) + 1) r) = x at e4
  have h6 : 0 ≤ x := by
    apply Int.not_lt.mp
    intro q
    have h7 : (2 : Int) ^ (32 * m + t) * (2 * x + 1) < 0 := by
      have := Int.mul_lt_mul_of_pos_left (show 2 * x + 1 < 0 by omega) (ppos (32 * m + t))
      rw [Int.mul_zero] at this
      exact this
    have h8 : (0 : Int) ≤ ((wN n f : Nat) : Int) := Int.natCast_nonneg _
    omega
  obtain ⟨q, rfl⟩ := Int.eq_ofNat_of_zero_le h6
  refine ⟨q, ?_⟩
  apply Int.ofNat.inj
  show ((wN n f : Nat) : Int) = ((2 ^ (32 * m + t) * (2 * q + 1) : Nat) : Int)
  rw [e4, Int.natCast_mul, pw_cast]
  rfl
theorem cmpN_lt {x y : Nat} (h : x < y) : cmpN x y = -1 := by unfold cmpN; rw [if_pos h]
theorem cmpN_eq {x y : Nat} (h : x = y) : cmpN x y = 0 := by unfold cmpN; rw [if_neg (by omega), if_pos h]
theorem cmpN_gt {x y : Nat} (h : y < x) : cmpN x y = 1 := by unfold cmpN; rw [if_neg (by omega), if_neg (by omega)]
/-- sizes alike: the first words from above that differ decide -/
theorem wc_lt {f g : Int → Int} (hf : Dg f) (hg : Dg g) {n k : Int} (hk : 0 ≤ k ∧ k < n) (he : ∀ j : Int, k < j → j < n → f j = g j) (hl : f k < g k) : wN n f < wN n g := by
  obtain ⟨m, rfl⟩ := Int.eq_ofNat_of_zero_le hk.1
  have h := vz_cmp hf hg (o := 0) (o1 := 0) (k := m) (n := n.toNat) (by omega) (fun j h1 h2 => by rw [Int.zero_add]; exact he j h1 (by omega)) (by rw [Int.zero_add]; exact hl)
  rw [← wN_z hf, ← wN_z hg] at h
  omega
theorem wc_eq {f g : Int → Int} {n : Int} (he : ∀ j : Int, -1 < j → j < n → f j = g j) : wN n f = wN n g := wN_congr (fun j h1 h2 => he j (by omega) h2)
theorem low_w {n : Int} {f : Int → Int} (h : OKw n f) : sm6 (gW n f 0 + gW n f 1 * 4294967296) = sm6 ((wN n f : Nat) : Int) := by
  have e := gW_N h.2.1 (m := 64) h.1.1 (by have := h.1.2; omega)
  rw [vz_front (gW n f) 0 63, Int.zero_add, vz_front (gW n f) 1 62] at e
  rw [← e]
  unfold sm6
  omega
theorem set_w {f : Int → Int} (v : Int) (hD : Dg f) : wN 2 (uZ (uZ f 0 (v % 4294967296)) 1 (v % 18446744073709551616 / 4294967296)) = (v % 18446744073709551616).toNat := by
  unfold wN
  have e : (2 : Int).toNat = 2 := rfl
  rw [e, vz_front, vz_front]
  have e0 : uZ (uZ f 0 (v % 4294967296)) 1 (v % 18446744073709551616 / 4294967296) 0 = v % 4294967296 := by
    rw [uZ_n (by decide), uZ_s]
  have e1 : uZ (uZ f 0 (v % 4294967296)) 1 (v % 18446744073709551616 / 4294967296) (0 + 1) = v % 18446744073709551616 / 4294967296 := uZ_s
  rw [e0, e1]
  show (v % 4294967296 + 4294967296 * (v % 18446744073709551616 / 4294967296 + 4294967296 * 0)).toNat = _
  congr 1
  omega
/-- a copy of the first words -/
def cpZ (f g : Int → Int) (z : Int) : Int → Int := fun j => if 0 ≤ j ∧ j < z then f j else g j
theorem cpZ_D {f g : Int → Int} {z : Int} (hf : Dg f) (hg : Dg g) : Dg (cpZ f g z) := by
  intro i
  unfold cpZ
  split
  · exact hf i
  · exact hg i
theorem cpZ_in {f g : Int → Int} {z j : Int} (h : 0 ≤ j ∧ j < z) : cpZ f g z j = f j := if_pos h
theorem cpZ_N {f g : Int → Int} {z : Int} : wN z (cpZ f g z) = wN z f := wN_congr (fun k h0 h1 => cpZ_in ⟨h0, h1⟩)
theorem cpZ_A {f g : Int → Int} {z : Int} (h : 0 ≤ z) : va_cpy (iA f) (iA g) 0 0 z.toNat = iA (cpZ f g z) := by
  funext k
  unfold va_cpy
  by_cases c : k < z.toNat
  · rw [if_pos (by omega)]
    show I3 (f ((0 + (k - 0) : Nat) : Int)) = I3 (cpZ f g z (k : Int))
    rw [cpZ_in (by omega), Nat.sub_zero, Nat.zero_add]
  · rw [if_neg (by omega)]
    show I3 (g (k : Int)) = I3 (cpZ f g z (k : Int))
    unfold cpZ
    rw [if_neg (by omega)]
/-- quotients by halves: one step -/
theorem sh_1 {B : Nat} {k : Int} (hk : 0 ≤ k) : B * 2 ^ (k + 1).toNat / 2 = B * 2 ^ k.toNat := by
  rw [show (k + 1).toNat = k.toNat + 1 by omega, Nat.pow_succ, ← Nat.mul_assoc]
  exact Nat.mul_div_cancel _ (by decide)
theorem wq_dig {f : Int → Int} (hD : Dg f) {n k : Int} (hk : 0 ≤ k ∧ k / 32 < n) (hm : wN n f % 2 ^ (k + 1).toNat = 0) :
    I3 (zor3 (f (k / 32)) (1 * 2 ^ (k % 32).toNat)) = I3 (f (k / 32) + 2 ^ (k % 32).toNat) ∧ f (k / 32) + 2 ^ (k % 32).toNat < 4294967296 ∧ wN n (uZ f (k / 32) (f (k / 32) + 2 ^ (k % 32).toNat)) = wN n f + 2 ^ k.toNat := by
  obtain ⟨t, rfl⟩ := Int.eq_ofNat_of_zero_le hk.1
  have e1 : ((t : Int)) / 32 = ((t / 32 : Nat) : Int) := by omega
  have e2 : (((t : Int)) % 32).toNat = t % 32 := by omega
  have e3 : ((t : Int) + 1).toNat = t + 1 := by omega
  have e4 : ((t : Int)).toNat = t := by omega
  rw [e3] at hm
  rw [e1, e2, e4]
  have hd := vz_dig hD (o := 0) (k := t / 32) (n := n.toNat) (by omega)
  rw [← wN_z hD, Int.zero_add] at hd
  have hdn : ((wN n f : Nat) : Int) / 2 ^ (32 * (t / 32)) % 4294967296 = ((wN n f / 2 ^ (32 * (t / 32)) % 4294967296 : Nat) : Int) := by
    simp
  rw [hdn] at hd
  have hdv : 2 ^ (t % 32 + 1) ∣ wN n f / 2 ^ (32 * (t / 32)) % 4294967296 := by
    have h5 : (4294967296 : Nat) = 2 ^ (t % 32 + 1) * 2 ^ (31 - t % 32) := by
      rw [← Nat.pow_add, show t % 32 + 1 + (31 - t % 32) = 32 by omega]
    obtain ⟨q, hq⟩ := Nat.dvd_of_mod_eq_zero hm
    have h6 : t + 1 = 32 * (t / 32) + (t % 32 + 1) := by omega
    rw [hq, h6, Nat.pow_add 2 (32 * (t / 32)) (t % 32 + 1), Nat.mul_assoc, Nat.mul_div_cancel_left _ (Nat.two_pow_pos _), h5]
    rw [Nat.mul_mod_mul_left]
    exact Nat.dvd_mul_right _ _
  obtain ⟨q, hq⟩ := hdv
  have hr9 := hD ((t / 32 : Nat) : Int)
  have hp := Nat.two_pow_pos (t % 32)
  have ek : f ((t / 32 : Nat) : Int) = ((2 ^ (t % 32 + 1) * q : Nat) : Int) := by rw [hd, hq]
  have h5 : (4294967296 : Nat) = 2 ^ (t % 32 + 1) * 2 ^ (31 - t % 32) := by
    rw [← Nat.pow_add, show t % 32 + 1 + (31 - t % 32) = 32 by omega]
  have hlt : 2 ^ (t % 32 + 1) * q < 4294967296 := by
    have := hr9.2
    rw [ek] at this
    exact Int.ofNat_lt.mp this
  have hs : 2 ^ (t % 32 + 1) * q + 2 ^ (t % 32) < 4294967296 := by
    have h6 : q < 2 ^ (31 - t % 32) := by
      apply Nat.lt_of_mul_lt_mul_left (a := 2 ^ (t % 32 + 1))
      rw [← h5]
      exact hlt
    have h7 := Nat.mul_le_mul_left (2 ^ (t % 32 + 1)) (show q + 1 ≤ 2 ^ (31 - t % 32) by omega)
    rw [← h5, Nat.mul_add, Nat.mul_one, Nat.pow_succ] at h7
    rw [Nat.pow_succ]
    omega
  have ep : ((2 : Int) ^ (t % 32)) = ((2 ^ (t % 32) : Nat) : Int) := (pw_cast _).symm
  refine ⟨?_, ?_, ?_⟩
  · rw [Int.one_mul, ek, ep]
    unfold zor3
    rw [I3_of]
    apply Int32.toBitVec_inj.mp
    rw [Int32.toBitVec_or]
    show BitVec.ofInt 32 ((2 ^ (t % 32 + 1) * q : Nat) : Int) ||| BitVec.ofInt 32 ((2 ^ (t % 32) : Nat) : Int) = BitVec.ofInt 32 (((2 ^ (t % 32 + 1) * q : Nat) : Int) + ((2 ^ (t % 32) : Nat) : Int))
    rw [← Int.natCast_add, BitVec.ofInt_natCast, BitVec.ofInt_natCast, BitVec.ofInt_natCast]
    apply BitVec.eq_of_toNat_eq
    have p32 : (2 : Nat) ^ 32 = 4294967296 := by decide
    rw [BitVec.toNat_or, BitVec.toNat_ofNat, BitVec.toNat_ofNat, BitVec.toNat_ofNat, p32, Nat.mod_eq_of_lt (a := 2 ^ (t % 32 + 1) * q) (b := 4294967296) (by omega), Nat.mod_eq_of_lt (a := 2 ^ (t % 32)) (b := 4294967296) (by omega), Nat.mod_eq_of_lt (a := 2 ^ (t % 32 + 1) * q + 2 ^ (t % 32)) (b := 4294967296) (by omega)]
    exact (Nat.two_pow_add_eq_or_of_lt (i := t % 32 + 1) (b := 2 ^ (t % 32)) (Nat.pow_lt_pow_right (by decide) (by omega)) q).symm
  · rw [ek, ep]
    omega
  · have h8 : Dg (uZ f ((t / 32 : Nat) : Int) (f ((t / 32 : Nat) : Int) + 2 ^ (t % 32))) := Dg_uZ hD (by rw [ek, ep]; omega) (by rw [ek, ep]; omega)
    have h9 := vz_u (W := f) (o := 0) (v := f ((t / 32 : Nat) : Int) + 2 ^ (t % 32)) (k := t / 32) (n := n.toNat) (by omega)
    rw [Int.zero_add] at h9
    have h10 := wN_z h8 n
    rw [h9, ← wN_z hD] at h10
    have h11 : (2 : Int) ^ t = 2 ^ (t % 32) * 2 ^ (32 * (t / 32)) := by
      rw [← pow_split, show t % 32 + 32 * (t / 32) = t by omega]
    have h12 : f ((t / 32 : Nat) : Int) + 2 ^ (t % 32) - f ((t / 32 : Nat) : Int) = 2 ^ (t % 32) := by omega
    rw [h12, ← h11] at h10
    apply Int.ofNat.inj
    show ((wN n (uZ f ((t / 32 : Nat) : Int) (f ((t / 32 : Nat) : Int) + 2 ^ (t % 32))) : Nat) : Int) = ((wN n f + 2 ^ t : Nat) : Int)
    rw [h10, Int.natCast_add, pw_cast]
