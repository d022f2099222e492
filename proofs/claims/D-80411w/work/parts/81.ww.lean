/-! the component's wide numbers: digits up to a size, zeros above -/
set_option maxRecDepth 100000
def gW (n : Int) (f : Int → Int) : Int → Int := fun k => if 0 ≤ k ∧ k < n then f k else 0
def wN (n : Int) (f : Int → Int) : Nat := (vz f 0 n.toNat).toNat
abbrev OKw (n : Int) (f : Int → Int) : Prop := (0 ≤ n ∧ n ≤ 36) ∧ Dg f ∧ (0 < n → f (n - 1) ≠ 0)
theorem wN_z {f : Int → Int} (h : Dg f) (n : Int) : ((wN n f : Nat) : Int) = vz f 0 n.toNat := Int.toNat_of_nonneg (vz_nn h _ _)
theorem gW_in {n k : Int} {f : Int → Int} (h : 0 ≤ k ∧ k < n) : gW n f k = f k := if_pos h
theorem gW_out {n k : Int} {f : Int → Int} (h : n ≤ k) : gW n f k = 0 := if_neg (by omega)
theorem gW_D {n : Int} {f : Int → Int} (h : Dg f) : Dg (gW n f) := by
  intro i
  unfold gW
  split
  · exact h i
  · omega
theorem gW_v {n : Int} {f : Int → Int} {m : Nat} (hn : 0 ≤ n) (h : n ≤ (m : Int)) : vz (gW n f) 0 m = vz f 0 n.toNat := by
  obtain ⟨j, rfl⟩ : ∃ j, m = n.toNat + j := ⟨m - n.toNat, by omega⟩
  rw [vz_split, vz_congr (W := gW n f) (W1 := f) (o1 := 0) (n := n.toNat) (fun k h0 hk => gW_in (by omega)), vz_zero (W := gW n f) (n := j) (fun k h0 hk => gW_out (by omega))]
  simp
theorem gW_N {n : Int} {f : Int → Int} {m : Nat} (hD : Dg f) (hn : 0 ≤ n) (h : n ≤ (m : Int)) : vz (gW n f) 0 m = ((wN n f : Nat) : Int) := by rw [gW_v hn h, wN_z hD]
theorem wN_lt {n : Int} {f : Int → Int} (hD : Dg f) : wN n f < 2 ^ (32 * n.toNat) := by
  have h1 := vz_lt hD 0 n.toNat
  rw [← wN_z hD, ← pw_cast] at h1
  exact Int.ofNat_lt.mp h1
theorem wN_s {k : Int} {f : Int → Int} (hD : Dg f) (hk : 0 ≤ k) : wN (k + 1) f = wN k f + (f k).toNat * 2 ^ (32 * k.toNat) := by
  apply Int.ofNat.inj
  show ((wN (k + 1) f : Nat) : Int) = ((wN k f + (f k).toNat * 2 ^ (32 * k.toNat) : Nat) : Int)
  rw [wN_z hD, vzs hk, Int.natCast_add, Int.natCast_mul, pw_cast, Int.toNat_of_nonneg (hD k).1, wN_z hD, Int.zero_add]
theorem wN_0 (f : Int → Int) : wN 0 f = 0 := rfl
theorem wN_neg {n : Int} (h : n ≤ 0) (f : Int → Int) : wN n f = 0 := by
  unfold wN
  rw [show n.toNat = 0 by omega]
  rfl
theorem wN_congr {n : Int} {f g : Int → Int} (h : ∀ k : Int, 0 ≤ k → k < n → f k = g k) : wN n f = wN n g := by
  unfold wN
  rw [vz_congr (W := f) (W1 := g) (o1 := 0) (n := n.toNat) (fun k h0 hk => by
    have := h k h0 (by omega)
    rw [Int.zero_add]
    exact this)]
/-- a leading digit 0 falls off -/
theorem wN_trim {n : Int} {f : Int → Int} (hD : Dg f) (hn : 0 < n) (h : f (n - 1) = 0) : wN (n - 1) f = wN n f := by
  have := wN_s hD (k := n - 1) (by omega)
  rw [show n - 1 + 1 = n by omega, h] at this
  simp at this
  exact this.symm
theorem wN_ge {n : Int} {f : Int → Int} (hD : Dg f) (hn : 0 < n) (h : f (n - 1) ≠ 0) : 2 ^ (32 * (n - 1).toNat) ≤ wN n f := by
  have h1 := wN_s hD (k := n - 1) (by omega)
  rw [show n - 1 + 1 = n by omega] at h1
  have h2 := (hD (n - 1)).1
  have h3 := Nat.mul_le_mul_right (2 ^ (32 * (n - 1).toNat)) (show 1 ≤ (f (n - 1)).toNat by omega)
  omega
theorem wN_eq0 {n : Int} {f : Int → Int} (h : OKw n f) : wN n f = 0 ↔ n = 0 := by
  obtain ⟨h1, h2, h3⟩ := h
  constructor
  · intro q
    apply Classical.byContradiction
    intro c
    have h4 := wN_ge h2 (by omega) (h3 (by omega))
    have h5 := Nat.two_pow_pos (32 * (n - 1).toNat)
    omega
  · intro q
    subst q
    rfl
theorem wN_szlt {n m : Int} {f g : Int → Int} (hf : OKw n f) (hg : OKw m g) (h : n < m) : wN n f < wN m g := by
  have h1 := wN_lt (n := n) hf.2.1
  have h2 := wN_ge (n := m) hg.2.1 (by omega) (hg.2.2 (by omega))
  have h3 : 2 ^ (32 * n.toNat) ≤ 2 ^ (32 * (m - 1).toNat) := Nat.pow_le_pow_right (by decide) (by omega)
  omega
theorem wN_szle {n m : Int} {f g : Int → Int} (hf : OKw n f) (hg : OKw m g) (h : wN n f ≤ wN m g) : n ≤ m := by
  apply Classical.byContradiction
  intro q
  have := wN_szlt hg hf (by omega)
  omega
theorem bl_add {a d k : Nat} (ha : a < 2 ^ k) (hd : d ≠ 0) : bl (a + d * 2 ^ k) = k + bl d := by
  have h1 := bl_lo hd
  have h2 := bl_hi d
  have h3 := bl_pos hd
  have e : bl (a + d * 2 ^ k) = (k + (bl d - 1)) + 1 := by
    apply bl_of
    · rw [Nat.pow_add]
      have := Nat.mul_le_mul_right (2 ^ k) h1
      rw [Nat.mul_comm (2 ^ k)]
      omega
    · rw [show k + (bl d - 1) + 1 = k + bl d by omega, Nat.pow_add]
      have := Nat.mul_le_mul_right (2 ^ k) (show d + 1 ≤ 2 ^ bl d by omega)
      rw [Nat.add_mul, Nat.one_mul] at this
      rw [Nat.mul_comm (2 ^ k)]
      omega
  omega
theorem bl_w {n : Int} {f : Int → Int} (hD : Dg f) (hn : 0 < n) (h : f (n - 1) ≠ 0) : ((bl (wN n f) : Nat) : Int) = 32 * n - 32 + ((bl (f (n - 1)).toNat : Nat) : Int) := by
  have h1 := wN_s hD (k := n - 1) (by omega)
  rw [show n - 1 + 1 = n by omega] at h1
  have h2 := (hD (n - 1)).1
  rw [h1, bl_add (wN_lt hD) (by omega)]
  omega
theorem bl_div {y s : Nat} (h : 2 ^ s ≤ y) : bl (y / 2 ^ s) + s = bl y := by
  have h0 := Nat.two_pow_pos s
  have h1 : y / 2 ^ s ≠ 0 := by
    intro q
    rcases Nat.div_eq_zero_iff.mp q with q | q <;> omega
  have h2 := bl_add (a := y % 2 ^ s) (k := s) (Nat.mod_lt _ h0) h1
  have h3 : y % 2 ^ s + y / 2 ^ s * 2 ^ s = y := by
    rw [Nat.mul_comm]
    exact Nat.mod_add_div y (2 ^ s)
  rw [h3] at h2
  omega
theorem bl_small : bl 1 = 1 ∧ bl 2 = 2 ∧ bl 3 = 2 := by decide
theorem bl_bits {x n : Nat} (h : bl x ≤ n) (m : Nat) (hm : n ≤ m) : x < 2 ^ m := Nat.lt_of_lt_of_le (bl_le.mp h) (Nat.pow_le_pow_right (by decide) hm)
/-- how many words: by the bits -/
theorem wN_sz {n : Int} {f : Int → Int} (h : OKw n f) {b : Nat} (hb : bl (wN n f) ≤ b) : n ≤ ((b + 31) / 32 : Nat) := by
  obtain ⟨h1, h2, h3⟩ := h
  by_cases c : 0 < n
  · have h4 := bl_w h2 c (h3 c)
    have h5 := (h2 (n - 1)).1
    have h6 := bl_pos (x := (f (n - 1)).toNat) (by have := h3 c; omega)
    omega
  · omega
theorem wN_bl {n : Int} {f : Int → Int} (h : OKw n f) : bl (wN n f) ≤ 32 * n.toNat := bl_le.mpr (wN_lt h.2.1)
/-! adding, taking -/
theorem vis {W : Int → Int} {k : Int} (hk : 0 ≤ k) : vi W 0 (k + 1) = vi W 0 k + W k * pz k := by
  unfold vi pz
  rw [vzs hk, Int.zero_add]
theorem pzs {k : Int} (hk : 0 ≤ k) : pz (k + 1) = pz k * 4294967296 := p32z hk
theorem pz_pos (k : Int) : 0 < pz k := ppos _
theorem vi_0 (W : Int → Int) : vi W 0 0 = 0 := rfl
theorem pz_0 : pz 0 = 1 := rfl
theorem vi_uo {W : Int → Int} {k v : Int} (hk : 0 ≤ k) : vi (uZ W k v) 0 k = vi W 0 k := by
  unfold vi
  rw [vz_uo (Or.inr (by omega))]
theorem vi_us {W : Int → Int} {k v : Int} (hk : 0 ≤ k) : vi (uZ W k v) 0 (k + 1) = vi W 0 k + v * pz k := by
  rw [vis hk, vi_uo hk, uZ_s]
theorem wa_step {W1 g1 g2 : Int → Int} {k c : Int} (hk : 0 ≤ k) (hI : vi W1 0 k + c * pz k = vi g1 0 k + vi g2 0 k) : vi (uZ W1 k ((c + (g1 k + g2 k)) % 4294967296)) 0 (k + 1) + (c + (g1 k + g2 k)) / 4294967296 * pz (k + 1) = vi g1 0 (k + 1) + vi g2 0 (k + 1) := by
  rw [vi_us hk, vis hk, vis hk, pzs hk]
  have h := Int.emod_add_mul_ediv (c + (g1 k + g2 k)) 4294967296
  generalize (c + (g1 k + g2 k)) % 4294967296 = d at h ⊢
  generalize (c + (g1 k + g2 k)) / 4294967296 = q at h ⊢
  generalize pz k = P at hI ⊢
  grind
theorem ws_step {W1 g1 g2 : Int → Int} {k c : Int} (hk : 0 ≤ k) (hI : vi W1 0 k + c * pz k = vi g1 0 k - vi g2 0 k) : vi (uZ W1 k ((c + (g1 k - g2 k)) % 4294967296)) 0 (k + 1) + (c + (g1 k - g2 k)) / 4294967296 * pz (k + 1) = vi g1 0 (k + 1) - vi g2 0 (k + 1) := by
  rw [vi_us hk, vis hk, vis hk, pzs hk]
  have h := Int.emod_add_mul_ediv (c + (g1 k - g2 k)) 4294967296
  generalize (c + (g1 k - g2 k)) % 4294967296 = d at h ⊢
  generalize (c + (g1 k - g2 k)) / 4294967296 = q at h ⊢
  generalize pz k = P at hI ⊢
  grind
theorem gW_vi {n m : Int} {f : Int → Int} (hD : Dg f) (hn : 0 ≤ n) (h : n ≤ m) : vi (gW n f) 0 m = ((wN n f : Nat) : Int) := gW_N hD hn (by omega)
theorem wN_vi {n : Int} {f : Int → Int} (hD : Dg f) : ((wN n f : Nat) : Int) = vi f 0 n := wN_z hD n
theorem vi_bd {k : Int} {f : Int → Int} (hD : Dg f) : 0 ≤ vi f 0 k ∧ vi f 0 k < pz k := ⟨vz_nn hD _ _, vz_lt hD _ _⟩
theorem pz_mono {a b : Int} (h : a ≤ b) : pz a ≤ pz b := pw_mon (by omega)
theorem wa_end {W1 : Int → Int} {n m N c : Int} {f g : Int → Int} (hf : OKw n f) (hg : OKw m g) (hW1 : Dg W1) (hn : n + 1 ≤ N) (hm : m + 1 ≤ N) (hc : 0 ≤ c ∧ c ≤ 1) (hI : vi W1 0 N + c * pz N = vi (gW n f) 0 N + vi (gW m g) 0 N) : wN N W1 = wN n f + wN m g := by
  rw [gW_vi hf.2.1 hf.1.1 (by omega), gW_vi hg.2.1 hg.1.1 (by omega)] at hI
  have h1 := (vi_bd (k := n) hf.2.1).2
  have h2 := (vi_bd (k := m) hg.2.1).2
  rw [← wN_vi hf.2.1] at h1
  rw [← wN_vi hg.2.1] at h2
  have h3 := pz_mono (a := n) (b := N - 1) (by omega)
  have h4 := pz_mono (a := m) (b := N - 1) (by omega)
  have h5 := pzs (k := N - 1) (by have := hf.1.1; omega)
  rw [show N - 1 + 1 = N by omega] at h5
  have h6 := (vi_bd (k := N) hW1).1
  have h7 := pz_pos (N - 1)
  have h8 := wN_vi (n := N) hW1
  rcases (show c = 0 ∨ c = 1 by omega) with rfl | rfl
  · omega
  · omega
theorem ws_end {W1 : Int → Int} {n m c : Int} {f g : Int → Int} (hf : OKw n f) (hg : OKw m g) (hW1 : Dg W1) (hle : wN m g ≤ wN n f) (hc : -1 ≤ c ∧ c ≤ 0) (hI : vi W1 0 n + c * pz n = vi (gW n f) 0 n - vi (gW m g) 0 n) : wN n W1 = wN n f - wN m g := by
  have hs := wN_szle hg hf hle
  rw [gW_vi hf.2.1 hf.1.1 (by omega), gW_vi hg.2.1 hg.1.1 (by omega)] at hI
  have h6 := vi_bd (k := n) hW1
  have h8 := wN_vi (n := n) hW1
  rcases (show c = 0 ∨ c = -1 by omega) with rfl | rfl
  · omega
  · omega
/-! products -/
theorem wm_step {W0 W1 fb : Int → Int} {i k x cr v : Int} (hi : 0 ≤ i) (hk : 0 ≤ k) (hs : W1 (i + k) = W0 (i + k)) (hv : v = cr + (x * fb k + W1 (i + k))) (hv0 : 0 ≤ v ∧ v < 18446744073709551616)
    (hI : vi W1 0 (i + k) + cr * pz (i + k) = vi W0 0 (i + k) + x * pz i * vi fb 0 k) : vi (uZ W1 (i + k) (v % 4294967296)) 0 (i + (k + 1)) + v / 4294967296 * pz (i + (k + 1)) = vi W0 0 (i + (k + 1)) + x * pz i * vi fb 0 (k + 1) := by
  have e1 : i + (k + 1) = i + k + 1 := by omega
  have e3 : pz (i + k) = pz i * pz k := by
    unfold pz
    rw [← pow_split]
    congr 1
    omega
  rw [e1, vi_us (by omega), vis (W := W0) (by omega), vis hk, pzs (by omega)]
  have h := Int.emod_add_mul_ediv v 4294967296
  generalize v % 4294967296 = d at h ⊢
  generalize v / 4294967296 = q at h ⊢
  rw [hs] at hv
  rw [e3] at hI ⊢
  clear hv0 hs e1 e3
  generalize pz i = P at hI ⊢
  generalize pz k = S at hI ⊢
  generalize vi W1 0 (i + k) = V1 at hI ⊢
  generalize vi W0 0 (i + k) = V0 at hI ⊢
  generalize vi fb 0 k = vb at hI ⊢
  generalize W0 (i + k) = w0 at hv ⊢
  generalize fb k = b at hv ⊢
  have e5 : V1 + d * (P * S) + q * (P * S * 4294967296) = V1 + (d + 4294967296 * q) * (P * S) := by grind
  rw [e5, h, hv]
  grind
/-- a row of the product is done: its carry is the next digit -/
theorem wm_row {W0 W1 fa fb : Int → Int} {i nb cr x B : Int} (hi : 0 ≤ i) (hnb : 0 ≤ nb) (hx : x = fa i) (hB : B = vi fb 0 nb) (h0 : vi W0 0 (i + nb) = vi fa 0 i * B)
    (hI : vi W1 0 (i + nb) + cr * pz (i + nb) = vi W0 0 (i + nb) + x * pz i * vi fb 0 nb) : vi (uZ W1 (i + nb) cr) 0 (i + 1 + nb) = vi fa 0 (i + 1) * B := by
  have e1 : i + 1 + nb = i + nb + 1 := by omega
  rw [e1, vi_us (by omega), hI, h0, vis hi, hx, ← hB, Int.add_mul]
theorem wm_end {W1 fa fb : Int → Int} {na nb : Int} (hna : 0 ≤ na) (hnb : 0 ≤ nb) (ha : Dg fa) (hb : Dg fb) (h1 : Dg W1) (h : vi W1 0 (na + nb) = vi fa 0 na * vi fb 0 nb) : wN (na + nb) W1 = wN na fa * wN nb fb := by
  have h2 := wN_vi (n := na + nb) h1
  rw [h, ← wN_vi ha, ← wN_vi hb, ← Int.natCast_mul] at h2
  exact Int.ofNat.inj h2
theorem wm_v {x y w cr : Int} (hx : 0 ≤ x ∧ x < 4294967296) (hy : 0 ≤ y ∧ y < 4294967296) (hw : 0 ≤ w ∧ w < 4294967296) (hc : 0 ≤ cr ∧ cr < 4294967296) : 0 ≤ cr + (x * y + w) ∧ cr + (x * y + w) < 18446744073709551616 := by
  have := mul_bd hx hy
  omega
theorem vi_0s {W : Int → Int} {k : Int} (h : ∀ j : Int, 0 ≤ j → j < k → W j = 0) : vi W 0 k = 0 := vz_zero (fun j h0 hj => by rw [Int.zero_add]; exact h j h0 (by omega))
/-! shifting -/
theorem wu_both {h l : Int} {b : Nat} (hb : b < 32) (hl : 0 ≤ l ∧ l < 4294967296) : (l + h * 4294967296) * 2 ^ b % 18446744073709551616 / 4294967296 = (h * 2 ^ b + l / 2 ^ (32 - b)) % 4294967296 := by
  have h0 := ppos b
  have h1 := ppos (32 - b)
  have e : (4294967296 : Int) = 2 ^ (32 - b) * 2 ^ b := by
    rw [← pow_split, Nat.sub_add_cancel (by omega)]
    rfl
  have h2 : ∀ z : Int, z % 18446744073709551616 / 4294967296 = z / 4294967296 % 4294967296 := fun z => by omega
  rw [h2]
  congr 1
  have e2 : (l + h * 4294967296) * 2 ^ b = l * 2 ^ b + (h * 2 ^ b) * 4294967296 := by grind
  rw [e2, Int.add_mul_ediv_right _ _ (by decide), Int.add_comm]
  congr 1
  conv => lhs; rw [e]
  exact Int.mul_ediv_mul_of_pos_left _ _ h0
theorem zor_hl {x y : Int} (hx : 0 ≤ x ∧ x < 4294967296) (hy : 0 ≤ y ∧ y < 4294967296) : L6 (zor6 (y * 4294967296) x) = L6 (x + y * 4294967296) := by
  rw [zor6_comm]
  unfold zor6
  rw [L6_of]
  exact bv_or_add hx hy
theorem zor_lh {x y : Int} (hx : 0 ≤ x ∧ x < 4294967296) (hy : 0 ≤ y ∧ y < 4294967296) : L6 (zor6 x (y * 4294967296)) = L6 (x + y * 4294967296) := by
  unfold zor6
  rw [L6_of]
  exact bv_or_add hx hy
/-- the digit that goes to place j when g goes up by ws words and b bits -/
theorem wu_dig {g : Int → Int} {k ws b : Int} (hg : Dg g) (hb : 0 ≤ b ∧ b < 32) (hk : 0 ≤ k) (hws : 0 ≤ ws) (h0 : k = 0 → g (-1) = 0) : (g (k - 1) + g k * 4294967296) * 2 ^ b.toNat % 18446744073709551616 / 4294967296 = ud g 0 ws b (k + ws) := by
  rw [wu_both (by omega) (hg _)]
  unfold ud
  have e1 : 0 + (k + ws) - ws = k := by omega
  have e2 : 0 + (k + ws) - ws - 1 = k - 1 := by omega
  have e3 : (32 - b).toNat = 32 - b.toNat := by omega
  rw [if_pos (by omega), e2, e1, e3]
  by_cases c : ws + 1 ≤ k + ws
  · rw [if_pos c]
  · rw [if_neg c]
    have : k = 0 := by omega
    subst this
    rw [show (0 : Int) - 1 = -1 by omega, h0 rfl]
theorem ud_lo {g : Int → Int} {ws b j : Int} (h : j < ws) : ud g 0 ws b j = 0 := by
  unfold ud
  rw [if_neg (by omega), if_neg (by omega), Int.zero_ediv, Int.zero_mul]
  rfl
theorem ud_D {g : Int → Int} {ws b : Int} (j : Int) : 0 ≤ ud g 0 ws b j ∧ ud g 0 ws b j < 4294967296 := by
  unfold ud
  omega
theorem wu_end {W1 f : Int → Int} {n by_ : Int} (hf : OKw n f) (hW1 : Dg W1) (hb : 0 ≤ by_) (hsz : n + by_ / 32 + 1 ≤ 36) (h : ∀ j : Int, 0 ≤ j → j < n + by_ / 32 + 1 → W1 j = ud (gW n f) 0 (by_ / 32) (by_ % 32) j) : wN (n + (by_ / 32 + 1)) W1 = wN n f * 2 ^ by_.toNat := by
  obtain ⟨m, rfl⟩ := Int.eq_ofNat_of_zero_le hb
  obtain ⟨t, rfl⟩ := Int.eq_ofNat_of_zero_le hf.1.1
  have hgD := gW_D (n := (t : Int)) hf.2.1
  have e := vz_of (W := W1) (o := 0) (N := vz (gW (t : Int) f) 0 64 * 2 ^ m) (Int.mul_nonneg (vz_nn hgD _ _) (Int.le_of_lt (ppos m))) (n := t + m / 32 + 1) (fun k hk => by
    rw [Int.zero_add, h (k : Int) (by omega) (by omega)]
    have e1 : ((m : Int)) / 32 = ((m / 32 : Nat) : Int) := by omega
    have e2 : ((m : Int)) % 32 = ((m % 32 : Nat) : Int) := by omega
    rw [e1, e2, ud_dig hgD (by omega) (by omega)]
    have e3 : 32 * (m / 32) + m % 32 = m := by omega
    rw [e3])
  rw [gW_N hf.2.1 (by omega) (by omega)] at e
  have h2 : wN (t : Int) f * 2 ^ m < 2 ^ (32 * (t + m / 32 + 1)) := by
    have h3 := wN_lt (n := (t : Int)) hf.2.1
    have h4 : wN (t : Int) f * 2 ^ m < 2 ^ (32 * (t : Int).toNat) * 2 ^ m := Nat.mul_lt_mul_of_pos_right h3 (Nat.two_pow_pos m)
    rw [← Nat.pow_add] at h4
    exact Nat.lt_of_lt_of_le h4 (Nat.pow_le_pow_right (by decide) (by omega))
  have h5 : ((wN (t : Int) f : Nat) : Int) * 2 ^ m = ((wN (t : Int) f * 2 ^ m : Nat) : Int) := by rw [Int.natCast_mul, pw_cast]
  have h6 : ((wN (t : Int) f * 2 ^ m : Nat) : Int) < 2 ^ (32 * (t + m / 32 + 1)) := by
    rw [← pw_cast]
    exact Int.ofNat_lt.mpr h2
  rw [h5, Int.emod_eq_of_lt (Int.natCast_nonneg _) h6] at e
  have h7 := wN_z hW1 ((t : Int) + ((m : Int) / 32 + 1))
  have h8 : ((t : Int) + ((m : Int) / 32 + 1)).toNat = t + m / 32 + 1 := by omega
  have h9 : ((m : Int)).toNat = m := by omega
  rw [h8, e] at h7
  rw [h9]
  exact Int.ofNat.inj h7
/-- what digit k becomes when the number goes down by ws words and b bits -/
def dd (g : Int → Int) (ws b k : Int) : Int := (g (k + ws) + g (k + ws + 1) * 4294967296) / 2 ^ b.toNat % 4294967296
theorem dd_dig {g : Int → Int} (hg : Dg g) {m k : Nat} (hk : k + m / 32 + 2 ≤ 40) : dd g ((m : Int) / 32) ((m : Int) % 32) (k : Int) = vz g 0 40 / 2 ^ m / 2 ^ (32 * k) % 4294967296 := by
  unfold dd
  have e1 : ((m : Int)) / 32 = ((m / 32 : Nat) : Int) := by omega
  have e2 : (((m : Int)) % 32).toNat = m % 32 := by omega
  rw [e1, e2]
  generalize hw : m / 32 = w at *
  have hm : m = 32 * w + m % 32 := by omega
  generalize hb : m % 32 = b at *
  have hb2 : b < 32 := by omega
  obtain ⟨r, hr⟩ : ∃ r, (40 : Nat) = (k + w) + (r + 1 + 1) := ⟨40 - (k + w) - 2, by omega⟩
  have ev : vz g 0 40 = vz g 0 (k + w) + 2 ^ (32 * (k + w)) * (g ((k : Int) + (w : Int)) + 4294967296 * (g ((k : Int) + (w : Int) + 1) + 4294967296 * vz g ((k : Int) + (w : Int) + 1 + 1) r)) := by
    conv => lhs; rw [hr]
    rw [vz_split, vz_front, vz_front]
    have e4 : (0 : Int) + ((k + w : Nat) : Int) = (k : Int) + (w : Int) := by omega
    rw [e4]
  have e5 : (2 : Int) ^ m * 2 ^ (32 * k) = 2 ^ (32 * (k + w)) * 2 ^ b := by
    rw [← pow_split, ← pow_split, hm]
    congr 1
    omega
  rw [Int.ediv_ediv_of_nonneg (Int.le_of_lt (ppos m)), e5, ← Int.ediv_ediv_of_nonneg (Int.le_of_lt (ppos _)), ev, Int.add_mul_ediv_left _ _ (Int.ne_of_gt (ppos _)), Int.ediv_eq_zero_of_lt (vz_nn hg _ _) (vz_lt hg _ _), Int.zero_add]
  generalize g ((k : Int) + (w : Int)) = x
  generalize g ((k : Int) + (w : Int) + 1) = y
  generalize vz g ((k : Int) + (w : Int) + 1 + 1) r = z
  have e6 : x + 4294967296 * (y + 4294967296 * z) = (x + y * 4294967296) + 2 ^ b * (4294967296 * (2 ^ (32 - b) * z)) := by
    have e7 : (4294967296 : Int) = 2 ^ (32 - b) * 2 ^ b := by
      rw [← pow_split, Nat.sub_add_cancel (by omega)]
      rfl
    have e8 : (2 : Int) ^ b * (4294967296 * (2 ^ (32 - b) * z)) = 4294967296 * ((2 ^ (32 - b) * 2 ^ b) * z) := by grind
    rw [e8, ← e7]
    grind
  rw [e6, Int.add_mul_ediv_left _ _ (Int.ne_of_gt (ppos _)), Int.add_mul_emod_self_left]
theorem wd_end {W1 f : Int → Int} {n by_ : Int} (hf : OKw n f) (hW1 : Dg W1) (hb : 0 ≤ by_) (h : ∀ j : Int, 0 ≤ j → j < n - by_ / 32 → W1 j = dd (gW n f) (by_ / 32) (by_ % 32) j) : wN (n - by_ / 32) W1 = wN n f / 2 ^ by_.toNat := by
  obtain ⟨m, rfl⟩ := Int.eq_ofNat_of_zero_le hb
  obtain ⟨t, rfl⟩ := Int.eq_ofNat_of_zero_le hf.1.1
  have hgD := gW_D (n := (t : Int)) hf.2.1
  have h9 : ((m : Int)).toNat = m := by omega
  have h3 := wN_lt (n := (t : Int)) hf.2.1
  by_cases c : t ≤ m / 32
  · rw [wN_neg (by omega), h9]
    symm
    apply Nat.div_eq_of_lt
    exact Nat.lt_of_lt_of_le h3 (Nat.pow_le_pow_right (by decide) (by omega))
  · have hq : 0 ≤ vz (gW (t : Int) f) 0 40 / 2 ^ m := Int.ediv_nonneg (vz_nn hgD _ _) (Int.le_of_lt (ppos m))
    have e := vz_of (W := W1) (o := 0) (N := vz (gW (t : Int) f) 0 40 / 2 ^ m) hq (n := t - m / 32) (fun k hk => by
      rw [Int.zero_add, h (k : Int) (by omega) (by omega)]
      exact dd_dig hgD (by have := hf.1.2; omega))
    rw [gW_N hf.2.1 (by omega) (by have := hf.1.2; omega)] at e
    have h5 : ((wN (t : Int) f : Nat) : Int) / 2 ^ m = ((wN (t : Int) f / 2 ^ m : Nat) : Int) := by rw [Int.natCast_ediv, pw_cast]
    have h2 : wN (t : Int) f / 2 ^ m < 2 ^ (32 * (t - m / 32)) := by
      apply Nat.div_lt_of_lt_mul
      rw [← Nat.pow_add]
      exact Nat.lt_of_lt_of_le h3 (Nat.pow_le_pow_right (by decide) (by omega))
    have h6 : ((wN (t : Int) f / 2 ^ m : Nat) : Int) < 2 ^ (32 * (t - m / 32)) := by
      rw [← pw_cast]
      exact Int.ofNat_lt.mpr h2
    rw [h5, Int.emod_eq_of_lt (Int.natCast_nonneg _) h6] at e
    have h7 := wN_z hW1 ((t : Int) - (m : Int) / 32)
    have h8 : ((t : Int) - (m : Int) / 32).toNat = t - m / 32 := by omega
    rw [h8, e] at h7
    rw [h9]
    exact Int.ofNat.inj h7
