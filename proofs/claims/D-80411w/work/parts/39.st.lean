/-! numbers of the table; what is made of two rows; a double's parts -/
set_option maxRecDepth 100000
def pv (V : Int → Int) (a : Int) : Nat := (vz V (16 * a) 8).toNat
def qv (V : Int → Int) (a : Int) : Nat := (vz V (16 * a + 8) 8).toNat
/-- lowest terms -/
def mkd (p q : Nat) : Nat := if p = 0 then 1 else q
def mkP (p q : Nat) : Nat := p / Nat.gcd p (mkd p q)
def mkQ (p q : Nat) : Nat := mkd p q / Nat.gcd p (mkd p q)
def okN (n : Int) (p q : Nat) : Prop := n ≠ 60 ∧ bl (mkP p q) ≤ 256 ∧ bl (mkQ p q) ≤ 256
def B8 : Nat := 2 ^ 256
theorem B8_z : ((B8 : Nat) : Int) = 2 ^ (32 * 8) := by
  show ((2 ^ 256 : Nat) : Int) = 2 ^ 256
  rw [pw_cast]
theorem bl_B8 {x : Nat} : bl x ≤ 256 ↔ x < B8 := bl_le
theorem BN_B8 : BN = B8 * 2 ^ 1792 := by
  unfold BN B8
  rw [← Nat.pow_add]
theorem pv_z {V : Int → Int} (h : Dg V) (a : Int) : ((pv V a : Nat) : Int) = vz V (16 * a) 8 := Int.toNat_of_nonneg (vz_nn h _ _)
theorem qv_z {V : Int → Int} (h : Dg V) (a : Int) : ((qv V a : Nat) : Int) = vz V (16 * a + 8) 8 := Int.toNat_of_nonneg (vz_nn h _ _)
theorem pv_lt {V : Int → Int} (h : Dg V) (a : Int) : pv V a < B8 := by
  have h1 := vz_lt h (16 * a) 8
  rw [← pv_z h, ← B8_z] at h1
  omega
theorem qv_lt {V : Int → Int} (h : Dg V) (a : Int) : qv V a < B8 := by
  have h1 := vz_lt h (16 * a + 8) 8
  rw [← qv_z h, ← B8_z] at h1
  omega
theorem B8_BN : B8 < BN := by
  unfold B8 BN
  exact Nat.pow_lt_pow_right (by decide) (by decide)
/-- eight words over zeros -/
theorem ld_rv {W V : Int → Int} {o r : Int} (h : ∀ j : Int, 0 ≤ j → j < 8 → W (64 * r + j) = V (o + j)) (h0 : ∀ j : Int, 8 ≤ j → j < 64 → W (64 * r + j) = 0) : rv W r = (vz V o 8).toNat := by
  unfold rv
  have e : (64 : Nat) = 8 + 56 := rfl
  rw [e, vz_split, vz_congr (W := W) (W1 := V) (o1 := o) (n := 8) (fun k a b => h k a (by omega)), vz_zero (W := W) (n := 56) (fun k a b => by
    rw [Int.add_assoc]
    exact h0 _ (by omega) (by omega))]
  simp
theorem st_rv {W V : Int → Int} {o r : Int} (hD : Dg W) (hb : bl (rv W r) ≤ 256) (h : ∀ j : Int, 0 ≤ j → j < 8 → V (o + j) = W (64 * r + j)) : (vz V o 8).toNat = rv W r := by
  have hlt := bl_B8.mp hb
  have e : (64 : Nat) = 8 + 56 := rfl
  have h1 := rv_z hD r
  rw [e, vz_split, ← B8_z] at h1
  have h2 := vz_nn hD (64 * r) 8
  have h3 := vz_nn hD (64 * r + ((8 : Nat) : Int)) 56
  have h4 : vz W (64 * r + ((8 : Nat) : Int)) 56 = 0 := by
    apply Classical.byContradiction
    intro q
    have h5 := Int.mul_le_mul_of_nonneg_left (show 1 ≤ vz W (64 * r + ((8 : Nat) : Int)) 56 by omega) (show (0 : Int) ≤ (B8 : Int) by omega)
    omega
  rw [h4, Int.mul_zero, Int.add_zero] at h1
  rw [vz_congr (W := V) (W1 := W) (o1 := 64 * r) (n := 8) (fun k a b => h k a (by omega)), ← h1]
  exact Int.toNat_natCast _
theorem gcd_mkd {p q : Nat} (hq : q ≠ 0) : Nat.gcd p (mkd p q) ≠ 0 ∧ Nat.gcd p (mkd p q) ≤ mkd p q := by
  have h : mkd p q ≠ 0 := by
    unfold mkd
    split <;> omega
  exact ⟨fun e => h (Nat.eq_zero_of_gcd_eq_zero_right e), Nat.gcd_le_right p (Nat.pos_of_ne_zero h)⟩
theorem mkd_le {p q : Nat} (hq : q ≠ 0) : mkd p q ≤ q ∧ mkd p q ≠ 0 := by
  unfold mkd
  split <;> omega
/-- a double's parts -/
def eX (v : Int) : Int := v / 4503599627370496 % 2048
def pX (v : Int) : Int := v % 4503599627370496
def fX (v : Int) : Int := if eX v = 0 then pX v else pX v + 4503599627370496
def plX (v : Int) : Int := if eX v = 0 then -1074 else eX v - 1075
def sgX (v : Int) : Int := if v < 0 then -1 else 1
theorem eX_r (v : Int) : 0 ≤ eX v ∧ eX v < 2048 := by
  unfold eX
  omega
theorem pX_r (v : Int) : 0 ≤ pX v ∧ pX v < 4503599627370496 := by
  unfold pX
  omega
theorem fX_r (v : Int) : 0 ≤ fX v ∧ fX v < 9007199254740992 := by
  have := pX_r v
  unfold fX
  split <;> omega
theorem plX_r (v : Int) : -1074 ≤ plX v ∧ plX v ≤ 972 := by
  have := eX_r v
  unfold plX
  split <;> omega
