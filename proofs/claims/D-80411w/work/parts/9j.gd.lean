/-! words for the walk of commons: kept closed for omega -/
def TZ (x : Nat) (z : Int) (q : Nat) : Prop := x = 2 ^ z.toNat * (2 * q + 1)
def GC (a b : Nat) (tw : Int) (g : Nat) : Prop := Nat.gcd a b * 2 ^ tw.toNat = g
def PX (a : Nat) (tw : Int) (g : Nat) : Prop := a * 2 ^ tw.toNat = g
theorem TZ_ex {x y : Nat} {z : Int} (e : x = y) (hy : y ≠ 0) (h : x ≠ 0 → ∃ q : Nat, x = 2 ^ z.toNat * (2 * q + 1)) : ∃ q : Nat, TZ y z q := by
  subst e
  exact h hy
theorem TZ_u {x : Nat} {z w : Int} {p q : Nat} (hz : 0 ≤ z) (hw : 0 ≤ w) (h1 : TZ x z p) (h2 : TZ x w q) : z = w := tz_uniq hz hw h1 h2
theorem TZ_d {a x y : Nat} {z : Int} {q : Nat} (ha : a = x / 2 ^ z.toNat) (hx : x = y) (h : TZ y z q) : a = 2 * q + 1 := by
  rw [ha, hx, show y = 2 ^ z.toNat * (2 * q + 1) from h, odd_div]
theorem odd1 {a q : Nat} (h : a = 2 * q + 1) : a % 2 = 1 := by omega
theorem GC_0 {A B a b : Nat} {z w t : Int} {q r : Nat} (ha : a = 2 * q + 1) (hb : b = B) (hA : TZ A z q) (hB : TZ B w r) (hz : 0 ≤ z) (hw : 0 ≤ w) (ht : (z ≤ w → t = z) ∧ (w ≤ z → t = w)) : GC a b t (Nat.gcd A B) := by
  unfold GC
  have h1 : A = 2 ^ z.toNat * (2 * q + 1) := hA
  have h2 : B = 2 ^ w.toNat * (2 * r + 1) := hB
  have e : t.toNat = min z.toNat w.toNat := by omega
  rw [ha, hb, h1, h2, gc_min (by omega) (by omega), e]
theorem GC_U {T U U1 : Nat} {z : Int} {r : Nat} (hT : T % 2 = 1) (hU : TZ U z r) (h1 : U1 = 2 * r + 1) : Nat.gcd T U1 = Nat.gcd T U := by
  rw [h1, show U = 2 ^ z.toNat * (2 * r + 1) from hU, gc_odd hT]
theorem GC_e {a b c d g : Nat} {tw : Int} (h : GC a b tw g) (e : Nat.gcd c d = Nat.gcd a b) : GC c d tw g := by
  unfold GC at h ⊢
  rw [e]
  exact h
theorem GC_P {a b g : Nat} {tw : Int} (h : GC a b tw g) (hb : b = 0) : PX a tw g := by
  subst hb
  unfold GC at h
  rw [Nat.gcd_zero_right] at h
  exact h
theorem PX_bl {a g : Nat} {tw : Int} (h : PX a tw g) (ha : a ≠ 0) (ht : 0 ≤ tw) : ((bl g : Nat) : Int) = ((bl a : Nat) : Int) + tw := by
  have h2 := bl_mul_pow (n := tw.toNat) ha
  rw [show a * 2 ^ tw.toNat = g from h] at h2
  omega
