/-! the reference's state between calls; sizes under BN -/
set_option maxRecDepth 100000
def MI (mn : Int) (SG VL : Int → Int) : Prop := (0 ≤ mn ∧ mn ≤ 60) ∧ Dg VL ∧ ∀ a : Int, 0 ≤ a → a < mn → (SG a = -1 ∨ SG a = 0 ∨ SG a = 1) ∧ (SG a = 0 ↔ pv VL a = 0) ∧ qv VL a ≠ 0 ∧ (pv VL a = 0 → qv VL a = 1)
theorem up_lt {x k n : Nat} (h : x < 2 ^ k) (hn : k + n ≤ 2048) : x * 2 ^ n < BN := by
  have h1 : x * 2 ^ n < 2 ^ k * 2 ^ n := Nat.mul_lt_mul_of_pos_right h (Nat.two_pow_pos n)
  rw [← Nat.pow_add] at h1
  exact Nat.lt_of_lt_of_le h1 (Nat.pow_le_pow_right (by decide) hn)
theorem BN_64 : 36893488147419103232 ≤ BN := by
  have h : (36893488147419103232 : Nat) = 2 ^ 65 := by decide
  rw [h]
  exact Nat.pow_le_pow_right (by decide) (by decide)
theorem B8_8 : 2 * (B8 * B8 * B8) < BN := by
  unfold B8 BN
  rw [← Nat.pow_add, ← Nat.pow_add, Nat.mul_comm, ← Nat.pow_succ]
  exact Nat.pow_lt_pow_right (by decide) (by decide)
theorem B8_pos : 0 < B8 := Nat.two_pow_pos 256
theorem mul_B8 {x y : Nat} (hx : x < B8) (hy : y < B8) : x * y < B8 * B8 := Nat.mul_lt_mul'' hx hy
theorem BB_BN : 4 * (B8 * B8) ≤ BN := by
  unfold B8 BN
  rw [← Nat.pow_add]
  exact Nat.le_trans (Nat.le_of_eq (show 4 * 2 ^ (256 + 256) = 2 ^ 2 * 2 ^ (256 + 256) from rfl)) (by rw [← Nat.pow_add]; exact Nat.pow_le_pow_right (by decide) (by decide))
theorem vz_same {V V1 : Int → Int} {o : Int} {k : Nat} (h : ∀ i : Int, o ≤ i → i < o + (k : Int) → V1 i = V i) : vz V1 o k = vz V o k := vz_congr (fun j h0 hj => h _ (by omega) (by omega))
theorem pv_same {V V1 : Int → Int} {n a : Int} (h : ∀ i : Int, ¬ (16 * n ≤ i ∧ i < 16 * n + 16) → V1 i = V i) (ha : a ≠ n) : pv V1 a = pv V a ∧ qv V1 a = qv V a := by
  unfold pv qv
  rw [vz_same (V := V) (V1 := V1) (fun i h1 h2 => h i (by omega)), vz_same (V := V) (V1 := V1) (o := 16 * a + 8) (fun i h1 h2 => h i (by omega))]
  exact ⟨rfl, rfl⟩
theorem mkQ_pos {p q : Nat} (hq : q ≠ 0) : mkQ p q ≠ 0 := by
  obtain ⟨h1, h2⟩ := gcd_mkd (p := p) hq
  unfold mkQ
  intro h
  rcases Nat.div_eq_zero_iff.mp h with h3 | h3
  · exact h1 h3
  · omega
theorem MI_Mde {mn : Int} {SG VL : Int → Int} {g : Int} {p q : Nat} {code z th1 mn1 : Int} {SG1 VL1 : Int → Int} (h : MI mn SG VL) (hq : q ≠ 0) (hg : g = -1 ∨ g = 0 ∨ g = 1) (hg0 : g = 0 → p = 0) (hD : Dg VL1) (hn : 0 ≤ mn1 ∧ mn1 ≤ 60) (hM : Mde mn SG VL g p q code z th1 mn1 SG1 VL1) : MI mn1 SG1 VL1 := by
  refine ⟨hn, hD, ?_⟩
  rcases hM with ⟨-, -, -, e1, e2, e3, e4, e5⟩ | ⟨-, -, -, e1, e2, e3⟩
  · intro a h0 h1
    by_cases e : a = mn
    · subst e
      rw [e2, uZ_s, e3, e4]
      refine ⟨?_, ?_, mkQ_pos hq, ?_⟩
      · split <;> omega
      · rw [mkP_0 hq]
        split <;> omega
      · intro q0
        rw [mkP_0 hq] at q0
        subst q0
        unfold mkQ mkd
        rw [if_pos rfl]
        rfl
    · rw [e2, uZ_n e, (pv_same e5 e).1, (pv_same e5 e).2]
      exact h.2.2 a h0 (by omega)
  · subst e1; subst e2; subst e3
    exact h.2.2
/-- nothing made, nothing changed but the code -/
def Fld (mn : Int) (SG VL : Int → Int) (code z th1 n1 : Int) (S1 V1 : Int → Int) : Prop := z = 0 ∧ th1 = code ∧ n1 = mn ∧ S1 = SG ∧ V1 = VL
theorem sgX_3 (v : Int) : sgX v = -1 ∨ sgX v = 0 ∨ sgX v = 1 := by
  unfold sgX
  split <;> omega
theorem sgX_0 (v : Int) : sgX v ≠ 0 := by
  unfold sgX
  split <;> omega
def wrS (m bits sg : Int) : Int := if bits = 64 then sm6 m else if sg ≠ 0 ∧ m % 2 ^ bits.toNat / 2 ^ (bits - 1).toNat % 2 = 1 then m % 2 ^ bits.toNat - 2 ^ bits.toNat else m % 2 ^ bits.toNat
/-- the number's whole part with its sign -/
def whS (SG VL : Int → Int) (a : Int) : Int := if SG a < 0 then -((pv VL a / qv VL a : Nat) : Int) else ((pv VL a / qv VL a : Nat) : Int)
def ordS (SG VL : Int → Int) (a b : Int) : Int := if SG a = SG b then SG a * cmpN (pv VL a * qv VL b) (pv VL b * qv VL a) else if SG a < SG b then -1 else 1
def sumG (x y : Int) (A B : Nat) : Int := if x = 0 ∨ y = 0 ∨ x = y then (if x = 0 then y else x) else if B ≤ A then x else y
def sumP (x y : Int) (A B : Nat) : Nat := if x = 0 ∨ y = 0 ∨ x = y then A + B else if B ≤ A then A - B else B - A
theorem qv_1 {V : Int → Int} (hD : Dg V) {a : Int} (h0 : V (16 * a + 8) = 1) (h : ∀ j : Int, 9 ≤ j → j < 16 → V (16 * a + j) = 0) : qv V a = 1 := by
  unfold qv
  rw [vz_front V (16 * a + 8) 7, h0, vz_zero (n := 7) (fun k h1 h2 => by
    have := h (9 + k) (by omega) (by omega)
    rw [show 16 * a + 8 + 1 + k = 16 * a + (9 + k) by omega]
    exact this)]
  rfl
theorem qv_1' {V : Int → Int} (hD : Dg V) {a : Int} (h : qv V a = 1) : V (16 * a + 8) = 1 ∧ ∀ j : Int, 9 ≤ j → j < 16 → V (16 * a + j) = 0 := by
  have h1 := qv_z hD a
  rw [h, vz_front V (16 * a + 8) 7] at h1
  have h2 := vz_nn hD (16 * a + 8 + 1) 7
  have h3 := hD (16 * a + 8)
  have h4 : vz V (16 * a + 8 + 1) 7 = 0 := by omega
  refine ⟨by omega, fun j j1 j2 => ?_⟩
  have := vz_eq0 hD h4 (j - 9) (by omega) (by omega)
  rw [show 16 * a + 8 + 1 + (j - 9) = 16 * a + j by omega] at this
  exact this
theorem pv_s {V : Int → Int} (hD : Dg V) {a M : Int} (hM : 0 ≤ M ∧ M < 4294967296) : (((pv V a : Nat) : Int) ≤ M ↔ V (16 * a) ≤ M ∧ ∀ j : Int, 1 ≤ j → j < 8 → V (16 * a + j) = 0) ∧ ((∀ j : Int, 1 ≤ j → j < 8 → V (16 * a + j) = 0) → ((pv V a : Nat) : Int) = V (16 * a)) := by
  have h1 := pv_z hD a
  rw [vz_front V (16 * a) 7] at h1
  have h2 := vz_nn hD (16 * a + 1) 7
  have h3 := hD (16 * a)
  have hz : (∀ j : Int, 1 ≤ j → j < 8 → V (16 * a + j) = 0) → vz V (16 * a + 1) 7 = 0 := fun h => vz_zero (fun k k1 k2 => by
    have := h (1 + k) (by omega) (by omega)
    rw [show 16 * a + 1 + k = 16 * a + (1 + k) by omega]
    exact this)
  refine ⟨⟨fun h => ?_, fun h => ?_⟩, fun h => ?_⟩
  · have h4 : vz V (16 * a + 1) 7 = 0 := by omega
    refine ⟨by omega, fun j j1 j2 => ?_⟩
    have := vz_eq0 hD h4 (j - 1) (by omega) (by omega)
    rw [show 16 * a + 1 + (j - 1) = 16 * a + j by omega] at this
    exact this
  · have := hz h.2
    omega
  · have := hz h
    omega
