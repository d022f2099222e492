/-! signs on bits; what is told to the nearest double or float -/
set_option maxRecDepth 100000
theorem zor6_0 {x : Int} (h : In6 x) : zor6 x 0 = x := by
  unfold zor6
  have e : L6 0 = 0 := rfl
  rw [e, Int64.or_zero, L6_t h]
theorem zor6_sg {x : Int} (h : 0 ≤ x ∧ x < 9223372036854775808) : zor6 x (-9223372036854775808) = x - 9223372036854775808 := by
  obtain ⟨a, rfl⟩ := Int.eq_ofNat_of_zero_le h.1
  have e : (L6 (a : Int) ||| L6 (-9223372036854775808)) = L6 ((a : Int) - 9223372036854775808) := by
    have e0 : L6 (-9223372036854775808) = L6 ((9223372036854775808 : Nat) : Int) := L6_congr (by decide)
    have e1 : L6 ((a : Int) - 9223372036854775808) = L6 ((a + 9223372036854775808 : Nat) : Int) := L6_congr (by omega)
    rw [e0, e1]
    apply Int64.toBitVec_inj.mp
    rw [Int64.toBitVec_or]
    show BitVec.ofInt 64 (a : Int) ||| BitVec.ofInt 64 ((9223372036854775808 : Nat) : Int) = BitVec.ofInt 64 ((a + 9223372036854775808 : Nat) : Int)
    rw [BitVec.ofInt_natCast, BitVec.ofInt_natCast, BitVec.ofInt_natCast]
    apply BitVec.eq_of_toNat_eq
    rw [BitVec.toNat_or, BitVec.toNat_ofNat, BitVec.toNat_ofNat, BitVec.toNat_ofNat, Nat.mod_eq_of_lt (by omega), Nat.mod_eq_of_lt (by omega), Nat.mod_eq_of_lt (by omega)]
    have h2 := Nat.two_pow_add_eq_or_of_lt (i := 63) (b := a) (by omega) 1
    have e3 : (2 : Nat) ^ 63 = 9223372036854775808 := by decide
    rw [e3, Nat.mul_one] at h2
    rw [Nat.or_comm, ← h2]
    omega
  unfold zor6
  rw [e, L6_t]
  constructor <;> omega
theorem encS_r {wd lp mp m q ti : Int} (h : FM wd lp mp) (hm : 0 ≤ m ∧ m ≤ 2 ^ wd.toNat) (hq : lp ≤ q) (ht : ti = 0 ∨ ti = 1) : 0 ≤ encS (2 ^ (wd - 1).toNat) lp mp m q ti ∧ encS (2 ^ (wd - 1).toNat) lp mp m q ti ≤ (mp - lp + 2) * 2 ^ (wd - 1).toNat := by
  obtain ⟨h1, h2⟩ := FM_T h
  rw [h1] at hm
  have key : ∀ x y : Int, 0 ≤ x → x < 2 * 2 ^ (wd - 1).toNat → lp ≤ y → 0 ≤ encT (2 ^ (wd - 1).toNat) lp mp x y ti ∧ encT (2 ^ (wd - 1).toNat) lp mp x y ti ≤ (mp - lp + 2) * 2 ^ (wd - 1).toNat := by
    intro x y hx0 hx1 hy
    unfold encT
    clear hm h1 h
    generalize (2 : Int) ^ (wd - 1).toNat = T at *
    rcases h2 with ⟨rfl, rfl, rfl, rfl⟩ | ⟨rfl, rfl, rfl, rfl⟩ <;> (split <;> (try split) <;> omega)
  unfold encS
  split
  · exact key _ _ (by omega) (by omega) (by omega)
  · exact key _ _ hm.1 (by omega) hq
theorem infS_01 (dr its : Int) : infS dr its = 0 ∨ infS dr its = 1 := by
  unfold infS
  split <;> omega
theorem upS_r {wd lp : Int} {P Q : Nat} {q dr its : Int} (h : RQ wd lp P Q q) : 0 ≤ upS dr its (nS P q) (dS Q q) ∧ upS dr its (nS P q) (dS Q q) ≤ 2 ^ wd.toNat := by
  have h1 := h.2.1
  have h2 := pw_cast wd.toNat
  unfold mS at h1
  unfold upS
  have h3 : ((nS P q / dS Q q : Nat) : Int) < 2 ^ wd.toNat := by
    rw [← h2]
    exact Int.ofNat_lt.mpr h1
  have h4 : (0 : Int) ≤ ((nS P q / dS Q q : Nat) : Int) := Int.natCast_nonneg _
  generalize ((nS P q / dS Q q : Nat) : Int) = x at h3 h4 ⊢
  generalize (2 : Int) ^ wd.toNat = y at h3 ⊢
  constructor
  · split <;> omega
  · split <;> omega
/-- the double's, the float's bits of P over Q by a direction, without sign -/
def rnB (f : Nat) (P Q : Nat) (dr its z : Int) : Prop := if f = 64 then ∃ q : Int, RQ 53 (-1074) P Q q ∧ z = encS 4503599627370496 (-1074) 971 (upS dr its (nS P q) (dS Q q)) q (infS dr its) else ∃ q : Int, RQ 24 (-149) P Q q ∧ z = encS 8388608 (-149) 104 (upS dr its (nS P q) (dS Q q)) q (infS dr its)
theorem rnB_64 {P Q : Nat} {dr its z wd lp mp : Int} (hw : wd = 53 ∧ lp = -1074 ∧ mp = 971) (h : ∃ q : Int, RQ wd lp P Q q ∧ z = encS (2 ^ (wd - 1).toNat) lp mp (upS dr its (nS P q) (dS Q q)) q (infS dr its)) : rnB 64 P Q dr its z ∧ 0 ≤ z ∧ z ≤ 9218868437227405312 := by
  obtain ⟨rfl, rfl, rfl⟩ := hw
  obtain ⟨q, h1, h2⟩ := h
  have h3 := encS_r (Or.inl ⟨rfl, rfl, rfl⟩) (upS_r (dr := dr) (its := its) h1) h1.1 (infS_01 dr its)
  have e : (2 : Int) ^ ((53 : Int) - 1).toNat = 4503599627370496 := by decide
  rw [e] at h2 h3
  refine ⟨?_, by omega, by omega⟩
  unfold rnB
  rw [if_pos rfl]
  exact ⟨q, h1, h2⟩
theorem rnB_32 {P Q : Nat} {dr its z wd lp mp : Int} (hw : wd = 24 ∧ lp = -149 ∧ mp = 104) (h : ∃ q : Int, RQ wd lp P Q q ∧ z = encS (2 ^ (wd - 1).toNat) lp mp (upS dr its (nS P q) (dS Q q)) q (infS dr its)) : rnB 32 P Q dr its z ∧ 0 ≤ z ∧ z ≤ 2139095040 := by
  obtain ⟨rfl, rfl, rfl⟩ := hw
  obtain ⟨q, h1, h2⟩ := h
  have h3 := encS_r (Or.inr ⟨rfl, rfl, rfl⟩) (upS_r (dr := dr) (its := its) h1) h1.1 (infS_01 dr its)
  have e : (2 : Int) ^ ((24 : Int) - 1).toNat = 8388608 := by decide
  rw [e] at h2 h3
  refine ⟨?_, by omega, by omega⟩
  unfold rnB
  rw [if_neg (by decide)]
  exact ⟨q, h1, h2⟩
