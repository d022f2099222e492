/-! rounding: the quotient's leading digits, in words for both sides -/
set_option maxRecDepth 100000
def nS (P : Nat) (q : Int) : Nat := P * 2 ^ (-q).toNat
def dS (Q : Nat) (q : Int) : Nat := Q * 2 ^ q.toNat
def mS (P Q : Nat) (q : Int) : Nat := nS P q / dS Q q
def RQ (wd lp : Int) (P Q : Nat) (q : Int) : Prop := lp ≤ q ∧ mS P Q q < 2 ^ wd.toNat ∧ (q = lp ∨ 2 ^ (wd - 1).toNat ≤ mS P Q q)
abbrev goS (dr its : Int) (n d : Nat) : Prop := (dr = 0 ∧ (d < 2 * (n % d) ∨ 2 * (n % d) = d ∧ n / d % 2 = 1)) ∨ (dr = 1 ∧ 0 < its) ∨ (dr = 2 ∧ its < 0)
def upS (dr its : Int) (n d : Nat) : Int := ((n / d : Nat) : Int) + (if goS dr its n d ∧ n % d ≠ 0 then 1 else 0)
def infS (dr its : Int) : Int := if dr = 0 ∨ (dr = 1 ∧ 0 < its) ∨ (dr = 2 ∧ its < 0) then 1 else 0
theorem dS_pos {Q : Nat} (h : Q ≠ 0) (q : Int) : 0 < dS Q q := Nat.mul_pos (Nat.pos_of_ne_zero h) (Nat.two_pow_pos _)
theorem mS_lt {P Q k : Nat} {b : Int} (hQ : Q ≠ 0) (h : (bl P : Int) - bl Q + 1 - b ≤ k) : mS P Q b < 2 ^ k := by
  unfold mS
  apply Nat.div_lt_of_lt_mul
  have h1 := bl_hi P
  have h2 := bl_lo hQ
  have h3 := bl_pos hQ
  have e1 : nS P b < 2 ^ (bl P + (-b).toNat) := by
    unfold nS
    rw [Nat.pow_add]
    exact Nat.mul_lt_mul_of_pos_right h1 (Nat.two_pow_pos _)
  have e2 : 2 ^ (bl Q - 1 + b.toNat + k) ≤ dS Q b * 2 ^ k := by
    unfold dS
    rw [Nat.pow_add, Nat.pow_add]
    exact Nat.mul_le_mul_right _ (Nat.mul_le_mul_right _ h2)
  have e3 : 2 ^ (bl P + (-b).toNat) ≤ 2 ^ (bl Q - 1 + b.toNat + k) := Nat.pow_le_pow_right (by decide) (by omega)
  omega
theorem mS_ge {P Q k : Nat} {b : Int} (hP : P ≠ 0) (hQ : Q ≠ 0) (h : (k : Int) ≤ (bl P : Int) - bl Q - 1 - b) : 2 ^ k ≤ mS P Q b := by
  unfold mS
  rw [Nat.le_div_iff_mul_le (dS_pos hQ b)]
  have h1 := bl_lo hP
  have h2 := bl_hi Q
  have h3 := bl_pos hP
  have e1 : 2 ^ (bl P - 1 + (-b).toNat) ≤ nS P b := by
    unfold nS
    rw [Nat.pow_add]
    exact Nat.mul_le_mul_right _ h1
  have e2 : 2 ^ k * dS Q b ≤ 2 ^ (k + (bl Q + b.toNat)) := by
    unfold dS
    rw [Nat.pow_add 2 k, Nat.pow_add]
    exact Nat.mul_le_mul_left _ (Nat.mul_le_mul_right _ (Nat.le_of_lt h2))
  have e3 : 2 ^ (k + (bl Q + b.toNat)) ≤ 2 ^ (bl P - 1 + (-b).toNat) := Nat.pow_le_pow_right (by decide) (by omega)
  omega
theorem mS_half (P Q : Nat) (b : Int) : mS P Q (b + 1) = mS P Q b / 2 := by
  unfold mS nS dS
  by_cases h : 0 ≤ b
  · have e1 : (-(b + 1)).toNat = 0 := by omega
    have e2 : (-b).toNat = 0 := by omega
    have e3 : (b + 1).toNat = b.toNat + 1 := by omega
    rw [e1, e2, e3, Nat.div_div_eq_div_mul, Nat.pow_succ, Nat.mul_assoc]
  · have e1 : (-b).toNat = (-(b + 1)).toNat + 1 := by omega
    have e2 : (b + 1).toNat = 0 := by omega
    have e3 : b.toNat = 0 := by omega
    rw [e1, e2, e3, Nat.pow_zero, Nat.mul_one, Nat.div_div_eq_div_mul, Nat.pow_succ, ← Nat.mul_assoc, Nat.mul_div_mul_right _ _ (by decide : 0 < 2)]
theorem mS_anti (P Q : Nat) (b : Int) : ∀ n : Nat, mS P Q (b + (n : Int)) ≤ mS P Q b
  | 0 => by simp
  | n + 1 => by
    have h := mS_anti P Q b n
    have e : b + ((n + 1 : Nat) : Int) = b + (n : Int) + 1 := by omega
    rw [e, mS_half]
    omega
theorem RQ_one {wd lp : Int} {P Q : Nat} {q q2 : Int} (hw : 1 ≤ wd) (h : RQ wd lp P Q q) (h2 : RQ wd lp P Q q2) : q = q2 := by
  have key : ∀ a c : Int, RQ wd lp P Q a → RQ wd lp P Q c → a < c → False := by
    intro a c ha hc hac
    obtain ⟨n, hn⟩ : ∃ n : Nat, c = a + 1 + (n : Int) := ⟨(c - a - 1).toNat, by omega⟩
    have h1 := mS_anti P Q (a + 1) n
    rw [← hn, mS_half] at h1
    have h3 : 2 ^ wd.toNat = 2 * 2 ^ (wd - 1).toNat := by
      rw [show wd.toNat = (wd - 1).toNat + 1 by omega, Nat.pow_succ, Nat.mul_comm]
    have h4 := ha.2.1
    have h5 := ha.1
    rcases hc.2.2 with h6 | h6
    · omega
    · omega
  rcases Int.lt_trichotomy q q2 with h3 | h3 | h3
  · exact absurd (key q q2 h h2 h3) id
  · exact h3
  · exact absurd (key q2 q h2 h h3) id
theorem bl_gt {x n : Nat} : ¬ bl x ≤ n ↔ 2 ^ n ≤ x := by
  rw [bl_le]
  omega
theorem nS_lt {P Q : Nat} {b wd : Int} (hQ : (bl Q : Int) + wd ≤ 2040) (hP : bl P ≤ 2040) (h : (bl P : Int) - bl Q - wd ≤ b) : nS P b < BN := by
  unfold nS
  exact up_lt (bl_hi P) (by omega)
theorem dS_lt {P Q : Nat} {b wd : Int} (hw : 0 ≤ wd) (hQ : bl Q ≤ 2040) (hP : bl P ≤ 2040) (h : b ≤ 0 ∨ b ≤ (bl P : Int) - bl Q - wd + 1) : 2 * dS Q b < BN := by
  unfold dS
  rw [Nat.mul_comm, Nat.mul_assoc, ← Nat.pow_succ]
  exact up_lt (bl_hi Q) (by omega)
theorem RQ_0 {wd lp : Int} {P Q : Nat} {b : Int} (hP : P ≠ 0) (hQ : Q ≠ 0) (hw : 1 ≤ wd) (hb : b = if (bl P : Int) - bl Q - wd < lp then lp else (bl P : Int) - bl Q - wd) : bl (mS P Q b) ≤ wd.toNat + 1 ∧ (bl (mS P Q b) ≤ wd.toNat → RQ wd lp P Q b) ∧ (¬ bl (mS P Q b) ≤ wd.toNat → RQ wd lp P Q (b + 1) ∧ b + 1 ≤ (bl P : Int) - bl Q - wd + 1) := by
  have h3 : 2 ^ wd.toNat = 2 * 2 ^ (wd - 1).toNat := by
    rw [show wd.toNat = (wd - 1).toNat + 1 by omega, Nat.pow_succ, Nat.mul_comm]
  have hlo : lp ≤ b := by
    rw [hb]
    split <;> omega
  have hge : (bl P : Int) - bl Q - wd ≤ b := by
    rw [hb]
    split <;> omega
  have h1 : mS P Q b < 2 ^ (wd.toNat + 1) := mS_lt hQ (by omega)
  have hF : b = lp ∨ 2 ^ (wd - 1).toNat ≤ mS P Q b := by
    by_cases c : (bl P : Int) - bl Q - wd < lp
    · left
      rw [hb, if_pos c]
    · right
      exact mS_ge hP hQ (by rw [hb, if_neg c]; omega)
  refine ⟨bl_le.mpr h1, fun h => ⟨hlo, bl_le.mp h, hF⟩, fun h => ?_⟩
  have h4 := bl_gt.mp h
  have hbe : b = (bl P : Int) - bl Q - wd := by
    by_cases c : (bl P : Int) - bl Q - wd < lp
    · exfalso
      have h5 : mS P Q b < 2 ^ wd.toNat := mS_lt hQ (by rw [hb, if_pos c]; omega)
      omega
    · rw [hb, if_neg c]
  rw [Nat.pow_succ] at h1
  have h6 := mS_half P Q b
  exact ⟨⟨by omega, by omega, Or.inr (by omega)⟩, by omega⟩
def b0S (wd lp : Int) (P Q : Nat) : Int := if (bl P : Int) - bl Q - wd < lp then lp else (bl P : Int) - bl Q - wd
theorem b0S_r {wd lp : Int} {P Q : Nat} : lp ≤ b0S wd lp P Q ∧ (bl P : Int) - bl Q - wd ≤ b0S wd lp P Q ∧ (b0S wd lp P Q = lp ∨ b0S wd lp P Q = (bl P : Int) - bl Q - wd) := by
  unfold b0S
  split <;> omega
theorem RQ_bl {wd lp : Int} {P Q : Nat} {b : Int} (hw : 1 ≤ wd) (h : RQ wd lp P Q b) : bl (mS P Q b) ≤ wd.toNat ∧ (b = lp ∨ ¬ bl (mS P Q b) < wd.toNat) := by
  refine ⟨bl_le.mpr h.2.1, ?_⟩
  rcases h.2.2 with h1 | h1
  · exact Or.inl h1
  · right
    intro q
    have h2 := bl_le.mp (Nat.le_pred_of_lt q)
    rw [show wd.toNat.pred = (wd - 1).toNat by simp] at h2
    omega
/-- a step of the search for the place -/
def RdI (wd lp : Int) (P Q : Nat) (b mr : Int) : Prop := (mr = 1 ∧ b = b0S wd lp P Q) ∨ (mr = 1 ∧ b = b0S wd lp P Q + 1 ∧ ¬ bl (mS P Q (b0S wd lp P Q)) ≤ wd.toNat) ∨ (mr = 0 ∧ RQ wd lp P Q b)
theorem RdI_s {wd lp : Int} {P Q : Nat} {b : Int} (hP : P ≠ 0) (hQ : Q ≠ 0) (hw : 1 ≤ wd) (h : RdI wd lp P Q b 1) : (bl (mS P Q b) ≤ wd.toNat → RQ wd lp P Q b) ∧ (¬ bl (mS P Q b) ≤ wd.toNat → b = b0S wd lp P Q) ∧ lp ≤ b ∧ (bl P : Int) - bl Q - wd ≤ b ∧ (b ≤ 0 ∨ b ≤ (bl P : Int) - bl Q - wd + 1 ∨ b = lp ∨ b = lp + 1) ∧ (b = lp ∨ b ≤ (bl P : Int) - bl Q - wd + 1) := by
  obtain ⟨r1, r2, r3⟩ := b0S_r (wd := wd) (lp := lp) (P := P) (Q := Q)
  obtain ⟨s1, s2, s3⟩ := RQ_0 (b := b0S wd lp P Q) hP hQ hw rfl
  rcases h with ⟨-, h1⟩ | ⟨-, h1, h2⟩ | ⟨h1, -⟩
  · subst h1
    exact ⟨s2, fun _ => rfl, r1, r2, by omega, by omega⟩
  · obtain ⟨t1, t2⟩ := s3 h2
    subst h1
    refine ⟨fun _ => t1, fun q => absurd (RQ_bl hw t1).1 q, by omega, by omega, by omega, by omega⟩
  · omega
