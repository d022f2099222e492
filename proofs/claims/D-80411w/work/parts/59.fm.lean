/-! the forms of floats and doubles, their bits -/
set_option maxRecDepth 100000
theorem mul_p {x y a b : Nat} (hx : x < 2 ^ a) (hy : y < 2 ^ b) : x * y < 2 ^ (a + b) := by
  rw [Nat.pow_add]
  exact Nat.mul_lt_mul'' hx hy
def FM (wd lp mp : Int) : Prop := (wd = 53 ∧ lp = -1074 ∧ mp = 971) ∨ (wd = 24 ∧ lp = -149 ∧ mp = 104)
/-- so many times 2 to a place, as bits -/
def encT (T lp mp m q ti : Int) : Int := if mp < q then (if ti = 0 then (mp - lp + 2) * T - 1 else (mp - lp + 2) * T) else if m < T then m else (q - lp + 1) * T + (m - T)
def encS (T lp mp m q ti : Int) : Int := if m = 2 * T then encT T lp mp T (q + 1) ti else encT T lp mp m q ti
theorem FM_T {wd lp mp : Int} (h : FM wd lp mp) : (2 : Int) ^ wd.toNat = 2 * 2 ^ (wd - 1).toNat ∧ (wd = 53 ∧ lp = -1074 ∧ mp = 971 ∧ (2 : Int) ^ (wd - 1).toNat = 4503599627370496 ∨ wd = 24 ∧ lp = -149 ∧ mp = 104 ∧ (2 : Int) ^ (wd - 1).toNat = 8388608) := by
  rcases h with ⟨rfl, rfl, rfl⟩ | ⟨rfl, rfl, rfl⟩
  · exact ⟨by decide, Or.inl ⟨rfl, rfl, rfl, by decide⟩⟩
  · exact ⟨by decide, Or.inr ⟨rfl, rfl, rfl, by decide⟩⟩
theorem FM_in {wd lp mp q T : Int} (h : wd = 53 ∧ lp = -1074 ∧ mp = 971 ∧ T = 4503599627370496 ∨ wd = 24 ∧ lp = -149 ∧ mp = 104 ∧ T = 8388608) (hq : lp ≤ q ∧ q ≤ mp) : (0 ≤ (mp - lp + 2) * T ∧ (mp - lp + 2) * T ≤ 9218868437227405312) ∧ 0 ≤ (q - lp + 1) * T ∧ (q - lp + 1) * T ≤ 9214364837600034816 := by
  rcases h with ⟨rfl, rfl, rfl, rfl⟩ | ⟨rfl, rfl, rfl, rfl⟩ <;> omega
