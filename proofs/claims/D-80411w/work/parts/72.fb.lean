/-! a double's bits as a float's -/
set_option maxRecDepth 100000
def sgf (v e : Int) : Int := if v < 0 then e - 2147483648 else e
def scF (x v z : Int) : Prop := (x = 0 → z = 0) ∧ (x ≠ 0 → rnB 32 (x.toNat * 2 ^ v.toNat) (2 ^ (-v).toNat) 0 1 z)
def fbX (v z : Int) : Prop := (eX v = 2047 ∧ pX v ≠ 0 → z = 2143289344) ∧ (eX v = 2047 ∧ pX v = 0 → z = sgf v 2139095040) ∧ (eX v ≠ 2047 → ∃ e : Int, scF (fX v) (plX v) e ∧ z = sgf v e)
theorem sgf_or {v e : Int} (he : 0 ≤ e ∧ e < 2147483648) {t : Int} (ht : t = if v < 0 then 2147483648 else 0) : I3 (zor6 e t) = I3 (sgf v e) := by
  unfold sgf
  subst ht
  split
  · rw [zor6_c (p := 2147483648) 31 (by decide) (by omega) (by omega)]
    exact I3_congr (by omega)
  · rw [zor6_0 (by constructor <;> omega)]
