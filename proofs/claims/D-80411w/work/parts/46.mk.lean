/-! what 'make' does, said once for both sides -/
set_option maxRecDepth 100000
/-- made: the n-th number is in lowest terms p / q with sign g; or it fails with the code -/
def Mde (n : Int) (S : Int → Int) (V : Int → Int) (g : Int) (p q : Nat) (code : Int) (z th1 n1 : Int) (S1 V1 : Int → Int) : Prop :=
  (okN n p q ∧ z = n ∧ th1 = 0 ∧ n1 = n + 1 ∧ S1 = uZ S n (if p = 0 then 0 else g) ∧ pv V1 n = mkP p q ∧ qv V1 n = mkQ p q ∧ ∀ i : Int, ¬ (16 * n ≤ i ∧ i < 16 * n + 16) → V1 i = V i) ∨ (¬ okN n p q ∧ z = 0 ∧ th1 = code ∧ n1 = n ∧ S1 = S ∧ V1 = V)
theorem mkP_0 {p q : Nat} (hq : q ≠ 0) : mkP p q = 0 ↔ p = 0 := by
  unfold mkP
  obtain ⟨h1, -⟩ := gcd_mkd (p := p) hq
  constructor
  · intro h
    have h2 := Nat.div_eq_zero_iff.mp h
    rcases h2 with h2 | h2
    · exact absurd h2 h1
    · apply Classical.byContradiction
      intro hp
      have := Nat.gcd_le_left (mkd p q) (Nat.pos_of_ne_zero hp)
      omega
  · intro h
    subst h
    exact Nat.zero_div _
theorem mk_St {W V V1 : Int → Int} {n o r : Int} (hD : Dg W) (hb : bl (rv W r) ≤ 256) (h : ∀ j : Int, 0 ≤ j → j < 8 → V1 (16 * n + o + j) = W (64 * r + j)) : (vz V1 (16 * n + o) 8).toNat = rv W r := st_rv hD hb h
