/-! so many times 2 to a place: far below, far beyond -/
set_option maxRecDepth 100000
theorem infS_n : infS 0 1 = 1 := rfl
theorem sc_lo {wd lp mp b : Int} {x : Nat} (hF : FM wd lp mp) (hx : x < 2 ^ 63) (hb : b < lp - 200) : ∃ q : Int, RQ wd lp (x * 2 ^ b.toNat) (2 ^ (-b).toNat) q ∧ 0 = encS (2 ^ (wd - 1).toNat) lp mp (upS 0 1 (nS (x * 2 ^ b.toNat) q) (dS (2 ^ (-b).toNat) q)) q (infS 0 1) := by
  have hw : lp < 0 ∧ -1074 ≤ lp ∧ 0 < mp := by
    rcases hF with ⟨rfl, rfl, rfl⟩ | ⟨rfl, rfl, rfl⟩ <;> decide
  have e1 : nS (x * 2 ^ b.toNat) lp = x * 2 ^ (-lp).toNat := by
    unfold nS
    rw [show b.toNat = 0 by omega, Nat.pow_zero, Nat.mul_one]
  have e2 : dS (2 ^ (-b).toNat) lp = 2 ^ (-b).toNat := by
    unfold dS
    rw [show lp.toNat = 0 by omega, Nat.pow_zero, Nat.mul_one]
  have e3 : 2 * (x * 2 ^ (-lp).toNat) < 2 ^ (-b).toNat := by
    have h1 : 2 * (x * 2 ^ (-lp).toNat) < 2 ^ (1 + 63 + (-lp).toNat) := by
      rw [Nat.pow_add, Nat.pow_add, ← Nat.mul_assoc]
      apply Nat.mul_lt_mul_of_pos_right _ (Nat.two_pow_pos _)
      omega
    have h2 : 2 ^ (1 + 63 + (-lp).toNat) ≤ 2 ^ (-b).toNat := Nat.pow_le_pow_right (by decide) (by omega)
    omega
  have e4 : nS (x * 2 ^ b.toNat) lp / dS (2 ^ (-b).toNat) lp = 0 := by
    rw [e1, e2]
    exact Nat.div_eq_of_lt (by omega)
  have e5 : nS (x * 2 ^ b.toNat) lp % dS (2 ^ (-b).toNat) lp = x * 2 ^ (-lp).toNat := by
    rw [e1, e2]
    exact Nat.mod_eq_of_lt (by omega)
  refine ⟨lp, ⟨Int.le_refl _, ?_, Or.inl rfl⟩, ?_⟩
  · unfold mS
    rw [e4]
    exact Nat.two_pow_pos _
  · have hT := ppos (wd - 1).toNat
    have hu : upS 0 1 (nS (x * 2 ^ b.toNat) lp) (dS (2 ^ (-b).toNat) lp) = 0 := by
      unfold upS
      rw [if_neg (fun h => by
        rcases h.1 with ⟨-, h2 | ⟨h2, -⟩⟩ | ⟨h2, -⟩ | ⟨h2, -⟩
        · rw [e5, e2] at h2
          omega
        · rw [e5, e2] at h2
          omega
        · omega
        · omega), e4]
      rfl
    rw [hu]
    unfold encS encT
    rw [if_neg (by omega), if_neg (by omega), if_pos hT]
theorem sc_hi {wd lp mp b : Int} {x : Nat} (hF : FM wd lp mp) (hx : x ≠ 0) (hb : mp + 100 < b) : ∃ q : Int, RQ wd lp (x * 2 ^ b.toNat) (2 ^ (-b).toNat) q ∧ (mp - lp + 2) * 2 ^ (wd - 1).toNat = encS (2 ^ (wd - 1).toNat) lp mp (upS 0 1 (nS (x * 2 ^ b.toNat) q) (dS (2 ^ (-b).toNat) q)) q (infS 0 1) := by
  have hw : 1 ≤ wd ∧ wd ≤ 53 ∧ 0 < mp := by
    rcases hF with ⟨rfl, rfl, rfl⟩ | ⟨rfl, rfl, rfl⟩ <;> decide
  have hP : x * 2 ^ b.toNat ≠ 0 := Nat.ne_of_gt (Nat.mul_pos (Nat.pos_of_ne_zero hx) (Nat.two_pow_pos _))
  have hQ : 2 ^ (-b).toNat ≠ 0 := Nat.ne_of_gt (Nat.two_pow_pos _)
  have hbP : ¬ bl (x * 2 ^ b.toNat) ≤ b.toNat := bl_gt.mpr (Nat.le_mul_of_pos_left _ (Nat.pos_of_ne_zero hx))
  have hbQ : bl (2 ^ (-b).toNat) = 1 := by
    rw [show (-b).toNat = 0 by omega]
    rfl
  have key : ∀ q : Int, mp < q → (mp - lp + 2) * 2 ^ (wd - 1).toNat = encS (2 ^ (wd - 1).toNat) lp mp (upS 0 1 (nS (x * 2 ^ b.toNat) q) (dS (2 ^ (-b).toNat) q)) q (infS 0 1) := by
    intro q hq
    rw [infS_n]
    unfold encS encT
    rw [if_pos (show mp < q + 1 by omega), if_pos hq, if_neg (show ¬ (1 : Int) = 0 by decide)]
    split <;> rfl
  obtain ⟨s1, s2, s3⟩ := RQ_0 (wd := wd) (lp := lp) (b := b0S wd lp (x * 2 ^ b.toNat) (2 ^ (-b).toNat)) hP hQ hw.1 rfl
  obtain ⟨r1, r2, r3⟩ := b0S_r (wd := wd) (lp := lp) (P := x * 2 ^ b.toNat) (Q := 2 ^ (-b).toNat)
  by_cases c : bl (mS (x * 2 ^ b.toNat) (2 ^ (-b).toNat) (b0S wd lp (x * 2 ^ b.toNat) (2 ^ (-b).toNat))) ≤ wd.toNat
  · exact ⟨_, s2 c, key _ (by omega)⟩
  · exact ⟨_, (s3 c).1, key _ (by omega)⟩
