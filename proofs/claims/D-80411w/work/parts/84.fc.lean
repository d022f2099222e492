/-! rounding to a format, by the core's definitions: what it depends on, where it is exact -/
set_option maxRecDepth 100000
def v64 (a : UInt64) : FP.Core.Datum := FP.Core.decode FP.Core.b64 a.toNat
def v32 (a : UInt32) : FP.Core.Datum := FP.Core.decode FP.Core.b32 a.toNat
theorem pwN {a b : Nat} (h : a ≤ b) : 2 ^ a ≤ 2 ^ b := Nat.pow_le_pow_right (by decide) h
theorem b64p : 2 ^ FP.Core.b64.p = 9007199254740992 := by decide
theorem b64x : FP.Core.b64.qmax = 971 := by decide
theorem b64n : FP.Core.b64.qmin = -1074 := by decide
theorem b64t : FP.Core.b64.tails = 4503599627370496 := by decide
theorem b64e : FP.Core.b64.exps = 2048 := by decide
theorem b32p : 2 ^ FP.Core.b32.p = 16777216 := by decide
theorem b32x : FP.Core.b32.qmax = 104 := by decide
theorem b32n : FP.Core.b32.qmin = -149 := by decide
theorem b32t : FP.Core.b32.tails = 8388608 := by decide
theorem b32e : FP.Core.b32.exps = 256 := by decide
/-- 2 to the k is not above A / B -/
def LEp (A B : Nat) (k : Int) : Prop := B * 2 ^ k.toNat ≤ A * 2 ^ (-k).toNat
theorem LEp_ij {A B i j : Nat} {k : Int} (h : (i : Int) - (j : Int) = k) : LEp A B k ↔ B * 2 ^ i ≤ A * 2 ^ j := by
  unfold LEp
  obtain ⟨t, h1, h2⟩ : ∃ t : Nat, i = k.toNat + t ∧ j = (-k).toNat + t := ⟨i - k.toNat, by omega, by omega⟩
  rw [h1, h2, Nat.pow_add, Nat.pow_add, ← Nat.mul_assoc, ← Nat.mul_assoc]
  exact (Nat.mul_le_mul_right_iff (Nat.two_pow_pos t)).symm
theorem LEp_mono {A B : Nat} {k k' : Int} (h : k' ≤ k) (hk : LEp A B k) : LEp A B k' := by
  obtain ⟨j, h1⟩ : ∃ j : Nat, 0 ≤ k' + (j : Int) := ⟨(-k').toNat, by omega⟩
  have a1 := (LEp_ij (A := A) (B := B) (i := (k + (j : Int)).toNat) (j := j) (k := k) (by omega)).mp hk
  exact (LEp_ij (i := (k' + (j : Int)).toNat) (j := j) (by omega)).mpr (Nat.le_trans (Nat.mul_le_mul_left B (pwN (by omega))) a1)
theorem lead_ok {A B : Nat} (hA : A ≠ 0) (hB : B ≠ 0) : LEp A B (FP.Core.leading A B) ∧ ¬ LEp A B (FP.Core.leading A B + 1) := by
  have a1 := Nat.log2_self_le hA
  have a2 := Nat.lt_log2_self (n := A)
  have b1 := Nat.log2_self_le hB
  have b2 := Nat.lt_log2_self (n := B)
  have lo : LEp A B ((A.log2 : Int) - (B.log2 : Int) - 1) := by
    refine (LEp_ij (i := A.log2) (j := B.log2 + 1) (by omega)).mpr ?_
    rw [Nat.mul_comm A]
    exact Nat.mul_le_mul (Nat.le_of_lt b2) a1
  have hi : ¬ LEp A B ((A.log2 : Int) - (B.log2 : Int) + 1) := fun h => by
    have h := (LEp_ij (i := A.log2 + 1) (j := B.log2) (by omega)).mp h
    have c1 : A * 2 ^ B.log2 < 2 ^ (A.log2 + 1) * 2 ^ B.log2 := Nat.mul_lt_mul_of_pos_right a2 (Nat.two_pow_pos _)
    have c2 : 2 ^ (A.log2 + 1) * 2 ^ B.log2 ≤ 2 ^ (A.log2 + 1) * B := Nat.mul_le_mul_left _ b1
    rw [Nat.mul_comm B] at h
    omega
  by_cases g : LEp A B ((A.log2 : Int) - (B.log2 : Int))
  · have e : FP.Core.leading A B = (A.log2 : Int) - (B.log2 : Int) := if_pos g
    rw [e]
    exact ⟨g, hi⟩
  · have e : FP.Core.leading A B = (A.log2 : Int) - (B.log2 : Int) - 1 := if_neg g
    rw [e]
    exact ⟨lo, by rw [Int.sub_add_cancel]; exact g⟩
theorem lead_lt_of {A B : Nat} (hA : A ≠ 0) (hB : B ≠ 0) {m : Int} (h : ¬ LEp A B m) : FP.Core.leading A B < m := by
  by_cases g : FP.Core.leading A B < m
  · exact g
  · exact absurd (LEp_mono (by omega) (lead_ok hA hB).1) h
theorem lead_ge_of {A B : Nat} (hA : A ≠ 0) (hB : B ≠ 0) {m : Int} (h : LEp A B m) : m ≤ FP.Core.leading A B := by
  by_cases g : m ≤ FP.Core.leading A B
  · exact g
  · exact absurd (LEp_mono (by omega) h) (lead_ok hA hB).2
def Bel (A B : Nat) (k : Int) : Prop := ¬ LEp A B k
theorem fl_ub (A B : Nat) (e q : Int) (k : Nat) : FP.Core.unitsNum A e q < 2 ^ k * FP.Core.unitsDen B e q ↔ Bel A B (q - e + (k : Int)) := by
  unfold Bel
  rw [LEp_ij (i := (q - e).toNat + k) (j := (e - q).toNat) (by omega), Nat.not_le]
  unfold FP.Core.unitsNum FP.Core.unitsDen
  rw [Nat.pow_add, show 2 ^ k * (B * 2 ^ (q - e).toNat) = B * (2 ^ (q - e).toNat * 2 ^ k) by ac_rfl]
theorem fl_qe {f : FP.Core.Fmt} {A B : Nat} {e q : Int} (hA : 0 < A) (hB : 0 < B) (h1 : f.qmin ≤ q) (h2 : Bel A B (q - e + (f.p : Int))) (h3 : q = f.qmin ∨ ¬ Bel A B (q - e + ((f.p : Int) - 1))) : FP.Core.quantum f A B e = q := by
  have l1 := lead_lt_of (Nat.ne_of_gt hA) (Nat.ne_of_gt hB) h2
  unfold FP.Core.quantum
  rcases h3 with h3 | h3
  · omega
  · have l2 := lead_ge_of (Nat.ne_of_gt hA) (Nat.ne_of_gt hB) (m := q - e + ((f.p : Int) - 1)) (by
      by_cases g : LEp A B (q - e + ((f.p : Int) - 1))
      · exact g
      · exact absurd g h3)
    omega
theorem fl_qg (f : FP.Core.Fmt) (A B : Nat) (e : Int) : f.qmin ≤ FP.Core.quantum f A B e := by
  unfold FP.Core.quantum
  omega
theorem fl_qb {f : FP.Core.Fmt} {A B : Nat} (hA : A ≠ 0) (hB : B ≠ 0) (e : Int) : Bel A B (FP.Core.quantum f A B e - e + (f.p : Int)) ∧ (FP.Core.quantum f A B e = f.qmin ∨ ¬ Bel A B (FP.Core.quantum f A B e - e + ((f.p : Int) - 1))) := by
  obtain ⟨l1, l2⟩ := lead_ok hA hB
  unfold FP.Core.quantum
  refine ⟨fun h => l2 (LEp_mono (by omega) h), ?_⟩
  by_cases g : f.qmin ≥ FP.Core.leading A B + e - ((f.p : Int) - 1)
  · left
    omega
  · right
    intro h
    exact h (LEp_mono (by omega) l1)
theorem ud_pos {B : Nat} (hB : 0 < B) (e q : Int) : 0 < FP.Core.unitsDen B e q := Nat.mul_pos hB (Nat.two_pow_pos _)
theorem nr_le {A B M : Nat} (hB : 0 < B) (h : A ≤ M * B) : FP.Core.nearest A B ≤ M := by
  have h1 := Nat.div_add_mod A B
  have h2 := Nat.mod_lt A hB
  have h3 : A / B ≤ M := by
    have := Nat.div_le_div_right (c := B) h
    rw [Nat.mul_div_cancel M hB] at this
    exact this
  have h4 : A / B = M → A % B = 0 := fun e => by
    rw [e, Nat.mul_comm B M] at h1
    omega
  unfold FP.Core.nearest
  split
  · exact h3
  · split
    · by_cases g : A / B = M
      · have := h4 g
        omega
      · omega
    · by_cases g : A / B = M
      · have := h4 g
        omega
      · omega
theorem nr_ge {A B M : Nat} (hB : 0 < B) (h : M * B ≤ A) : M ≤ FP.Core.nearest A B := by
  have h3 : M ≤ A / B := (Nat.le_div_iff_mul_le hB).mpr h
  unfold FP.Core.nearest
  split
  · exact h3
  · split <;> omega
theorem nr_ex {B : Nat} (M : Nat) (hB : 0 < B) : FP.Core.nearest (M * B) B = M := by
  unfold FP.Core.nearest
  rw [Nat.mul_mod_left, Nat.mul_div_cancel M hB, if_pos (by omega)]
theorem nr_sc (A B k : Nat) (hk : 0 < k) : FP.Core.nearest (A * k) (B * k) = FP.Core.nearest A B := by
  unfold FP.Core.nearest
  rw [Nat.mul_div_mul_right A B hk, Nat.mul_mod_mul_right]
  have e1 : 2 * (A % B * k) < B * k ↔ 2 * (A % B) < B := by
    rw [← Nat.mul_assoc]
    exact Nat.mul_lt_mul_right hk
  have e2 : B * k < 2 * (A % B * k) ↔ B < 2 * (A % B) := by
    rw [← Nat.mul_assoc]
    exact Nat.mul_lt_mul_right hk
  by_cases c1 : 2 * (A % B) < B
  · rw [if_pos c1, if_pos (e1.mpr c1)]
  · rw [if_neg c1, if_neg (fun h => c1 (e1.mp h))]
    by_cases c2 : B < 2 * (A % B)
    · rw [if_pos c2, if_pos (e2.mpr c2)]
    · rw [if_neg c2, if_neg (fun h => c2 (e2.mp h))]
theorem nr_cr {A B A' B' : Nat} (hB : 0 < B) (hB' : 0 < B') (h : A * B' = A' * B) : FP.Core.nearest A B = FP.Core.nearest A' B' := by
  rw [← nr_sc A B B' hB', ← nr_sc A' B' B hB, h, Nat.mul_comm B' B]
theorem bel_cr {N D N' D' K : Nat} (hD : 0 < D) (hD' : 0 < D') (h : N * D' = N' * D) : N < K * D ↔ N' < K * D' := by
  rw [← Nat.mul_lt_mul_right (a := D') hD', ← Nat.mul_lt_mul_right (a := D) hD (b := N'), h, Nat.mul_right_comm K D D']
/-- rounding depends on the value alone -/
theorem rr_congr {f : FP.Core.Fmt} {s : Bool} {A B A' B' : Nat} {e e' : Int} (hp : 1 ≤ f.p) (hB : 0 < B) (hB' : 0 < B') (h : A * B' * 2 ^ (e - e').toNat = A' * B * 2 ^ (e' - e).toNat) : FP.Core.roundRatio f s A B e = FP.Core.roundRatio f s A' B' e' := by
  have q1 := Nat.two_pow_pos (e - e').toNat
  have q2 := Nat.two_pow_pos (e' - e).toNat
  by_cases hA : A = 0
  · have hA' : A' = 0 := by
      rw [hA, Nat.zero_mul, Nat.zero_mul] at h
      rcases Nat.mul_eq_zero.mp h.symm with c | c
      · rcases Nat.mul_eq_zero.mp c with d | d
        · exact d
        · omega
      · omega
    unfold FP.Core.roundRatio
    rw [if_pos hA, if_pos hA']
  · have hA' : A' ≠ 0 := by
      intro c
      rw [c, Nat.zero_mul, Nat.zero_mul] at h
      rcases Nat.mul_eq_zero.mp h with c | c
      · rcases Nat.mul_eq_zero.mp c with d | d
        · exact hA d
        · omega
      · omega
    have key : ∀ q : Int, FP.Core.unitsNum A e q * FP.Core.unitsDen B' e' q = FP.Core.unitsNum A' e' q * FP.Core.unitsDen B e q := by
      intro q
      unfold FP.Core.unitsNum FP.Core.unitsDen
      apply Nat.eq_of_mul_eq_mul_right q1
      apply Nat.eq_of_mul_eq_mul_right q2
      have z : 2 ^ (e - q).toNat * 2 ^ (q - e').toNat * 2 ^ (e' - e).toNat = 2 ^ (e' - q).toNat * 2 ^ (q - e).toNat * 2 ^ (e - e').toNat := by
        rw [← Nat.pow_add, ← Nat.pow_add, ← Nat.pow_add, ← Nat.pow_add]
        congr 1
        omega
      generalize 2 ^ (e - q).toNat = x1 at *
      generalize 2 ^ (q - e').toNat = x2 at *
      generalize 2 ^ (e' - q).toNat = x3 at *
      generalize 2 ^ (q - e).toNat = x4 at *
      generalize 2 ^ (e - e').toNat = x5 at *
      generalize 2 ^ (e' - e).toNat = x6 at *
      have z1 : A * x1 * (B' * x2) * x5 * x6 = (A * B' * x5) * (x1 * x2 * x6) := by ac_rfl
      have z2 : A' * x3 * (B * x4) * x5 * x6 = (A' * B * x6) * (x3 * x4 * x5) := by ac_rfl
      rw [z1, z2, h, z]
    have hq : FP.Core.quantum f A' B' e' = FP.Core.quantum f A B e := by
      obtain ⟨h1, h2⟩ := fl_qb (f := f) hA (Nat.ne_of_gt hB) e
      have hpp : (f.p : Int) - 1 = ((f.p - 1 : Nat) : Int) := by omega
      refine fl_qe (Nat.pos_of_ne_zero hA') hB' (fl_qg f A B e) ?_ ?_
      · exact (fl_ub _ _ _ _ _).mp ((bel_cr (ud_pos hB e _) (ud_pos hB' e' _) (key _)).mp ((fl_ub _ _ _ _ _).mpr h1))
      · rcases h2 with h2 | h2
        · exact Or.inl h2
        · right
          rw [hpp] at h2 ⊢
          exact fun w => h2 ((fl_ub _ _ _ _ _).mp ((bel_cr (ud_pos hB e _) (ud_pos hB' e' _) (key _)).mpr ((fl_ub _ _ _ _ _).mpr w)))
    unfold FP.Core.roundRatio FP.Core.roundAt
    rw [if_neg hA, if_neg hA', hq, nr_cr (ud_pos hB e _) (ud_pos hB' e' _) (key _)]
def fG (f : FP.Core.Fmt) : Prop := f = FP.Core.b64 ∨ f = FP.Core.b32
theorem g64 : fG FP.Core.b64 := Or.inl rfl
theorem g32 : fG FP.Core.b32 := Or.inr rfl
theorem fG_n {f : FP.Core.Fmt} (h : fG f) : 1 ≤ f.p ∧ 2 ^ f.p = 2 * f.tails ∧ 2 ^ (f.p - 1) = f.tails ∧ 0 < f.tails ∧ f.qmin + 1 ≤ f.qmax := by
  rcases h with rfl | rfl
  · exact ⟨by decide, by decide, by decide, by decide, by decide⟩
  · exact ⟨by decide, by decide, by decide, by decide, by decide⟩
theorem rr_fits {f : FP.Core.Fmt} (hf : fG f) (s : Bool) (A : Nat) {B : Nat} (hB : 0 < B) (e : Int) : FP.Core.fits f (FP.Core.roundRatio f s A B e) := by
  obtain ⟨g1, g2, g3, g4, g5⟩ := fG_n hf
  have hpp : (f.p : Int) - 1 = ((f.p - 1 : Nat) : Int) := by omega
  unfold FP.Core.roundRatio
  by_cases hA : A = 0
  · rw [if_pos hA]
    exact ⟨by omega, by omega, by omega, Or.inl rfl⟩
  · rw [if_neg hA]
    obtain ⟨h1, h2⟩ := fl_qb (f := f) hA (Nat.ne_of_gt hB) e
    have h0 := fl_qg f A B e
    unfold FP.Core.roundAt
    generalize FP.Core.quantum f A B e = q at *
    have k1 := nr_le (ud_pos hB e q) (Nat.le_of_lt ((fl_ub A B e q f.p).mpr h1))
    have k2 : q = f.qmin ∨ f.tails ≤ FP.Core.nearest (FP.Core.unitsNum A e q) (FP.Core.unitsDen B e q) := by
      rcases h2 with h2 | h2
      · exact Or.inl h2
      · right
        rw [hpp] at h2
        have := (not_congr (fl_ub A B e q (f.p - 1))).mpr h2
        rw [g3] at this
        exact nr_ge (ud_pos hB e q) (Nat.le_of_not_lt this)
    generalize FP.Core.nearest (FP.Core.unitsNum A e q) (FP.Core.unitsDen B e q) = m at *
    unfold FP.Core.settle FP.Core.bound
    by_cases c1 : m < 2 ^ f.p
    · rw [if_pos c1]
      by_cases c2 : q ≤ f.qmax
      · rw [if_pos c2]
        exact ⟨c1, h0, c2, k2⟩
      · rw [if_neg c2]
        trivial
    · rw [if_neg c1]
      by_cases c2 : q + 1 ≤ f.qmax
      · rw [if_pos c2]
        exact ⟨by omega, by omega, c2, Or.inr (Nat.le_refl _)⟩
      · rw [if_neg c2]
        trivial
theorem rof {f : FP.Core.Fmt} (hf : fG f) {d : FP.Core.Datum} (hd : FP.Core.fits f d) : FP.Core.round f d = d := by
  obtain ⟨g1, g2, g3, g4, g5⟩ := fG_n hf
  have hpp : (f.p : Int) - 1 = ((f.p - 1 : Nat) : Int) := by omega
  cases d with
  | nan => rfl
  | inf s => rfl
  | fin s c q =>
    obtain ⟨h1, h2, h3, h4⟩ := hd
    show FP.Core.roundRatio f s c 1 q = .fin s c q
    unfold FP.Core.roundRatio
    by_cases hc : c = 0
    · rw [if_pos hc, hc]
      have : q = f.qmin := by omega
      rw [this]
    · rw [if_neg hc]
      have en : FP.Core.unitsNum c q q = c := by
        unfold FP.Core.unitsNum
        rw [Int.sub_self]
        exact Nat.mul_one c
      have ed : FP.Core.unitsDen 1 q q = 1 := by
        unfold FP.Core.unitsDen
        rw [Int.sub_self]
        rfl
      have hq : FP.Core.quantum f c 1 q = q := by
        refine fl_qe (Nat.pos_of_ne_zero hc) (by decide) h2 ?_ ?_
        · exact (fl_ub c 1 q q f.p).mp (by rw [en, ed]; omega)
        · rcases h4 with h4 | h4
          · exact Or.inl h4
          · right
            rw [hpp]
            exact (not_congr (fl_ub c 1 q q (f.p - 1))).mp (by rw [en, ed, g3]; omega)
      rw [hq]
      unfold FP.Core.roundAt
      rw [en, ed]
      have hne := nr_ex (B := 1) c (by decide)
      rw [Nat.mul_one] at hne
      rw [hne]
      unfold FP.Core.settle FP.Core.bound
      rw [if_pos h1, if_pos h3]
theorem rd_fits {f : FP.Core.Fmt} (hf : fG f) (d : FP.Core.Datum) : FP.Core.fits f (FP.Core.round f d) := by
  cases d with
  | nan => trivial
  | inf s => trivial
  | fin s c q => exact rr_fits hf s c (by decide) q
theorem b01s (s : Bool) : s.toNat = 0 ∨ s.toNat = 1 := by cases s <;> simp
theorem bs1 {s : Bool} {n : Nat} (h : n = s.toNat) : (n == 1) = s := by
  subst h
  cases s <;> rfl
theorem dec_enc64 {d : FP.Core.Datum} (h : FP.Core.fits FP.Core.b64 d) : FP.Core.decode FP.Core.b64 (FP.Core.encode FP.Core.b64 d) = d ∧ FP.Core.encode FP.Core.b64 d < 18446744073709551616 := by
  cases d with
  | nan => exact ⟨by decide +kernel, by decide +kernel⟩
  | inf s => cases s <;> exact ⟨by decide +kernel, by decide +kernel⟩
  | fin s c q =>
    obtain ⟨h1, h2, h3, h4⟩ := h
    rw [b64p] at h1
    rw [b64n] at h2 h4
    rw [b64x] at h3
    rw [b64t] at h4
    have hs := b01s s
    by_cases c1 : c < 4503599627370496
    · have e : FP.Core.encode FP.Core.b64 (.fin s c q) = s.toNat * 9223372036854775808 + c := by
        show (if c < FP.Core.b64.tails then FP.Core.assemble FP.Core.b64 s 0 c else _) = _
        rw [b64t, if_pos c1]
        unfold FP.Core.assemble
        rw [b64t, b64e]
        omega
      rw [e]
      refine ⟨?_, by omega⟩
      unfold FP.Core.decode FP.Core.fieldE FP.Core.fieldT FP.Core.fieldS
      rw [b64t, b64e, b64n, if_neg (by omega), if_pos (by omega), bs1 (s := s) (by omega), show (s.toNat * 9223372036854775808 + c) % 4503599627370496 = c by omega, show q = -1074 by omega]
    · have e : FP.Core.encode FP.Core.b64 (.fin s c q) = s.toNat * 9223372036854775808 + ((q + 1074).toNat + 1) * 4503599627370496 + (c - 4503599627370496) := by
        show (if c < FP.Core.b64.tails then _ else FP.Core.assemble FP.Core.b64 s ((q - FP.Core.b64.qmin).toNat + 1) (c - FP.Core.b64.tails)) = _
        rw [b64t, if_neg c1]
        unfold FP.Core.assemble
        rw [b64t, b64e, b64n]
        omega
      rw [e]
      refine ⟨?_, by omega⟩
      unfold FP.Core.decode FP.Core.fieldE FP.Core.fieldT FP.Core.fieldS
      rw [b64t, b64e, b64n, if_neg (by omega), if_neg (by omega), bs1 (s := s) (by omega), show 4503599627370496 + (s.toNat * 9223372036854775808 + ((q + 1074).toNat + 1) * 4503599627370496 + (c - 4503599627370496)) % 4503599627370496 = c by omega, show -1074 + (((s.toNat * 9223372036854775808 + ((q + 1074).toNat + 1) * 4503599627370496 + (c - 4503599627370496)) / 4503599627370496 % 2048 : Nat) - 1 : Int) = q by omega]
theorem dec_enc32 {d : FP.Core.Datum} (h : FP.Core.fits FP.Core.b32 d) : FP.Core.decode FP.Core.b32 (FP.Core.encode FP.Core.b32 d) = d ∧ FP.Core.encode FP.Core.b32 d < 4294967296 := by
  cases d with
  | nan => exact ⟨by decide +kernel, by decide +kernel⟩
  | inf s => cases s <;> exact ⟨by decide +kernel, by decide +kernel⟩
  | fin s c q =>
    obtain ⟨h1, h2, h3, h4⟩ := h
    rw [b32p] at h1
    rw [b32n] at h2 h4
    rw [b32x] at h3
    rw [b32t] at h4
    have hs := b01s s
    by_cases c1 : c < 8388608
    · have e : FP.Core.encode FP.Core.b32 (.fin s c q) = s.toNat * 2147483648 + c := by
        show (if c < FP.Core.b32.tails then FP.Core.assemble FP.Core.b32 s 0 c else _) = _
        rw [b32t, if_pos c1]
        unfold FP.Core.assemble
        rw [b32t, b32e]
        omega
      rw [e]
      refine ⟨?_, by omega⟩
      unfold FP.Core.decode FP.Core.fieldE FP.Core.fieldT FP.Core.fieldS
      rw [b32t, b32e, b32n, if_neg (by omega), if_pos (by omega), bs1 (s := s) (by omega), show (s.toNat * 2147483648 + c) % 8388608 = c by omega, show q = -149 by omega]
    · have e : FP.Core.encode FP.Core.b32 (.fin s c q) = s.toNat * 2147483648 + ((q + 149).toNat + 1) * 8388608 + (c - 8388608) := by
        show (if c < FP.Core.b32.tails then _ else FP.Core.assemble FP.Core.b32 s ((q - FP.Core.b32.qmin).toNat + 1) (c - FP.Core.b32.tails)) = _
        rw [b32t, if_neg c1]
        unfold FP.Core.assemble
        rw [b32t, b32e, b32n]
        omega
      rw [e]
      refine ⟨?_, by omega⟩
      unfold FP.Core.decode FP.Core.fieldE FP.Core.fieldT FP.Core.fieldS
      rw [b32t, b32e, b32n, if_neg (by omega), if_neg (by omega), bs1 (s := s) (by omega), show 8388608 + (s.toNat * 2147483648 + ((q + 149).toNat + 1) * 8388608 + (c - 8388608)) % 8388608 = c by omega, show -149 + (((s.toNat * 2147483648 + ((q + 149).toNat + 1) * 8388608 + (c - 8388608)) / 8388608 % 256 : Nat) - 1 : Int) = q by omega]
theorem v64_of {d : FP.Core.Datum} (h : FP.Core.fits FP.Core.b64 d) : v64 (.ofNat (FP.Core.encode FP.Core.b64 d)) = d := by
  obtain ⟨h1, h2⟩ := dec_enc64 h
  unfold v64
  rw [UInt64.toNat_ofNat_of_lt' h2]
  exact h1
theorem v32_of {d : FP.Core.Datum} (h : FP.Core.fits FP.Core.b32 d) : v32 (.ofNat (FP.Core.encode FP.Core.b32 d)) = d := by
  obtain ⟨h1, h2⟩ := dec_enc32 h
  unfold v32
  rw [UInt32.toNat_ofNat_of_lt' h2]
  exact h1
theorem v64_dmul (a b : UInt64) : v64 (FP.dmul a b) = FP.Core.round FP.Core.b64 (FP.Core.exactProduct (v64 a) (v64 b)) := v64_of (rd_fits g64 _)
theorem v64_dadd (a b : UInt64) : v64 (FP.dadd a b) = FP.Core.round FP.Core.b64 (FP.Core.exactSum (v64 a) (v64 b)) := v64_of (rd_fits g64 _)
theorem v64_dsub (a b : UInt64) : v64 (FP.dsub a b) = FP.Core.round FP.Core.b64 (FP.Core.exactSum (v64 a) (FP.Core.negate (v64 b))) := v64_of (rd_fits g64 _)
theorem v64_drem (a b : UInt64) : v64 (FP.drem a b) = FP.Core.round FP.Core.b64 (FP.Core.exactRemainder (v64 a) (v64 b)) := v64_of (rd_fits g64 _)
theorem v64_f2d {a : UInt32} (h : v32 a ≠ .nan) : v64 (FP.f2d a) = FP.Core.round FP.Core.b64 (v32 a) := by
  have e : FP.f2d a = FP.Core.f2d a := if_neg (fun q => h (of_decide_eq_true q))
  rw [e]
  exact v64_of (rd_fits g64 (v32 a))
theorem v32_d2f {a : UInt64} (h : v64 a ≠ .nan) : v32 (FP.d2f a) = FP.Core.round FP.Core.b32 (v64 a) := by
  have e : FP.d2f a = FP.Core.d2f a := if_neg (fun q => h (of_decide_eq_true q))
  rw [e]
  exact v32_of (rd_fits g32 (v64 a))
theorem v64_l2d (a : Int64) : v64 (FP.l2d a) = FP.Core.round FP.Core.b64 (FP.Core.ofInt a.toInt) := v64_of (rd_fits g64 _)
theorem v32_l2f (a : Int64) : v32 (FP.l2f a) = FP.Core.round FP.Core.b32 (FP.Core.ofInt a.toInt) := v32_of (rd_fits g32 _)
theorem v64_i2d (a : Int32) : v64 (FP.i2d a) = FP.Core.round FP.Core.b64 (FP.Core.ofInt a.toInt) := v64_of (rd_fits g64 _)
theorem v32_i2f (a : Int32) : v32 (FP.i2f a) = FP.Core.round FP.Core.b32 (FP.Core.ofInt a.toInt) := v32_of (rd_fits g32 _)
theorem ng_rr (f : FP.Core.Fmt) (s : Bool) (A B : Nat) (e : Int) : FP.Core.negate (FP.Core.roundRatio f s A B e) = FP.Core.roundRatio f (!s) A B e := by
  unfold FP.Core.roundRatio FP.Core.roundAt FP.Core.settle FP.Core.bound
  by_cases c1 : A = 0
  · rw [if_pos c1, if_pos c1]
    rfl
  · rw [if_neg c1, if_neg c1]
    split
    · split <;> rfl
    · split <;> rfl
/-- two numbers of a format are in the order of their keys -/
theorem amt {c d T : Nat} {q r w : Int} (hc : c < 2 * T) (hd : d < 2 * T) (hq : w ≤ q) (hr : w ≤ r) (h1 : q = w ∨ T ≤ c) (h2 : r = w ∨ T ≤ d) : (FP.Core.inUnits c q (min q r) < FP.Core.inUnits d r (min q r) ↔ (c : Int) + (q - w) * T < (d : Int) + (r - w) * T) ∧ (FP.Core.inUnits c q (min q r) = FP.Core.inUnits d r (min q r) ↔ (c : Int) + (q - w) * T = (d : Int) + (r - w) * T) := by
  have far : ∀ {c d : Nat} {q r : Int}, c < 2 * T → w ≤ q → T ≤ d → q < r → c < d * 2 ^ (r - q).toNat ∧ (c : Int) + (q - w) * T < (d : Int) + (r - w) * T := by
    intro c d q r a1 a2 a3 a4
    have b1 := pwN (a := 1) (b := (r - q).toNat) (by omega)
    have b2 := Nat.mul_le_mul a3 b1
    have b3 : (r - w) * (T : Int) = (q - w) * T + (r - q) * T := by
      rw [← Int.add_mul]
      congr 1
      omega
    have b4 := Int.mul_le_mul_of_nonneg_right (show (1 : Int) ≤ r - q by omega) (show (0 : Int) ≤ (T : Int) by omega)
    refine ⟨by omega, ?_⟩
    rw [b3]
    generalize (q - w) * (T : Int) = x at *
    generalize (r - q) * (T : Int) = y at *
    omega
  unfold FP.Core.inUnits
  rcases Int.lt_trichotomy q r with g | g | g
  · obtain ⟨k1, k2⟩ := far (c := c) (d := d) (q := q) (r := r) hc hq (by omega) g
    rw [show min q r = q by omega, Int.sub_self, show (0 : Int).toNat = 0 from rfl, Nat.pow_zero, Nat.mul_one]
    exact ⟨⟨fun _ => k2, fun _ => k1⟩, ⟨fun h => by omega, fun h => by omega⟩⟩
  · subst g
    rw [show min q q = q by omega, Int.sub_self, show (0 : Int).toNat = 0 from rfl, Nat.pow_zero, Nat.mul_one, Nat.mul_one]
    generalize (q - w) * (T : Int) = x at *
    omega
  · obtain ⟨k1, k2⟩ := far (c := d) (d := c) (q := r) (r := q) hd hr (by omega) g
    rw [show min q r = r by omega, Int.sub_self, show (0 : Int).toNat = 0 from rfl, Nat.pow_zero, Nat.mul_one]
    exact ⟨⟨fun h => by omega, fun h => by omega⟩, ⟨fun h => by omega, fun h => by omega⟩⟩
theorem cmp_i (i j : Int) : compare i j = if i < j then Ordering.lt else if i = j then Ordering.eq else Ordering.gt := rfl
theorem cmp_of {i j k l : Int} (h1 : i < j ↔ k < l) (h2 : i = j ↔ k = l) : compare i j = compare k l := by
  rw [cmp_i, cmp_i]
  by_cases c : i < j
  · rw [if_pos c, if_pos (h1.mp c)]
  · rw [if_neg c, if_neg (fun q => c (h1.mpr q))]
    by_cases d : i = j
    · rw [if_pos d, if_pos (h2.mp d)]
    · rw [if_neg d, if_neg (fun q => d (h2.mpr q))]
/-- the order of two data by their signs and keys; those of infinities above all -/
theorem ord_k {s t : Bool} {c d : Nat} {q r : Int} {T : Nat} {w : Int} {a b : Int} (hc : c < 2 * T) (hd : d < 2 * T) (hq : w ≤ q) (hr : w ≤ r) (h1 : q = w ∨ T ≤ c) (h2 : r = w ∨ T ≤ d) (ha : a = (c : Int) + (q - w) * T) (hb : b = (d : Int) + (r - w) * T) (ha0 : 0 ≤ a) (hb0 : 0 ≤ b) : FP.Core.order (.fin s c q) (.fin t d r) = some (compare (if s then -a else a) (if t then -b else b)) := by
  obtain ⟨k1, k2⟩ := amt hc hd hq hr h1 h2
  obtain ⟨k3, k4⟩ := amt hd hc hr hq h2 h1
  rw [← ha, ← hb] at k1 k2 k3 k4
  rw [Int.min_comm r q] at k3 k4
  have z1 : FP.Core.inUnits c q (min q r) = 0 ↔ a = 0 := by
    have p := Nat.two_pow_pos (q - min q r).toNat
    unfold FP.Core.inUnits
    constructor
    · intro h
      rcases Nat.mul_eq_zero.mp h with g | g
      · subst g
        have e : q = w ∨ T = 0 := by omega
        rcases e with e | e
        · subst e
          rw [ha, Int.sub_self, Int.zero_mul]
          rfl
        · omega
      · omega
    · intro h
      have e : c = 0 := by
        have : 0 ≤ (q - w) * (T : Int) := Int.mul_nonneg (by omega) (by omega)
        omega
      rw [e, Nat.zero_mul]
  have z2 : FP.Core.inUnits d r (min q r) = 0 ↔ b = 0 := by
    have p := Nat.two_pow_pos (r - min q r).toNat
    unfold FP.Core.inUnits
    constructor
    · intro h
      rcases Nat.mul_eq_zero.mp h with g | g
      · subst g
        have e : r = w ∨ T = 0 := by omega
        rcases e with e | e
        · subst e
          rw [hb, Int.sub_self, Int.zero_mul]
          rfl
        · omega
      · omega
    · intro h
      have e : d = 0 := by
        have : 0 ≤ (r - w) * (T : Int) := Int.mul_nonneg (by omega) (by omega)
        omega
      rw [e, Nat.zero_mul]
  show some (compare (FP.Core.signed s (FP.Core.inUnits c q (min q r))) (FP.Core.signed t (FP.Core.inUnits d r (min q r)))) = _
  congr 1
  generalize FP.Core.inUnits c q (min q r) = x at *
  generalize FP.Core.inUnits d r (min q r) = y at *
  unfold FP.Core.signed
  refine cmp_of ?_ ?_
  · cases s <;> cases t <;> simp <;> omega
  · cases s <;> cases t <;> simp <;> omega
