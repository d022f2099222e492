/-! scaling a double by powers of two: step by step as at once -/
set_option maxRecDepth 100000
def sD : FP.Core.Datum → Int → FP.Core.Datum
  | .nan, _ => .nan
  | .inf s, _ => .inf s
  | .fin s c q, n => FP.Core.roundRatio FP.Core.b64 s c 1 (q + n)
theorem dmul_pw {a b : UInt64} {n : Int} (h : v64 b = .fin false 4503599627370496 (n - 52)) : v64 (FP.dmul a b) = sD (v64 a) n := by
  rw [v64_dmul, h]
  cases v64 a with
  | nan => rfl
  | inf s => cases s <;> rfl
  | fin s c q =>
    show FP.Core.roundRatio FP.Core.b64 (s != false) (c * 4503599627370496) 1 (q + (n - 52)) = FP.Core.roundRatio FP.Core.b64 s c 1 (q + n)
    have e : (s != false) = s := by cases s <;> rfl
    rw [e]
    refine rr_congr (by decide) (by decide) (by decide) ?_
    have e1 : (q + (n - 52) - (q + n)).toNat = 0 := by omega
    have e2 : (q + n - (q + (n - 52))).toNat = 52 := by omega
    have e3 : 2 ^ 52 = 4503599627370496 := by decide
    rw [e1, e2, e3, Nat.pow_zero, Nat.mul_one, Nat.mul_one, Nat.mul_one]
theorem rr_tiny {s : Bool} {c : Nat} {e : Int} (hc : c < 9007199254740992) (he : e ≤ -1128) : FP.Core.roundRatio FP.Core.b64 s c 1 e = .fin s 0 (-1074) := by
  by_cases c0 : c = 0
  · subst c0
    exact rr_0
  rw [← rr_sc g64]
  have e1 : e.toNat = 0 := by omega
  rw [e1, Nat.pow_zero, Nat.mul_one]
  obtain ⟨k, hk⟩ : ∃ k : Nat, (-e).toNat = k + (1 + (53 + 1074)) := ⟨(-e).toNat - 1128, by omega⟩
  have hn : nS c (-1074) = c * 2 ^ 1074 := rfl
  have hd : dS (2 ^ (-e).toNat) (-1074) = 2 ^ (-e).toNat := Nat.mul_one _
  have h53 : c * 2 ^ 1074 < 2 ^ 53 * 2 ^ 1074 := Nat.mul_lt_mul_of_pos_right hc (Nat.two_pow_pos _)
  have h54 : 2 ^ (-e).toNat = 2 ^ k * (2 ^ 1 * (2 ^ 53 * 2 ^ 1074)) := by rw [hk, Nat.pow_add, Nat.pow_add, Nat.pow_add]
  have hQ : 2 ^ (-e).toNat ≠ 0 := Nat.ne_of_gt (Nat.two_pow_pos _)
  have h55 : 1 * (2 ^ 1 * (2 ^ 53 * 2 ^ 1074)) ≤ 2 ^ k * (2 ^ 1 * (2 ^ 53 * 2 ^ 1074)) := Nat.mul_le_mul_right _ (Nat.two_pow_pos k)
  rw [← h54, Nat.one_mul, Nat.pow_one] at h55
  have hd2 : 2 * (c * 2 ^ 1074) < 2 ^ (-e).toNat := by
    clear h54 hk hn hd
    generalize c * 2 ^ 1074 = n at *
    generalize 2 ^ 53 * 2 ^ 1074 = n2 at *
    generalize 2 ^ (-e).toNat = n3 at *
    omega
  have hlt : c * 2 ^ 1074 < 2 ^ (-e).toNat := by
    clear h53 h54 h55 hn hd
    generalize c * 2 ^ 1074 = n at *
    generalize 2 ^ (-e).toNat = n3 at *
    omega
  have hm : mS c (2 ^ (-e).toNat) (-1074) = 0 := by
    unfold mS
    rw [hn, hd]
    exact Nat.div_eq_of_lt hlt
  rw [rr_at FF64 c0 hQ (q := -1074) ⟨Int.le_refl _, by rw [hm]; exact Nat.two_pow_pos _, Or.inl rfl⟩, hn, hd]
  have hu : upS 0 1 (c * 2 ^ 1074) (2 ^ (-e).toNat) = 0 := by
    unfold upS
    rw [if_neg]
    · rw [Nat.div_eq_of_lt hlt]
      rfl
    · intro hg
      unfold goS at hg
      rw [Nat.div_eq_of_lt hlt, Nat.mod_eq_of_lt hlt] at hg
      clear h53 h54 h55 hn hd hlt hm
      generalize c * 2 ^ 1074 = n at *
      generalize 2 ^ (-e).toNat = n3 at *
      omega
  rw [hu]
  unfold FP.Core.settle FP.Core.bound
  rw [b64p, b64x, if_pos (by decide), if_pos (by decide)]
  rfl
theorem rr_up {s : Bool} {c : Nat} {e : Int} (h0 : c ≠ 0) (hc : c < 9007199254740992) (he : -1074 ≤ e) : ∃ (q : Int) (m : Nat), q ≤ e ∧ -1074 ≤ q ∧ m = c * 2 ^ (e - q).toNat ∧ m < 9007199254740992 ∧ (q = -1074 ∨ 4503599627370496 ≤ m) ∧ FP.Core.roundRatio FP.Core.b64 s c 1 e = FP.Core.bound FP.Core.b64 s m q := by
  have l1 := Nat.log2_self_le h0
  have l2 := Nat.lt_log2_self (n := c)
  have h53 : 2 ^ 53 = 9007199254740992 := by decide
  have h52 : 2 ^ 52 = 4503599627370496 := by decide
  have l3 : c.log2 ≤ 52 := by
    by_cases g : c.log2 ≤ 52
    · exact g
    · have := pwN (a := 53) (b := c.log2) (by omega)
      omega
  obtain ⟨j, hj1, hj2, hj3⟩ : ∃ j : Nat, j ≤ 52 - c.log2 ∧ (j : Int) ≤ e + 1074 ∧ (j = 52 - c.log2 ∨ (j : Int) = e + 1074) := by
    by_cases g : ((52 - c.log2 : Nat) : Int) ≤ e + 1074
    · exact ⟨52 - c.log2, Nat.le_refl _, g, Or.inl rfl⟩
    · exact ⟨(e + 1074).toNat, by omega, by omega, by omega⟩
  have hq : (e - (e - (j : Int))).toNat = j := by omega
  have hm : c * 2 ^ j < 9007199254740992 := by
    have h1 : c * 2 ^ j < 2 ^ (c.log2 + 1) * 2 ^ j := Nat.mul_lt_mul_of_pos_right l2 (Nat.two_pow_pos j)
    rw [← Nat.pow_add] at h1
    have h2 := pwN (a := c.log2 + 1 + j) (b := 53) (by omega)
    omega
  have hg : e - (j : Int) = -1074 ∨ 4503599627370496 ≤ c * 2 ^ j := by
    rcases hj3 with g | g
    · right
      have h1 : 2 ^ c.log2 * 2 ^ j ≤ c * 2 ^ j := Nat.mul_le_mul_right _ l1
      have h2 : 2 ^ c.log2 * 2 ^ j = 2 ^ 52 := by rw [← Nat.pow_add, show c.log2 + j = 52 by omega]
      omega
    · left
      omega
  have hd : FP.Core.unitsDen 1 e (e - (j : Int)) = 1 := by
    unfold FP.Core.unitsDen
    rw [show (e - (j : Int) - e).toNat = 0 by omega]
  have hn : FP.Core.unitsNum c e (e - (j : Int)) = c * 2 ^ j := by
    unfold FP.Core.unitsNum
    rw [hq]
  have hQ : FP.Core.quantum FP.Core.b64 c 1 e = e - (j : Int) := by
    refine fl_qe (Nat.pos_of_ne_zero h0) (by decide) ?_ ?_ ?_
    · rw [b64n]
      omega
    · exact (fl_ub c 1 e (e - (j : Int)) 53).mp (by rw [hd, hn]; omega)
    · rw [b64n]
      rcases hg with g | g
      · exact Or.inl g
      · right
        have e1 : ((FP.Core.b64.p : Int) - 1) = ((52 : Nat) : Int) := by decide
        rw [e1]
        exact fun hb => absurd ((fl_ub c 1 e (e - (j : Int)) 52).mpr hb) (by rw [hd, hn]; omega)
  refine ⟨e - (j : Int), c * 2 ^ j, by omega, by omega, by rw [hq], hm, hg, ?_⟩
  unfold FP.Core.roundRatio
  rw [if_neg h0, hQ]
  unfold FP.Core.roundAt
  rw [hd, hn]
  have hne := nr_ex (B := 1) (c * 2 ^ j) (by decide)
  rw [Nat.mul_one] at hne
  rw [hne]
  unfold FP.Core.settle
  rw [b64p, if_pos hm]
theorem rr_inf {s : Bool} {c : Nat} {e : Int} (h0 : c ≠ 0) (hc : c < 9007199254740992) (he : 1025 ≤ e) : FP.Core.roundRatio FP.Core.b64 s c 1 e = .inf s := by
  obtain ⟨k, m, k1, k2, k3, k4, k5, k6⟩ := rr_up (s := s) h0 hc (e := e) (by omega)
  rw [k6]
  unfold FP.Core.bound
  rw [b64x, if_neg]
  intro g
  have h1 := pwN (a := 54) (b := (e - k).toNat) (by omega)
  have h2 : 1 * 2 ^ (e - k).toNat ≤ c * 2 ^ (e - k).toNat := Nat.mul_le_mul_right _ (Nat.pos_of_ne_zero h0)
  have h3 : 2 ^ 54 = 18014398509481984 := by decide
  omega
theorem rr_sub {s : Bool} {c : Nat} {e : Int} (h0 : c ≠ 0) (hc : c < 9007199254740992) (he : e < -1074) : ∃ m : Nat, m < 9007199254740992 ∧ FP.Core.roundRatio FP.Core.b64 s c 1 e = .fin s m (-1074) := by
  have hn : FP.Core.unitsNum c e (-1074) = c := by
    unfold FP.Core.unitsNum
    rw [show (e - (-1074)).toNat = 0 by omega]
    exact Nat.mul_one c
  have hd : FP.Core.unitsDen 1 e (-1074) = 2 ^ (-1074 - e).toNat := by
    unfold FP.Core.unitsDen
    exact Nat.one_mul _
  have h2 := pwN (a := 1) (b := (-1074 - e).toNat) (by omega)
  have h53 : 2 ^ 53 = 9007199254740992 := by decide
  have hQ : FP.Core.quantum FP.Core.b64 c 1 e = -1074 := by
    refine fl_qe (Nat.pos_of_ne_zero h0) (by decide) ?_ ?_ (Or.inl (by rw [b64n]))
    · rw [b64n]
      omega
    · exact (fl_ub c 1 e (-1074) 53).mp (by rw [hd, hn]; omega)
  refine ⟨FP.Core.nearest c (2 ^ (-1074 - e).toNat), ?_, ?_⟩
  · have := nr_le (M := 4503599627370496) (Nat.two_pow_pos (-1074 - e).toNat) (A := c) (by omega)
    omega
  · unfold FP.Core.roundRatio
    rw [if_neg h0, hQ]
    unfold FP.Core.roundAt
    rw [hd, hn]
    have := nr_le (M := 4503599627370496) (Nat.two_pow_pos (-1074 - e).toNat) (A := c) (by omega)
    unfold FP.Core.settle FP.Core.bound
    rw [b64p, b64x, if_pos (by omega), if_pos (by decide)]
theorem sD_0 {s : Bool} {q n : Int} : sD (.fin s 0 q) n = .fin s 0 (-1074) := rr_0
theorem sD_up {d : FP.Core.Datum} (hd : FP.Core.fits FP.Core.b64 d) {a b : Int} (ha : 0 ≤ a) (hb : 0 ≤ b) : sD (sD d a) b = sD d (a + b) := by
  cases d with
  | nan => rfl
  | inf s => rfl
  | fin s c q =>
    obtain ⟨h1, h2, h3, h4⟩ := hd
    rw [b64p] at h1
    rw [b64n] at h2
    by_cases c0 : c = 0
    · subst c0
      rw [sD_0, sD_0, sD_0]
    show sD (FP.Core.roundRatio _ s c 1 (q + a)) b = FP.Core.roundRatio _ s c 1 (q + (a + b))
    obtain ⟨k, m, k1, k2, k3, k4, k5, k6⟩ := rr_up (s := s) c0 h1 (e := q + a) (by omega)
    rw [k6]
    unfold FP.Core.bound
    rw [b64x]
    by_cases g : k ≤ 971
    · rw [if_pos g]
      show FP.Core.roundRatio _ s m 1 (k + b) = _
      refine rr_congr (by decide) (by decide) (by decide) ?_
      rw [show (k + b - (q + (a + b))).toNat = 0 by omega, show (q + (a + b) - (k + b)).toNat = (q + a - k).toNat by omega, k3, Nat.pow_zero, Nat.mul_one, Nat.mul_one, Nat.mul_one]
    · rw [if_neg g]
      obtain ⟨k', m', j1, j2, j3, j4, j5, j6⟩ := rr_up (s := s) c0 h1 (e := q + (a + b)) (by omega)
      rw [j6]
      unfold FP.Core.bound
      rw [b64x, if_neg]
      · rfl
      intro g2
      have h5 : (q + a - k).toNat + 1 ≤ (q + (a + b) - k').toNat := by omega
      have h6 := Nat.mul_le_mul_left c (pwN h5)
      rw [Nat.pow_succ, ← Nat.mul_assoc, ← k3, ← j3] at h6
      omega
theorem sD_dn {d : FP.Core.Datum} (hd : FP.Core.fits FP.Core.b64 d) {a b : Int} (ha : a ≤ 0) (hb : b ≤ -512) : sD (sD d a) b = sD d (a + b) := by
  cases d with
  | nan => rfl
  | inf s => rfl
  | fin s c q =>
    have hd0 := hd
    obtain ⟨h1, h2, h3, h4⟩ := hd
    rw [b64p] at h1
    rw [b64n] at h2
    rw [b64n] at h4
    rw [b64x] at h3
    by_cases c0 : c = 0
    · subst c0
      rw [sD_0, sD_0, sD_0]
    show sD (FP.Core.roundRatio _ s c 1 (q + a)) b = FP.Core.roundRatio _ s c 1 (q + (a + b))
    by_cases g : -1074 ≤ q + a
    · have h5 : FP.Core.roundRatio FP.Core.b64 s c 1 (q + a) = .fin s c (q + a) := rof g64 (d := .fin s c (q + a)) ⟨hd0.1, by rw [b64n]; exact g, by rw [b64x]; omega, by rw [b64n]; rcases h4 with h4 | h4; exact Or.inl (by omega); exact Or.inr h4⟩
      rw [h5]
      show FP.Core.roundRatio _ s c 1 (q + a + b) = _
      rw [Int.add_assoc]
    · obtain ⟨m, hm, he⟩ := rr_sub (s := s) c0 h1 (e := q + a) (by omega)
      rw [he]
      show FP.Core.roundRatio _ s m 1 (-1074 + b) = _
      rw [rr_tiny hm (by omega), rr_tiny h1 (by omega)]
/-- the greatest scale that counts -/
def clJ (n : Int) : Int := if n < 0 then (if n < -2099 then -2099 else n) else (if 2099 < n then 2099 else n)
theorem sD_cl {d : FP.Core.Datum} (hd : FP.Core.fits FP.Core.b64 d) (n : Int) : sD d (clJ n) = sD d n := by
  cases d with
  | nan => rfl
  | inf s => rfl
  | fin s c q =>
    obtain ⟨h1, h2, h3, h4⟩ := hd
    rw [b64p] at h1
    rw [b64n] at h2
    rw [b64x] at h3
    by_cases c0 : c = 0
    · subst c0
      rw [sD_0, sD_0]
    show FP.Core.roundRatio _ s c 1 (q + clJ n) = FP.Core.roundRatio _ s c 1 (q + n)
    unfold clJ
    by_cases g : n < 0
    · rw [if_pos g]
      by_cases g2 : n < -2099
      · rw [if_pos g2, rr_tiny h1 (by omega), rr_tiny h1 (by omega)]
      · rw [if_neg g2]
    · rw [if_neg g]
      by_cases g2 : 2099 < n
      · rw [if_pos g2, rr_inf c0 h1 (by omega), rr_inf c0 h1 (by omega)]
      · rw [if_neg g2]
theorem sD_z {d : FP.Core.Datum} (hd : FP.Core.fits FP.Core.b64 d) : sD d 0 = d := by
  cases d with
  | nan => rfl
  | inf s => rfl
  | fin s c q =>
    show FP.Core.roundRatio _ s c 1 (q + 0) = _
    rw [Int.add_zero]
    exact rof g64 hd
theorem sD_fits {d : FP.Core.Datum} (hd : FP.Core.fits FP.Core.b64 d) (n : Int) : FP.Core.fits FP.Core.b64 (sD d n) := by
  cases d with
  | nan => trivial
  | inf s => trivial
  | fin s c q => exact rr_fits g64 s c (by decide) _
/-- the bits of a power of two -/
theorem vD_pw {n : Int} (h : -1022 ≤ n ∧ n ≤ 1023) : vD ((n + 1023) * 4503599627370496) = .fin false 4503599627370496 (n - 52) := by
  have e1 : eX ((n + 1023) * 4503599627370496) = n + 1023 := by
    unfold eX
    omega
  have e2 : pX ((n + 1023) * 4503599627370496) = 0 := by
    unfold pX
    omega
  rw [vD_fin (by omega)]
  unfold fX plX
  rw [e1, e2, if_neg (by omega), if_neg (by omega), decide_eq_false (by omega)]
  rw [show n + 1023 - 1075 = n - 52 by omega]
  rfl
