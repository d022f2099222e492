/-! floor, ceil and rint of the JDK: what they tell, as a rounding -/
set_option maxRecDepth 100000
abbrev R6 (s : Bool) (n : Nat) : FP.Core.Datum := FP.Core.roundRatio FP.Core.b64 s n 1 0
def ng (v : Int) : Int := if v < 0 then v + 9223372036854775808 else v - 9223372036854775808
theorem ng_6 {v : Int} (h : In6 v) : In6 (ng v) := by
  obtain ⟨h1, h2⟩ := h
  unfold ng
  split <;> constructor <;> omega
theorem eX_ng (v : Int) : eX (ng v) = eX v := by
  unfold eX ng
  split <;> omega
theorem pX_ng (v : Int) : pX (ng v) = pX v := by
  unfold pX ng
  split <;> omega
theorem ng_s {v : Int} (h : In6 v) : decide (ng v < 0) = !decide (v < 0) := by
  obtain ⟨h1, h2⟩ := h
  unfold ng
  by_cases c : v < 0
  · rw [if_pos c, decide_eq_true c, decide_eq_false (by omega)]
    rfl
  · rw [if_neg c, decide_eq_false c, decide_eq_true (by omega)]
    rfl
theorem vD_ng {v : Int} (h : In6 v) : vD (ng v) = FP.Core.negate (vD v) := by
  have e1 : fX (ng v) = fX v := by
    unfold fX
    rw [eX_ng, pX_ng]
  have e2 : plX (ng v) = plX v := by
    unfold plX
    rw [eX_ng]
  unfold vD
  rw [eX_ng, pX_ng, e1, e2, ng_s h]
  by_cases c : eX v = 2047
  · rw [if_pos c, if_pos c]
    by_cases c2 : pX v = 0
    · rw [if_pos c2, if_pos c2]
      rfl
    · rw [if_neg c2, if_neg c2]
      rfl
  · rw [if_neg c, if_neg c]
    rfl
theorem noX_ng {v : Int} (h : ¬ noX v) : ¬ noX (ng v) := by
  intro q
  exact h ⟨by rw [← eX_ng]; exact q.1, by rw [← pX_ng]; exact q.2⟩
theorem kX_ng {v : Int} (h : In6 v) : kX (ng v) = -kX v := by
  obtain ⟨h1, h2⟩ := h
  unfold kX ng
  by_cases c : v < 0
  · rw [if_pos c, if_pos c, if_neg (by omega)]
    omega
  · rw [if_neg c, if_neg c, if_pos (by omega)]
    omega
theorem dmul_sg {v sg : Int} {b : Bool} (h : In6 v) (h1 : vD sg = .fin b 4503599627370496 (-52)) : FP.Core.round FP.Core.b64 (FP.Core.exactProduct (vD sg) (vD v)) = if b then FP.Core.negate (vD v) else vD v := by
  have hf := rof g64 (vD_fits h)
  rw [h1]
  cases e : vD v with
  | nan => cases b <;> rfl
  | inf s => cases b <;> cases s <;> rfl
  | fin s c q =>
    rw [e] at hf
    have hf : FP.Core.roundRatio FP.Core.b64 s c 1 q = .fin s c q := hf
    have hc : FP.Core.roundRatio FP.Core.b64 (b != s) (4503599627370496 * c) 1 (-52 + q) = FP.Core.roundRatio FP.Core.b64 (b != s) c 1 q := by
      refine rr_congr (by decide) (by decide) (by decide) ?_
      rw [show (-52 + q - q).toNat = 0 by omega, show (q - (-52 + q)).toNat = 52 by omega, Nat.pow_zero, Nat.mul_one, Nat.mul_one, Nat.mul_one, Nat.mul_comm]
    show FP.Core.roundRatio FP.Core.b64 (b != s) (4503599627370496 * c) 1 (-52 + q) = _
    rw [hc]
    cases b with
    | false =>
      have : (false != s) = s := by cases s <;> rfl
      rw [this, hf]
      rfl
    | true =>
      have : (true != s) = !s := by cases s <;> rfl
      rw [this, ← ng_rr, hf]
      rfl
theorem fc_one {v : Int} (h : In6 v) (hn : ¬ noX v) : FP.dmul (dX 4607182418800017408) (dX v) = dX v := by
  refine dX_val h hn ?_
  rw [v64_dmul, vD_eq h, vD_eq (by decide), dmul_sg (b := false) h (by decide +kernel)]
  rfl
theorem fc_neg {v : Int} (h : In6 v) (hn : ¬ noX v) : FP.dmul (dX (-4616189618054758400)) (dX v) = dX (ng v) := by
  refine dX_val (ng_6 h) (noX_ng hn) ?_
  rw [v64_dmul, vD_eq h, vD_eq (by decide), dmul_sg (b := true) h (by decide +kernel), vD_ng h]
  rfl
def OneX (sg : Int) : Prop := sg = 4607182418800017408 ∨ sg = -4616189618054758400
theorem fc_mul {sg v : Int} (hs : OneX sg) (h : In6 v) (hn : ¬ noX v) : FP.dmul (dX sg) (dX v) = dX (if 0 < sg then v else ng v) ∧ In6 (if 0 < sg then v else ng v) ∧ ¬ noX (if 0 < sg then v else ng v) ∧ kX (if 0 < sg then v else ng v) = if 0 < sg then kX v else -kX v := by
  rcases hs with rfl | rfl
  · rw [if_pos (by decide), if_pos (by decide)]
    exact ⟨fc_one h hn, h, hn, rfl⟩
  · rw [if_neg (by decide), if_neg (by decide)]
    exact ⟨fc_neg h hn, ng_6 h, noX_ng hn, kX_ng h⟩
theorem R6_b (n : Nat) (s : Bool) : FP.Core.negate (R6 s n) = R6 (!s) n := ng_rr _ _ _ _ _
theorem R6_f {s : Bool} {n : Nat} (h : n < 9007199254740992) : ∃ q : Int, q ≤ 0 ∧ R6 s n = .fin s (n * 2 ^ (-q).toNat) q := by
  by_cases c : n = 0
  · subst c
    exact ⟨-1074, by decide, by rw [Nat.zero_mul]; exact rr_0⟩
  · obtain ⟨q, m, h1, h2, h3, h4, h5, h6⟩ := rr_up (s := s) c h (e := 0) (by decide)
    refine ⟨q, h1, ?_⟩
    rw [show R6 s n = _ from h6]
    unfold FP.Core.bound
    rw [b64x, if_pos (by omega), h3, show (0 - q).toNat = (-q).toNat by omega]
theorem sg_mul (s : Bool) (x k : Nat) : FP.Core.signed s (x * k) = FP.Core.signed s x * (k : Int) := by
  cases s
  · rw [sg_f, sg_f]
    exact Int.natCast_mul x k
  · rw [sg_t, sg_t, Int.neg_mul, Int.natCast_mul]
theorem rs_sum {s t : Bool} {a b : Nat} {q r : Int} (hq : q ≤ 0) (hr : r ≤ 0) : FP.Core.round FP.Core.b64 (FP.Core.exactSum (.fin s (a * 2 ^ (-q).toNat) q) (.fin t (b * 2 ^ (-r).toNat) r)) = R6 (FP.Core.sumSign s t (FP.Core.signed s a + FP.Core.signed t b)) (FP.Core.signed s a + FP.Core.signed t b).natAbs := by
  obtain ⟨m, hm⟩ : ∃ m : Nat, min q r = -(m : Int) := ⟨(-(min q r)).toNat, by omega⟩
  have hu : FP.Core.sumUnits s (a * 2 ^ (-q).toNat) q t (b * 2 ^ (-r).toNat) r (min q r) = (FP.Core.signed s a + FP.Core.signed t b) * ((2 ^ m : Nat) : Int) := by
    unfold FP.Core.sumUnits FP.Core.inUnits
    rw [hm, Nat.mul_assoc, Nat.mul_assoc, ← Nat.pow_add, ← Nat.pow_add, show (-q).toNat + (q - -(m : Int)).toNat = m by omega, show (-r).toNat + (r - -(m : Int)).toNat = m by omega, sg_mul, sg_mul, Int.add_mul]
  show FP.Core.round FP.Core.b64 (.fin (FP.Core.sumSign s t (FP.Core.sumUnits s (a * 2 ^ (-q).toNat) q t (b * 2 ^ (-r).toNat) r (min q r))) (FP.Core.sumUnits s (a * 2 ^ (-q).toNat) q t (b * 2 ^ (-r).toNat) r (min q r)).natAbs (min q r)) = _
  rw [hu, hm]
  have hp := Nat.two_pow_pos m
  have hs : FP.Core.sumSign s t ((FP.Core.signed s a + FP.Core.signed t b) * ((2 ^ m : Nat) : Int)) = FP.Core.sumSign s t (FP.Core.signed s a + FP.Core.signed t b) := by
    unfold FP.Core.sumSign
    generalize FP.Core.signed s a + FP.Core.signed t b = i
    generalize 2 ^ m = P at *
    by_cases c : i = 0
    · rw [c, Int.zero_mul]
    · have c2 : i * (P : Int) ≠ 0 := Int.mul_ne_zero c (by omega)
      rw [if_neg c, if_neg c2]
      have c3 : i * (P : Int) < 0 ↔ i < 0 := by
        constructor
        · intro h
          by_cases g : i < 0
          · exact g
          · have := Int.mul_nonneg (show 0 ≤ i by omega) (show (0 : Int) ≤ (P : Int) by omega)
            omega
        · intro h
          exact Int.mul_neg_of_neg_of_pos h (by omega)
      exact decide_eq_decide.mpr c3
  rw [hs, Int.natAbs_mul, Int.natAbs_natCast]
  show FP.Core.roundRatio FP.Core.b64 _ _ 1 (-(m : Int)) = FP.Core.roundRatio FP.Core.b64 _ _ 1 0
  refine rr_congr (by decide) (by decide) (by decide) ?_
  rw [show (-(m : Int) - 0).toNat = 0 by omega, show (0 - -(m : Int)).toNat = m by omega, Nat.pow_zero, Nat.mul_one, Nat.mul_one, Nat.mul_one]
theorem vD_one : vD 4607182418800017408 = R6 false 1 := by decide +kernel
theorem vD_mone : vD (-4616189618054758400) = R6 true 1 := by decide +kernel
theorem vD_52 : vD 4841369599423283200 = R6 false 4503599627370496 := by decide +kernel
/-- one step away from 0 -/
theorem rt_up {b sg : Int} {s : Bool} {n : Nat} (hb : vD b = R6 s n) (hn : n < 9007199254740992) (hs : vD sg = R6 s 1) : FP.Core.round FP.Core.b64 (FP.Core.exactSum (vD b) (vD sg)) = R6 s (n + 1) := by
  obtain ⟨q, hq, e1⟩ := R6_f (s := s) hn
  obtain ⟨r, hr, e2⟩ := R6_f (s := s) (n := 1) (by decide)
  rw [hb, hs, e1, e2, rs_sum hq hr]
  have h1 : (FP.Core.signed s n + FP.Core.signed s 1).natAbs = n + 1 := by
    cases s
    · rw [sg_f, sg_f]
      omega
    · rw [sg_t, sg_t]
      omega
  have h2 : FP.Core.sumSign s s (FP.Core.signed s n + FP.Core.signed s 1) = s := by
    unfold FP.Core.sumSign
    cases s
    · rw [sg_f, sg_f, if_neg (by omega)]
      exact decide_eq_false (by omega)
    · rw [sg_t, sg_t, if_neg (by omega)]
      exact decide_eq_true (by omega)
  rw [h1, h2]
theorem ri_sub {u : Int} {m : Nat} (hu : vD u = R6 false m) (h1 : 4503599627370496 ≤ m) (h2 : m ≤ 9007199254740992) : FP.Core.round FP.Core.b64 (FP.Core.exactSum (vD u) (FP.Core.negate (vD 4841369599423283200))) = R6 false (m - 4503599627370496) := by
  rw [hu, vD_52, R6_b]
  by_cases c : m = 9007199254740992
  · subst c
    decide +kernel
  · obtain ⟨q, hq, e1⟩ := R6_f (s := false) (n := m) (by omega)
    obtain ⟨r, hr, e2⟩ := R6_f (s := !false) (n := 4503599627370496) (by decide)
    rw [e1, e2, rs_sum hq hr]
    have h3 : FP.Core.signed false m + FP.Core.signed (!false) 4503599627370496 = ((m - 4503599627370496 : Nat) : Int) := by
      show FP.Core.signed false m + FP.Core.signed true 4503599627370496 = _
      rw [sg_f, sg_t]
      omega
    have h4 : FP.Core.sumSign false (!false) ((m - 4503599627370496 : Nat) : Int) = false := by
      unfold FP.Core.sumSign
      split
      · rfl
      · exact decide_eq_false (by omega)
    rw [h3, h4, Int.natAbs_natCast]
/-- the bits below the point cleared -/
theorem rt_base {v : Int} {k : Nat} (h6 : In6 v) (h1 : 1023 ≤ eX v) (hk : eX v + (k : Int) = 1075) : vD (v - v % 2 ^ k) = R6 (decide (v < 0)) (fX v / 2 ^ k).toNat ∧ In6 (v - v % 2 ^ k) ∧ ¬ noX (v - v % 2 ^ k) := by
  obtain ⟨g1, g2⟩ := h6
  have hk2 : k ≤ 52 := by omega
  have he := eX_r v
  have hp := ppos k
  have hsp : (2 : Int) ^ 52 = 2 ^ (52 - k) * 2 ^ k := by
    rw [← pow_split]
    congr 1
    omega
  have h52 : (2 : Int) ^ 52 = 4503599627370496 := by decide
  have hd : (2 : Int) ^ k ∣ 4503599627370496 := ⟨2 ^ (52 - k), by rw [← h52, hsp, Int.mul_comm]⟩
  have hr0 : 0 ≤ v % 2 ^ k := Int.emod_nonneg _ (Int.ne_of_gt hp)
  have hrp : pX v % 2 ^ k = v % 2 ^ k := by
    unfold pX
    exact Int.emod_emod_of_dvd v hd
  have hpr := pX_r v
  have hle : v % 2 ^ k ≤ pX v := by
    rw [← hrp]
    have z1 := Int.emod_add_mul_ediv (pX v) (2 ^ k)
    have z2 := Int.mul_nonneg (Int.le_of_lt hp) (Int.ediv_nonneg hpr.1 (Int.le_of_lt hp))
    generalize (2 : Int) ^ k * (pX v / 2 ^ k) = y at *
    omega
  have hfx : fX v = pX v + 4503599627370496 := by
    unfold fX
    rw [if_neg (by omega)]
  have hfr : fX v % 2 ^ k = v % 2 ^ k := by
    rw [hfx, ← hrp]
    obtain ⟨w, hw⟩ := hd
    rw [hw, Int.add_mul_emod_self_left]
  have hdm := Int.emod_add_mul_ediv (fX v) (2 ^ k)
  rw [hfr] at hdm
  have e1 : eX (v - v % 2 ^ k) = eX v := by
    unfold eX
    unfold pX at hle
    generalize v % 2 ^ k = r at *
    omega
  have e2 : pX (v - v % 2 ^ k) = pX v - v % 2 ^ k := by
    unfold pX
    unfold pX at hle
    generalize v % 2 ^ k = r at *
    omega
  have e3 : fX (v - v % 2 ^ k) = 2 ^ k * (fX v / 2 ^ k) := by
    have : fX (v - v % 2 ^ k) = fX v - v % 2 ^ k := by
      unfold fX
      rw [e1, e2, if_neg (by omega), if_neg (by omega)]
      omega
    rw [this]
    omega
  have e4 : plX (v - v % 2 ^ k) = -(k : Int) := by
    unfold plX
    rw [e1, if_neg (by omega)]
    omega
  have e5 : (v - v % 2 ^ k < 0) ↔ v < 0 := by
    unfold pX at hle
    generalize v % 2 ^ k = r at *
    omega
  have h6b : In6 (v - v % 2 ^ k) := by
    unfold pX at hle
    generalize v % 2 ^ k = r at *
    constructor <;> omega
  have hno : ¬ noX (v - v % 2 ^ k) := by
    intro q
    have := q.1
    rw [e1] at this
    omega
  refine ⟨?_, h6b, hno⟩
  have hf := rof g64 (vD_fits h6b)
  rw [vD_fin (by rw [e1]; omega), e3, e4] at hf ⊢
  have e6 : decide (v - v % 2 ^ k < 0) = decide (v < 0) := decide_eq_decide.mpr e5
  rw [e6] at hf ⊢
  rw [← hf]
  have hq0 : 0 ≤ fX v / 2 ^ k := Int.ediv_nonneg (by omega) (Int.le_of_lt hp)
  refine rr_congr (by decide) (by decide) (by decide) ?_
  rw [show (-(k : Int) - 0).toNat = 0 by omega, show (0 - -(k : Int)).toNat = k by omega, Nat.pow_zero, Nat.mul_one, Nat.mul_one, Nat.mul_one]
  rw [Int.toNat_mul (Int.le_of_lt hp) hq0, Nat.mul_comm]
  congr 1
theorem nr_add (c d m : Nat) (hd : 0 < d) : (upS 0 1 (2 * m * d + c) d).toNat = 2 * m + (upS 0 1 c d).toNat := by
  rw [← nr_up hd, ← nr_up hd]
  unfold FP.Core.nearest
  have e1 : (2 * m * d + c) / d = 2 * m + c / d := by
    rw [Nat.mul_comm (2 * m) d, Nat.mul_add_div hd]
  have e2 : (2 * m * d + c) % d = c % d := by
    rw [Nat.mul_comm (2 * m) d, Nat.mul_add_mod]
  rw [e1, e2]
  split
  · rfl
  · split
    · omega
    · omega
theorem ri_add {v : Int} {k : Nat} (h0 : 0 ≤ v) (h6 : In6 v) (hk : plX v = -(k : Int)) (hk0 : 0 < k) : FP.Core.round FP.Core.b64 (FP.Core.exactSum (vD 4841369599423283200) (vD v)) = R6 false (4503599627370496 + (upS 0 1 (fX v).toNat (2 ^ k)).toNat) ∧ (upS 0 1 (fX v).toNat (2 ^ k)).toNat ≤ 4503599627370496 := by
  have hp := Nat.two_pow_pos k
  have he := eX_r v
  have hf := fX_r v
  have hne : eX v ≠ 2047 := by
    intro q
    unfold plX at hk
    rw [if_neg (by omega)] at hk
    omega
  have e52 : vD 4841369599423283200 = .fin false 4503599627370496 0 := by decide +kernel
  obtain ⟨c, hc⟩ : ∃ c : Nat, c = (fX v).toNat := ⟨_, rfl⟩
  have hcl : c < 9007199254740992 := by omega
  rw [e52, vD_fin hne, hk, decide_eq_false (by omega), ← hc]
  have hu : FP.Core.sumUnits false 4503599627370496 0 false c (-(k : Int)) (min 0 (-(k : Int))) = ((4503599627370496 * 2 ^ k + c : Nat) : Int) := by
    unfold FP.Core.sumUnits FP.Core.inUnits
    rw [show min 0 (-(k : Int)) = -(k : Int) by omega, show (0 - -(k : Int)).toNat = k by omega, show (-(k : Int) - -(k : Int)).toNat = 0 by omega, sg_f, sg_f, Nat.pow_zero, Nat.mul_one]
    rfl
  have h2p := pwN (a := 1) (b := k) (by omega)
  have hcd : c / 2 ^ k < 4503599627370496 := by
    refine Nat.div_lt_of_lt_mul ?_
    have := Nat.mul_le_mul_right 4503599627370496 h2p
    omega
  have hup : (upS 0 1 c (2 ^ k)).toNat ≤ 4503599627370496 := by
    unfold upS
    split <;> omega
  have hN : 4503599627370496 * 2 ^ k + c ≠ 0 := by omega
  have hmS : mS (4503599627370496 * 2 ^ k + c) (2 ^ k) 0 = 4503599627370496 + c / 2 ^ k := by
    unfold mS nS dS
    rw [show (-(0 : Int)).toNat = 0 by rfl, show (0 : Int).toNat = 0 by rfl, Nat.pow_zero, Nat.mul_one, Nat.mul_one, Nat.mul_comm 4503599627370496, Nat.mul_add_div hp]
  have hRQ : RQ 53 (-1074) (4503599627370496 * 2 ^ k + c) (2 ^ k) 0 := by
    have q1 : (2 : Nat) ^ (53 : Int).toNat = 9007199254740992 := by decide
    have q2 : (2 : Nat) ^ ((53 : Int) - 1).toNat = 4503599627370496 := by decide
    have q3 : 2 ^ ((53 : Int) - 1).toNat ≤ mS (4503599627370496 * 2 ^ k + c) (2 ^ k) 0 := by
      rw [q2, hmS]
      exact Nat.le_add_right _ _
    exact ⟨by decide, by rw [hmS, q1]; omega, Or.inr q3⟩
  have hns : nS (4503599627370496 * 2 ^ k + c) 0 = 2 * 2251799813685248 * 2 ^ k + c := by
    unfold nS
    rw [show (-(0 : Int)).toNat = 0 by rfl, Nat.pow_zero, Nat.mul_one]
  have hds : dS (2 ^ k) 0 = 2 ^ k := by
    unfold dS
    rw [show (0 : Int).toNat = 0 by rfl, Nat.pow_zero, Nat.mul_one]
  refine ⟨?_, hup⟩
  show FP.Core.round FP.Core.b64 (.fin (FP.Core.sumSign false false (FP.Core.sumUnits false 4503599627370496 0 false c (-(k : Int)) (min 0 (-(k : Int))))) (FP.Core.sumUnits false 4503599627370496 0 false c (-(k : Int)) (min 0 (-(k : Int)))).natAbs (min 0 (-(k : Int)))) = _
  rw [hu]
  have hsg : FP.Core.sumSign false false ((4503599627370496 * 2 ^ k + c : Nat) : Int) = false := by
    unfold FP.Core.sumSign
    rw [if_neg (by omega), decide_eq_false (by omega)]
  rw [hsg, Int.natAbs_natCast]
  show FP.Core.roundRatio FP.Core.b64 false (4503599627370496 * 2 ^ k + c) 1 (min 0 (-(k : Int))) = _
  rw [rr_congr (by decide) (A' := 4503599627370496 * 2 ^ k + c) (B' := 2 ^ k) (e' := 0) (by decide) hp (by
    rw [show (min 0 (-(k : Int)) - 0).toNat = 0 by omega, show (0 - min 0 (-(k : Int))).toNat = k by omega, Nat.pow_zero, Nat.mul_one, Nat.mul_one])]
  rw [rr_at FF64 hN (Nat.ne_of_gt hp) hRQ, hns, hds, nr_add _ _ _ hp]
  generalize (upS 0 1 c (2 ^ k)).toNat = u at *
  by_cases c1 : u = 4503599627370496
  · subst c1
    decide +kernel
  · have hfit : FP.Core.fits FP.Core.b64 (.fin false (2 * 2251799813685248 + u) 0) := ⟨by rw [b64p]; omega, by decide, by decide, Or.inr (by rw [b64t]; omega)⟩
    have hh := rof g64 hfit
    have hh : R6 false (2 * 2251799813685248 + u) = .fin false (2 * 2251799813685248 + u) 0 := hh
    rw [show 4503599627370496 + u = 2 * 2251799813685248 + u by omega, hh]
    unfold FP.Core.settle FP.Core.bound
    rw [b64p, b64x, if_pos (by omega), if_pos (by decide)]
/-- the carry of the model's rounding is that of the machine's -/
theorem fr_up {c : Int} {k : Nat} (hc : 0 ≤ c) (hc2 : c < 9007199254740992) : ((upS 0 1 c.toNat (2 ^ k)).toNat : Int) = c / 2 ^ k + if frR c k = 3 ∨ frR c k = 2 ∧ c / 2 ^ k % 2 = 1 then 1 else 0 := by
  have hp := Nat.two_pow_pos k
  rw [← nr_up hp]
  unfold FP.Core.nearest
  have e1 : ((c.toNat / 2 ^ k : Nat) : Int) = c / 2 ^ k := by
    rw [Int.natCast_ediv, Int.toNat_of_nonneg hc, pw_cast]
  have e2 : ((c.toNat % 2 ^ k : Nat) : Int) = c % 2 ^ k := by
    rw [Int.natCast_emod, Int.toNat_of_nonneg hc, pw_cast]
  have e3 : ((2 ^ k : Nat) : Int) = 2 ^ k := pw_cast k
  have hF : frR c k = if ((c.toNat % 2 ^ k : Nat) : Int) = 0 then 0 else if 2 * ((c.toNat % 2 ^ k : Nat) : Int) < ((2 ^ k : Nat) : Int) then 1 else if 2 * ((c.toNat % 2 ^ k : Nat) : Int) = ((2 ^ k : Nat) : Int) then 2 else 3 := by
    unfold frR
    rw [e2, e3]
  rw [← e1]
  generalize frR c k = g at *
  clear e1 e2 e3
  generalize c.toNat / 2 ^ k = a
  generalize c.toNat % 2 ^ k = r at *
  generalize 2 ^ k = d at *
  by_cases c1 : r = 0
  · rw [if_pos (by omega)] at hF
    rw [hF, if_pos (by omega), if_neg (by omega)]
    omega
  · rw [if_neg (by omega)] at hF
    by_cases c2 : 2 * r < d
    · rw [if_pos (by omega)] at hF
      rw [hF, if_pos c2, if_neg (by omega)]
      omega
    · rw [if_neg (by omega)] at hF
      by_cases c3 : d < 2 * r
      · rw [if_neg (by omega)] at hF
        rw [hF, if_neg c2, if_pos c3, if_pos (by omega)]
        omega
      · rw [if_pos (by omega)] at hF
        rw [hF, if_neg c2, if_neg c3]
        by_cases c4 : a % 2 = 1
        · rw [if_pos (by omega)]
          omega
        · rw [if_neg (by omega)]
          omega
theorem zand6_comm (x y : Int) : zand6 x y = zand6 y x := by
  unfold zand6
  rw [Int64.and_comm]
theorem mod6 {v : Int} {k : Nat} (hk : k < 63) : In6 (v % 2 ^ k) := by
  have h1 := Int.emod_nonneg v (Int.ne_of_gt (ppos k))
  have h2 := Int.emod_lt_of_pos v (ppos k)
  have h3 := pw_mon (a := k) (b := 62) (by omega)
  have h4 : (2 : Int) ^ 62 = 4611686018427387904 := by decide
  constructor <;> omega
theorem zand6_hi {v : Int} {k : Nat} (hk : k < 63) : zand6 v (-1 - (2 ^ k - 1)) = v - v % 2 ^ k ∨ ¬ In6 (v - v % 2 ^ k) := by
  by_cases hi : In6 (v - v % 2 ^ k)
  · left
    have e : (L6 v &&& L6 (-1 - (2 ^ k - 1))) = L6 (v - v % 2 ^ k) := by
      apply Int64.toBitVec_inj.mp
      rw [Int64.toBitVec_and]
      show BitVec.ofInt 64 v &&& BitVec.ofInt 64 (-1 - (2 ^ k - 1)) = BitVec.ofInt 64 (v - v % 2 ^ k)
      apply BitVec.eq_of_toNat_eq
      rw [BitVec.toNat_and, BitVec.toNat_ofInt, BitVec.toNat_ofInt, BitVec.toNat_ofInt]
      have h64 : ((2 ^ 64 : Nat) : Int) = 18446744073709551616 := by decide
      rw [h64]
      have hs : 2 ^ (64 - k) * 2 ^ k = 18446744073709551616 := by
        rw [← Nat.pow_add, show 64 - k + k = 64 by omega]
      have hd := Nat.two_pow_pos k
      have hw := Nat.two_pow_pos (64 - k)
      have e1 : ((-1 - (2 ^ k - 1) : Int) % 18446744073709551616).toNat = (2 ^ (64 - k) - 1) <<< k := by
        rw [Nat.shiftLeft_eq, Nat.sub_mul, hs, Nat.one_mul, ← pw_cast]
        have h3 := pwN (a := k) (b := 62) (by omega)
        have h4 : (2 : Nat) ^ 62 = 4611686018427387904 := by decide
        generalize 2 ^ k = d at *
        omega
      have hdv : ((2 ^ k : Nat) : Int) ∣ 18446744073709551616 := ⟨((2 ^ (64 - k) : Nat) : Int), by rw [← Int.natCast_mul, Nat.mul_comm, hs]; rfl⟩
      have e2 : v % 2 ^ k = (v % 18446744073709551616) % ((2 ^ k : Nat) : Int) := by
        rw [Int.emod_emod_of_dvd v hdv, pw_cast]
      rw [e1, nat_and_shl, Nat.and_two_pow_sub_one_eq_mod, Nat.shiftLeft_eq, Nat.shiftRight_eq_div_pow, e2]
      obtain ⟨n, hn⟩ : ∃ n : Nat, n = (v % 18446744073709551616).toNat := ⟨_, rfl⟩
      have hn2 : v % 18446744073709551616 = (n : Int) := by omega
      rw [← hn, hn2]
      have hlt : n / 2 ^ k < 2 ^ (64 - k) := Nat.div_lt_of_lt_mul (by rw [Nat.mul_comm, hs]; omega)
      rw [Nat.mod_eq_of_lt hlt, ← Int.natCast_emod]
      have h5 := Nat.div_add_mod n (2 ^ k)
      rw [Nat.mul_comm] at h5
      generalize n / 2 ^ k * 2 ^ k = a at *
      generalize n % 2 ^ k = r at *
      omega
    unfold zand6
    rw [e, L6_t hi]
  · exact Or.inr hi
theorem mask_sh {E : Int} (h : 1023 ≤ E ∧ E < 1075) : (4503599627370495 : Int) / 2 ^ (E - 1023).toNat = 2 ^ (1075 - E).toNat - 1 := by
  have hs : (2 : Int) ^ (E - 1023).toNat * 2 ^ (1075 - E).toNat = 4503599627370496 := by
    rw [← pow_split, show (E - 1023).toNat + (1075 - E).toNat = 52 by omega]
    decide
  have hp := ppos (E - 1023).toNat
  refine ((Int.ediv_emod_unique (a := 4503599627370495) (r := 2 ^ (E - 1023).toNat - 1) (q := 2 ^ (1075 - E).toNat - 1) hp).mpr ⟨?_, by omega, by omega⟩).1
  rw [Int.mul_sub, hs, Int.mul_one]
  omega
theorem msk6 {k : Nat} (hk : k < 63) : In6 ((2 : Int) ^ k - 1) := by
  have h1 := ppos k
  have h3 := pw_mon (a := k) (b := 62) (by omega)
  have h4 : (2 : Int) ^ 62 = 4611686018427387904 := by decide
  constructor <;> omega
theorem fc_k {v : Int} (h1 : 1023 ≤ eX v) (h2 : eX v < 1075) : (-plX v).toNat = (1075 - eX v).toNat ∧ fX v % 2 ^ (1075 - eX v).toNat = v % 2 ^ (1075 - eX v).toNat := by
  have hk : (1075 - eX v).toNat ≤ 52 := by omega
  refine ⟨by unfold plX; rw [if_neg (by omega)]; omega, ?_⟩
  generalize (1075 - eX v).toNat = k at *
  have hsp : (2 : Int) ^ 52 = 2 ^ (52 - k) * 2 ^ k := by
    rw [← pow_split]
    congr 1
    omega
  have h52 : (2 : Int) ^ 52 = 4503599627370496 := by decide
  have hd : (2 : Int) ^ k ∣ 4503599627370496 := ⟨2 ^ (52 - k), by rw [← h52, hsp, Int.mul_comm]⟩
  have hfx : fX v = pX v + 4503599627370496 := by
    unfold fX
    rw [if_neg (by omega)]
  have hrp : pX v % 2 ^ k = v % 2 ^ k := by
    unfold pX
    exact Int.emod_emod_of_dvd v hd
  rw [hfx, ← hrp]
  obtain ⟨w, hw⟩ := hd
  rw [hw, Int.add_mul_emod_self_left]
/-- what floorOrCeil tells of one that isn't small, nor whole by its size -/
def fcV (c : Prop) [Decidable c] (v : Int) : FP.Core.Datum := R6 (decide (v < 0)) (fX v / 2 ^ (-plX v).toNat + if fX v % 2 ^ (-plX v).toNat ≠ 0 ∧ c then 1 else 0).toNat
theorem fc_b {v : Int} (h6 : In6 v) (h1 : 1023 ≤ eX v) (h2 : eX v < 1075) : vD (v - v % 2 ^ (1075 - eX v).toNat) = R6 (decide (v < 0)) (fX v / 2 ^ (-plX v).toNat).toNat ∧ In6 (v - v % 2 ^ (1075 - eX v).toNat) ∧ ¬ noX (v - v % 2 ^ (1075 - eX v).toNat) := by
  rw [(fc_k h1 h2).1]
  exact rt_base h6 h1 (by omega)
theorem fc_z {v : Int} (h6 : In6 v) (h1 : 1023 ≤ eX v) (h2 : eX v < 1075) (h0 : v % 2 ^ (1075 - eX v).toNat = 0) (c : Prop) [Decidable c] : vD v = fcV c v := by
  have h := (fc_b h6 h1 h2).1
  rw [h0, Int.sub_zero] at h
  unfold fcV
  rw [h, if_neg, Int.add_zero]
  intro q
  refine q.1 ?_
  rw [(fc_k h1 h2).1, (fc_k h1 h2).2]
  exact h0
theorem fc_n {v : Int} (h6 : In6 v) (h1 : 1023 ≤ eX v) (h2 : eX v < 1075) {c : Prop} [Decidable c] (hc : ¬ c) : vD (v - v % 2 ^ (1075 - eX v).toNat) = fcV c v := by
  unfold fcV
  rw [(fc_b h6 h1 h2).1, if_neg (fun q => hc q.2), Int.add_zero]
theorem fc_u {v sg z : Int} (h6 : In6 v) (h1 : 1023 ≤ eX v) (h2 : eX v < 1075) (h0 : v % 2 ^ (1075 - eX v).toNat ≠ 0) {c : Prop} [Decidable c] (hc : c) (hs : OneX sg) (hsg : 0 < sg ↔ 0 ≤ v) (hz : vD z = FP.Core.round FP.Core.b64 (FP.Core.exactSum (vD (v - v % 2 ^ (1075 - eX v).toNat)) (vD sg))) : vD z = fcV c v := by
  have hb := (fc_b h6 h1 h2).1
  have hd := fd_r (v := v) (n := (-plX v).toNat)
  rw [hz, rt_up hb (by omega) ?_]
  · unfold fcV
    rw [if_pos ⟨by rw [(fc_k h1 h2).1, (fc_k h1 h2).2]; exact h0, hc⟩]
    congr 1
    omega
  · rcases hs with rfl | rfl
    · rw [vD_one, decide_eq_false (by omega)]
    · rw [vD_mone, decide_eq_true (by omega)]
theorem R6_nan {s : Bool} {n : Nat} : R6 s n ≠ .nan := fun q => by
  have q : FP.Core.round FP.Core.b64 (.fin s n 0) = .nan := q
  exact rd_nan (by intro w; cases w) q
theorem fcV_nan {c : Prop} [Decidable c] {v z : Int} (h : vD z = fcV c v) : ¬ noX z := noX_v.mpr (by rw [h]; exact R6_nan)
/-- below 1: nothing but what is left -/
theorem sm_0 {v : Int} (h6 : In6 v) (h : eX v < 1023) : fX v / 2 ^ (-plX v).toNat = 0 ∧ fX v % 2 ^ (-plX v).toNat = fX v ∧ (kX v = 0 ↔ fX v = 0) ∧ 53 ≤ (-plX v).toNat := by
  have hf := fX_r v
  have hp := plX_c v
  have he := eX_r v
  have hm := pw_mon (a := 53) (b := (-plX v).toNat) (by omega)
  have h53 : (2 : Int) ^ 53 = 9007199254740992 := by decide
  refine ⟨Int.ediv_eq_zero_of_lt hf.1 (by omega), Int.emod_eq_of_lt hf.1 (by omega), ?_, by omega⟩
  obtain ⟨g1, g2⟩ := h6
  unfold kX fX pX eX
  constructor
  · intro q
    split at q <;> split <;> omega
  · intro q
    split at q <;> split <;> omega
section MXS
variable {p : Program} {l : Launch} {e : Env} {R : Room} {s : State} {m : MethodId} {args : Array Value} {below : List Frame} {meth : Method} {c : Code} {H : Heap} {locs : List Loc} {cells slots : Nat}
variable {cc : ByteArray} {pc : Nat} {ls : Array Slot} {rest : List Value} {Q : State → Prop}
theorem ix_daddE (hx : p.tables.exec = Jvm.exec) (hb : c.code = cc) {x y : Int} (hx6 : In6 x) (hy6 : In6 y) (hn : FP.Core.exactSum (vD x) (vD y) ≠ .nan) (hd : decode cc pc = .ok (.dadd, 1)) (k : ∀ u : Int, In6 u → ¬ noX u → vD u = FP.Core.round FP.Core.b64 (FP.Core.exactSum (vD x) (vD y)) → W p l e R s m args below meth c H locs cells slots Q (F0 m (pc + 1) ls (.double (dX u) :: rest))) : W p l e R s m args below meth c H locs cells slots Q (F0 m pc ls (.double (dX y) :: .double (dX x) :: rest)) := by
  obtain ⟨u, hu, e⟩ := dX_ex (FP.dadd (dX x) (dX y))
  have h2 : vD u = FP.Core.round FP.Core.b64 (FP.Core.exactSum (vD x) (vD y)) := by
    rw [← vD_eq hu, ← e, ← vD_eq hx6, ← vD_eq hy6]
    exact v64_dadd _ _
  have h3 : ¬ noX u := noX_v.mpr (by rw [h2]; exact rd_nan hn)
  exact ix_dadd hx hb e h3 hd (k u hu h3 h2)
theorem ix_dsubE (hx : p.tables.exec = Jvm.exec) (hb : c.code = cc) {x y : Int} (hx6 : In6 x) (hy6 : In6 y) (hn : FP.Core.exactSum (vD x) (FP.Core.negate (vD y)) ≠ .nan) (hd : decode cc pc = .ok (.dsub, 1)) (k : ∀ u : Int, In6 u → ¬ noX u → vD u = FP.Core.round FP.Core.b64 (FP.Core.exactSum (vD x) (FP.Core.negate (vD y))) → W p l e R s m args below meth c H locs cells slots Q (F0 m (pc + 1) ls (.double (dX u) :: rest))) : W p l e R s m args below meth c H locs cells slots Q (F0 m pc ls (.double (dX y) :: .double (dX x) :: rest)) := by
  obtain ⟨u, hu, e⟩ := dX_ex (FP.dsub (dX x) (dX y))
  have h2 : vD u = FP.Core.round FP.Core.b64 (FP.Core.exactSum (vD x) (FP.Core.negate (vD y))) := by
    rw [← vD_eq hu, ← e, ← vD_eq hx6, ← vD_eq hy6]
    exact v64_dsub _ _
  have h3 : ¬ noX u := noX_v.mpr (by rw [h2]; exact rd_nan hn)
  exact ix_dsub hx hb e h3 hd (k u hu h3 h2)
end MXS
/-- a sum is a number where one of the two is finite -/
theorem xs_l {x y : Int} (hx : eX x ≠ 2047) (hy : ¬ noX y) : FP.Core.exactSum (vD x) (vD y) ≠ .nan := by
  rw [vD_fin hx]
  have h := noX_v.mp hy
  cases e : vD y with
  | nan => exact absurd e h
  | inf s => intro q; cases q
  | fin s c q => intro w; cases w
theorem xs_r {x : FP.Core.Datum} {y : Int} (hx : x ≠ .nan) (hy : eX y ≠ 2047) : FP.Core.exactSum x (vD y) ≠ .nan := by
  rw [vD_fin hy]
  cases x with
  | nan => exact absurd rfl hx
  | inf s => intro q; cases q
  | fin s c q => intro w; cases w
theorem fcV_c {c c' : Prop} [Decidable c] [Decidable c'] {v : Int} (h : c ↔ c') : fcV c v = fcV c' v := by
  unfold fcV
  by_cases q : fX v % 2 ^ (-plX v).toNat ≠ 0 ∧ c
  · rw [if_pos q, if_pos ⟨q.1, h.mp q.2⟩]
  · rw [if_neg q, if_neg (fun w => q ⟨w.1, h.mpr w.2⟩)]
theorem sm_v {v : Int} (h6 : In6 v) (h : eX v < 1023) (h0 : kX v = 0) : vD v = R6 (decide (v < 0)) 0 := by
  have h1 := (sm_0 h6 h).2.2.1.mp h0
  have hp := plX_c v
  have hf : eX v = 0 := by
    have h2 := pX_r v
    by_cases c : eX v = 0
    · exact c
    · unfold fX at h1
      rw [if_neg c] at h1
      omega
  rw [vD_fin (by omega), h1, hp.1 hf]
  exact (rr_0 (f := FP.Core.b64)).symm
theorem fl_sm {v z : Int} (h6 : In6 v) (h : eX v < 1023) (hz : z = if kX v = 0 then v else if v < 0 then -4616189618054758400 else 0) : vD z = fcV (v < 0) v := by
  obtain ⟨h1, h2, h3, h4⟩ := sm_0 h6 h
  unfold fcV
  rw [h1, h2]
  by_cases c : kX v = 0
  · rw [if_pos c] at hz
    rw [hz, if_neg (fun q => q.1 (h3.mp c)), sm_v h6 h c]
    rfl
  · rw [if_neg c] at hz
    have hf : fX v ≠ 0 := fun q => c (h3.mpr q)
    by_cases d : v < 0
    · rw [if_pos d] at hz
      rw [hz, if_pos ⟨hf, d⟩, decide_eq_true d]
      exact vD_mone
    · rw [if_neg d] at hz
      rw [hz, if_neg (fun q => d q.2), decide_eq_false d]
      decide +kernel
theorem ce_sm {v z : Int} (h6 : In6 v) (h : eX v < 1023) (hz : z = if kX v = 0 then v else if v < 0 then -9223372036854775808 else 4607182418800017408) : vD z = fcV (0 ≤ v) v := by
  obtain ⟨h1, h2, h3, h4⟩ := sm_0 h6 h
  unfold fcV
  rw [h1, h2]
  by_cases c : kX v = 0
  · rw [if_pos c] at hz
    rw [hz, if_neg (fun q => q.1 (h3.mp c)), sm_v h6 h c]
    rfl
  · rw [if_neg c] at hz
    have hf : fX v ≠ 0 := fun q => c (h3.mpr q)
    by_cases d : v < 0
    · rw [if_pos d] at hz
      rw [hz, if_neg (fun q => by omega), decide_eq_true d]
      decide +kernel
    · rw [if_neg d] at hz
      rw [hz, if_pos ⟨hf, by omega⟩, decide_eq_false d]
      exact vD_one
/-- what rint tells -/
def rtV (v : Int) : FP.Core.Datum := R6 (decide (v < 0)) (fX v / 2 ^ (-plX v).toNat + if frR (fX v) (-plX v).toNat = 3 ∨ frR (fX v) (-plX v).toNat = 2 ∧ fX v / 2 ^ (-plX v).toNat % 2 = 1 then 1 else 0).toNat
/-- the amount of a double by its bits -/
theorem am_X {v : Int} : eX (v % 9223372036854775808) = eX v ∧ fX (v % 9223372036854775808) = fX v ∧ plX (v % 9223372036854775808) = plX v := by
  have e1 : eX (v % 9223372036854775808) = eX v := by
    unfold eX
    omega
  have e2 : pX (v % 9223372036854775808) = pX v := by
    unfold pX
    omega
  refine ⟨e1, ?_, ?_⟩
  · unfold fX
    rw [e1, e2]
  · unfold plX
    rw [e1]
theorem ri_all {v sg a2 a3 z : Int} (hp : plX v < 0) (hsg : sg = if v < 0 then -4616189618054758400 else 4607182418800017408) (h2 : vD a2 = FP.Core.round FP.Core.b64 (FP.Core.exactSum (vD 4841369599423283200) (vD (v % 9223372036854775808)))) (h3 : vD a3 = FP.Core.round FP.Core.b64 (FP.Core.exactSum (vD a2) (FP.Core.negate (vD 4841369599423283200)))) (h36 : In6 a3) (hz : z = if 0 < sg then a3 else ng a3) : vD z = rtV v := by
  obtain ⟨e1, e2, e3⟩ := am_X (v := v)
  have hr := plX_r v
  obtain ⟨k, hk⟩ : ∃ k : Nat, plX v = -(k : Int) := ⟨(-plX v).toNat, by omega⟩
  have hf := fX_r v
  obtain ⟨g1, g2⟩ := ri_add (v := v % 9223372036854775808) (k := k) (by omega) (by constructor <;> omega) (by rw [e3, hk]) (by omega)
  rw [e2] at g1 g2
  have g3 := ri_sub (h2.trans g1) (by omega) (by omega)
  rw [show 4503599627370496 + (upS 0 1 (fX v).toNat (2 ^ k)).toNat - 4503599627370496 = (upS 0 1 (fX v).toNat (2 ^ k)).toNat by omega, ← h3] at g3
  have hku : (-plX v).toNat = k := by omega
  have hu := fr_up (c := fX v) (k := k) hf.1 hf.2
  have e4 : (upS 0 1 (fX v).toNat (2 ^ k)).toNat = (fX v / 2 ^ k + if frR (fX v) k = 3 ∨ frR (fX v) k = 2 ∧ fX v / 2 ^ k % 2 = 1 then 1 else 0).toNat := by
    rw [← hu]
    rfl
  unfold rtV
  rw [hku, ← e4]
  by_cases d : v < 0
  · rw [if_pos d] at hsg
    rw [hz, hsg, if_neg (by decide), vD_ng h36, g3, decide_eq_true d]
    exact R6_b _ _
  · rw [if_neg d] at hsg
    rw [hz, hsg, if_pos (by decide), g3, decide_eq_false d]
theorem xs_s {x y : Int} (hx : ¬ noX x) (hy : eX y ≠ 2047) : FP.Core.exactSum (vD x) (FP.Core.negate (vD y)) ≠ .nan := by
  have h := noX_v.mp hx
  rw [vD_fin hy]
  cases e : vD x with
  | nan => exact absurd e h
  | inf s => intro q; cases q
  | fin s c q => intro w; cases w
