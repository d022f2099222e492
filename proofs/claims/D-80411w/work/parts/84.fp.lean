/-! doubles and floats by their bits, as integers; the model's rounding is the machine's -/
set_option maxRecDepth 100000
def dX (v : Int) : UInt64 := (L6 v).toUInt64
def fB (v : Int) : UInt32 := (I3 v).toUInt32
theorem dX_n (v : Int) : (dX v).toNat = (v % 18446744073709551616).toNat := by
  show (BitVec.ofInt 64 v).toNat = _
  rw [BitVec.toNat_ofInt]
  rfl
theorem fB_n (v : Int) : (fB v).toNat = (v % 4294967296).toNat := by
  show (BitVec.ofInt 32 v).toNat = _
  rw [BitVec.toNat_ofInt]
  rfl
theorem dX_c {v w : Int} (h : v % 18446744073709551616 = w % 18446744073709551616) : dX v = dX w := congrArg Int64.toUInt64 (L6_congr h)
theorem fB_c {v w : Int} (h : v % 4294967296 = w % 4294967296) : fB v = fB w := congrArg Int32.toUInt32 (I3_congr h)
theorem dX_of (a : UInt64) : dX a.toInt64.toInt = a := by
  show (L6 a.toInt64.toInt).toUInt64 = a
  rw [L6_of]
  rfl
theorem fB_of (a : UInt32) : fB a.toInt32.toInt = a := by
  show (I3 a.toInt32.toInt).toUInt32 = a
  rw [I3_of]
  rfl
/-- a datum of a double -/
def vD (v : Int) : FP.Core.Datum := if eX v = 2047 then (if pX v = 0 then .inf (decide (v < 0)) else .nan) else .fin (decide (v < 0)) (fX v).toNat (plX v)
theorem vD_eq {v : Int} (h : In6 v) : v64 (dX v) = vD v := by
  have e2 : FP.Core.b64.tails = 4503599627370496 := by decide
  have e3 : FP.Core.b64.exps = 2048 := by decide
  have e4 : FP.Core.b64.qmin = -1074 := by decide
  have hp := pX_r v
  have he := eX_r v
  have t1 : FP.Core.fieldT FP.Core.b64 (dX v).toNat = (pX v).toNat := by
    unfold FP.Core.fieldT pX
    rw [e2, dX_n]
    omega
  have t2 : FP.Core.fieldE FP.Core.b64 (dX v).toNat = (eX v).toNat := by
    unfold FP.Core.fieldE eX
    rw [e2, e3, dX_n]
    omega
  have t3 : FP.Core.fieldS FP.Core.b64 (dX v).toNat = decide (v < 0) := by
    unfold FP.Core.fieldS
    rw [e2, e3, dX_n]
    by_cases c : v < 0
    · have : (v % 18446744073709551616).toNat / 4503599627370496 / 2048 % 2 = 1 := by omega
      rw [this]
      simp [c]
    · have : (v % 18446744073709551616).toNat / 4503599627370496 / 2048 % 2 = 0 := by omega
      rw [this]
      simp [c]
  unfold v64 FP.Core.decode vD
  rw [t1, t2, t3, e3, e2, e4]
  by_cases c1 : eX v = 2047
  · rw [if_pos (by omega), if_pos c1]
    by_cases c2 : pX v = 0
    · rw [if_pos (by omega), if_pos c2]
    · rw [if_neg (by omega), if_neg c2]
  · rw [if_neg (by omega), if_neg c1]
    by_cases c2 : eX v = 0
    · rw [if_pos (by omega)]
      unfold fX plX
      rw [if_pos c2, if_pos c2]
    · rw [if_neg (by omega)]
      unfold fX plX
      rw [if_neg c2, if_neg c2]
      have a1 : 4503599627370496 + (pX v).toNat = (pX v + 4503599627370496).toNat := by omega
      have a2 : (-1074 : Int) + (((eX v).toNat : Int) - 1) = eX v - 1075 := by omega
      rw [a1, a2]
theorem vD_nan {v : Int} : vD v = .nan ↔ noX v := by
  unfold vD
  by_cases c : eX v = 2047
  · rw [if_pos c]
    by_cases d : pX v = 0
    · rw [if_pos d]
      exact ⟨fun q => (by cases q), fun q => absurd d q.2⟩
    · rw [if_neg d]
      exact ⟨fun _ => ⟨c, d⟩, fun _ => rfl⟩
  · rw [if_neg c]
    exact ⟨fun q => (by cases q), fun q => absurd q.1 c⟩
theorem vD_fin {v : Int} (h : eX v ≠ 2047) : vD v = .fin (decide (v < 0)) (fX v).toNat (plX v) := by
  unfold vD
  rw [if_neg h]
theorem vD_inf {v : Int} (h : infX v) : vD v = .inf (decide (v < 0)) := by
  unfold vD
  rw [if_pos h.1, if_pos h.2]
theorem plX_c (v : Int) : (eX v = 0 → plX v = -1074) ∧ (eX v ≠ 0 → plX v = eX v - 1075) := by
  unfold plX
  exact ⟨fun q => if_pos q, fun q => if_neg q⟩
theorem fX_c (v : Int) : (eX v = 0 → fX v = pX v) ∧ (eX v ≠ 0 → fX v = pX v + 4503599627370496) := by
  unfold fX
  exact ⟨fun q => if_pos q, fun q => if_neg q⟩
theorem dX_inj {v w : Int} (h : In6 v) (hw : In6 w) (hn : ¬ noX v) (e : vD v = vD w) : v = w := by
  obtain ⟨h1, h2⟩ := h
  obtain ⟨h3, h4⟩ := hw
  by_cases c : eX v = 2047
  · have hv : infX v := by
      by_cases d : pX v = 0
      · exact ⟨c, d⟩
      · exact absurd ⟨c, d⟩ hn
    rw [vD_inf hv] at e
    unfold vD at e
    by_cases c2 : eX w = 2047
    · rw [if_pos c2] at e
      by_cases d2 : pX w = 0
      · rw [if_pos d2] at e
        injection e with e
        have e := decide_eq_decide.mp e
        have d1 := hv.2
        unfold eX at c c2
        unfold pX at d1 d2
        omega
      · rw [if_neg d2] at e
        cases e
    · rw [if_neg c2] at e
      cases e
  · rw [vD_fin c] at e
    unfold vD at e
    by_cases c2 : eX w = 2047
    · rw [if_pos c2] at e
      split at e <;> cases e
    · rw [if_neg c2] at e
      injection e with e1 e2 e3
      have e1 := decide_eq_decide.mp e1
      have f1 := fX_r v
      have f2 := fX_r w
      have e2 : fX v = fX w := by omega
      have p1 := plX_c v
      have p2 := plX_c w
      have q1 := fX_c v
      have q2 := fX_c w
      unfold pX at *
      unfold eX at *
      omega
/-- equal to a double by its datum -/
theorem dX_ex (a : UInt64) : ∃ u : Int, In6 u ∧ a = dX u := by
  have h1 := a.toInt64.minValue_le_toInt
  have h0 : Int64.minValue.toInt = -9223372036854775808 := by decide
  have h2 := a.toInt64.toInt_lt
  exact ⟨a.toInt64.toInt, ⟨by omega, by omega⟩, (dX_of a).symm⟩
theorem fB_ex (a : UInt32) : ∃ u : Int, In3 u ∧ a = fB u := by
  have h1 := a.toInt32.minValue_le_toInt
  have h0 : Int32.minValue.toInt = -2147483648 := by decide
  have h2 := a.toInt32.toInt_lt
  exact ⟨a.toInt32.toInt, ⟨by omega, by omega⟩, (fB_of a).symm⟩
theorem dX_val {a : UInt64} {w : Int} (hw : In6 w) (hn : ¬ noX w) (e : v64 a = vD w) : a = dX w := by
  obtain ⟨u, hu, rfl⟩ := dX_ex a
  rw [vD_eq hu] at e
  rw [dX_inj hw hu hn e.symm]
theorem vD_fits {v : Int} (_h : In6 v) : FP.Core.fits FP.Core.b64 (vD v) := by
  have f := fX_r v
  have e := eX_r v
  unfold vD
  by_cases c : eX v = 2047
  · rw [if_pos c]
    split <;> trivial
  · rw [if_neg c]
    refine ⟨by rw [b64p]; omega, by rw [b64n]; unfold plX; split <;> omega, by rw [b64x]; unfold plX; split <;> omega, ?_⟩
    rw [b64n, b64t]
    unfold plX
    by_cases d : eX v = 0
    · rw [if_pos d]
      exact Or.inl rfl
    · right
      have q := pX_r v
      unfold fX
      rw [if_neg d]
      omega
def vF (v : Int) : FP.Core.Datum := v32 (fB v)
def fM (v : Int) : Int := if eF v = 0 then pF v else pF v + 8388608
def plF (v : Int) : Int := if eF v = 0 then -149 else eF v - 150
theorem vF_eq {v : Int} (h : In3 v) : vF v = if eF v = 255 then (if pF v = 0 then .inf (decide (v < 0)) else .nan) else .fin (decide (v < 0)) (fM v).toNat (plF v) := by
  obtain ⟨h1, h2⟩ := h
  have hp := pF_r v
  have he := eF_r v
  have t1 : FP.Core.fieldT FP.Core.b32 (fB v).toNat = (pF v).toNat := by
    unfold FP.Core.fieldT pF
    rw [b32t, fB_n]
    omega
  have t2 : FP.Core.fieldE FP.Core.b32 (fB v).toNat = (eF v).toNat := by
    unfold FP.Core.fieldE eF
    rw [b32t, b32e, fB_n]
    omega
  have t3 : FP.Core.fieldS FP.Core.b32 (fB v).toNat = decide (v < 0) := by
    unfold FP.Core.fieldS
    rw [b32t, b32e, fB_n]
    by_cases c : v < 0
    · have : (v % 4294967296).toNat / 8388608 / 256 % 2 = 1 := by omega
      rw [this]
      simp [c]
    · have : (v % 4294967296).toNat / 8388608 / 256 % 2 = 0 := by omega
      rw [this]
      simp [c]
  unfold vF v32 FP.Core.decode
  rw [t1, t2, t3, b32e, b32t, b32n]
  by_cases c1 : eF v = 255
  · rw [if_pos (by omega), if_pos c1]
    by_cases c2 : pF v = 0
    · rw [if_pos (by omega), if_pos c2]
    · rw [if_neg (by omega), if_neg c2]
  · rw [if_neg (by omega), if_neg c1]
    by_cases c2 : eF v = 0
    · rw [if_pos (by omega)]
      unfold fM plF
      rw [if_pos c2, if_pos c2]
    · rw [if_neg (by omega)]
      unfold fM plF
      rw [if_neg c2, if_neg c2]
      have a1 : 8388608 + (pF v).toNat = (pF v + 8388608).toNat := by omega
      have a2 : (-149 : Int) + (((eF v).toNat : Int) - 1) = eF v - 150 := by omega
      rw [a1, a2]
theorem nr_up {n d : Nat} (hd : 0 < d) : FP.Core.nearest n d = (upS 0 1 n d).toNat := by
  unfold FP.Core.nearest upS goS
  have h1 := Nat.mod_lt n hd
  generalize n % d = r at *
  generalize n / d = m at *
  by_cases c : 2 * r < d
  · rw [if_pos c, if_neg (by omega)]
    omega
  · rw [if_neg c]
    by_cases c2 : d < 2 * r
    · rw [if_pos c2, if_pos (by omega)]
      omega
    · rw [if_neg c2]
      by_cases c3 : m % 2 = 1
      · rw [if_pos (by omega)]
        omega
      · rw [if_neg (by omega)]
        omega
def FF (f : FP.Core.Fmt) (wd lp : Int) : Prop := 1 ≤ wd ∧ f.p = wd.toNat ∧ f.qmin = lp
theorem FF64 : FF FP.Core.b64 53 (-1074) := ⟨by decide, by decide, by decide⟩
theorem FF32 : FF FP.Core.b32 24 (-149) := ⟨by decide, by decide, by decide⟩
theorem rr_q {f : FP.Core.Fmt} {wd lp : Int} (hF : FF f wd lp) {P Q : Nat} {q : Int} (hP : P ≠ 0) (hQ : Q ≠ 0) (h : RQ wd lp P Q q) : FP.Core.quantum f P Q 0 = q := by
  obtain ⟨h1, h2, h3⟩ := hF
  have hd := dS_pos hQ q
  have e1 : FP.Core.unitsNum P 0 q = nS P q := by
    unfold FP.Core.unitsNum nS
    rw [Int.zero_sub]
  have e2 : FP.Core.unitsDen Q 0 q = dS Q q := by
    unfold FP.Core.unitsDen dS
    rw [Int.sub_zero]
  have key : ∀ k : Nat, mS P Q q < 2 ^ k ↔ Bel P Q (q - 0 + (k : Int)) := by
    intro k
    rw [← fl_ub, e1, e2]
    unfold mS
    exact Nat.div_lt_iff_lt_mul hd
  apply fl_qe (Nat.pos_of_ne_zero hP) (Nat.pos_of_ne_zero hQ)
  · rw [h3]
    exact h.1
  · rw [h2]
    exact (key _).mp h.2.1
  · rw [h2, h3]
    rcases h.2.2 with c | c
    · exact Or.inl c
    · right
      intro b
      have e : ((wd.toNat : Nat) : Int) - 1 = (((wd - 1).toNat : Nat) : Int) := by omega
      rw [e] at b
      have := (key _).mpr b
      omega
theorem rr_at {f : FP.Core.Fmt} {wd lp : Int} (hF : FF f wd lp) {s : Bool} {P Q : Nat} {q : Int} (hP : P ≠ 0) (hQ : Q ≠ 0) (h : RQ wd lp P Q q) : FP.Core.roundRatio f s P Q 0 = FP.Core.settle f s (upS 0 1 (nS P q) (dS Q q)).toNat q := by
  have e1 : FP.Core.unitsNum P 0 q = nS P q := by
    unfold FP.Core.unitsNum nS
    rw [Int.zero_sub]
  have e2 : FP.Core.unitsDen Q 0 q = dS Q q := by
    unfold FP.Core.unitsDen dS
    rw [Int.sub_zero]
  unfold FP.Core.roundRatio FP.Core.roundAt
  rw [if_neg hP, rr_q hF hP hQ h, e1, e2, nr_up (dS_pos hQ q)]
theorem b1n (s : Bool) : ((s.toNat : Nat) : Int) = if s = true then 1 else 0 := by cases s <;> rfl
theorem enc_set64 {s : Bool} {m : Nat} {q : Int} (hm : m ≤ 9007199254740992) (hq : -1074 ≤ q) : ((FP.Core.encode FP.Core.b64 (FP.Core.settle FP.Core.b64 s m q) : Nat) : Int) = (if s = true then 9223372036854775808 else 0) + encS 4503599627370496 (-1074) 971 (m : Int) q 1 := by
  have e1 : (2 : Nat) ^ FP.Core.b64.p = 9007199254740992 := by decide
  have e2 : FP.Core.b64.tails = 4503599627370496 := by decide
  have e3 : FP.Core.b64.exps = 2048 := by decide
  have e4 : FP.Core.b64.qmin = -1074 := by decide
  have e5 : FP.Core.b64.qmax = 971 := by decide
  have hs := b1n s
  unfold FP.Core.settle FP.Core.bound encS encT
  rw [e1, e2, e5]
  by_cases c1 : m < 9007199254740992
  · rw [if_pos c1, if_neg (show ¬ (m : Int) = 2 * 4503599627370496 by omega)]
    by_cases c2 : q ≤ 971
    · rw [if_pos c2, if_neg (show ¬ (971 : Int) < q by omega)]
      simp only [FP.Core.encode, FP.Core.assemble, e2, e3, e4]
      by_cases c3 : m < 4503599627370496
      · rw [if_pos c3, if_pos (show (m : Int) < 4503599627370496 by omega)]
        cases s <;> simp <;> omega
      · rw [if_neg c3, if_neg (show ¬ (m : Int) < 4503599627370496 by omega)]
        cases s <;> simp <;> omega
    · rw [if_neg c2, if_pos (show (971 : Int) < q by omega), if_neg (show ¬ (1 : Int) = 0 by decide)]
      simp only [FP.Core.encode, FP.Core.assemble, e2, e3, e4]
      cases s <;> simp
  · rw [if_neg c1, if_pos (show (m : Int) = 2 * 4503599627370496 by omega)]
    by_cases c2 : q + 1 ≤ 971
    · rw [if_pos c2, if_neg (show ¬ (971 : Int) < q + 1 by omega), if_neg (show ¬ (4503599627370496 : Int) < 4503599627370496 by decide)]
      simp only [FP.Core.encode, FP.Core.assemble, e2, e3, e4]
      cases s <;> simp <;> omega
    · rw [if_neg c2, if_pos (show (971 : Int) < q + 1 by omega), if_neg (show ¬ (1 : Int) = 0 by decide)]
      simp only [FP.Core.encode, FP.Core.assemble, e2, e3, e4]
      cases s <;> simp
theorem enc_set32 {s : Bool} {m : Nat} {q : Int} (hm : m ≤ 16777216) (hq : -149 ≤ q) : ((FP.Core.encode FP.Core.b32 (FP.Core.settle FP.Core.b32 s m q) : Nat) : Int) = (if s = true then 2147483648 else 0) + encS 8388608 (-149) 104 (m : Int) q 1 := by
  have e1 : (2 : Nat) ^ FP.Core.b32.p = 16777216 := by decide
  have e2 : FP.Core.b32.tails = 8388608 := by decide
  have e3 : FP.Core.b32.exps = 256 := by decide
  have e4 : FP.Core.b32.qmin = -149 := by decide
  have e5 : FP.Core.b32.qmax = 104 := by decide
  have hs := b1n s
  unfold FP.Core.settle FP.Core.bound encS encT
  rw [e1, e2, e5]
  by_cases c1 : m < 16777216
  · rw [if_pos c1, if_neg (show ¬ (m : Int) = 2 * 8388608 by omega)]
    by_cases c2 : q ≤ 104
    · rw [if_pos c2, if_neg (show ¬ (104 : Int) < q by omega)]
      simp only [FP.Core.encode, FP.Core.assemble, e2, e3, e4]
      by_cases c3 : m < 8388608
      · rw [if_pos c3, if_pos (show (m : Int) < 8388608 by omega)]
        cases s <;> simp <;> omega
      · rw [if_neg c3, if_neg (show ¬ (m : Int) < 8388608 by omega)]
        cases s <;> simp <;> omega
    · rw [if_neg c2, if_pos (show (104 : Int) < q by omega), if_neg (show ¬ (1 : Int) = 0 by decide)]
      simp only [FP.Core.encode, FP.Core.assemble, e2, e3, e4]
      cases s <;> simp
  · rw [if_neg c1, if_pos (show (m : Int) = 2 * 8388608 by omega)]
    by_cases c2 : q + 1 ≤ 104
    · rw [if_pos c2, if_neg (show ¬ (104 : Int) < q + 1 by omega), if_neg (show ¬ (8388608 : Int) < 8388608 by decide)]
      simp only [FP.Core.encode, FP.Core.assemble, e2, e3, e4]
      cases s <;> simp <;> omega
    · rw [if_neg c2, if_pos (show (104 : Int) < q + 1 by omega), if_neg (show ¬ (1 : Int) = 0 by decide)]
      simp only [FP.Core.encode, FP.Core.assemble, e2, e3, e4]
      cases s <;> simp
def sgB (s : Bool) (e : Int) : Int := if s = true then e - 9223372036854775808 else e
/-- the model's bits of P over Q to the nearest are the machine's -/
theorem rnB_val {s : Bool} {P Q : Nat} {z : Int} (hP : P ≠ 0) (hQ : Q ≠ 0) (h : rnB 64 P Q 0 1 z) : v64 (dX (sgB s z)) = FP.Core.roundRatio FP.Core.b64 s P Q 0 := by
  unfold rnB at h
  rw [if_pos rfl] at h
  obtain ⟨q, h1, h2⟩ := h
  have hu := upS_r (dr := 0) (its := 1) h1
  have e53 : (2 : Int) ^ (53 : Int).toNat = 9007199254740992 := by decide
  rw [e53] at hu
  have hfit : FP.Core.fits FP.Core.b64 (FP.Core.roundRatio FP.Core.b64 s P Q 0) := rr_fits g64 s P (Nat.pos_of_ne_zero hQ) 0
  have henc := enc_set64 (s := s) (m := (upS 0 1 (nS P q) (dS Q q)).toNat) (q := q) (by omega) h1.1
  rw [← rr_at FF64 hP hQ h1, Int.toNat_of_nonneg hu.1] at henc
  have hinf : infS 0 1 = 1 := rfl
  rw [hinf] at h2
  rw [← h2] at henc
  have hlt := (dec_enc64 hfit).2
  have hn : (dX (sgB s z)).toNat = FP.Core.encode FP.Core.b64 (FP.Core.roundRatio FP.Core.b64 s P Q 0) := by
    rw [dX_n]
    unfold sgB
    cases s
    · simp at henc ⊢
      omega
    · simp at henc ⊢
      omega
  unfold v64
  rw [hn]
  exact (dec_enc64 hfit).1
theorem rr_sc {f : FP.Core.Fmt} (hf : fG f) {s : Bool} {x : Nat} {v : Int} : FP.Core.roundRatio f s (x * 2 ^ v.toNat) (2 ^ (-v).toNat) 0 = FP.Core.roundRatio f s x 1 v := by
  apply rr_congr (fG_n hf).1 (Nat.two_pow_pos _) (by decide)
  rw [Int.zero_sub, Int.sub_zero, Nat.mul_one, Nat.mul_assoc, Nat.mul_comm (2 ^ v.toNat), ← Nat.mul_assoc]
theorem rr_0 {f : FP.Core.Fmt} {s : Bool} {Q : Nat} {v : Int} : FP.Core.roundRatio f s 0 Q v = .fin s 0 f.qmin := by
  unfold FP.Core.roundRatio
  rw [if_pos rfl]
/-- scS: so many times 2 to a place, to the nearest double -/
theorem scS_val {s : Bool} {x v z : Int} (hx : 0 ≤ x) (h : scS x v z) : v64 (dX (sgB s z)) = FP.Core.roundRatio FP.Core.b64 s x.toNat 1 v := by
  by_cases c : x = 0
  · rw [h.1 c, c]
    show v64 (dX (sgB s 0)) = FP.Core.roundRatio FP.Core.b64 s 0 1 v
    rw [rr_0]
    cases s <;> decide +kernel
  · rw [rnB_val (s := s) (by have := Nat.mul_pos (show 0 < x.toNat by omega) (Nat.two_pow_pos v.toNat); omega) (Nat.ne_of_gt (Nat.two_pow_pos _)) (h.2 c), rr_sc g64]
theorem bl_log {x : Nat} (h : x ≠ 0) : ((bl x : Nat) : Int) = (x.log2 : Int) + 1 := by
  unfold bl
  rw [if_neg h]
  omega
theorem lead_lt {P Q x y : Nat} {k : Int} (hP : P ≠ 0) (hQ : Q ≠ 0) (h : P * 2 ^ x < Q * 2 ^ y) (hx : x = (-k).toNat) (hy : y = k.toNat) (hk : k = ((bl P : Nat) : Int) - ((bl Q : Nat) : Int)) : FP.Core.leading P Q = k - 1 := by
  subst hx
  subst hy
  rw [bl_log hP, bl_log hQ] at hk
  have e : (P.log2 : Int) - (Q.log2 : Int) = k := by omega
  unfold FP.Core.leading
  rw [e]
  exact if_neg (by omega)
theorem lead_ge {P Q x y : Nat} {k : Int} (hP : P ≠ 0) (hQ : Q ≠ 0) (h : Q * 2 ^ y ≤ P * 2 ^ x) (hx : x = (-k).toNat) (hy : y = k.toNat) (hk : k = ((bl P : Nat) : Int) - ((bl Q : Nat) : Int)) : FP.Core.leading P Q = k := by
  subst hx
  subst hy
  rw [bl_log hP, bl_log hQ] at hk
  have e : (P.log2 : Int) - (Q.log2 : Int) = k := by omega
  unfold FP.Core.leading
  rw [e]
  exact if_pos h
