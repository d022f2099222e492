/-! quotients, powers, shifts: what the component works is what the reference works -/
set_option maxRecDepth 100000
def cqK (act : Int) (R : Nat) : Nat := if act = 4 ∨ act = 6 then 1 else R
theorem cq_46 {act x y : Int} {pa pb A B C R p q : Nat} (h : act = 4 ∨ act = 6) (hp : p = if recDn act x y A B then A / B + 1 else A / B) (hq : q = 1) : p = recP act x y pa pb A B * cqK act R ∧ q = recQ act B C * cqK act R := by
  obtain ⟨-, e2, e3⟩ := rec_46 (x := x) (y := y) (A := A) (B := B) (C := C) (pa := pa) (pb := pb) h
  unfold cqK
  rw [if_pos h, e2, e3, hp, hq]
  exact ⟨(Nat.mul_one _).symm, rfl⟩
def QD (act x y : Int) (A B : Nat) : Prop := recDn act x y A B
def qtP (act x y : Int) (A B : Nat) : Nat := if recDn act x y A B then B - A % B else A % B
theorem QD_1 {act x y : Int} {A B : Nat} (h1 : act < 6) (h2 : x * y < 0) (h3 : A % B ≠ 0) : QD act x y A B := ⟨h1, h2, h3⟩
theorem QD_a {act x y : Int} {A B : Nat} (h : 6 ≤ act) : ¬ QD act x y A B := fun q => by have := q.1; omega
theorem QD_s {act x y : Int} {A B : Nat} (h : 0 ≤ x * y) : ¬ QD act x y A B := fun q => by have := q.2.1; omega
theorem QD_z {act x y : Int} {A B : Nat} (h : A % B = 0) : ¬ QD act x y A B := fun q => q.2.2 h
theorem qtP_1 {act x y : Int} {A B : Nat} (h : QD act x y A B) : qtP act x y A B = B - A % B := if_pos h
theorem qtP_0 {act x y : Int} {A B : Nat} (h : ¬ QD act x y A B) : qtP act x y A B = A % B := if_neg h
theorem cq_46p {act x y : Int} {pa pb A B C R p q : Nat} (h : act = 4 ∨ act = 6) (d : QD act x y A B) (hp : p = A / B + 1) (hq : q = 1) : p = recP act x y pa pb A B * cqK act R ∧ q = recQ act B C * cqK act R := cq_46 h (by rw [if_pos (show recDn act x y A B from d)]; exact hp) hq
theorem cq_46n {act x y : Int} {pa pb A B C R p q : Nat} (h : act = 4 ∨ act = 6) (d : ¬ QD act x y A B) (hp : p = A / B) (hq : q = 1) : p = recP act x y pa pb A B * cqK act R ∧ q = recQ act B C * cqK act R := cq_46 h (by rw [if_neg (show ¬ recDn act x y A B from d)]; exact hp) hq
theorem cq_57 {act x y : Int} {pa pb A B R Q S p q b : Nat} (h : act = 5 ∨ act = 7) (hp : p = qtP act x y A B * R) (hq : q = b * S) (hb : b = R * Q) : p = recP act x y pa pb A B * cqK act R ∧ q = recQ act B (Q * S) * cqK act R := by
  obtain ⟨-, e2, e3⟩ := rec_57 (x := x) (y := y) (A := A) (B := B) (C := Q * S) (pa := pa) (pb := pb) h
  unfold cqK
  rw [if_neg (by omega), e2, e3, hp, hq, hb]
  exact ⟨rfl, by rw [Nat.mul_assoc, Nat.mul_comm]⟩
def pwB (g : Int) (x y : Nat) : Nat := if g < 0 then x else y
theorem pwB_1 {g : Int} {x y : Nat} (h : g < 0) : pwB g x y = x := if_pos h
theorem pwB_0 {g : Int} {x y : Nat} (h : ¬ g < 0) : pwB g x y = y := if_neg h
def meT (x o c : Int) : Int := if x = o then o * c else if x < o then -1 else 1
theorem meT_e {x o c : Int} (h : x = o) : meT x o c = o * c := if_pos h
theorem meT_l {x o c : Int} (h : x < o) : meT x o c = -1 := by unfold meT; rw [if_neg (by omega), if_pos h]
theorem meT_g {x o c : Int} (h : o < x) : meT x o c = 1 := by unfold meT; rw [if_neg (by omega), if_neg (by omega)]
theorem cq_g46 {act x y g : Int} {pa pb A B : Nat} (h : act = 4 ∨ act = 6) (hg : g = x * y) : recP act x y pa pb A B ≠ 0 → g = recG act x y A B := fun _ => by
  rw [(rec_46 (x := x) (y := y) (A := A) (B := B) (C := 0) (pa := pa) (pb := pb) h).1, hg]
theorem cq_g5 {act x y : Int} {pa pb A B : Nat} (h : act = 5) (hx : x = -1 ∨ x = 0 ∨ x = 1) (hy : y = -1 ∨ y = 0 ∨ y = 1) (hy0 : y ≠ 0) (hx0 : x = 0 → A = 0) : recP act x y pa pb A B ≠ 0 → y = recG act x y A B := fun hn => by
  obtain ⟨e1, e2, -⟩ := rec_57 (x := x) (y := y) (A := A) (B := B) (C := 0) (pa := pa) (pb := pb) (Or.inl h)
  have h3 := (prod3 hx hy).2.2
  rw [e2] at hn
  rw [e1]
  by_cases c : recDn act x y A B
  · rw [if_pos c]
  · rw [if_neg c] at hn ⊢
    have hA : x ≠ 0 := fun q => hn (by rw [hx0 q]; exact Nat.zero_mod _)
    have c2 : ¬ x * y < 0 := fun q => c ⟨by omega, q, hn⟩
    omega
theorem cq_g7 {act x y : Int} {pa pb A B : Nat} (h : act = 7) : recP act x y pa pb A B ≠ 0 → x = recG act x y A B := fun _ => by
  obtain ⟨e1, -, -⟩ := rec_57 (x := x) (y := y) (A := A) (B := B) (C := 0) (pa := pa) (pb := pb) (Or.inr h)
  rw [e1, if_neg (fun q => by have := q.1; omega)]
theorem cq_div {x y : Int} (hx : x = -1 ∨ x = 0 ∨ x = 1) (hy : y = -1 ∨ y = 0 ∨ y = 1) (h : y ≠ 0) : x.tdiv y = x * y := by
  rcases hx with rfl | rfl | rfl <;> rcases hy with rfl | rfl | rfl <;> first | rfl | exact absurd rfl h
theorem sgX_mul {a b : Int} : sgX a * sgX b = if a < 0 ∧ ¬ b < 0 ∨ ¬ a < 0 ∧ b < 0 then -1 else 1 := by
  unfold sgX
  by_cases q1 : a < 0 <;> by_cases q2 : b < 0 <;> simp [q1, q2]
theorem sh_e {g : Int} {r : Nat} {n : Int} (hg : g = -1 ∨ g = 0 ∨ g = 1) (h0 : g = 0 → r = 0) (hn : n = (r : Int)) : (0 < g → n.toNat = (g * (r : Int)).toNat ∧ (-(g * (r : Int))).toNat = 0) ∧ (¬ 0 < g → (g * (r : Int)).toNat = 0 ∧ n.toNat = (-(g * (r : Int))).toNat) := by
  subst hn
  rcases hg with rfl | rfl | rfl
  · constructor
    · intro q; omega
    · intro _; omega
  · have := h0 rfl
    subst this
    constructor
    · intro q; omega
    · intro _; decide
  · constructor
    · intro _; omega
    · intro q; omega
theorem lt8 {n : Int} {f : Int → Int} (h : OKw n f) (hn : n ≤ 8) : wN n f < 2 ^ (32 * 8) := wN_up h (k := 8) hn
theorem low_b {n : Int} {f : Int → Int} {b : Nat} {z : Int} (h : z = sm6 ((wN n f : Nat) : Int)) (hb : bl (wN n f) ≤ b) (hb2 : b ≤ 62) : z = ((wN n f : Nat) : Int) ∧ wN n f < 2 ^ b := by
  have h1 : wN n f < 2 ^ b := bl_le.mp hb
  have h2 : (2 : Nat) ^ b ≤ 2 ^ 62 := Nat.pow_le_pow_right (by decide) hb2
  have h3 : (2 : Nat) ^ 62 = 4611686018427387904 := by decide
  refine ⟨?_, h1⟩
  rw [h]
  unfold sm6
  omega
theorem FrmAt.lt {dA : Nat → ClassId} {pl : va_W} {fa : Nat} {P Q : Nat} (h : FrmAt dA pl fa P Q) : P < 2 ^ (32 * 8) ∧ Q < 2 ^ (32 * 8) := by
  have e : (9223372036854775808 : Nat) ≤ 2 ^ (32 * 8) := Nat.le_of_ble_eq_true rfl
  rcases h with ⟨h1, h2, -⟩ | ⟨o, a0, a1, f0, f1, -, -, -, -, -, d0, d1, e0, e1⟩
  · exact ⟨Nat.lt_of_lt_of_le h1 e, Nat.lt_of_lt_of_le h2 e⟩
  · rw [← e0, ← e1]
    exact ⟨wN_lt (n := 8) d0, wN_lt (n := 8) d1⟩
theorem ItAt.lt {dA : Nat → ClassId} {pl : va_W} {ad : Nat} {g : Int} {P Q : Nat} (h : ItAt dA pl ad g P Q) : P < 2 ^ (32 * 8) ∧ Q < 2 ^ (32 * 8) := by
  obtain ⟨fa, -, h⟩ := h
  exact h.lt
theorem lt8s {n : Int} {f : Int → Int} {P : Nat} (h : OKw n f) (e : wN n f = P) (hP : P < 2 ^ (32 * 8)) : n ≤ 8 := wN_szb h (k := 8) (by rw [e]; exact hP)
/-! powers -/
theorem pwi {b r v w m : Nat} (h : v = b ^ m) (e : w = v * r) (hr : r = b) : w = b ^ (m + 1) := by rw [e, h, hr, Nat.pow_succ]
theorem pw_1 {b v m n : Nat} (h : v = b ^ m) (hb : b = 1) : v = b ^ n := by rw [h, hb, Nat.one_pow, Nat.one_pow]
theorem bl256 {n : Int} {f : Int → Int} (h : OKw n f) : n ≤ 8 ↔ bl (wN n f) ≤ 256 := wN8 h
theorem pw_big {p q k n : Nat} (hk : k + 1 ≤ n) (h : ¬ (bl (p ^ (k + 1)) ≤ 256) ∨ ¬ (bl (q ^ (k + 1)) ≤ 256)) : ¬ pwO p q n := by
  intro o
  rcases h with h | h
  · exact pw_mono hk h o.1
  · exact pw_mono hk h o.2
theorem pwO_c {p q n : Nat} : pwO p q n ↔ pwO q p n := ⟨fun h => ⟨h.2, h.1⟩, fun h => ⟨h.2, h.1⟩⟩

/-! doubles and floats: whole numbers out of them and into them; what is told to the nearest one -/
theorem mS_key {P Q : Nat} (hQ : Q ≠ 0) (q : Int) (k : Nat) : mS P Q q < 2 ^ k ↔ Bel P Q (q + (k : Int)) := by
  have e1 : FP.Core.unitsNum P 0 q = nS P q := by
    unfold FP.Core.unitsNum nS
    rw [Int.zero_sub]
  have e2 : FP.Core.unitsDen Q 0 q = dS Q q := by
    unfold FP.Core.unitsDen dS
    rw [Int.sub_zero]
  have h := fl_ub P Q 0 q k
  rw [e1, e2, Int.sub_zero] at h
  rw [← h]
  unfold mS
  exact Nat.div_lt_iff_lt_mul (dS_pos hQ q)
theorem lead_RQ {P Q : Nat} {q : Int} {wd lp : Int} (hP : P ≠ 0) (hQ : Q ≠ 0) (hw : 1 ≤ wd) (hlp : lp ≤ q) (h : q = FP.Core.leading P Q - (wd - 1) ∨ (q = lp ∧ FP.Core.leading P Q - (wd - 1) ≤ q)) : RQ wd lp P Q q ∧ (q = FP.Core.leading P Q - (wd - 1) → 2 ^ (wd - 1).toNat ≤ mS P Q q) := by
  obtain ⟨h1, h2⟩ := lead_ok hP hQ
  have hlt : mS P Q q < 2 ^ wd.toNat := by
    rw [mS_key hQ]
    intro g
    exact h2 (LEp_mono (by omega) g)
  have hge : q = FP.Core.leading P Q - (wd - 1) → 2 ^ (wd - 1).toNat ≤ mS P Q q := fun e => by
    apply Nat.le_of_not_lt
    rw [mS_key hQ]
    intro g
    exact g (LEp_mono (by omega) h1)
  refine ⟨⟨hlp, hlt, ?_⟩, hge⟩
  rcases h with h | h
  · exact Or.inr (hge h)
  · exact Or.inl h.1
theorem RQ_u {P Q : Nat} {q q' : Int} (hP : P ≠ 0) (hQ : Q ≠ 0) {wd lp : Int} {f : FP.Core.Fmt} (hF : FF f wd lp) (h : RQ wd lp P Q q) (h' : RQ wd lp P Q q') : q = q' := (rr_q hF hP hQ h).symm.trans (rr_q hF hP hQ h')
theorem rnB_u {f P Q : Nat} {dr its z z' : Int} (hP : P ≠ 0) (hQ : Q ≠ 0) (h : rnB f P Q dr its z) (h' : rnB f P Q dr its z') : z = z' := by
  unfold rnB at h h'
  by_cases c : f = 64
  · rw [if_pos c] at h h'
    obtain ⟨q, h1, h2⟩ := h
    obtain ⟨q', h3, h4⟩ := h'
    have := RQ_u hP hQ FF64 h1 h3
    subst this
    rw [h2, h4]
  · rw [if_neg c] at h h'
    obtain ⟨q, h1, h2⟩ := h
    obtain ⟨q', h3, h4⟩ := h'
    have := RQ_u hP hQ FF32 h1 h3
    subst this
    rw [h2, h4]
theorem enc_64 {m q c ti : Int} (h0 : 0 ≤ m) (h1 : m < 9007199254740992) (hm : 4503599627370496 ≤ m ∨ q = -1074) (hq : q < 971) (hc : c = 0 ∨ c = 1) : encS 4503599627370496 (-1074) 971 (m + c) q ti = m + (q + 1074) * 4503599627370496 + c := by
  unfold encS
  by_cases c1 : m + c = 2 * 4503599627370496
  · rw [if_pos c1]
    unfold encT
    rw [if_neg (by omega), if_neg (by omega)]
    omega
  · rw [if_neg c1]
    unfold encT
    rw [if_neg (by omega)]
    by_cases c2 : m + c < 4503599627370496
    · rw [if_pos c2]
      omega
    · rw [if_neg c2]
      omega
theorem enc_32 {m q c ti : Int} (h0 : 0 ≤ m) (h1 : m < 16777216) (hm : 8388608 ≤ m ∨ q = -149) (hq : q ≤ 104) (hc : c = 0 ∨ (c = 1 ∧ ti ≠ 0)) : encS 8388608 (-149) 104 (m + c) q ti = m + (q + 149) * 8388608 + c := by
  unfold encS
  by_cases c1 : m + c = 2 * 8388608
  · rw [if_pos c1]
    unfold encT
    by_cases c3 : 104 < q + 1
    · rw [if_pos c3, if_neg (by omega)]
      omega
    · rw [if_neg c3, if_neg (by omega)]
      omega
  · rw [if_neg c1]
    unfold encT
    rw [if_neg (by omega)]
    by_cases c2 : m + c < 8388608
    · rw [if_pos c2]
      omega
    · rw [if_neg c2]
      omega
theorem enc_32i {P Q : Nat} {q dr its : Int} (hq : 104 < q) : encS 8388608 (-149) 104 (upS dr its (nS P q) (dS Q q)) q (infS dr its) = if infS dr its = 0 then 2139095039 else 2139095040 := by
  unfold encS
  split
  · unfold encT
    rw [if_pos (by omega)]
    split <;> decide
  · unfold encT
    rw [if_pos hq]
    split <;> decide
theorem go_inf {dr its : Int} {n d : Nat} (h : goS dr its n d) : infS dr its ≠ 0 := by
  unfold infS
  rw [if_pos (by rcases h with h | h | h; exact Or.inl h.1; exact Or.inr (Or.inl h); exact Or.inr (Or.inr h))]
  decide
theorem rof64 {s : Bool} {m : Nat} {q : Int} (h1 : 4503599627370496 ≤ m) (h2 : m < 9007199254740992) (hq : -1074 ≤ q ∧ q ≤ 971) : FP.Core.roundRatio FP.Core.b64 s m 1 q = .fin s m q := rof g64 (d := .fin s m q) ⟨by rw [b64p]; exact h2, hq.1, by rw [b64x]; exact hq.2, Or.inr (by show 2 ^ (FP.Core.b64.p - 1) ≤ m; rw [show (2 : Nat) ^ (FP.Core.b64.p - 1) = 4503599627370496 by decide]; exact h1)⟩
theorem rof32 {s : Bool} {m : Nat} {q : Int} (h1 : 8388608 ≤ m ∨ q = -149) (h2 : m < 16777216) (hq : -149 ≤ q ∧ q ≤ 104) : FP.Core.roundRatio FP.Core.b32 s m 1 q = .fin s m q := rof g32 (d := .fin s m q) ⟨by rw [b32p]; exact h2, by rw [b32n]; exact hq.1, by rw [b32x]; exact hq.2, by
  rcases h1 with h | h
  · right
    show 2 ^ (FP.Core.b32.p - 1) ≤ m
    rw [show (2 : Nat) ^ (FP.Core.b32.p - 1) = 8388608 by decide]
    exact h
  · left
    rw [b32n]
    exact h⟩
theorem big_w {w q : Int} {m : Nat} (hw : In6 w) (h : vD w = .fin false m q) : w = (m : Int) + (q + 1074) * 4503599627370496 ∧ 0 ≤ w ∧ w < 9218868437227405312 := by
  unfold vD at h
  by_cases c : eX w = 2047
  · rw [if_pos c] at h
    split at h <;> cases h
  · rw [if_neg c] at h
    injection h with h1 h2 h3
    have hk := kX_f c
    have h0 : ¬ w < 0 := of_decide_eq_false h1
    obtain ⟨w1, w2⟩ := hw
    rw [h2, h3] at hk
    have e : ((4503599627370496 : Nat) : Int) = 4503599627370496 := rfl
    rw [e] at hk
    omega
theorem big_f {w q : Int} {m : Nat} (hw : In3 w) (h : vF w = .fin false m q) : w = (m : Int) + (q + 149) * 8388608 ∧ 0 ≤ w ∧ w < 2139095040 := by
  rw [vF_eq hw] at h
  by_cases c : eF w = 255
  · rw [if_pos c] at h
    split at h <;> cases h
  · rw [if_neg c] at h
    injection h with h1 h2 h3
    have hk := kF_f c
    have h0 : ¬ w < 0 := of_decide_eq_false h1
    obtain ⟨w1, w2⟩ := hw
    rw [h2, h3] at hk
    have e : ((8388608 : Nat) : Int) = 8388608 := rfl
    rw [e] at hk
    omega
/-- a double beside the numerator and denominator -/
theorem ne_v {P Q : Nat} {q u w : Int} (h1 : 4503599627370496 ≤ mS P Q q) (h2 : mS P Q q < 9007199254740992) (hq : -1074 ≤ q ∧ q ≤ 970) (hu : vD u = R6 false (mS P Q q)) (hw : In6 w) (hv : vD w = sD (vD u) q) : w = ((mS P Q q : Nat) : Int) + (q + 1074) * 4503599627370496 ∧ 0 ≤ w ∧ w < 9218868437227405312 := by
  rw [hu, show R6 false (mS P Q q) = _ from rof64 h1 h2 (by decide)] at hv
  have hv2 : vD w = FP.Core.roundRatio FP.Core.b64 false (mS P Q q) 1 (0 + q) := hv
  rw [Int.zero_add, rof64 h1 h2 (by omega)] at hv2
  exact big_w hw hv2
theorem ne_r {P Q : Nat} {q w dr its : Int} (hRQ : RQ 53 (-1074) P Q q) (h1 : 4503599627370496 ≤ mS P Q q) (hq : q ≤ 970) (hw : w = ((mS P Q q : Nat) : Int) + (q + 1074) * 4503599627370496) : rnB 64 P Q dr its (w + if goS dr its (nS P q) (dS Q q) ∧ nS P q % dS Q q ≠ 0 then 1 else 0) := by
  have h2 : mS P Q q < 9007199254740992 := hRQ.2.1
  unfold rnB
  rw [if_pos rfl]
  refine ⟨q, hRQ, ?_⟩
  unfold upS
  show _ = encS 4503599627370496 (-1074) 971 (((mS P Q q : Nat) : Int) + _) q (infS dr its)
  rw [enc_64 (by omega) (by omega) (Or.inl (by omega)) (by omega) (by split <;> omega), ← hw]
theorem si_r {P Q : Nat} {q w dr its : Int} (hRQ : RQ 24 (-149) P Q q) (hq : q ≤ 104) (hw : w = ((mS P Q q : Nat) : Int) + (q + 149) * 8388608) : rnB 32 P Q dr its (w + if goS dr its (nS P q) (dS Q q) ∧ nS P q % dS Q q ≠ 0 then 1 else 0) := by
  have h2 : mS P Q q < 16777216 := hRQ.2.1
  have h3 : q = -149 ∨ 8388608 ≤ mS P Q q := hRQ.2.2
  unfold rnB
  rw [if_neg (by decide)]
  refine ⟨q, hRQ, ?_⟩
  unfold upS
  show _ = encS 8388608 (-149) 104 (((mS P Q q : Nat) : Int) + _) q (infS dr its)
  rw [enc_32 (by omega) (by omega) (by omega) hq (by
    by_cases g : goS dr its (nS P q) (dS Q q) ∧ nS P q % dS Q q ≠ 0
    · rw [if_pos g]
      exact Or.inr ⟨rfl, go_inf g.1⟩
    · rw [if_neg g]
      exact Or.inl rfl), ← hw]
theorem si_i {P Q : Nat} {q dr its : Int} (hRQ : RQ 24 (-149) P Q q) (hq : 104 < q) : rnB 32 P Q dr its (if infS dr its = 0 then 2139095039 else 2139095040) := by
  unfold rnB
  rw [if_neg (by decide)]
  exact ⟨q, hRQ, (enc_32i hq).symm⟩
theorem si_v {P Q : Nat} {q u w : Int} (hRQ : RQ 24 (-149) P Q q) (hq : -149 ≤ q ∧ q ≤ 104) (hu : vF u = FP.Core.roundRatio FP.Core.b32 false (mS P Q q) 1 0) (hw : In3 w) (hv : vF w = FP.Core.round FP.Core.b32 (sD (FP.Core.round FP.Core.b64 (vF u)) q)) : w = ((mS P Q q : Nat) : Int) + (q + 149) * 8388608 ∧ 0 ≤ w ∧ w < 2139095040 := by
  have h2 : mS P Q q < 16777216 := hRQ.2.1
  have h3 : q = -149 ∨ 8388608 ≤ mS P Q q := hRQ.2.2
  have key : vF w = FP.Core.roundRatio FP.Core.b32 false (mS P Q q) 1 q := by
    rw [hv, hu]
    generalize mS P Q q = m at *
    by_cases c : m = 0
    · subst c
      rw [rr_0]
      show FP.Core.round FP.Core.b32 (sD (FP.Core.roundRatio FP.Core.b64 false 0 1 _) q) = _
      rw [rr_0, sD_0]
      show FP.Core.roundRatio FP.Core.b32 false 0 1 _ = _
      rw [rr_0, rr_0]
    · have s1 : ∃ a : Nat, ∃ r : Int, FP.Core.roundRatio FP.Core.b32 false m 1 0 = .fin false a r ∧ a * 2 ^ (r - 0).toNat = m * 2 ^ (0 - r).toNat ∧ a ≠ 0 ∧ a < 16777216 ∧ -149 ≤ r ∧ r ≤ 104 := by
        obtain ⟨t, ht1, ht2⟩ : ∃ t : Nat, m * 2 ^ t < 16777216 ∧ (8388608 ≤ m * 2 ^ t) := by
          refine ⟨24 - bl m, ?_, ?_⟩
          · have hb := bl_hi m
            have hb24 : bl m ≤ 24 := bl_le.mpr (by omega)
            have e : (16777216 : Nat) = 2 ^ bl m * 2 ^ (24 - bl m) := by rw [← Nat.pow_add, show bl m + (24 - bl m) = 24 by omega]
            rw [e]
            exact Nat.mul_lt_mul_of_pos_right hb (Nat.two_pow_pos _)
          · have hb := bl_lo c
            have hp := bl_pos c
            have hb24 : bl m ≤ 24 := bl_le.mpr (by omega)
            have e : (8388608 : Nat) = 2 ^ (bl m - 1) * 2 ^ (24 - bl m) := by rw [← Nat.pow_add, show bl m - 1 + (24 - bl m) = 23 by omega]
            rw [e]
            exact Nat.mul_le_mul_right _ hb
        have ht24 : t ≤ 23 := by
          apply Nat.le_of_not_lt
          intro g
          have h9 : (2 : Nat) ^ 24 ≤ 2 ^ t := Nat.pow_le_pow_right (by decide) g
          have h8 : 1 * 2 ^ t ≤ m * 2 ^ t := Nat.mul_le_mul_right _ (Nat.pos_of_ne_zero c)
          have h7 : (2 : Nat) ^ 24 = 16777216 := by decide
          omega
        refine ⟨m * 2 ^ t, -(t : Int), ?_, ?_, ?_, ht1, by omega, by omega⟩
        · rw [← rof32 (s := false) (m := m * 2 ^ t) (q := -(t : Int)) (Or.inl ht2) ht1 (by omega)]
          refine rr_congr (by decide) (by decide) (by decide) ?_
          rw [show (0 - -(t : Int)).toNat = t by omega, show (-(t : Int) - 0).toNat = 0 by omega, Nat.pow_zero, Nat.mul_one, Nat.mul_one, Nat.mul_one]
        · rw [show (-(t : Int) - 0).toNat = 0 by omega, show (0 - -(t : Int)).toNat = t by omega, Nat.pow_zero, Nat.mul_one]
        · have := Nat.two_pow_pos t
          exact Nat.ne_of_gt (Nat.mul_pos (Nat.pos_of_ne_zero c) this)
      obtain ⟨a, r, e1, e2, a0, a1, r1, r2⟩ := s1
      rw [e1]
      have e3 : FP.Core.round FP.Core.b64 (.fin false a r) = R6 false m := by
        show FP.Core.roundRatio FP.Core.b64 false a 1 r = FP.Core.roundRatio FP.Core.b64 false m 1 0
        exact rr_congr (by decide) (by decide) (by decide) (by rw [Nat.mul_one, Nat.mul_one]; exact e2)
      obtain ⟨q2, g1, g2⟩ := R6_f (s := false) (n := m) (by omega)
      rw [e3, g2]
      have e4 : sD (.fin false (m * 2 ^ (-q2).toNat) q2) q = FP.Core.roundRatio FP.Core.b64 false m 1 q := by
        show FP.Core.roundRatio FP.Core.b64 false (m * 2 ^ (-q2).toNat) 1 (q2 + q) = _
        refine rr_congr (by decide) (by decide) (by decide) ?_
        rw [show (q2 + q - q).toNat = 0 by omega, show (q - (q2 + q)).toNat = (-q2).toNat by omega, Nat.pow_zero, Nat.mul_one, Nat.mul_one, Nat.mul_one]
      rw [e4]
      obtain ⟨q3, m3, k1, k2, k3, k4, k5, k6⟩ := rr_up (s := false) c (show m < 9007199254740992 by omega) (e := q) (by omega)
      rw [k6]
      unfold FP.Core.bound
      rw [b64x, if_pos (by omega)]
      show FP.Core.roundRatio FP.Core.b32 false m3 1 q3 = _
      refine rr_congr (by decide) (by decide) (by decide) ?_
      rw [show (q3 - q).toNat = 0 by omega, Nat.pow_zero, Nat.mul_one, Nat.mul_one, Nat.mul_one]
      exact k3
  rw [rof32 (by omega) h2 hq] at key
  exact big_f hw key
/-! whole numbers out of doubles -/
theorem cut_V {x M : Int} (hM : 0 ≤ M) : FP.Core.toInt (-M - 1) M (vD x) = cutX x M := by
  unfold vD cutX
  by_cases c : eX x = 2047
  · rw [if_pos c, if_pos c]
    by_cases d : pX x = 0
    · rw [if_pos d, if_pos d]
      show (if decide (x < 0) = true then -M - 1 else M) = _
      by_cases g : x < 0
      · rw [decide_eq_true g, if_pos rfl, if_pos g]
      · rw [decide_eq_false g, if_neg (by decide), if_neg g]
    · rw [if_neg d, if_neg d]
      rfl
  · rw [if_neg c, if_neg c]
    have hf := fX_r x
    obtain ⟨n, hn⟩ := Int.eq_ofNat_of_zero_le hf.1
    have ht : tX x = ((((fX x).toNat * 2 ^ (plX x).toNat / 2 ^ (-plX x).toNat : Nat)) : Int) := by
      unfold tX
      rw [hn]
      simp
    show max (-M - 1) (min M (FP.Core.signed (decide (x < 0)) ((fX x).toNat * 2 ^ (plX x).toNat / 2 ^ (-plX x).toNat))) = _
    rw [ht]
    generalize (fX x).toNat * 2 ^ (plX x).toNat / 2 ^ (-plX x).toNat = t
    by_cases g : x < 0
    · rw [decide_eq_true g, if_pos g, sg_t]
      by_cases h : M < (t : Int)
      · rw [if_pos h]
        omega
      · rw [if_neg h]
        omega
    · rw [decide_eq_false g, if_neg g, sg_f]
      by_cases h : M < (t : Int)
      · rw [if_pos h]
        omega
      · rw [if_neg h]
        omega
theorem d2l_X {x : Int} (h : In6 x) : FP.d2l (dX x) = L6 (cutX x 9223372036854775807) := by
  show L6 (FP.Core.toInt (-2 ^ 63) (2 ^ 63 - 1) (v64 (dX x))) = _
  rw [vD_eq h, ← cut_V (by decide)]
  rfl
theorem d2i_X {x : Int} (h : In6 x) : FP.d2i (dX x) = I3 (cutX x 2147483647) := by
  show I3 (FP.Core.toInt (-2 ^ 31) (2 ^ 31 - 1) (v64 (dX x))) = _
  rw [vD_eq h, ← cut_V (by decide)]
  rfl
theorem dg_v {v z : Int} (hf : eX v ≠ 2047) (hz6 : In6 z) (hz : vD z = sD (vD (v % 9223372036854775808)) (-plX v)) : FP.d2l (dX z) = L6 (fX v) := by
  obtain ⟨a1, a2, a3⟩ := am_X (v := v)
  have hf2 := fX_r v
  have hz2 : vD z = R6 false (fX v).toNat := by
    rw [hz, vD_fin (by rw [a1]; exact hf), a2, a3, decide_eq_false (by omega)]
    show FP.Core.roundRatio FP.Core.b64 false (fX v).toNat 1 (plX v + -plX v) = _
    rw [show plX v + -plX v = 0 by omega]
  obtain ⟨q, h1, h2⟩ := R6_f (s := false) (n := (fX v).toNat) (by omega)
  show L6 (FP.Core.toInt (-2 ^ 63) (2 ^ 63 - 1) (v64 (dX z))) = _
  rw [vD_eq hz6, hz2, h2]
  show L6 (max (-2 ^ 63) (min (2 ^ 63 - 1) (FP.Core.signed false ((fX v).toNat * 2 ^ (-q).toNat * 2 ^ q.toNat / 2 ^ (-q).toNat)))) = _
  rw [show q.toNat = 0 by omega, Nat.pow_zero, Nat.mul_one, Nat.mul_div_cancel _ (Nat.two_pow_pos _), sg_f]
  congr 1
  have e1 : (2 : Int) ^ 63 = 9223372036854775808 := by decide
  rw [e1]
  omega
section DGS
variable {p : Program} {l : Launch} {e : Env} {R : Room} {s : State} {m : MethodId} {args : Array Value} {below : List Frame} {meth : Method} {c : Code} {H : Heap} {locs : List Loc} {cells slots : Nat} {Q : State → Prop}
variable {cc : ByteArray} {pc : Nat} {ls : Array Slot} {rest : List Value}
theorem ix_l2dE (hx : p.tables.exec = Jvm.exec) (hb : c.code = cc) {x : Int} (hx6 : In6 x) (hd : decode cc pc = .ok (.l2d, 1)) (k : ∀ u : Int, In6 u → ¬ noX u → vD u = R6 (decide (x < 0)) x.natAbs → W p l e R s m args below meth c H locs cells slots Q (F0 m (pc + 1) ls (.double (dX u) :: rest))) : W p l e R s m args below meth c H locs cells slots Q (F0 m pc ls (.long (L6 x) :: rest)) := by
  obtain ⟨u, hu, e⟩ := dX_ex (FP.l2d (L6 x))
  have h2 : vD u = R6 (decide (x < 0)) x.natAbs := by
    rw [← vD_eq hu, ← e, v64_l2d, L6_t hx6]
    rfl
  have h3 : ¬ noX u := noX_v.mpr (by rw [h2]; exact R6_nan)
  exact ix_l2d hx hb e hd (k u hu h3 h2)
theorem ix_l2fE (hx : p.tables.exec = Jvm.exec) (hb : c.code = cc) {x : Int} (hx6 : In6 x) (h0 : 0 ≤ x) (hd : decode cc pc = .ok (.l2f, 1)) (k : ∀ u : Int, In3 u → vF u = FP.Core.roundRatio FP.Core.b32 false x.toNat 1 0 → W p l e R s m args below meth c H locs cells slots Q (F0 m (pc + 1) ls (.float (fB u) :: rest))) : W p l e R s m args below meth c H locs cells slots Q (F0 m pc ls (.long (L6 x) :: rest)) := by
  obtain ⟨u, hu, e⟩ := fB_ex (FP.l2f (L6 x))
  have h2 : vF u = FP.Core.roundRatio FP.Core.b32 false x.toNat 1 0 := by
    unfold vF
    rw [← e, v32_l2f, L6_t hx6]
    show FP.Core.roundRatio FP.Core.b32 (decide (x < 0)) x.natAbs 1 0 = _
    rw [decide_eq_false (by omega), show x.natAbs = x.toNat by omega]
  exact ix_l2f hx hb e hd (k u hu h2)
end DGS
theorem i2d_s {g : Int} (h : g = -1 ∨ g = 0 ∨ g = 1) : FP.i2d (I3 g) = dX (if g = 0 then 0 else sgb g 4607182418800017408) := by
  rcases h with rfl | rfl | rfl <;> decide +kernel
theorem i2f_s {g : Int} (h : g = -1 ∨ g = 0 ∨ g = 1) : FP.i2f (I3 g) = fB (if g = 0 then 0 else sgf g 1065353216) := by
  rcases h with rfl | rfl | rfl <;> decide +kernel

/-! act: what the component makes is what the reference makes -/
def AcJ (mn : Int) (SG VL : Int → Int) (act a b g : Int) (P Q : Nat) : Prop := ∀ (z2 th1 mn2 : Int) (SG1 VL1 : Int → Int), AcR mn SG VL act a b z2 th1 mn2 SG1 VL1 → ∃ (g2 : Int) (P2 Q2 : Nat), Mde mn SG VL g2 P2 Q2 4 z2 th1 mn2 SG1 VL1 ∧ Sm g P Q g2 P2 Q2
def AcX (mn : Int) (SG VL : Int → Int) (act a b code : Int) : Prop := ∀ (z2 th1 mn2 : Int) (SG1 VL1 : Int → Int), AcR mn SG VL act a b z2 th1 mn2 SG1 VL1 → Fld mn SG VL code z2 th1 mn2 SG1 VL1
def AcN (dA : Nat → ClassId) (pl npl : va_W) (it1 : Nat → Option Nat) (mn : Int) (SG VL : Int → Int) (act a b z mn1 : Int) : Prop := ∀ (z2 th1 mn2 : Int) (SG1 VL1 : Int → Int), AcR mn SG VL act a b z2 th1 mn2 SG1 VL1 → MI mn2 SG1 VL1 → th1 = 0 ∧ z2 = z ∧ mn2 = mn1 ∧ RP dA (npl ++ pl) it1 mn2 SG1 VL1
theorem AcJ_new {dA : Nat → ClassId} {pl npl : va_W} {it it1 : Nat → Option Nat} {mn act a b g z mn1 : Int} {SG VL : Int → Int} {P Q : Nat} (h : RP dA pl it mn SG VL) (hJ : AcJ mn SG VL act a b g P Q) (hc : NewC dA mn it g P Q z mn1 it1 npl) : AcN dA pl npl it1 mn SG VL act a b z mn1 := by
  intro z2 th1 mn2 SG1 VL1 hR hI
  obtain ⟨g2, P2, Q2, hM, hs⟩ := hJ _ _ _ _ _ hR
  exact RP_new h hc hM hs hI
theorem AcJ_no {mn act a b g : Int} {SG VL : Int → Int} {P Q : Nat} (hJ : AcJ mn SG VL act a b g P Q) (hn : ¬ okN mn P Q) : AcX mn SG VL act a b 4 := by
  intro z2 th1 mn2 SG1 VL1 hR
  obtain ⟨g2, P2, Q2, hM, hs⟩ := hJ _ _ _ _ _ hR
  exact Mde_no hn hM hs
section ACJ
variable {mn : Int} {SG VL : Int → Int} {act a b : Int}
theorem AcX_1 (h : ¬ ((0 ≤ a ∧ a < mn) ∧ 0 ≤ b ∧ b < mn)) : AcX mn SG VL act a b 1 := fun _ _ _ _ _ hR => hR.1 h
theorem AcX_2 (h : (0 ≤ a ∧ a < mn) ∧ 0 ≤ b ∧ b < mn) (g : ¬ acGd VL act a b) : AcX mn SG VL act a b 2 := fun _ _ _ _ _ hR => (hR.2 h).1 g
theorem AcX_3 (h : (0 ≤ a ∧ a < mn) ∧ 0 ≤ b ∧ b < mn) (g : acGd VL act a b) (b3 : acB3 SG VL act a b) : AcX mn SG VL act a b 3 := fun _ _ _ _ _ hR => ((hR.2 h).2 g).1 b3
theorem AcX_4 (h : (0 ≤ a ∧ a < mn) ∧ 0 ≤ b ∧ b < mn) (g : acGd VL act a b) (b3 : ¬ acB3 SG VL act a b) (e : act = 9) (hp : ¬ pwO (pv VL a) (qv VL a) (acSm SG VL b).natAbs) : AcX mn SG VL act a b 4 := fun _ _ _ _ _ hR => ((((hR.2 h).2 g).2 b3).2.2.1 e).1 hp
variable {g : Int} {P Q : Nat}
theorem AcJ_7 (h : (0 ≤ a ∧ a < mn) ∧ 0 ≤ b ∧ b < mn) (gd : acGd VL act a b) (b3 : ¬ acB3 SG VL act a b) (e : act ≤ 7) (hs : Sm g P Q (recG act (SG a) (SG b) (pv VL a * qv VL b) (pv VL b * qv VL a)) (recP act (SG a) (SG b) (pv VL a) (pv VL b) (pv VL a * qv VL b) (pv VL b * qv VL a)) (recQ act (pv VL b * qv VL a) (qv VL a * qv VL b))) : AcJ mn SG VL act a b g P Q := fun _ _ _ _ _ hR => ⟨_, _, _, (((hR.2 h).2 gd).2 b3).1 e, hs⟩
theorem AcJ_01 (h : (0 ≤ a ∧ a < mn) ∧ 0 ≤ b ∧ b < mn) (gd : acGd VL act a b) {y : Int} (e : act = 0 ∨ act = 1) (hy : y = if act = 1 then -(SG b) else SG b) (hg : g = sumG (SG a) y (pv VL a * qv VL b) (pv VL b * qv VL a)) (hP : P = sumP (SG a) y (pv VL a * qv VL b) (pv VL b * qv VL a)) (hQ : Q = qv VL a * qv VL b) : AcJ mn SG VL act a b g P Q := by
  obtain ⟨e1, e2, e3⟩ := rec_01 (act := act) (x := SG a) (y := SG b) (A := pv VL a * qv VL b) (B := pv VL b * qv VL a) (C := qv VL a * qv VL b) (pa := pv VL a) (pb := pv VL b) (by omega)
  have hy2 : y = recY act (SG b) := hy
  refine AcJ_7 h gd (fun q => by rcases q with q | q; omega; omega) (by omega) ?_
  rw [e1, e2, e3, hg, hP, hQ, hy2]
  exact Sm.rf
theorem AcJ_2 (h : (0 ≤ a ∧ a < mn) ∧ 0 ≤ b ∧ b < mn) (gd : acGd VL act a b) (e : act = 2) (hg : g = SG a * SG b) (hP : P = pv VL a * pv VL b) (hQ : Q = qv VL a * qv VL b) : AcJ mn SG VL act a b g P Q := by
  obtain ⟨e1, e2, e3⟩ := rec_2 (x := SG a) (y := SG b) (A := pv VL a * qv VL b) (B := pv VL b * qv VL a) (C := qv VL a * qv VL b) (pa := pv VL a) (pb := pv VL b) e
  refine AcJ_7 h gd (fun q => by rcases q with q | q; omega; omega) (by omega) ?_
  rw [e1, e2, e3, hg, hP, hQ]
  exact Sm.rf
theorem nb3 (e : 3 ≤ act ∧ act ≤ 7) (hb : SG b ≠ 0) : ¬ acB3 SG VL act a b := fun q => by
  rcases q with q | q
  · exact hb q.2.2
  · omega
theorem AcJ_3 (h : (0 ≤ a ∧ a < mn) ∧ 0 ≤ b ∧ b < mn) (gd : acGd VL act a b) (e : act = 3) (hb : SG b ≠ 0) (hg : g = SG a * SG b) (hP : P = pv VL a * qv VL b) (hQ : Q = pv VL b * qv VL a) : AcJ mn SG VL act a b g P Q := by
  obtain ⟨e1, e2, e3⟩ := rec_3 (x := SG a) (y := SG b) (A := pv VL a * qv VL b) (B := pv VL b * qv VL a) (C := qv VL a * qv VL b) (pa := pv VL a) (pb := pv VL b) e
  refine AcJ_7 h gd (nb3 (by omega) hb) (by omega) ?_
  rw [e1, e2, e3, hg, hP, hQ]
  exact Sm.rf
theorem AcJ_q (h : (0 ≤ a ∧ a < mn) ∧ 0 ≤ b ∧ b < mn) (gd : acGd VL act a b) (e : 4 ≤ act ∧ act ≤ 7) (hb : SG b ≠ 0) (hpb : pv VL b ≠ 0) (hP : P = recP act (SG a) (SG b) (pv VL a) (pv VL b) (pv VL a * qv VL b) (pv VL b * qv VL a) * cqK act (pv VL b)) (hQ : Q = recQ act (pv VL b * qv VL a) (qv VL a * qv VL b) * cqK act (pv VL b)) (hg : recP act (SG a) (SG b) (pv VL a) (pv VL b) (pv VL a * qv VL b) (pv VL b * qv VL a) ≠ 0 → g = recG act (SG a) (SG b) (pv VL a * qv VL b) (pv VL b * qv VL a)) : AcJ mn SG VL act a b g P Q := by
  refine AcJ_7 h gd (nb3 (by omega) hb) (by omega) ?_
  rw [hP, hQ]
  refine Sm_scale ?_ hg
  unfold cqK
  split
  · decide
  · exact hpb
theorem AcJ_8 (h : (0 ≤ a ∧ a < mn) ∧ 0 ≤ b ∧ b < mn) (gd : acGd VL act a b) (e : act = 8) (hg : g = 1) (hP : P = Nat.gcd (pv VL a) (pv VL b)) (hQ : Q = 1) : AcJ mn SG VL act a b g P Q := fun _ _ _ _ _ hR => ⟨_, _, _, (((hR.2 h).2 gd).2 (fun q => by rcases q with q | q; omega; omega)).2.1 e, by rw [hg, hP, hQ]; exact Sm.rf⟩
theorem AcJ_10 (h : (0 ≤ a ∧ a < mn) ∧ 0 ≤ b ∧ b < mn) (gd : acGd VL act a b) (e : act = 10) (hg : g = SG a) (hP : P = pv VL a * 2 ^ (acSm SG VL b).toNat) (hQ : Q = qv VL a * 2 ^ (-acSm SG VL b).toNat) : AcJ mn SG VL act a b g P Q := fun _ _ _ _ _ hR => ⟨_, _, _, (((hR.2 h).2 gd).2 (fun q => by rcases q with q | q; omega; omega)).2.2.2.1 e, by rw [hg, hP, hQ]; exact Sm.rf⟩
/-- a power -/
theorem pw_abs {x : Int} {r : Nat} (hx : x = -1 ∨ x = 0 ∨ x = 1) (h0 : x = 0 → r = 0) : (x * (r : Int)).natAbs = r ∧ (x * (r : Int) < 0 ↔ x < 0 ∧ r ≠ 0) := by
  rcases hx with rfl | rfl | rfl
  · constructor
    · omega
    · omega
  · have := h0 rfl
    subst this
    exact ⟨rfl, by omega⟩
  · constructor
    · omega
    · omega
theorem AcJ_9 (h : (0 ≤ a ∧ a < mn) ∧ 0 ≤ b ∧ b < mn) (gd : acGd VL act a b) (e : act = 9) (hI : MI mn SG VL) (hok : ¬ (SG b < 0 ∧ SG a = 0)) (s0 : Int)
    (hr : (SG a = 0 ∧ 0 < ((pv VL b : Nat) : Int) ∧ P = pv VL a ∧ Q = qv VL a ∧ g = s0) ∨ (¬ (SG a = 0 ∧ 0 < ((pv VL b : Nat) : Int)) ∧ P = (pwB (SG b) (qv VL a) (pv VL a)) ^ pv VL b ∧ Q = (pwB (SG b) (pv VL a) (qv VL a)) ^ pv VL b ∧ g = if ((pv VL b : Nat) : Int) % 2 = 0 then 1 else SG a))
    (hz : bl P ≤ 256 ∧ bl Q ≤ 256) : AcJ mn SG VL act a b g P Q := by
  have ha := hI.2.2 a h.1.1 h.1.2
  have hb := hI.2.2 b h.2.1 h.2.2
  obtain ⟨n1, n2⟩ := pw_abs (r := pv VL b) hb.1 hb.2.1.mp
  have n1' : (acSm SG VL b).natAbs = pv VL b := n1
  have n2' : acSm SG VL b < 0 ↔ SG b < 0 ∧ pv VL b ≠ 0 := n2
  intro z2 th1 mn2 SG1 VL1 hR
  have hM := (((hR.2 h).2 gd).2 (fun q => by
    rcases q with q | q
    · omega
    · exact hok ⟨(n2'.mp q.2.1).1, q.2.2⟩)).2.2.1 e
  rw [n1'] at hM
  have hp : pwO (pv VL a) (qv VL a) (pv VL b) := by
    rcases hr with ⟨r1, r2, r3, r4, r5⟩ | ⟨r1, r2, r3, r4⟩
    · have p0 := ha.2.1.mp r1
      have q1 := ha.2.2.2 p0
      unfold pwO
      rw [p0, q1, Nat.zero_pow (by omega), Nat.one_pow]
      exact ⟨by decide, by decide⟩
    · by_cases c : SG b < 0
      · rw [pwB_1 c] at r2 r3
        exact ⟨by rw [← r3]; exact hz.2, by rw [← r2]; exact hz.1⟩
      · rw [pwB_0 c] at r2 r3
        exact ⟨by rw [← r2]; exact hz.1, by rw [← r3]; exact hz.2⟩
  · refine ⟨_, _, _, hM.2 hp, ?_⟩
    rcases hr with ⟨r1, r2, r3, r4, r5⟩ | ⟨r1, r2, r3, r4⟩
    · have p0 := ha.2.1.mp r1
      have hb0 : ¬ acSm SG VL b < 0 := fun q => hok ⟨(n2'.mp q).1, r1⟩
      rw [if_neg hb0, r3, p0, Nat.zero_pow (by omega)]
      exact Sm_0
    · by_cases c : SG b < 0
      · have hb0 : pv VL b ≠ 0 := fun q => by have := hb.2.1.mpr q; omega
        rw [pwB_1 c] at r2 r3
        rw [if_pos (n2'.mpr ⟨c, hb0⟩), if_pos (n2'.mpr ⟨c, hb0⟩), ← r2, ← r3]
        have e9 : (if SG a < 0 ∧ pv VL b % 2 = 1 then (-1 : Int) else 1) = g := by
          rw [r4]
          by_cases d : ((pv VL b : Nat) : Int) % 2 = 0
          · rw [if_pos d, if_neg (by omega)]
          · rw [if_neg d]
            rcases ha.1 with q | q | q
            · rw [if_pos (by omega), q]
            · exact absurd ⟨c, q⟩ hok
            · rw [if_neg (by omega), q]
        rw [e9]
        exact Sm.rf
      · rw [pwB_0 c] at r2 r3
        rw [if_neg (fun q => c (n2'.mp q).1), if_neg (fun q => c (n2'.mp q).1), ← r2, ← r3]
        by_cases z : SG a = 0
        · have hb0 : pv VL b = 0 := by omega
          have e9 : (if SG a < 0 ∧ pv VL b % 2 = 1 then (-1 : Int) else 1) = g := by
            rw [r4, if_neg (by omega), if_pos (by omega)]
          rw [e9]
          exact Sm.rf
        · have e9 : (if SG a < 0 ∧ pv VL b % 2 = 1 then (-1 : Int) else 1) = g := by
            rw [r4]
            by_cases d : ((pv VL b : Nat) : Int) % 2 = 0
            · rw [if_pos d, if_neg (by omega)]
            · rw [if_neg d]
              rcases ha.1 with q | q | q
              · rw [if_pos (by omega), q]
              · exact absurd q z
              · rw [if_neg (by omega), q]
          rw [e9]
          exact Sm.rf
theorem mk_cross {p q p' q' : Nat} (hq : q ≠ 0) (hq' : q' ≠ 0) (e : p * q' = p' * q) : mkP p q = mkP p' q' ∧ mkQ p q = mkQ p' q' := by
  obtain ⟨a1, a2⟩ := mk_scale (p := p) (q := q) hq'
  obtain ⟨b1, b2⟩ := mk_scale (p := p') (q := q') hq
  rw [← a1, ← a2, ← b1, ← b2, e, Nat.mul_comm q q']
  exact ⟨rfl, rfl⟩
theorem Sm_cross {p q p' q' : Nat} {x y : Int} (hq : q ≠ 0) (hq' : q' ≠ 0) (e : p * q' = p' * q) (hx : x = y) : Sm x p q y p' q' := by
  obtain ⟨h1, h2⟩ := mk_cross hq hq' e
  refine ⟨h1, h2, ?_, fun _ => hx⟩
  constructor
  · intro c
    rw [c, Nat.zero_mul] at e
    exact (Nat.mul_eq_zero.mp e.symm).resolve_right hq
  · intro c
    rw [c, Nat.zero_mul] at e
    exact (Nat.mul_eq_zero.mp e).resolve_right hq'
theorem ord_0 (hI : MI mn SG VL) (ha : 0 ≤ a ∧ a < mn) (hb : 0 ≤ b ∧ b < mn) (h : ordS SG VL a b = 0) : pv VL a * qv VL b = pv VL b * qv VL a ∧ SG a = SG b := by
  have ha2 := hI.2.2 a ha.1 ha.2
  have hb2 := hI.2.2 b hb.1 hb.2
  unfold ordS at h
  by_cases c : SG a = SG b
  · rw [if_pos c] at h
    refine ⟨?_, c⟩
    by_cases z : SG a = 0
    · rw [ha2.2.1.mp z, hb2.2.1.mp (by rw [← c]; exact z), Nat.zero_mul, Nat.zero_mul]
    · have h2 : cmpN (pv VL a * qv VL b) (pv VL b * qv VL a) = 0 := (Int.mul_eq_zero.mp h).resolve_left z
      have h3 := cmpN3 h2.symm
      omega
  · rw [if_neg c] at h
    split at h <;> omega
theorem AcJ_best (h : (0 ≤ a ∧ a < mn) ∧ 0 ≤ b ∧ b < mn) (gd : acGd VL act a b) (e : act = 11 ∨ act = 12) (hI : MI mn SG VL) {w o : Int} (ho : o = ordS SG VL a b) (hw : (w = a ∧ (o < 0 ↔ act = 11)) ∨ (w = b ∧ ¬ (o < 0 ↔ act = 11))) (hg : g = SG w) (hP : P = pv VL w) (hQ : Q = qv VL w) : AcJ mn SG VL act a b g P Q := by
  subst hg
  subst hP
  subst hQ
  have ha := hI.2.2 a h.1.1 h.1.2
  have hb := hI.2.2 b h.2.1 h.2.2
  intro z2 th1 mn2 SG1 VL1 hR
  have hM := ((hR.2 h).2 gd).2 (fun q => by rcases q with q | q; omega; omega)
  have key : ∀ x y : Int, (x = y ∨ (ordS SG VL a b = 0 ∧ (x = a ∨ x = b) ∧ (y = a ∨ y = b))) → Sm (SG x) (pv VL x) (qv VL x) (SG y) (pv VL y) (qv VL y) := by
    intro x y hxy
    rcases hxy with rfl | ⟨o0, hx, hy⟩
    · exact Sm.rf
    · obtain ⟨c1, c2⟩ := ord_0 hI h.1 h.2 o0
      rcases hx with rfl | rfl <;> rcases hy with rfl | rfl
      · exact Sm.rf
      · exact Sm_cross ha.2.2.1 hb.2.2.1 c1 c2
      · exact Sm_cross hb.2.2.1 ha.2.2.1 c1.symm c2.symm
      · exact Sm.rf
  rw [ho] at hw
  rcases e with e | e
  · refine ⟨_, _, _, hM.2.2.2.2.1 e, key _ _ ?_⟩
    by_cases c : ordS SG VL a b ≤ 0
    · rw [if_pos c]
      rcases hw with ⟨w1, w2⟩ | ⟨w1, w2⟩
      · exact Or.inl w1
      · right
        exact ⟨by omega, Or.inr w1, Or.inl rfl⟩
    · rw [if_neg c]
      rcases hw with ⟨w1, w2⟩ | ⟨w1, w2⟩
      · exfalso; omega
      · exact Or.inl w1
  · refine ⟨_, _, _, hM.2.2.2.2.2 e, key _ _ ?_⟩
    by_cases c : ordS SG VL a b ≤ 0
    · rw [if_pos c]
      rcases hw with ⟨w1, w2⟩ | ⟨w1, w2⟩
      · right
        exact ⟨by omega, Or.inl w1, Or.inr rfl⟩
      · exact Or.inl w1
    · rw [if_neg c]
      rcases hw with ⟨w1, w2⟩ | ⟨w1, w2⟩
      · exact Or.inl w1
      · exfalso; omega
end ACJ
theorem b256 {n : Int} {f : Int → Int} {x : Nat} (h : OKw n f) (hn : n ≤ 8) (e : wN n f = x) : bl x ≤ 256 := by
  rw [← e]
  exact (wN8 h).mp hn

/-! real numbers out of bits: the same number by an odd part -/
theorem NewC_Sm {dA : Nat → ClassId} {mn g g2 z mn1 : Int} {it it1 : Nat → Option Nat} {P Q P2 Q2 : Nat} {npl : va_W} (hs : Sm g P Q g2 P2 Q2) (h : NewC dA mn it g P Q z mn1 it1 npl) : NewC dA mn it g2 P2 Q2 z mn1 it1 npl := by
  obtain ⟨h1, h2, h3, ad, h4, h5⟩ := h
  refine ⟨(okN_Sm hs).mp h1, h2, h3, ad, h4, ?_⟩
  have e : (if P2 = 0 then (0 : Int) else g2) = if P = 0 then 0 else g := by
    by_cases c : P = 0
    · rw [if_pos c, if_pos (hs.2.2.1.mp c)]
    · rw [if_neg c, if_neg (fun q => c (hs.2.2.1.mpr q)), hs.2.2.2 c]
  rw [e, ← hs.1, ← hs.2.1]
  exact h5
theorem rl_Sm {g : Int} {o F : Nat} {tz by_ pl : Int} (hF : F = 2 ^ tz.toNat * o) (h0 : 0 ≤ tz) (hb : by_ = pl + tz) : Sm g (o * 2 ^ by_.toNat) (2 ^ (-by_).toNat) g (F * 2 ^ pl.toNat) (2 ^ (-pl).toNat) := by
  refine Sm_cross (Nat.ne_of_gt (Nat.two_pow_pos _)) (Nat.ne_of_gt (Nat.two_pow_pos _)) ?_ rfl
  rw [hF, Nat.mul_assoc, ← Nat.pow_add, Nat.mul_comm (2 ^ tz.toNat) o, Nat.mul_assoc, Nat.mul_assoc, ← Nat.pow_add, ← Nat.pow_add, show by_.toNat + (-pl).toNat = tz.toNat + (pl.toNat + (-by_).toNat) by omega]
theorem rl_no {mn : Int} {o : Nat} {by_ : Int} (ho : o % 2 = 1) (h : 300 < by_ ∨ by_ < -300) : ¬ okN mn (o * 2 ^ by_.toNat) (2 ^ (-by_).toNat) := by
  intro q
  obtain ⟨-, q1, q2⟩ := q
  have o0 : o ≠ 0 := by omega
  have hd : mkd (o * 2 ^ by_.toNat) (2 ^ (-by_).toNat) = 2 ^ (-by_).toNat := by
    unfold mkd
    rw [if_neg (Nat.ne_of_gt (Nat.mul_pos (Nat.pos_of_ne_zero o0) (Nat.two_pow_pos _)))]
  rcases h with h | h
  · unfold mkP at q1
    rw [hd, show (-by_).toNat = 0 by omega, Nat.pow_zero, Nat.gcd_one_right, Nat.div_one, bl_mul_pow o0] at q1
    omega
  · unfold mkQ at q2
    have g := gc_odd (x := o) (o := 1) (z := (-by_).toNat) ho
    rw [Nat.mul_one, Nat.gcd_one_right] at g
    rw [hd, show by_.toNat = 0 by omega, Nat.pow_zero, Nat.mul_one, g, Nat.div_one] at q2
    have b := bl_mul_pow (x := 1) (n := (-by_).toNat) (by decide)
    rw [Nat.one_mul] at b
    rw [b] at q2
    omega
theorem rl_e {F x o : Nat} {tz : Int} (h : TZ F tz o) (e : x = 2 * o + 1) : F = 2 ^ tz.toNat * x ∧ x % 2 = 1 ∧ x ≤ F := by
  unfold TZ at h
  rw [e, h]
  exact ⟨rfl, by omega, Nat.le_mul_of_pos_left _ (Nat.two_pow_pos _)⟩
theorem nan_v {v z : Int} (h : z = if noX v then 9221120237041090560 else v) (hn : ¬ noX z) : z = v ∧ ¬ noX v := by
  by_cases c : noX v
  · rw [if_pos c] at h
    exact absurd (show noX z by rw [h]; decide) hn
  · rw [if_neg c] at h
    exact ⟨h, c⟩
theorem nan_n {v z : Int} (h : z = if noX v then 9221120237041090560 else v) (hn : noX z) : noX v := by
  by_cases c : noX v
  · exact c
  · rw [if_neg c] at h
    rw [h] at hn
    exact hn
theorem abs_k {v : Int} : In6 (v % 9223372036854775808) ∧ kX (v % 9223372036854775808) = v % 9223372036854775808 ∧ (¬ noX v → ¬ noX (v % 9223372036854775808)) := by
  have h6 : In6 (v % 9223372036854775808) := ⟨by omega, by omega⟩
  refine ⟨h6, (kX_c h6).2.1 (by omega), fun hn => ?_⟩
  rw [noX_m] at hn ⊢
  omega
theorem fin_k {v : Int} : v % 9223372036854775808 ≤ 9218868437227405311 ↔ eX v ≠ 2047 := by
  unfold eX
  omega
theorem NewC_z {dA : Nat → ClassId} {mn g z mn1 : Int} {it it1 : Nat → Option Nat} {P Q : Nat} {npl : va_W} (hc : NewC dA mn it g P Q z mn1 it1 npl) : z = mn := hc.2.1

/-! act: sizes and signs -/
theorem sumG_3 {x y : Int} {A B : Nat} (hx : x = -1 ∨ x = 0 ∨ x = 1) (hy : y = -1 ∨ y = 0 ∨ y = 1) : In3 (sumG x y A B) := by
  unfold sumG
  constructor
  · split
    · split <;> omega
    · split <;> omega
  · split
    · split <;> omega
    · split <;> omega
theorem m3_3 {x y : Int} (hx : x = -1 ∨ x = 0 ∨ x = 1) (hy : y = -1 ∨ y = 0 ∨ y = 1) : In3 (x * y) := by
  rcases (prod3 hx hy).1 with h | h | h <;> rw [h] <;> exact ⟨by decide, by decide⟩
theorem mul_256 {x y : Nat} (hx : x < 2 ^ (32 * 8)) (hy : y < 2 ^ (32 * 8)) : x * y < 2 ^ (32 * 16) := mul_sz (a := 8) (b := 8) hx hy
theorem sumP_lt {x y : Int} {pa qa pb qb : Nat} (ha : pa < 2 ^ (32 * 8) ∧ qa < 2 ^ (32 * 8)) (hb : pb < 2 ^ (32 * 8) ∧ qb < 2 ^ (32 * 8)) : sumP x y (pa * qb) (pb * qa) < 2 ^ (32 * 17) := by
  have h1 := mul_256 ha.1 hb.2
  have h2 := mul_256 hb.1 ha.2
  have h3 : (2 : Nat) ^ (32 * 17) = 2 ^ (32 * 16) * 4294967296 := by rw [show (32 * 17 : Nat) = 32 * 16 + 32 by decide, Nat.pow_add]
  rw [h3]
  generalize (2 : Nat) ^ (32 * 16) = N at *
  unfold sumP
  split
  · omega
  · split <;> omega
theorem recP_le {act x y : Int} {pa pb A B N : Nat} (h : 4 ≤ act ∧ act ≤ 7) (hA : A < N) (hB : B < N) : recP act x y pa pb A B ≤ N := by
  by_cases c : act = 4 ∨ act = 6
  · rw [(rec_46 (x := x) (y := y) (A := A) (B := B) (C := 0) (pa := pa) (pb := pb) c).2.1]
    have := Nat.div_le_self A B
    split <;> omega
  · rw [(rec_57 (x := x) (y := y) (A := A) (B := B) (C := 0) (pa := pa) (pb := pb) (by omega)).2.1]
    have := Nat.mod_le A B
    split <;> omega
theorem m768 {x y : Nat} (hx : x ≤ 2 ^ (32 * 16)) (hy : y < 2 ^ (32 * 8)) : x * y < 2 ^ (32 * 24) := by
  have h3 : (2 : Nat) ^ (32 * 24) = 2 ^ (32 * 16) * 2 ^ (32 * 8) := by rw [← Nat.pow_add]
  rw [h3]
  exact Nat.lt_of_le_of_lt (Nat.mul_le_mul_right y hx) (Nat.mul_lt_mul_of_pos_left hy (Nat.two_pow_pos _))
theorem cqK_lt {act : Int} {R : Nat} (h : R < 2 ^ (32 * 8)) : cqK act R < 2 ^ (32 * 8) := by
  unfold cqK
  split
  · exact Nat.lt_of_lt_of_le (by decide : 1 < 2 ^ 1) (Nat.pow_le_pow_right (by decide) (by decide))
  · exact h
theorem recP_lt {act x y : Int} {u w pa qa pb qb : Nat} (h : 4 ≤ act ∧ act ≤ 7) (ha : pa < 2 ^ (32 * 8) ∧ qa < 2 ^ (32 * 8)) (hb : pb < 2 ^ (32 * 8) ∧ qb < 2 ^ (32 * 8)) : recP act x y u w (pa * qb) (pb * qa) * cqK act pb < 2 ^ (32 * 24) :=
  m768 (recP_le h (mul_256 ha.1 hb.2) (mul_256 hb.1 ha.2)) (cqK_lt hb.1)
theorem recQ_lt {act : Int} {pa qa pb qb : Nat} (h : 4 ≤ act ∧ act ≤ 7) (ha : pa < 2 ^ (32 * 8) ∧ qa < 2 ^ (32 * 8)) (hb : pb < 2 ^ (32 * 8) ∧ qb < 2 ^ (32 * 8)) : recQ act (pb * qa) (qa * qb) * cqK act pb < 2 ^ (32 * 24) := by
  refine m768 ?_ (cqK_lt hb.1)
  unfold recQ
  rw [if_neg (by omega), if_neg (by omega)]
  split
  · exact Nat.two_pow_pos _
  · exact Nat.le_of_lt (mul_256 ha.2 hb.2)
theorem recQ_0 {act : Int} {qa pb qb : Nat} (h : 4 ≤ act ∧ act ≤ 7) (hp : pb ≠ 0) (ha : qa ≠ 0) (hb : qb ≠ 0) : recQ act (pb * qa) (qa * qb) * cqK act pb ≠ 0 := by
  apply Nat.mul_ne_zero
  · unfold recQ
    rw [if_neg (by omega), if_neg (by omega)]
    split
    · decide
    · exact Nat.mul_ne_zero ha hb
  · unfold cqK
    split
    · decide
    · exact hp
theorem gcd_lt {x y N : Nat} (hx : x < N) (hy : y < N) : Nat.gcd x y < N := by
  by_cases c : x = 0
  · rw [c, Nat.gcd_zero_left]
    exact hy
  · exact Nat.lt_of_le_of_lt (Nat.gcd_le_left _ (Nat.pos_of_ne_zero c)) hx
theorem pw_0 {x y : Int} {p q n : Nat} (h : ¬ (y < 0 ∧ x = 0)) (hx : x = 0 ↔ p = 0) (hq : q ≠ 0) : (pwB y p q) ^ n ≠ 0 := by
  apply Nat.ne_of_gt
  apply Nat.pow_pos
  unfold pwB
  split
  · exact Nat.pos_of_ne_zero fun z => h ⟨by assumption, hx.mpr z⟩
  · exact Nat.pos_of_ne_zero hq
theorem gd_gg {VL : Int → Int} {act a b : Int} (q : acGd VL act a b) : (0 ≤ act ∧ act ≤ 12) ∧ (act = 8 → qv VL a = 1) ∧ (8 ≤ act ∧ act ≤ 10 → qv VL b = 1) := by
  refine ⟨q.1, fun e => (q.2.1 e).1, fun e => ?_⟩
  rcases (show act = 8 ∨ act = 9 ∨ act = 10 by omega) with c | c | c
  · exact (q.2.1 c).2
  · exact (q.2.2.1 c).1
  · exact (q.2.2.2 c).1
abbrev AcXs (mn : Int) (SG VL : Int → Int) (act a b : Int) (E : String) : Prop := (E = "java/lang/IndexOutOfBoundsException" ∧ AcX mn SG VL act a b 1) ∨ (E = "java/lang/IllegalArgumentException" ∧ AcX mn SG VL act a b 2) ∨ (E = "java/lang/ArithmeticException" ∧ AcX mn SG VL act a b 3) ∨ (E = "java/lang/IllegalStateException" ∧ AcX mn SG VL act a b 4)
theorem AcX_9 {mn : Int} {SG VL : Int → Int} {act a b : Int} {E : String} (h : (0 ≤ a ∧ a < mn) ∧ 0 ≤ b ∧ b < mn) (hg : (0 ≤ act ∧ act ≤ 12) ∧ (act = 8 → qv VL a = 1) ∧ (8 ≤ act ∧ act ≤ 10 → qv VL b = 1)) (e : act = 9) (hI : MI mn SG VL)
    (hx : (E = "java/lang/IllegalArgumentException" ∧ ¬ ((pv VL b : Nat) : Int) ≤ 300) ∨ (E = "java/lang/ArithmeticException" ∧ ((pv VL b : Nat) : Int) ≤ 300 ∧ SG b < 0 ∧ SG a = 0) ∨ (E = "java/lang/IllegalStateException" ∧ ((pv VL b : Nat) : Int) ≤ 300 ∧ ¬ (SG b < 0 ∧ SG a = 0) ∧ ¬ pwO (pv VL a) (qv VL a) (pv VL b))) : AcXs mn SG VL act a b E := by
  have hb := hI.2.2 b h.2.1 h.2.2
  obtain ⟨n1, n2⟩ := pw_abs (r := pv VL b) hb.1 hb.2.1.mp
  have n1' : (acSm SG VL b).natAbs = pv VL b := n1
  have n2' : acSm SG VL b < 0 ↔ SG b < 0 ∧ pv VL b ≠ 0 := n2
  rcases hx with ⟨x1, x2⟩ | ⟨x1, x2, x3, x4⟩ | ⟨x1, x2, x3, x4⟩
  · exact Or.inr (Or.inl ⟨x1, AcX_2 h fun q => x2 (q.2.2.1 e).2⟩)
  · have gd : acGd VL act a b := ⟨hg.1, fun q => by omega, fun q => ⟨hg.2.2 (by omega), x2⟩, fun q => by omega⟩
    have hb0 : pv VL b ≠ 0 := fun q => by have := hb.2.1.mpr q; omega
    exact Or.inr (Or.inr (Or.inl ⟨x1, AcX_3 h gd (Or.inr ⟨e, n2'.mpr ⟨x3, hb0⟩, x4⟩)⟩))
  · have gd : acGd VL act a b := ⟨hg.1, fun q => by omega, fun q => ⟨hg.2.2 (by omega), x2⟩, fun q => by omega⟩
    refine Or.inr (Or.inr (Or.inr ⟨x1, AcX_4 h gd (fun q => ?_) e (by rw [n1']; exact x4)⟩))
    rcases q with q | q
    · omega
    · exact x3 ⟨(n2'.mp q.2.1).1, q.2.2⟩

/-! what is told: digits, wrapped numbers, doubles compared -/
theorem dg_p {VL f : Int → Int} {n a : Int} {o : Int} (h : OKw n f) (hn : n ≤ 8) (hV : Dg VL) (e : wN n f = (vz VL o 8).toNat) {j : Int} (h0 : 0 ≤ j) (h1 : j < 8) : cpZ f (fun _ => 0) n j = VL (o + j) := by
  have hg := cp0_D (n := n) h.2.1
  have e1 := cp0_N h hn
  have a1 := vz_nn hg 0 8
  have a2 := vz_nn hV o 8
  have e2 : vz (cpZ f (fun _ => 0) n) 0 8 = vz VL o 8 := by
    have e3 : (vz (cpZ f (fun _ => 0) n) 0 8).toNat = (vz VL o 8).toNat := e1.trans e
    omega
  have := vz_ext hg hV e2 j h0 (by omega)
  rw [Int.zero_add] at this
  exact this
theorem sgn_g {m H R : Int} (hR : 0 < R) : ((m * R + H * R) % (2 * H * R) - H * R) / R = (m + H) % (2 * H) - H := by
  rw [← Int.add_mul, Int.mul_comm (m + H) R, Int.mul_comm (2 * H) R, Int.mul_emod_mul_of_pos _ _ hR, Int.mul_comm H R, ← Int.mul_sub, Int.mul_ediv_cancel_left _ (Int.ne_of_gt hR)]
theorem sgn_h {m H : Int} (hH : 0 < H) : (m + H) % (2 * H) - H = if m % (2 * H) / H % 2 = 1 then m % (2 * H) - 2 * H else m % (2 * H) := by
  have h0 := Int.emod_nonneg m (show 2 * H ≠ 0 by omega)
  have h1 := Int.emod_lt_of_pos m (show 0 < 2 * H by omega)
  rw [← Int.emod_add_emod]
  generalize m % (2 * H) = t at *
  by_cases c : t < H
  · rw [Int.emod_eq_of_lt (by omega) (by omega), Int.ediv_eq_zero_of_lt h0 c, if_neg (by decide)]
    omega
  · have e : t / H = 1 := by
      have q1 : 1 ≤ t / H := (Int.le_ediv_iff_mul_le hH).mpr (by omega)
      have q2 : t / H < 2 := (Int.ediv_lt_iff_lt_mul hH).mpr (by omega)
      omega
    rw [e, if_pos (by decide), show t + H = (t - H) + 2 * H by omega, Int.add_emod_right, Int.emod_eq_of_lt (by omega) (by omega)]
    omega
theorem wr_s {m b : Int} (hb : 1 ≤ b ∧ b ≤ 64) : sm6 (m * 2 ^ (64 - b).toNat) / 2 ^ (64 - b).toNat = wrS m b 1 := by
  have hR := ppos (64 - b).toNat
  have hH := ppos (b - 1).toNat
  have e1 : (9223372036854775808 : Int) = 2 ^ (b - 1).toNat * 2 ^ (64 - b).toNat := by rw [← Int.pow_add, show (b - 1).toNat + (64 - b).toNat = 63 by omega]; rfl
  have e2 : (18446744073709551616 : Int) = 2 * 2 ^ (b - 1).toNat * 2 ^ (64 - b).toNat := by rw [Int.mul_assoc, ← e1]; rfl
  unfold sm6
  rw [e2, e1, sgn_g hR]
  unfold wrS
  by_cases c : b = 64
  · subst c
    rw [if_pos rfl]
    unfold sm6
    rfl
  · have e3 : (2 : Int) ^ b.toNat = 2 * 2 ^ (b - 1).toNat := by rw [show b.toNat = (b - 1).toNat + 1 by omega, Int.pow_succ]; exact Int.mul_comm _ _
    rw [if_neg c, sgn_h hH, e3]
    by_cases d : m % (2 * 2 ^ (b - 1).toNat) / 2 ^ (b - 1).toNat % 2 = 1
    · rw [if_pos d, if_pos ⟨by decide, d⟩]
    · rw [if_neg d, if_neg (fun q => d q.2)]
theorem wr_u {m b : Int} (hb : 1 ≤ b ∧ b ≤ 64) : L6 (m * 2 ^ (64 - b).toNat % 18446744073709551616 / 2 ^ (64 - b).toNat) = L6 (wrS m b 0) := by
  have hR := ppos (64 - b).toNat
  have e2 : (18446744073709551616 : Int) = 2 ^ b.toNat * 2 ^ (64 - b).toNat := by rw [← Int.pow_add, show b.toNat + (64 - b).toNat = 64 by omega]; rfl
  rw [e2, Int.mul_comm m, Int.mul_comm (2 ^ b.toNat), Int.mul_emod_mul_of_pos _ _ hR, Int.mul_ediv_cancel_left _ (Int.ne_of_gt hR)]
  unfold wrS
  by_cases c : b = 64
  · subst c
    rw [if_pos rfl]
    apply L6_congr
    have e : (2 : Int) ^ (64 : Int).toNat = 18446744073709551616 := by decide
    rw [e]
    unfold sm6
    omega
  · rw [if_neg c, if_neg (fun q => q.1 rfl)]
theorem f0_m {v : Int} (hf : eX v ≠ 2047) : fX v = 0 ↔ v % 9223372036854775808 = 0 := by
  have h := fX_c v
  have e : eX v = v / 4503599627370496 % 2048 := rfl
  have p : pX v = v % 4503599627370496 := rfl
  by_cases c : eX v = 0
  · rw [h.1 c]
    omega
  · rw [h.2 c]
    omega
theorem sig_i {v : Int} (h6 : In6 v) (hf : eX v ≠ 2047) : FP.d2i (dX (if v % 9223372036854775808 = 0 then v else sgb v 4607182418800017408)) = I3 (if fX v = 0 then 0 else sgX v) := by
  obtain ⟨h1, h2⟩ := h6
  by_cases c : v % 9223372036854775808 = 0
  · rw [if_pos c, if_pos ((f0_m hf).mpr c)]
    rcases (show v = 0 ∨ v = -9223372036854775808 by omega) with rfl | rfl <;> decide +kernel
  · rw [if_neg c, if_neg (fun q => c ((f0_m hf).mp q))]
    unfold sgb sgX
    by_cases d : v < 0
    · rw [if_pos d, if_pos d]
      decide +kernel
    · rw [if_neg d, if_neg d]
      decide +kernel
theorem far_hi {v : Int} {P Q : Nat} (hP : P < 2 ^ (32 * 8)) (hQ : Q ≠ 0) (h : 300 < eX v - 1023) : cmpN (P * 2 ^ (-plX v).toNat) (Q * (fX v).toNat * 2 ^ (plX v).toNat) = -1 := by
  apply cmpN_lt
  have e := eX_r v
  have p := (plX_c v).2 (by omega)
  have f := (fX_c v).2 (by omega)
  have q := pX_r v
  rw [show (-plX v).toNat = 0 by omega, Nat.pow_zero, Nat.mul_one]
  have a1 : 2 ^ 52 * 2 ^ 204 ≤ Q * (fX v).toNat * 2 ^ (plX v).toNat := by
    apply Nat.mul_le_mul
    · rw [← Nat.one_mul (2 ^ 52)]
      apply Nat.mul_le_mul (Nat.pos_of_ne_zero hQ)
      have : (2 : Nat) ^ 52 = 4503599627370496 := by decide
      omega
    · exact Nat.pow_le_pow_right (by decide) (by omega)
  have a2 : (2 : Nat) ^ 52 * 2 ^ 204 = 2 ^ (32 * 8) := by rw [← Nat.pow_add]
  omega
theorem far_lo {v : Int} {P Q : Nat} (hP : P ≠ 0) (hQ : Q < 2 ^ (32 * 8)) (h : eX v - 1023 < -300) : cmpN (P * 2 ^ (-plX v).toNat) (Q * (fX v).toNat * 2 ^ (plX v).toNat) = 1 := by
  apply cmpN_gt
  have f := fX_r v
  have p := plX_c v
  have pl : plX v ≤ -352 := by
    by_cases c : eX v = 0
    · rw [p.1 c]; decide
    · rw [p.2 c]; omega
  rw [show (plX v).toNat = 0 by omega, Nat.pow_zero, Nat.mul_one]
  have a1 : Q * (fX v).toNat < 2 ^ (32 * 8) * 2 ^ (32 * 2) := by
    have e64 : (2 : Nat) ^ (32 * 2) = 18446744073709551616 := by decide
    have hf2 : (fX v).toNat < 2 ^ (32 * 2) := by omega
    have := mul_sz (x := Q) (y := (fX v).toNat) (a := 8) (b := 2) hQ hf2
    rw [← Nat.pow_add]
    exact this
  have a2 : 2 ^ (32 * 8) * 2 ^ (32 * 2) ≤ 1 * 2 ^ (-plX v).toNat := by
    rw [← Nat.pow_add, Nat.one_mul]
    exact Nat.pow_le_pow_right (by decide) (by omega)
  exact Nat.lt_of_lt_of_le a1 (Nat.le_trans a2 (Nat.mul_le_mul_right _ (Nat.pos_of_ne_zero hP)))
theorem me_c {c o : Int} (h : c = -1 ∨ c = 0 ∨ c = 1) (ho : o = -1 ∨ o = 1) : (c = 0 → o * c = 0) ∧ (c < 0 → o * c = -o) ∧ (0 < c → o * c = o) := by
  rcases h with rfl | rfl | rfl <;> rcases ho with rfl | rfl <;> decide

/-! the machine's doubles and casts: what is told is one thing -/
theorem dX_L {a b : Int} (h : dX a = dX b) : L6 a = L6 b := congrArg UInt64.toInt64 h
theorem fB_I {a b : Int} (h : fB a = fB b) : I3 a = I3 b := congrArg UInt32.toInt32 h
theorem val_L {z u : Int} (hu : In6 u) (hn : ¬ noX u) (h : v64 (dX z) = vD u) : L6 u = L6 z := (dX_L (dX_val hu hn h)).symm
theorem val_I {z u : Int} (hu : In3 u) (hn : ¬ noF u) (h : v32 (fB z) = vF u) : I3 u = I3 z := (fB_I (fB_val hu hn h)).symm
theorem sgb_B (v e : Int) : sgb v e = sgB (decide (v < 0)) e := by
  unfold sgb sgB
  by_cases c : v < 0
  · rw [if_pos c, decide_eq_true c, if_pos rfl]
  · rw [if_neg c, decide_eq_false c, if_neg (by decide)]
theorem sc_L {v x pl e u : Int} (hx : 0 ≤ x) (h : scS x pl e) (hu : In6 u) (hn : ¬ noX u) (hv : vD u = FP.Core.roundRatio FP.Core.b64 (decide (v < 0)) x.toNat 1 pl) : L6 u = L6 (sgb v e) := val_L hu hn (by rw [sgb_B, scS_val hx h, hv])
def sgF (s : Bool) (e : Int) : Int := if s = true then e - 2147483648 else e
theorem sgf_F (v e : Int) : sgf v e = sgF (decide (v < 0)) e := by
  unfold sgf sgF
  by_cases c : v < 0
  · rw [if_pos c, decide_eq_true c, if_pos rfl]
  · rw [if_neg c, decide_eq_false c, if_neg (by decide)]
theorem rnF_val {s : Bool} {P Q : Nat} {z : Int} (hP : P ≠ 0) (hQ : Q ≠ 0) (h : rnB 32 P Q 0 1 z) : v32 (fB (sgF s z)) = FP.Core.roundRatio FP.Core.b32 s P Q 0 := by
  unfold rnB at h
  rw [if_neg (by decide)] at h
  obtain ⟨q, h1, h2⟩ := h
  have hu := upS_r (dr := 0) (its := 1) h1
  have e24 : (2 : Int) ^ (24 : Int).toNat = 16777216 := by decide
  rw [e24] at hu
  have hfit : FP.Core.fits FP.Core.b32 (FP.Core.roundRatio FP.Core.b32 s P Q 0) := rr_fits g32 s P (Nat.pos_of_ne_zero hQ) 0
  have henc := enc_set32 (s := s) (m := (upS 0 1 (nS P q) (dS Q q)).toNat) (q := q) (by omega) h1.1
  rw [← rr_at FF32 hP hQ h1, Int.toNat_of_nonneg hu.1] at henc
  have hinf : infS 0 1 = 1 := rfl
  rw [hinf] at h2
  rw [← h2] at henc
  have hlt := (dec_enc32 hfit).2
  have hn : (fB (sgF s z)).toNat = FP.Core.encode FP.Core.b32 (FP.Core.roundRatio FP.Core.b32 s P Q 0) := by
    rw [fB_n]
    unfold sgF
    cases s
    · simp at henc ⊢
      omega
    · simp at henc ⊢
      omega
  unfold v32
  rw [hn]
  exact (dec_enc32 hfit).1
theorem scF_val {s : Bool} {x v z : Int} (hx : 0 ≤ x) (h : scF x v z) : v32 (fB (sgF s z)) = FP.Core.roundRatio FP.Core.b32 s x.toNat 1 v := by
  by_cases c : x = 0
  · rw [h.1 c, c]
    show v32 (fB (sgF s 0)) = FP.Core.roundRatio FP.Core.b32 s 0 1 v
    rw [rr_0]
    cases s <;> decide +kernel
  · rw [rnF_val (s := s) (by have := Nat.mul_pos (show 0 < x.toNat by omega) (Nat.two_pow_pos v.toNat); omega) (Nat.ne_of_gt (Nat.two_pow_pos _)) (h.2 c), rr_sc g32]
theorem fin_of {v : Int} (h : ¬ noX v) (h2 : ¬ infX v) : eX v ≠ 2047 := fun q => by
  by_cases c : pX v = 0
  · exact h2 ⟨q, c⟩
  · exact h ⟨q, c⟩
theorem rm_L {v w u z : Int} (hv : In6 v) (_hw : In6 w) (hno : ¬ rmNo v w) (hu : In6 u) (hn : ¬ noX u) (hvu : vD u = FP.Core.round FP.Core.b64 (FP.Core.exactRemainder (vD v) (vD w))) (h : rmX v w z) : L6 u = L6 z := by
  have h3 := h.2 hno
  have nv : ¬ noX v := fun q => hno (Or.inl q)
  have nw : ¬ noX w := fun q => hno (Or.inr (Or.inl q))
  have iv : ¬ infX v := fun q => hno (Or.inr (Or.inr (Or.inl q)))
  have f0 : ¬ fX w = 0 := fun q => hno (Or.inr (Or.inr (Or.inr q)))
  have ev := fin_of nv iv
  by_cases c : infX w
  · rw [h3.1 c]
    rw [vD_inf c, vD_fin ev] at hvu
    have e : vD u = vD v := by
      rw [hvu, vD_fin ev]
      have := rof g64 (vD_fits hv)
      rw [vD_fin ev] at this
      exact this
    rw [dX_inj hu hv hn e]
  · obtain ⟨e, h4, h5⟩ := h3.2 c
    have ew := fin_of nw c
    have fv := fX_r v
    have fw := fX_r w
    have hm : remY v w = min (plX v) (plX w) := by
      unfold remY
      split <;> omega
    have hr : remR v w = (((fX v).toNat * 2 ^ (plX v - min (plX v) (plX w)).toNat % ((fX w).toNat * 2 ^ (plX w - min (plX v) (plX w)).toNat) : Nat) : Int) := by
      unfold remR
      rw [show (plX v - min (plX v) (plX w)).toNat = (plX v - plX w).toNat by omega, show (plX w - min (plX v) (plX w)).toNat = (plX w - plX v).toNat by omega]
      obtain ⟨a, ha⟩ := Int.eq_ofNat_of_zero_le fv.1
      obtain ⟨b, hb⟩ := Int.eq_ofNat_of_zero_le fw.1
      rw [ha, hb]
      simp
    have hr0 : 0 ≤ remR v w := by rw [hr]; omega
    rw [h5]
    refine sc_L hr0 h4 hu hn ?_
    rw [hvu, vD_fin ev, vD_fin ew]
    show FP.Core.round FP.Core.b64 (if (fX w).toNat = 0 then FP.Core.Datum.nan else FP.Core.Datum.fin (decide (v < 0)) (FP.Core.inUnits (fX v).toNat (plX v) (min (plX v) (plX w)) % FP.Core.inUnits (fX w).toNat (plX w) (min (plX v) (plX w))) (min (plX v) (plX w))) = _
    rw [if_neg (by omega), hm, hr]
    rfl
theorem frR_0 (m : Int) (n : Nat) : 0 < frR m n ↔ m % 2 ^ n ≠ 0 := by
  unfold frR
  by_cases c : m % 2 ^ n = 0
  · rw [if_pos c]
    exact ⟨fun q => by omega, fun q => absurd c q⟩
  · rw [if_neg c]
    exact ⟨fun _ => c, fun _ => by split; decide; split <;> decide⟩
theorem rd_L {kind v u z X : Int} (hno : ¬ noX v) (hu : In6 u) (hn : ¬ noX u) (hX : X = fX v / 2 ^ (-plX v).toNat + if rdG kind v (frR (fX v) (-plX v).toNat) (fX v / 2 ^ (-plX v).toNat) then 1 else 0)
    (hp : (eX v = 2047 ∨ 0 ≤ plX v → u = v) ∧ (¬ (eX v = 2047 ∨ 0 ≤ plX v) → vD u = R6 (decide (v < 0)) X.toNat)) (h : rdX kind v z) : L6 u = L6 z := by
  have h3 := h.2 hno
  by_cases c : eX v = 2047 ∨ 0 ≤ plX v
  · rw [h3.1 c, hp.1 c]
  · obtain ⟨e, h4, h5⟩ := h3.2 c
    have fv := fX_r v
    have h0 : 0 ≤ fX v / 2 ^ (-plX v).toNat := Int.ediv_nonneg fv.1 (Int.le_of_lt (ppos _))
    rw [h5]
    rw [← hX] at h4
    exact sc_L (by rw [hX]; split <;> omega) h4 hu hn (hp.2 c)
theorem rd_fc {kind v : Int} {c : Prop} [Decidable c] (hk : (kind = 1 ∧ (c ↔ v < 0)) ∨ (kind = 2 ∧ (c ↔ 0 ≤ v))) : fcV c v = R6 (decide (v < 0)) (fX v / 2 ^ (-plX v).toNat + if rdG kind v (frR (fX v) (-plX v).toNat) (fX v / 2 ^ (-plX v).toNat) then 1 else 0).toNat := by
  unfold fcV
  have e : (fX v % 2 ^ (-plX v).toNat ≠ 0 ∧ c) ↔ rdG kind v (frR (fX v) (-plX v).toNat) (fX v / 2 ^ (-plX v).toNat) := by
    have f := frR_0 (fX v) (-plX v).toNat
    unfold rdG
    rcases hk with ⟨rfl, hc⟩ | ⟨rfl, hc⟩
    · rw [hc]
      constructor
      · exact fun q => Or.inl ⟨rfl, q.2, f.mpr q.1⟩
      · intro q
        rcases q with q | q | q
        · exact ⟨f.mp q.2.2, q.2.1⟩
        · exact absurd q.1 (by decide)
        · exact absurd rfl q.1
    · rw [hc]
      constructor
      · exact fun q => Or.inr (Or.inl ⟨rfl, q.2, f.mpr q.1⟩)
      · intro q
        rcases q with q | q | q
        · exact absurd q.1 (by decide)
        · exact ⟨f.mp q.2.2, q.2.1⟩
        · exact absurd rfl q.2.1
  by_cases g : rdG kind v (frR (fX v) (-plX v).toNat) (fX v / 2 ^ (-plX v).toNat)
  · rw [if_pos g, if_pos (e.mpr g)]
  · rw [if_neg g, if_neg (fun q => g (e.mp q))]
theorem rd_rt {v : Int} : rtV v = R6 (decide (v < 0)) (fX v / 2 ^ (-plX v).toNat + if rdG 3 v (frR (fX v) (-plX v).toNat) (fX v / 2 ^ (-plX v).toNat) then 1 else 0).toNat := by
  unfold rtV
  by_cases g : rdG 3 v (frR (fX v) (-plX v).toNat) (fX v / 2 ^ (-plX v).toNat)
  · have g2 : frR (fX v) (-plX v).toNat = 3 ∨ frR (fX v) (-plX v).toNat = 2 ∧ fX v / 2 ^ (-plX v).toNat % 2 = 1 := by
      unfold rdG at g
      rcases g with q | q | q
      · exact absurd q.1 (by decide)
      · exact absurd q.1 (by decide)
      · exact q.2.2
    rw [if_pos g, if_pos g2]
  · rw [if_neg g, if_neg (fun q => g (Or.inr (Or.inr ⟨by decide, by decide, q⟩)))]
theorem vD_sub {n : Nat} (h : n < 4503599627370496) : vD (n : Int) = .fin false n (-1074) := by
  have e : eX (n : Int) = 0 := by unfold eX; omega
  have p : pX (n : Int) = n := by unfold pX; omega
  rw [vD_fin (by rw [e]; decide), (fX_c _).1 e, (plX_c _).1 e, p, decide_eq_false (by omega)]
  rfl
theorem vD_nrm {E : Int} (h : 1 ≤ E ∧ E ≤ 2046) : vD (E * 4503599627370496) = .fin false 4503599627370496 (E - 1075) := by
  have e : eX (E * 4503599627370496) = E := by unfold eX; omega
  have p : pX (E * 4503599627370496) = 0 := by unfold pX; omega
  rw [vD_fin (by rw [e]; omega), (fX_c _).2 (by rw [e]; omega), (plX_c _).2 (by rw [e]; omega), p, e, decide_eq_false (by omega)]
  rfl
theorem ulp_v {v : Int} (hf : eX v ≠ 2047) : vD (ulpX v) = FP.Core.roundRatio FP.Core.b64 false 1 1 (plX v) ∧ In6 (ulpX v) ∧ ¬ noX (ulpX v) := by
  have he := eX_r v
  unfold ulpX
  by_cases c : eX v = 0
  · rw [if_pos c, (plX_c v).1 c]
    refine ⟨?_, by decide, by decide⟩
    rw [show (1 : Int) = ((1 : Nat) : Int) from rfl, vD_sub (by decide)]
    exact (rof g64 (d := .fin false 1 (-1074)) ⟨by decide, by decide, by decide, Or.inl (by decide)⟩).symm
  · rw [if_neg c, (plX_c v).2 c]
    by_cases d : 53 ≤ eX v
    · rw [if_pos d]
      refine ⟨?_, ⟨by omega, by omega⟩, noX_lt (by omega) (by omega)⟩
      rw [vD_nrm (by omega), ← rof64 (s := false) (m := 4503599627370496) (q := eX v - 52 - 1075) (by decide) (by decide) (by omega)]
      refine rr_congr (by decide) (by decide) (by decide) ?_
      rw [show (eX v - 52 - 1075 - (eX v - 1075)).toNat = 0 by omega, show (eX v - 1075 - (eX v - 52 - 1075)).toNat = 52 by omega]
    · rw [if_neg d]
      have e : (2 : Int) ^ (eX v - 1).toNat = ((2 ^ (eX v - 1).toNat : Nat) : Int) := by simp
      have l : 2 ^ (eX v - 1).toNat ≤ 2 ^ 51 := Nat.pow_le_pow_right (by decide) (by omega)
      have l2 : (2 : Nat) ^ 51 = 2251799813685248 := by decide
      rw [e]
      generalize hk : 2 ^ (eX v - 1).toNat = k at *
      refine ⟨?_, ⟨by omega, by omega⟩, noX_lt (by omega) (by omega)⟩
      subst hk
      rw [vD_sub (by omega)]
      rw [← rof g64 (d := .fin false (2 ^ (eX v - 1).toNat) (-1074)) ⟨by show _ < 2 ^ FP.Core.b64.p; rw [b64p]; omega, by decide, by decide, Or.inl (by decide)⟩]
      show FP.Core.roundRatio FP.Core.b64 false (2 ^ (eX v - 1).toNat) 1 (-1074) = _
      refine rr_congr (by decide) (by decide) (by decide) ?_
      rw [show (-1074 - (eX v - 1075)).toNat = 0 by omega, show (eX v - 1075 - -1074).toNat = (eX v - 1).toNat by omega, Nat.pow_zero, Nat.mul_one, Nat.mul_one, Nat.mul_one, Nat.one_mul]
theorem ulp_L {v z : Int} (hf : eX v ≠ 2047) (h : scS 1 (plX v) z) : L6 (ulpX v) = L6 z := by
  obtain ⟨h1, h2, h3⟩ := ulp_v hf
  exact val_L h2 h3 (by
    have := scS_val (s := false) (by decide) h
    rw [h1]
    exact this)
theorem scl_L {v n u z : Int} (hv : In6 v) (hno : ¬ noX v) (hu : In6 u) (hn : ¬ noX u) (hvu : vD u = sD (vD v) n) (h : (infX v → z = v) ∧ (eX v ≠ 2047 → ∃ e : Int, scS (fX v) (plX v + n) e ∧ z = sgb v e)) : L6 u = L6 z := by
  by_cases c : infX v
  · rw [h.1 c]
    rw [dX_inj hu hv hn (by rw [hvu, vD_inf c]; rfl)]
  · have ev := fin_of hno c
    obtain ⟨e, h4, h5⟩ := h.2 ev
    rw [h5]
    exact sc_L (fX_r v).1 h4 hu hn (by rw [hvu, vD_fin ev]; rfl)
theorem cut_nan {v M : Int} (h : noX v) : cutX v M = 0 := by
  unfold cutX
  rw [if_pos h.1, if_neg h.2]
theorem cut_z {v z M : Int} (h : z = if noX v then 9221120237041090560 else v) : cutX z M = cutX v M := by
  by_cases c : noX v
  · rw [if_pos c] at h
    rw [h, cut_nan c, cut_nan (by decide)]
  · rw [if_neg c] at h
    rw [h]
theorem fb_I {v u z : Int} (hno : ¬ noX v) (hu : In3 u) (hn : ¬ noF u) (hvu : vF u = FP.Core.round FP.Core.b32 (vD v)) (h : fbX v z) : I3 u = I3 z := by
  by_cases c : infX v
  · rw [h.2.1 c]
    rw [vD_inf c] at hvu
    refine val_I hu hn ?_
    rw [hvu, sgf_F]
    cases decide (v < 0) <;> decide +kernel
  · have ev := fin_of hno c
    obtain ⟨e, h4, h5⟩ := h.2.2 ev
    rw [h5]
    refine val_I hu hn ?_
    rw [sgf_F, scF_val (fX_r v).1 h4, hvu, vD_fin ev]
    rfl
theorem ff_L {f u z : Int} (hf : In3 f) (hno : ¬ noF f) (hu : In6 u) (hn : ¬ noX u) (hvu : vD u = FP.Core.round FP.Core.b64 (vF f)) (h : ffX f z) : L6 u = L6 z := by
  rcases finF_or hno with c | c
  · rw [h.1 c.1, if_pos c.2]
    rw [vF_inf hf c] at hvu
    refine val_L hu hn ?_
    rw [hvu, sgb_B]
    cases decide (f < 0) <;> decide +kernel
  · obtain ⟨e, h4, h5⟩ := h.2 c
    rw [h5]
    have hM : fM f = if eF f = 0 then pF f else pF f + 8388608 := rfl
    have hp := pF_r f
    refine sc_L (by split <;> omega) h4 hu hn ?_
    rw [hvu, vF_fin hf c]
    rfl
theorem ff_nan {f z : Int} (hf : In3 f) (hno : noF f) (h : ffX f z) : z = 9221120237041090560 := by
  have e : eF f = 255 ∧ pF f ≠ 0 := by
    unfold eF pF
    have : 2139095040 < f % 2147483648 := hno
    omega
  rw [h.1 e.1, if_neg e.2]
section MXR
variable {p : Program} {l : Launch} {e : Env} {R : Room} {s : State} {m : MethodId} {args : Array Value} {below : List Frame} {meth : Method} {c : Code} {H : Heap} {locs : List Loc} {cells slots : Nat} {Q : State → Prop}
variable {cc : ByteArray} {pc : Nat} {ls : Array Slot} {rest : List Value}
theorem rem_nn {v w : Int} (hno : ¬ rmNo v w) : FP.Core.exactRemainder (vD v) (vD w) ≠ .nan := by
  have nv : ¬ noX v := fun q => hno (Or.inl q)
  have nw : ¬ noX w := fun q => hno (Or.inr (Or.inl q))
  have iv : ¬ infX v := fun q => hno (Or.inr (Or.inr (Or.inl q)))
  have f0 : ¬ fX w = 0 := fun q => hno (Or.inr (Or.inr (Or.inr q)))
  have fw := fX_r w
  rw [vD_fin (fin_of nv iv)]
  by_cases c : infX w
  · rw [vD_inf c]
    intro q
    cases q
  · rw [vD_fin (fin_of nw c)]
    intro q
    have q : (if (fX w).toNat = 0 then FP.Core.Datum.nan else FP.Core.Datum.fin (decide (v < 0)) _ _) = FP.Core.Datum.nan := q
    rw [if_neg (by omega)] at q
    cases q
theorem ix_dremE (hx : p.tables.exec = Jvm.exec) (hb : c.code = cc) {x y : Int} (hx6 : In6 x) (hy6 : In6 y) (hno : ¬ rmNo x y) (hd : decode cc pc = .ok (.drem, 1)) (k : ∀ u : Int, In6 u → ¬ noX u → vD u = FP.Core.round FP.Core.b64 (FP.Core.exactRemainder (vD x) (vD y)) → W p l e R s m args below meth c H locs cells slots Q (F0 m (pc + 1) ls (.double (dX u) :: rest))) : W p l e R s m args below meth c H locs cells slots Q (F0 m pc ls (.double (dX y) :: .double (dX x) :: rest)) := by
  obtain ⟨u, hu, e⟩ := dX_ex (FP.drem (dX x) (dX y))
  have h2 : vD u = FP.Core.round FP.Core.b64 (FP.Core.exactRemainder (vD x) (vD y)) := by
    rw [← vD_eq hu, ← e, ← vD_eq hx6, ← vD_eq hy6]
    exact v64_drem _ _
  have h3 : ¬ noX u := noX_v.mpr (by rw [h2]; exact rd_nan (rem_nn hno))
  exact ix_drem hx hb e h3 hd (k u hu h3 h2)
end MXR
/-! machine: how the answers are joined -/
theorem mk_nan {kind v w : Int} (h : ∀ z2 : Int, maX kind v w z2 → z2 = 9221120237041090560) : ∀ z2 : Int, maX kind v w z2 → L6 (if noX 9221120237041090560 then 9221120237041090560 else 9221120237041090560) = L6 z2 := fun z2 q => by
  rw [h z2 q, ite_self]
theorem mk_num {kind v w u : Int} (hn : ¬ noX u) (h : ∀ z2 : Int, maX kind v w z2 → L6 u = L6 z2) : ∀ z2 : Int, maX kind v w z2 → L6 (if noX u then 9221120237041090560 else u) = L6 z2 := fun z2 q => by
  rw [if_neg hn]
  exact h z2 q
theorem k0_f {w : Int} (h6 : In6 w) (hn : ¬ noX w) : kX w = 0 ↔ fX w = 0 := by
  have k := kX_c h6
  rw [noX_m] at hn
  by_cases c : eX w = 2047
  · have f := infX_f (w := w)
    have hi : infX w := ⟨c, Classical.byContradiction fun q => by
      have : noX w := ⟨c, q⟩
      rw [noX_m] at this
      exact hn this⟩
    have := kX_i hi
    constructor
    · intro q
      omega
    · intro q
      exact absurd q (infX_f hi)
  · rw [f0_m c]
    omega
theorem inf_m {w : Int} : infX w ↔ w % 9223372036854775808 = 9218868437227405312 := by
  show eX w = 2047 ∧ pX w = 0 ↔ _
  unfold eX pX
  omega
theorem mm_4 {kind v w : Int} (h : kind = 4) : (if rkX w < rkX v then v else w) = if (rkX w < rkX v ↔ kind = 4) then v else w := by
  by_cases c : rkX w < rkX v
  · rw [if_pos c, if_pos ⟨fun _ => h, fun _ => c⟩]
  · rw [if_neg c, if_neg (fun q => c (q.mpr h))]
theorem mm_5 {kind v w : Int} (h : kind = 5) : (if rkX w < rkX v then w else v) = if (rkX w < rkX v ↔ kind = 4) then v else w := by
  by_cases c : rkX w < rkX v
  · rw [if_pos c, if_neg (fun q => by have := q.mp c; omega)]
  · rw [if_neg c, if_pos ⟨fun q => absurd q c, fun q => by omega⟩]
theorem mx_no {c : Prop} [Decidable c] {v w : Int} (hv : ¬ noX v) (hw : ¬ noX w) : ¬ noX (if c then v else w) := by
  by_cases d : c
  · rw [if_pos d]; exact hv
  · rw [if_neg d]; exact hw
theorem sgb_no {w v : Int} (h : ¬ noX v) : ¬ noX (sgb w (v % 9223372036854775808)) ∧ In6 (sgb w (v % 9223372036854775808)) := by
  rw [noX_m] at h ⊢
  unfold sgb
  constructor
  · split <;> omega
  · constructor <;> split <;> omega
theorem cm_10 {v w : Int} (hv : In6 v) (hw : In6 w) (nv : ¬ noX v) (nw : ¬ noX w) : (kX v < kX w → (if noX v ∨ noX w then (4 : Int) else if (v % 9223372036854775808 = 0 ∧ w % 9223372036854775808 = 0) ∨ v = w then 2 else if rkX v < rkX w then 1 else 3) = 1) ∧ (kX v = kX w → (if noX v ∨ noX w then (4 : Int) else if (v % 9223372036854775808 = 0 ∧ w % 9223372036854775808 = 0) ∨ v = w then 2 else if rkX v < rkX w then 1 else 3) = 2) ∧ (kX w < kX v → (if noX v ∨ noX w then (4 : Int) else if (v % 9223372036854775808 = 0 ∧ w % 9223372036854775808 = 0) ∨ v = w then 2 else if rkX v < rkX w then 1 else 3) = 3) := by
  have a := rk_k hv
  have b := rk_k hw
  have c := kX_c hv
  have d := kX_c hw
  rw [if_neg (fun q => q.elim nv nw)]
  refine ⟨fun q => ?_, fun q => ?_, fun q => ?_⟩
  · rw [if_neg (by omega), if_pos (by omega)]
  · rw [if_pos (by omega)]
  · rw [if_neg (by omega), if_neg (by omega)]
theorem rn32_r {P Q : Nat} {z : Int} (h : rnB 32 P Q 0 1 z) : 0 ≤ z ∧ z ≤ 2139095040 := by
  unfold rnB at h
  rw [if_neg (by decide)] at h
  obtain ⟨q, h1, h2⟩ := h
  have hu := upS_r (dr := 0) (its := 1) h1
  have he := encS_r (wd := 24) (lp := -149) (mp := 104) (q := q) (m := upS 0 1 (nS P q) (dS Q q)) (ti := infS 0 1) (Or.inr ⟨rfl, rfl, rfl⟩) hu h1.1 (Or.inr rfl)
  have e1 : (2 : Int) ^ ((24 : Int) - 1).toNat = 8388608 := by decide
  rw [e1] at he
  rw [h2]
  omega
theorem sgf_3 {v e : Int} (h : 0 ≤ e ∧ e ≤ 2139095040) : In3 (sgf v e) := by
  unfold sgf
  constructor <;> split <;> omega
theorem fb_r {v z : Int} (h : fbX v z) : In3 z := by
  by_cases c : noX v
  · rw [h.1 c]
    exact ⟨by decide, by decide⟩
  · by_cases d : infX v
    · rw [h.2.1 d]
      exact sgf_3 ⟨by decide, by decide⟩
    · obtain ⟨e, h4, h5⟩ := h.2.2 (fin_of c d)
      rw [h5]
      apply sgf_3
      by_cases x : fX v = 0
      · rw [h4.1 x]
        exact ⟨by decide, by decide⟩
      · exact rn32_r (h4.2 x)
theorem I3_uq {a b : Int} (ha : In3 a) (hb : In3 b) (h : I3 a = I3 b) : a = b := by
  have := congrArg Int32.toInt h
  rw [I3_t ha, I3_t hb] at this
  exact this
theorem nr_L {v z1 z2 z3 y : Int} (h1 : z1 = if noX v then 9221120237041090560 else v) (h2 : noX z1 → z2 = 2143289344) (h3 : ¬ noX z1 → ¬ noF z2 ∧ vF z2 = FP.Core.round FP.Core.b32 (vD z1)) (h4 : In3 z2) (h5 : z3 = if noF z2 then 2143289344 else z2) (h : fbX v y) : L6 z3 = L6 y := by
  by_cases c : noX v
  · have e : noX z1 := by rw [h1, if_pos c]; decide
    rw [h5, h2 e, h.1 c, if_pos (by decide)]
  · have e : z1 = v := by rw [h1, if_neg c]
    rw [e] at h3
    obtain ⟨a, b⟩ := h3 c
    rw [h5, if_neg a, I3_uq h4 (fb_r h) (fb_I c h4 a b h)]
theorem wd_L {v z1 z2 z3 y : Int} (h1 : z1 = if noF (sm3 v) then 2143289344 else sm3 v) (h2 : noF z1 → z2 = 9221120237041090560) (h3 : ¬ noF z1 → ¬ noX z2 ∧ vD z2 = FP.Core.round FP.Core.b64 (vF z1)) (h4 : In6 z2) (h5 : z3 = if noX z2 then 9221120237041090560 else z2) (h : ffX (sm3 v) y) : L6 z3 = L6 y := by
  by_cases c : noF (sm3 v)
  · have e : noF z1 := by rw [h1, if_pos c]; decide
    rw [h5, h2 e, ff_nan (sm3_in v) c h, if_pos (by decide)]
  · have e : z1 = sm3 v := by rw [h1, if_neg c]
    rw [e] at h3
    obtain ⟨a, b⟩ := h3 c
    rw [h5, if_neg a]
    exact ff_L (sm3_in v) c h4 a b h

/-! directions: calls through the interface, calls of a superclass's inherited method -/
theorem ac_c {a : Cond} {l : List Cond} (h : a ∈ lw_all) (t : ∀ w ∈ l, w ∈ lw_all) : ∀ w ∈ a :: l, w ∈ lw_all := fun w hw => by
  rcases List.mem_cons.mp hw with rfl | hw
  · exact h
  · exact t w hw
theorem ac_n : ∀ w ∈ ([] : List Cond), w ∈ lw_all := fun w hw => nomatch hw
def FD (_A : Nat → Prop) (U : State) (_H : Heap) : Prop := va_Fw "NumberModels$Nearest" yX10_goes yX2_goes U ∧ va_Fw "NumberModels$Upward" yX10_goes yX3_goes U ∧ va_Fw "NumberModels$Downward" yX10_goes yX5_goes U ∧ (Cond.castable "NumberModels$ToZero" "NumberModels$Rounds").before #[] U = true ∧ (Cond.landsInDefault "NumberModels$ToZero" yX10_goes yX10_goes).before #[] U = true ∧ (Cond.publicMethod yX10_goes).before #[] U = true
theorem FD.moved {A : Nat → Prop} {u U : State} {H : Heap} (hW : u.WarmedH U.vm) (h : FD A u H) : FD A U H := by
  obtain ⟨h1, h2, h3, h4, h5, h6⟩ := h
  have hx : yX10_goes.cls ≠ "java/lang/invoke/MethodHandle" ∧ yX10_goes.cls ≠ "java/lang/invoke/VarHandle" := ⟨by decide, by decide⟩
  have tr : ∀ {c : Cond}, c.onTables = true → c.before #[] (u.setVm U.vm) = true → c.before #[] U = true := by
    intro c hc h
    have e := Cond.onTables_vm (A := #[]) (A' := #[]) (U := u) (U' := U) U.vm c hc
    have hU : U.setVm U.vm = U := rfl
    rw [hU] at e
    rw [← e]
    exact h
  obtain ⟨r, meth, hn, -⟩ := Cond.declares_spec h1.1
  have hi : (Cond.interfaceMethod yX10_goes.cls yX10_goes.cls yX10_goes.name yX10_goes.desc).before #[] (u.setVm U.vm) = true := by
    have hs := Cond.interfaceMethod_setVm (args := #[]) hW.alike (r := r) hn hx
    exact hs.trans h1.2.1
  obtain ⟨cL, kL, r1, -, -, -, hf1, hn1⟩ := Cond.interfaceMethod_spec h1.2.1
  obtain ⟨cL', kL', r2, -, -, -, hf2, hn2⟩ := Cond.interfaceMethod_spec hi
  have en : (u.setVm U.vm).methodNamed? ⟨yX10_goes.cls, yX10_goes.name, yX10_goes.desc⟩ = u.methodNamed? ⟨yX10_goes.cls, yX10_goes.name, yX10_goes.desc⟩ := State.methodNamed?_setVm hW.alike _
  have e12 : r2 = r1 := by
    rw [en] at hn2
    exact Option.some.inj (hn2.symm.trans hn1)
  have hf : (u.setVm U.vm).methodFound? yX10_goes.cls yX10_goes.name yX10_goes.desc = u.methodFound? yX10_goes.cls yX10_goes.name yX10_goes.desc := by rw [hf1, hf2, e12]
  have hd : (Cond.landsInDefault "NumberModels$ToZero" yX10_goes yX10_goes).before #[] (u.setVm U.vm) = true := by
    rw [Cond.landsInDefault_setVm (args := #[]) hW.alike hf]
    exact h5
  exact ⟨h1.moved hx hW.alike, h2.moved hx hW.alike, h3.moved hx hW.alike, tr rfl (by rw [Cond.castable_setVm hW.alike]; exact h4), hd, tr rfl (by rw [Cond.publicMethod_setVm hW.alike]; exact h6)⟩
theorem FD.kept {A : Nat → Prop} {s : State} {H : Heap} {locs : List Loc} (h : FD A s s.heap) (_hS : va_S A s.heap H locs) : FD A s H := h
theorem FD.narrow {A B : Nat → Prop} {s : State} {H : Heap} (h : FD A s H) (_hB : ∀ q, B q → A q) : FD B s H := h
section DRS
variable {p : Program} {l : Launch} {e : Env} {R : Room} {s : State} {m : MethodId} {args : Array Value} {below : List Frame} {meth : Method} {c : Code} {H : Heap} {locs : List Loc} {cells slots : Nat}
theorem dr_runSU {x y : MethodName} {bytes cc : ByteArray} {maxL nL mc ms n index : Nat} {ret : Option FieldType} {ws : List Cond} {rm : Room} {Pc : Array Value → State → Prop} {Qc : Array Value → State → Outcome → State → Prop} {free : Addr → Prop} {Ts : List Cond} {own owner C : String} {cC : ClassId} {b : Addr} {As rest : List Value} {g : JFrame}
    (hat : ClassAt s C cC) (S : CallFix p m c cc nL s args Ts own) (hM : Met l y ws rm Pc Qc mc ms free)
    (hlink : (Cond.methodLink own index x).before args s = true) (hsame : (Cond.sameMethod x.cls owner x.name x.desc).before args s = true) (hsup : (Cond.superclass own x.cls).before args s = true) (hsup2 : (Cond.superclass x.cls owner).before args s = true) (hy : y = ⟨owner, x.name, x.desc⟩)
    (hinst : (Cond.instanceMethod y).before args s = true) (hcode : (Cond.code y bytes maxL ret).before args s = true) (hini : (Cond.initialized y.cls).before args s = true) (hno : x.name ≠ "<init>")
    (hws : ∀ w ∈ ws, ∀ (a' : Array Value) (U : State), s.WarmedH U.vm → w.before a' U = true) (hcw : Cond.code y bytes maxL ret ∈ ws) (hr : rm.cells = mc ∧ rm.slots = ms ∧ rm.frames + 1 ≤ R.frames ∧ 8 + (maxL + 11) + rm.locals ≤ R.locals)
    (hlen : (parseMethodDescriptor y.desc).map (fun d => d.parameters.length) = some n)
    (hp : PreV s H C b Pc As)
    (hg : g.method = m) (hn : As.length = n) (hsize : g.locals.size = nL) (hstack : g.stack = As.reverse ++ .ref b :: rest) (hW : 2 * g.monitorRoom + (rest.map fun v => v.category).sum ≤ 8) (hdg : decode cc g.pc = .ok (.invokespecial index, 3)) (hf : cells + mc ≤ R.cells ∧ slots + ms ≤ R.slots) :
    va_Run p l e R s m args below meth c H locs cells slots mc ms g rest (Qc (Value.ref b :: As).toArray) (free) := by
  obtain ⟨hrc, hrs, hfr, hlo⟩ := hr
  have hK : Back l R p e below s args y 3 8 (PreOf R mc ms Pc) (PostOf Qc mc ms free) := back_of (bytes := bytes) (maxL := maxL) (ret := ret) hM hp.1 hrc hrs hfr hlo hws hcw (fun a' U hW => word_at hW (Or.inl (by first | rfl | simp [Cond.onTables, Cond.keeps, Cond.steady])) hini)
  obtain ⟨hx, hb, hml, ho, -⟩ := S
  obtain ⟨-, ⟨cellB, hcB, hoB, hclB⟩, hPc⟩ := hp
  obtain ⟨hfc, kB, hkB, -⟩ := hat
  cases hfc.symm.trans hclB
  obtain ⟨mk, methM, hnamed, hmethM, hstM, habM⟩ := Cond.instanceMethod_spec hinst
  obtain ⟨methM', cM, hmethM', -, -, -, -, -, -, hsigM⟩ := Cond.code_spec hnamed hcode
  cases hmethM.symm.trans hmethM'
  obtain ⟨ps, dk, kp, hps, hdk, hkp, hsuper, -, -, hnid⟩ := Cond.superclass_spec ho hsup
  obtain ⟨po, dk2, kp2, hpo, hdk2, hkp2, hsuper2, -, -, -⟩ := Cond.superclass_spec hps hsup2
  have hn2 : s.methodNamed? ⟨owner, x.name, x.desc⟩ = some mk := by rw [← hy]; exact hnamed
  have hpm : po = mk.cls := Option.some.inj (hpo.symm.trans (findClass_of_methodNamed hn2))
  have hsz : ∃ k : Nat, s.vm.classes.size = k + 1 := by
    have := (Array.getElem?_eq_some_iff.mp hdk).1
    exact ⟨s.vm.classes.size - 1, by omega⟩
  have hsub : s.vm.isSubclass ps mk.cls = true := by
    obtain ⟨k, hk⟩ := hsz
    rw [← hpm]
    unfold Vm.isSubclass
    rw [hk]
    simp [Vm.isSubclassAux, hdk2, hsuper2]
  intro T hT X
  have hlen' : As.length = methM.sig.parameters.length := by
    rw [hsigM] at hlen
    exact hn.trans (Option.some.inj hlen).symm
  obtain ⟨vm₁, X₁, hstep₁⟩ := X.invokespecialUp hx ho hlink hsame hn2 hmethM hstM habM hno hdk hnid hps hsuper hsub (a := b) (cell := cellB) (by rw [hT]; exact hcB)
    (fun z h => by rw [h] at hoB; cases hoB) hkB (g := g) hg (argsL := As) (rest := rest) hlen' hstack (by rw [hb]; exact hdg)
  obtain ⟨v, B, X', hpost, hsteps⟩ := hK m meth c ⟨T.setVm vm₁, locs, cells, slots⟩ { g with stack := rest } (.invokespecial index) mk (Value.ref b :: As).toArray X₁ hg (hsize.trans hml.symm) (by rw [hb]; exact hdg) hW (X₁.named hnamed) ⟨hf.1, hf.2, hPc (T.setVm vm₁) hT X₁.warmed⟩
  obtain ⟨U', l2, c2, s2⟩ := B
  obtain ⟨g', mk', t, L, e1, e2, hq, h1, hL, h2, h3⟩ := hpost
  dsimp only [Pt.U, Pt.locs, Pt.cells, Pt.slots] at X' e1 e2 h1 h2 h3 hsteps
  subst h1; subst h2; subst h3
  exact ⟨v, (T.setVm vm₁).calling g' mk' (Value.ref b :: As).toArray, t, U', L, hT, X', hL, e1, e2, hq, fun target h => hstep₁ _ (by rw [doInvoke_state]; exact hsteps.trans h)⟩
theorem dr_runD {x y : MethodName} {bytes cc : ByteArray} {maxL nL mc ms n index count : Nat} {ret : Option FieldType} {ws : List Cond} {rm : Room} {Pc : Array Value → State → Prop} {Qc : Array Value → State → Outcome → State → Prop} {free : Addr → Prop} {Ts : List Cond} {own C : String} {cC : ClassId} {b : Addr} {As rest : List Value} {g : JFrame}
    (hat : ClassAt s C cC) (S : CallFix p m c cc nL s args Ts own) (hM : Met l y ws rm Pc Qc mc ms free)
    (hlink : (Cond.methodLink own index x).before args s = true) (hdecl : (Cond.declares x).before args s = true) (hface : (Cond.interfaceMethod x.cls x.cls x.name x.desc).before args s = true) (hsel : (Cond.landsInDefault C x y).before args s = true)
    (hinst : (Cond.instanceMethod y).before args s = true) (hpub : (Cond.publicMethod y).before args s = true) (hcast : (Cond.castable C x.cls).before args s = true) (hini : (Cond.initialized y.cls).before args s = true) (hxx : x.cls ≠ "java/lang/invoke/MethodHandle" ∧ x.cls ≠ "java/lang/invoke/VarHandle")
    (hws : ∀ w ∈ ws, ∀ (a' : Array Value) (U : State), s.WarmedH U.vm → w.before a' U = true) (hcw : Cond.code y bytes maxL ret ∈ ws) (hr : rm.cells = mc ∧ rm.slots = ms ∧ rm.frames + 1 ≤ R.frames ∧ 8 + (maxL + 11) + rm.locals ≤ R.locals)
    (hlen : (parseMethodDescriptor x.desc).map (fun d => d.parameters.length) = some n)
    (hp : PreV s H C b Pc As)
    (hg : g.method = m) (hn : As.length = n) (hsize : g.locals.size = nL) (hstack : g.stack = As.reverse ++ .ref b :: rest) (hW : 2 * g.monitorRoom + (rest.map fun v => v.category).sum ≤ 8) (hdg : decode cc g.pc = .ok (.invokeinterface index count, 5)) (hf : cells + mc ≤ R.cells ∧ slots + ms ≤ R.slots) :
    va_Run5 p l e R s m args below meth c H locs cells slots mc ms g rest (Qc (Value.ref b :: As).toArray) (free) := by
  obtain ⟨hrc, hrs, hfr, hlo⟩ := hr
  have hK : Back l R p e below s args y 5 8 (PreOf R mc ms Pc) (PostOf Qc mc ms free) := back_of (bytes := bytes) (maxL := maxL) (ret := ret) hM hp.1 hrc hrs hfr hlo hws hcw (fun a' U hW => word_at hW (Or.inl (by first | rfl | simp [Cond.onTables, Cond.keeps, Cond.steady])) hini)
  obtain ⟨hx, hb, hml, ho, -⟩ := S
  obtain ⟨-, ⟨cellB, hcB, hoB, hclB⟩, hPc⟩ := hp
  obtain ⟨hfc, kB, hkB, -⟩ := hat
  intro T hT X
  obtain ⟨v, vm₁, B, hW₁, X', hpost, st⟩ := X.interfaceBackD hx ho hlink hdecl hface hsel hinst hpub hcast hxx hK (cB := cellB.cls) (kB := kB) hclB (by rw [Option.some.inj (hclB.symm.trans hfc)]; exact hkB) (b := b) ⟨cellB, by rw [hT]; exact hcB, rfl, hoB⟩ hg (hsize.trans hml.symm) (s₀ := T.setTop g) (Steps.refl _) (argsL := As) (rest := rest)
    (fun sig h => by
      rw [h] at hlen
      exact hn.trans (Option.some.inj hlen).symm) hstack hW (by rw [hb]; exact hdg) (fun vm₁ hW₁ => ⟨hf.1, hf.2, hPc (T.setVm vm₁) hT hW₁⟩)
  obtain ⟨U', l2, c2, s2⟩ := B
  obtain ⟨g', mk', t, L, e1, e2, hq, h1, hL, h2, h3⟩ := hpost
  dsimp only [Pt.U, Pt.locs, Pt.cells, Pt.slots] at X' e1 e2 h1 h2 h3 st
  subst h1; subst h2; subst h3
  exact ⟨v, (T.setVm vm₁).calling g' mk' (Value.ref b :: As).toArray, t, U', L, hT, X', hL, e1, e2, hq, fun target h => st.trans h⟩
end DRS

/-! whether one goes a step away from 0 -/
abbrev GO (dr its lf r : Int) : Prop := (dr = 0 ∧ (0 < lf ∨ lf = 0 ∧ r % 2 = 1)) ∨ (dr = 1 ∧ 0 < its) ∨ (dr = 2 ∧ its < 0)
theorem GO_e {dr its lf r isl : Int} {n d : Nat} (hl : lf = cmpN (2 * (n % d)) d) (hr : r = ((n / d : Nat) : Int)) (hi : isl = if n % d = 0 then 0 else 1) : (GO dr its lf r ∧ isl ≠ 0) ↔ (goS dr its n d ∧ n % d ≠ 0) := by
  have h := cmpN3 hl
  have hi2 : isl ≠ 0 ↔ n % d ≠ 0 := by
    rw [hi]
    by_cases c : n % d = 0
    · rw [if_pos c]
      exact ⟨fun q => absurd rfl q, fun q => absurd c q⟩
    · rw [if_neg c]
      exact ⟨fun _ => c, fun _ => by decide⟩
  rw [hi2]
  have e : GO dr its lf r ↔ goS dr its n d := by
    unfold GO goS
    generalize n % d = x at *
    generalize n / d = y at *
    omega
  rw [e]
theorem ne_G {P Q : Nat} {q w dr its lf r isl : Int} (hRQ : RQ 53 (-1074) P Q q) (h1 : 4503599627370496 ≤ mS P Q q) (hq : q ≤ 970) (hw : w = ((mS P Q q : Nat) : Int) + (q + 1074) * 4503599627370496) (hl : lf = cmpN (2 * (nS P q % dS Q q)) (dS Q q)) (hr : r = ((mS P Q q : Nat) : Int)) (hi : isl = if nS P q % dS Q q = 0 then 0 else 1) : rnB 64 P Q dr its (w + if GO dr its lf r ∧ isl ≠ 0 then 1 else 0) := by
  have h := ne_r (dr := dr) (its := its) hRQ h1 hq hw
  have e := GO_e (dr := dr) (its := its) hl hr hi
  by_cases c : GO dr its lf r ∧ isl ≠ 0
  · rw [if_pos (e.mp c)] at h
    rw [if_pos c]
    exact h
  · rw [if_neg (fun o => c (e.mpr o))] at h
    rw [if_neg c]
    exact h
theorem si_G {P Q : Nat} {q w dr its lf r isl : Int} (hRQ : RQ 24 (-149) P Q q) (hq : q ≤ 104) (hw : w = ((mS P Q q : Nat) : Int) + (q + 149) * 8388608) (hl : lf = cmpN (2 * (nS P q % dS Q q)) (dS Q q)) (hr : r = ((mS P Q q : Nat) : Int)) (hi : isl = if nS P q % dS Q q = 0 then 0 else 1) : rnB 32 P Q dr its (w + if GO dr its lf r ∧ isl ≠ 0 then 1 else 0) := by
  have h := si_r (dr := dr) (its := its) hRQ hq hw
  have e := GO_e (dr := dr) (its := its) hl hr hi
  by_cases c : GO dr its lf r ∧ isl ≠ 0
  · rw [if_pos (e.mp c)] at h
    rw [if_pos c]
    exact h
  · rw [if_neg (fun o => c (e.mpr o))] at h
    rw [if_neg c]
    exact h
theorem si_I {P Q : Nat} {q dr its : Int} (hRQ : RQ 24 (-149) P Q q) (hq : 104 < q) : rnB 32 P Q dr its (2139095039 + if GO dr its 1 1 ∧ (1 : Int) ≠ 0 then 1 else 0) := by
  have h := si_i (dr := dr) (its := its) hRQ hq
  unfold infS at h
  by_cases c : GO dr its 1 1 ∧ (1 : Int) ≠ 0
  · have c2 : dr = 0 ∨ (dr = 1 ∧ 0 < its) ∨ (dr = 2 ∧ its < 0) := by omega
    rw [if_pos c2, if_neg (by decide)] at h
    rw [if_pos c]
    exact h
  · have c2 : ¬ (dr = 0 ∨ (dr = 1 ∧ 0 < its) ∨ (dr = 2 ∧ its < 0)) := by omega
    rw [if_neg c2, if_pos rfl] at h
    rw [if_neg c]
    exact h
theorem go_1 {f P Q : Nat} {dr its w c : Int} {p : Prop} [Decidable p] (h : rnB f P Q dr its (w + if p then 1 else 0)) (hp : p) (hc : c = w + 1) : rnB f P Q dr its c := by
  rw [if_pos hp] at h
  rw [hc]
  exact h
theorem go_0 {f P Q : Nat} {dr its w : Int} {p : Prop} [Decidable p] (h : rnB f P Q dr its (w + if p then 1 else 0)) (hp : ¬ p) : rnB f P Q dr its w := by
  rw [if_neg hp, Int.add_zero] at h
  exact h
theorem sgb_s {g u : Int} (h : 0 ≤ u ∧ u ≤ 9218868437227405312) : sgb (sgb g 4607182418800017408) (u % 9223372036854775808) = sgb g u := by
  unfold sgb
  by_cases c : g < 0
  · rw [if_pos c, if_pos (by decide), if_pos c]
    omega
  · rw [if_neg c, if_neg (by decide), if_neg c]
    omega
theorem sgb_n {g u : Int} (h : 0 ≤ u ∧ u ≤ 9218868437227405312) : ¬ noX (sgb g u) ∧ In6 (sgb g u) := by
  rw [noX_m]
  unfold sgb
  constructor
  · split <;> omega
  · constructor <;> split <;> omega
theorem sgf_s {g u : Int} (h : 0 ≤ u ∧ u ≤ 2139095040) : sgf (sgf g 1065353216) (u % 2147483648) = sgf g u := by
  unfold sgf
  by_cases c : g < 0
  · rw [if_pos c, if_pos (by decide), if_pos c]
    omega
  · rw [if_neg c, if_neg (by decide), if_neg c]
    omega
theorem sgf_n {g u : Int} (h : 0 ≤ u ∧ u ≤ 2139095040) : ¬ noF (sgf g u) ∧ In3 (sgf g u) := by
  show ¬ 2139095040 < _ ∧ _
  unfold sgf
  constructor
  · split <;> omega
  · constructor <;> split <;> omega
theorem rr_nn {f : FP.Core.Fmt} {s : Bool} {n : Nat} {v : Int} : FP.Core.roundRatio f s n 1 v ≠ .nan := rd_nan (f := f) (d := .fin s n v) (fun q => by cases q)
theorem ld_any {C : String} {x y : MethodName} {U : State} {A : Array Value} (h : (Cond.landsInDefault C x y).before #[] U = true) : (Cond.landsInDefault C x y).before A U = true := by
  first
    | exact h
    | (simp only [Cond.before, Cond.holds, Cond.value] at h ⊢; exact h)
section GOS
variable {p : Program} {l : Launch} {e : Env} {R : Room} {s : State} {m : MethodId} {args : Array Value} {below : List Frame} {meth : Method} {c : Code} {H : Heap} {locs : List Loc} {cells slots : Nat} {Q : State → Prop}
variable {pc : Nat} {ls : Array Slot} {rest : List Value}
theorem ix_tf {x y : Int} (h : fB x = fB y) (k : W p l e R s m args below meth c H locs cells slots Q (F0 m pc ls (.float (fB y) :: rest))) : W p l e R s m args below meth c H locs cells slots Q (F0 m pc ls (.float (fB x) :: rest)) := by rw [h]; exact k
end GOS

/-! an element of another class in an array of references -/
section INR
variable {p : Program} {l : Launch} {e : Env} {R : Room} {s : State} {m : MethodId} {args : Array Value} {below : List Frame} {meth : Method} {c : Code} {H : Heap} {locs : List Loc} {cells slots : Nat} {Q : State → Prop}
variable {cc : ByteArray} {pc : Nat} {ls : Array Slot} {rest : List Value}
variable {D : va_G} {cl : List vw_C} {tys : List (ClassId × FieldType)} {ws : va_W} {A : Nat → Prop} {H0 : Heap} {a : Nat}
theorem ix_aastqO (hx : p.tables.exec = Jvm.exec) (hb : c.code = cc) (hK : va_K D cl tys s) (hP : va_P D cl ws H) (hD : va_D A ws) (hS : va_S A H0 H locs) (q0 t0 qk ci : Nat) {E : String} {cA : ClassId} {r : vw_C} {n v : Nat} {vs : List Value} {f : Nat → Option Nat} (ha : ws[q0]? = some (a, .inl (cA, n, .inr (.inr (.inr (.inr f)))))) (ht : tys[t0]? = some (cA, .object E)) (hca : va_Nw (.castable r.1 E) s) (hv : ws[qk]? = some (v, .inr (ci, vs))) (hc : cl[ci]? = some r) {z : Int} (hz : 0 ≤ z ∧ z < (n : Int)) (hn : n < 2147483648) (hd : decode cc pc = .ok (.aastore, 1))
    (kk : ∀ (H1 : Heap) (locs1 : List Loc), va_P D cl (ws.set q0 (a, .inl (cA, n, .inr (.inr (.inr (.inr (va_up f z.toNat (some v)))))))) H1 → va_D A (ws.set q0 (a, .inl (cA, n, .inr (.inr (.inr (.inr (va_up f z.toNat (some v)))))))) → va_S A H0 H1 locs1 → W p l e R s m args below meth c H1 locs1 cells slots Q (F0 m (pc + 1) ls rest)) : W p l e R s m args below meth c H locs cells slots Q (F0 m pc ls (.ref v :: .int (I3 z) :: .ref a :: rest)) := va_astqO hx hb hK hP hD hS q0 t0 qk ci ha ht hca hv hc (I3_vin hn hz) hd (by rw [I3_clamp hz.1 (by omega)]; exact kk)
end INR

/-! the law's own helpers: what the component answers is what the reference answers -/
def LWm (dA : Nat → ClassId) (pl npl : va_W) (it1 : Nat → Option Nat) (mn1 z o : Int) (X : Int → Int → Int → (Int → Int) → (Int → Int) → Prop) : Prop := ∀ (z2 th1 mn2 : Int) (SG1 VL1 : Int → Int), X z2 th1 mn2 SG1 VL1 → MI mn2 SG1 VL1 → th1 = z ∧ (z = 0 → o = z2) ∧ mn2 = mn1 ∧ RP dA (npl ++ pl) it1 mn2 SG1 VL1
theorem lw_made {dA : Nat → ClassId} {pl npl : va_W} {it it1 : Nat → Option Nat} {mn g z mn1 o code : Int} {SG VL : Int → Int} {P Q : Nat} (h : RP dA pl it mn SG VL) (hc : NewC dA mn it g P Q z mn1 it1 npl) (ho : o = z) : LWm dA pl npl it1 mn1 0 o (fun z2 th1 mn2 SG1 VL1 => Mde mn SG VL g P Q code z2 th1 mn2 SG1 VL1) := by
  intro z2 th1 mn2 SG1 VL1 hM hI
  obtain ⟨h1, h2, h3, h4⟩ := RP_new h hc hM Sm.rf hI
  exact ⟨h1, fun _ => by rw [ho, h2], h3, h4⟩
theorem lw_fld {dA : Nat → ClassId} {pl : va_W} {it : Nat → Option Nat} {mn o code : Int} {SG VL : Int → Int} {X : Int → Int → Int → (Int → Int) → (Int → Int) → Prop} (h : RP dA pl it mn SG VL) (h0 : code ≠ 0) (hX : ∀ (z2 th1 mn2 : Int) (SG1 VL1 : Int → Int), X z2 th1 mn2 SG1 VL1 → Fld mn SG VL code z2 th1 mn2 SG1 VL1) : LWm dA pl [] it mn code o X := by
  intro z2 th1 mn2 SG1 VL1 hx _
  obtain ⟨-, h2, h3, h4, h5⟩ := hX _ _ _ _ _ hx
  rw [h3, h4, h5]
  exact ⟨h2, fun q => absurd q h0, rfl, h⟩
theorem lw_no {dA : Nat → ClassId} {pl : va_W} {it : Nat → Option Nat} {mn g o code : Int} {SG VL : Int → Int} {P Q : Nat} (h : RP dA pl it mn SG VL) (h0 : code ≠ 0) (hn : ¬ okN mn P Q) : LWm dA pl [] it mn code o (fun z2 th1 mn2 SG1 VL1 => Mde mn SG VL g P Q code z2 th1 mn2 SG1 VL1) := lw_fld h h0 fun _ _ _ _ _ hM => Mde_no hn hM Sm.rf
theorem lw_act {dA : Nat → ClassId} {pl npl : va_W} {it1 : Nat → Option Nat} {mn act a b z mn1 o : Int} {SG VL : Int → Int} (hN : AcN dA pl npl it1 mn SG VL act a b z mn1) (ho : o = z) : LWm dA pl npl it1 mn1 0 o (AcR mn SG VL act a b) := by
  intro z2 th1 mn2 SG1 VL1 hM hI
  obtain ⟨h1, h2, h3, h4⟩ := hN _ _ _ _ _ hM hI
  exact ⟨h1, fun _ => by rw [ho, h2], h3, h4⟩
theorem bl_pq {VL : Int → Int} {a o : Int} (h : Dg VL) : bl (if o = 0 then qv VL a else pv VL a) ≤ 256 := by
  split
  · exact bl_B8.mpr (qv_lt h a)
  · exact bl_B8.mpr (pv_lt h a)
theorem meS_3 {SG VL : Int → Int} {a v : Int} (h : SG a = -1 ∨ SG a = 0 ∨ SG a = 1) : In3 (meS SG VL a v) := by
  unfold meS
  by_cases c : eX v = 2047
  · rw [if_pos c]
    by_cases d : pX v = 0
    · rw [if_pos d]
      unfold sgX
      split <;> exact ⟨by decide, by decide⟩
    · rw [if_neg d]
      exact ⟨by decide, by decide⟩
  · rw [if_neg c]
    generalize hc : cmpN (pv VL a * 2 ^ (-plX v).toNat) (qv VL a * (fX v).toNat * 2 ^ (plX v).toNat) = k
    have h3 := cmpN3 hc.symm
    have hs : (if fX v = 0 then 0 else sgX v) = -1 ∨ (if fX v = 0 then 0 else sgX v) = 0 ∨ (if fX v = 0 then 0 else sgX v) = 1 := by
      unfold sgX
      split
      · omega
      · split <;> omega
    generalize (if fX v = 0 then 0 else sgX v) = o at *
    split
    · have := (prod3 hs (show k = -1 ∨ k = 0 ∨ k = 1 by omega)).1
      constructor <;> omega
    · split <;> exact ⟨by decide, by decide⟩
/-! the law's own walk: what holds all along -/
theorem roP_law {D : va_G} {W pl wc : va_W} {A : Nat → Prop} {U : State} {H : Heap} (hP : va_P D vwCl (W ++ pl) H) (hD : va_D A (W ++ pl)) (idxs : List Nat) (hi : idxs.filterMap (fun i => W[i]?) = wc) : roP D pl (va_A wc H.size) U H := by
  have hat : ∀ (k : Nat) (q : Nat × va_E), pl[k]? = some q → (W ++ pl)[W.length + k]? = some q := fun k q hk => by
    rw [List.getElem?_append_right (Nat.le_add_right _ _), Nat.add_sub_cancel_left]
    exact hk
  refine ⟨fun k q hk => hP _ q (hat k q hk), fun k q hk hA => ?_⟩
  rcases hA with ⟨i, x, hx⟩ | hA
  · have hm : (q.1, x) ∈ wc := List.mem_of_getElem? hx
    rw [← hi] at hm
    obtain ⟨j, -, hj⟩ := List.mem_filterMap.mp hm
    have hl := (List.getElem?_eq_some_iff.mp hj).1
    have hj2 : (W ++ pl)[j]? = some (q.1, x) := by rw [List.getElem?_append_left hl]; exact hj
    have := hD.1 _ _ (q.1, x) q hj2 (hat k q hk) rfl
    omega
  · have := (hP _ q (hat k q hk)).lt
    omega
def xz (xs : Nat → Int32) (k : Int) : Int := (xs k.toNat).toInt
theorem xz_3 (xs : Nat → Int32) (k : Int) : In3 (xz xs k) := by
  unfold xz
  exact ⟨Int32.le_toInt _, Int32.toInt_lt _⟩
def lz (xs : Nat → Int32) (k : Int) : Int := zor6 (xz xs k * 4294967296) (xz xs (k + 1) % 4294967296)
theorem lz_6 (xs : Nat → Int32) (k : Int) : In6 (lz xs k) := by
  unfold lz zor6
  exact ⟨Int64.le_toInt _, Int64.toInt_lt _⟩
theorem lwc {R : Room} {n : Nat} (hR : R = room_1) (h : n ≤ 603072) : n ≤ R.cells := by subst hR; exact h
theorem lws {R : Room} {n : Nat} (hR : R = room_1) (h : n ≤ 7262314) : n ≤ R.slots := by subst hR; exact h
section LWR
variable {p : Program} {l : Launch} {e : Env} {R : Room} {s : State} {m : MethodId} {args : Array Value} {below : List Frame} {meth : Method} {c : Code} {H : Heap} {locs : List Loc} {cells slots : Nat} {Q : State → Prop}
variable {cc : ByteArray} {pc : Nat} {ls : Array Slot} {rest : List Value} {A : Nat → Prop} {H0 : Heap}
theorem ix_scr (hx : p.tables.exec = Jvm.exec) (hb : c.code = cc) {b L : Nat} {xs : Nat → Int32} (hX : va_X b L xs s H0) (hbl : b < H0.size) (hbA : ¬ A b) (hS : va_S A H0 H locs) {z : Int} (hz : 0 ≤ z ∧ z < (L : Int)) (hL : L ≤ 384) (hdg : decode cc pc = .ok (.iaload, 1)) (k : W p l e R s m args below meth c H locs cells slots Q (F0 m (pc + 1) ls (.int (I3 (xz xs z)) :: rest))) : W p l e R s m args below meth c H locs cells slots Q (F0 m pc ls (.int (I3 z) :: .ref b :: rest)) := by
  refine va_sld hx hb hX hbl hbA hS (I3_vin (by omega) hz) hdg ?_
  rw [I3_clamp hz.1 (by omega), show xs z.toNat = I3 (xz xs z) from (by unfold xz; exact (I3_of _).symm)]
  exact k
theorem ix_slen (hx : p.tables.exec = Jvm.exec) (hb : c.code = cc) {b L : Nat} {xs : Nat → Int32} (hX : va_X b L xs s H0) (hbl : b < H0.size) (hbA : ¬ A b) (hS : va_S A H0 H locs) (hdg : decode cc pc = .ok (.arraylength, 1)) (k : W p l e R s m args below meth c H locs cells slots Q (F0 m (pc + 1) ls (.int (I3 (L : Int)) :: rest))) : W p l e R s m args below meth c H locs cells slots Q (F0 m pc ls (.ref b :: rest)) := va_slen hx hb hX hbl hbA hS hdg k
theorem ix_lcmpS (hx : p.tables.exec = Jvm.exec) (hb : c.code = cc) {x y : Int} (h : L6 x = L6 y) (hd : decode cc pc = .ok (.lcmp, 1)) (k : W p l e R s m args below meth c H locs cells slots Q (F0 m (pc + 1) ls (.int (I3 0) :: rest))) : W p l e R s m args below meth c H locs cells slots Q (F0 m pc ls (.long (L6 y) :: .long (L6 x) :: rest)) := by
  rw [h]
  refine W.lcmp hx hb hd ?_
  have e : ∀ a : Int64, lg_cmp a a = I3 0 := fun a => by
    have : (I3 0 : Int32) = 0 := rfl
    rw [this]
    simp [lg_cmp]
  rw [e]
  exact k
end LWR
/-! sums: which way -/
theorem sum_1 {x y : Int} {A B : Nat} (h : x = y ∨ x = 0 ∨ y = 0) : sumP x y A B = A + B ∧ (x = 0 → sumG x y A B = y) ∧ (x ≠ 0 → sumG x y A B = x) := by
  have h2 : x = 0 ∨ y = 0 ∨ x = y := by omega
  unfold sumP sumG
  rw [if_pos h2, if_pos h2]
  exact ⟨rfl, fun q => if_pos q, fun q => if_neg q⟩
theorem sum_2 {x y : Int} {A B : Nat} (h1 : x ≠ y) (h2 : x ≠ 0) (h3 : y ≠ 0) : (B ≤ A → sumP x y A B = A - B ∧ sumG x y A B = x) ∧ (A < B → sumP x y A B = B - A ∧ sumG x y A B = y) := by
  have h4 : ¬ (x = 0 ∨ y = 0 ∨ x = y) := by omega
  unfold sumP sumG
  rw [if_neg h4, if_neg h4]
  exact ⟨fun q => ⟨if_pos q, if_pos q⟩, fun q => ⟨if_neg (by omega), if_neg (by omega)⟩⟩
