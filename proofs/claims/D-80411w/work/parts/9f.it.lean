/-! the component's numbers: kept small or wide, never changed -/
set_option maxRecDepth 100000
def FrmAt (dA : Nat → ClassId) (pl : va_W) (fa : Nat) (P Q : Nat) : Prop :=
  (P < 9223372036854775808 ∧ Q < 9223372036854775808 ∧ ∃ f : Int → Int, (fa, (Sum.inl (dA 1, 2, .inr (.inl (lA f))) : va_E)) ∈ pl ∧ f 0 = (P : Int) ∧ f 1 = (Q : Int)) ∨
   (∃ (o : Nat → Option Nat) (a0 a1 : Nat) (f0 f1 : Int → Int), (fa, (Sum.inl (dA 4, 2, .inr (.inr (.inr (.inr o)))) : va_E)) ∈ pl ∧ o 0 = some a0 ∧ o 1 = some a1 ∧ (a0, (Sum.inl (dA 0, 8, .inl (iA f0)) : va_E)) ∈ pl ∧ (a1, (Sum.inl (dA 0, 8, .inl (iA f1)) : va_E)) ∈ pl ∧ Dg f0 ∧ Dg f1 ∧ wN 8 f0 = P ∧ wN 8 f1 = Q)
theorem FrmAt.mono {dA : Nat → ClassId} {pl pl2 : va_W} {fa : Nat} {P Q : Nat} (h2 : FrmAt dA pl fa P Q) (hs : ∀ q ∈ pl, q ∈ pl2) : FrmAt dA pl2 fa P Q := by
  rcases h2 with ⟨a, b, f, h3, h4⟩ | ⟨o, a0, a1, f0, f1, h3, h4, h5, h6, h7, h8⟩
  · exact Or.inl ⟨a, b, f, hs _ h3, h4⟩
  · exact Or.inr ⟨o, a0, a1, f0, f1, hs _ h3, h4, h5, hs _ h6, hs _ h7, h8⟩
def ItAt (dA : Nat → ClassId) (pl : va_W) (ad : Nat) (g : Int) (P Q : Nat) : Prop := ∃ fa : Nat, (ad, (Sum.inr (3, [Value.int (I3 g), Value.ref fa]) : va_E)) ∈ pl ∧ FrmAt dA pl fa P Q
theorem ItAt.mono {dA : Nat → ClassId} {pl pl2 : va_W} {ad : Nat} {g : Int} {P Q : Nat} (h : ItAt dA pl ad g P Q) (hs : ∀ q ∈ pl, q ∈ pl2) : ItAt dA pl2 ad g P Q := by
  obtain ⟨fa, h1, h2⟩ := h
  exact ⟨fa, hs _ h1, h2.mono hs⟩
/-- the component's numbers are the reference's -/
def RP (dA : Nat → ClassId) (pl : va_W) (it : Nat → Option Nat) (mn : Int) (SG VL : Int → Int) : Prop := MI mn SG VL ∧ (∀ a : Int, 0 ≤ a → a < mn → ∃ ad : Nat, it a.toNat = some ad ∧ ItAt dA pl ad (SG a) (pv VL a) (qv VL a)) ∧ ∀ k : Nat, mn ≤ (k : Int) → k < 60 → it k = none
/-- a number has come to the others -/
def NewC (dA : Nat → ClassId) (mn : Int) (it : Nat → Option Nat) (sg : Int) (P Q : Nat) (z mn1 : Int) (it1 : Nat → Option Nat) (npl : va_W) : Prop := okN mn P Q ∧ z = mn ∧ mn1 = mn + 1 ∧ ∃ ad : Nat, it1 = va_up it mn.toNat (some ad) ∧ ItAt dA npl ad (if P = 0 then 0 else sg) (mkP P Q) (mkQ P Q)
/-- what is made is the same -/
def Sm (sg : Int) (P Q : Nat) (sg2 : Int) (P2 Q2 : Nat) : Prop := mkP P Q = mkP P2 Q2 ∧ mkQ P Q = mkQ P2 Q2 ∧ (P = 0 ↔ P2 = 0) ∧ (P ≠ 0 → sg = sg2)
theorem Sm.rf {sg : Int} {P Q : Nat} : Sm sg P Q sg P Q := ⟨rfl, rfl, Iff.rfl, fun _ => rfl⟩
theorem okN_Sm {mn sg sg2 : Int} {P Q P2 Q2 : Nat} (h : Sm sg P Q sg2 P2 Q2) : okN mn P Q ↔ okN mn P2 Q2 := by
  unfold okN
  rw [h.1, h.2.1]
theorem mk_scale {p q k : Nat} (hk : k ≠ 0) : mkP (p * k) (q * k) = mkP p q ∧ mkQ (p * k) (q * k) = mkQ p q := by
  have hk0 := Nat.pos_of_ne_zero hk
  unfold mkP mkQ mkd
  by_cases c : p = 0
  · subst c
    rw [Nat.zero_mul]
    exact ⟨rfl, rfl⟩
  · have d : p * k ≠ 0 := Nat.mul_ne_zero c hk
    rw [if_neg c, if_neg d, Nat.gcd_mul_right]
    exact ⟨Nat.mul_div_mul_right _ _ hk0, Nat.mul_div_mul_right _ _ hk0⟩
theorem Sm_scale {sg sg2 : Int} {p q k : Nat} (hk : k ≠ 0) (hs : p ≠ 0 → sg = sg2) : Sm sg (p * k) (q * k) sg2 p q := by
  obtain ⟨h1, h2⟩ := mk_scale (p := p) (q := q) hk
  refine ⟨h1, h2, ?_, fun h => hs fun q => h (by rw [q, Nat.zero_mul])⟩
  rw [Nat.mul_eq_zero]
  exact ⟨fun h => h.resolve_right hk, Or.inl⟩
theorem Sm_0 {sg sg2 : Int} {q q2 : Nat} : Sm sg 0 q sg2 0 q2 := by
  refine ⟨?_, ?_, Iff.rfl, fun h => absurd rfl h⟩
  · unfold mkP mkd
    rfl
  · unfold mkQ mkd
    rfl
theorem RP_new {dA : Nat → ClassId} {pl npl : va_W} {it it1 : Nat → Option Nat} {mn sg sg2 z mn1 z2 th1 mn2 code : Int} {SG VL SG1 VL1 : Int → Int} {P Q P2 Q2 : Nat} (h : RP dA pl it mn SG VL) (hc : NewC dA mn it sg P Q z mn1 it1 npl) (hM : Mde mn SG VL sg2 P2 Q2 code z2 th1 mn2 SG1 VL1) (hs : Sm sg P Q sg2 P2 Q2) (hI : MI mn2 SG1 VL1) : th1 = 0 ∧ z2 = z ∧ mn2 = mn1 ∧ RP dA (npl ++ pl) it1 mn2 SG1 VL1 := by
  obtain ⟨k1, k2, k3, ad, k4, k5⟩ := hc
  have hmn := h.1.1
  rcases hM with ⟨-, e1, e2, e3, e4, e5, e6, e7⟩ | ⟨e0, -⟩
  · refine ⟨e2, by omega, by omega, hI, ?_, ?_⟩
    · intro a h0 h1
      by_cases e : a = mn
      · subst e
        refine ⟨ad, by rw [k4]; exact va_up_self _ _ _, ?_⟩
        have hg : (if P = 0 then 0 else sg) = SG1 a := by
          rw [e4, uZ_s]
          by_cases c : P = 0
          · rw [if_pos c, if_pos (hs.2.2.1.mp c)]
          · rw [if_neg c, if_neg (fun q => c (hs.2.2.1.mpr q)), hs.2.2.2 c]
        rw [hg, hs.1, hs.2.1, ← e5, ← e6] at k5
        exact k5.mono fun q hq => List.mem_append_left _ hq
      · obtain ⟨ad', h2, h3⟩ := h.2.1 a h0 (by omega)
        refine ⟨ad', by rw [k4, va_up_ne _ _ (by omega)]; exact h2, ?_⟩
        rw [e4, uZ_n e, (pv_same e7 e).1, (pv_same e7 e).2]
        exact h3.mono fun q hq => List.mem_append_right _ hq
    · intro k hk h60
      rw [k4, va_up_ne _ _ (by omega)]
      exact h.2.2 k (by omega) h60
  · exact absurd ((okN_Sm hs).mp k1) e0
theorem Mde_no {mn sg sg2 z2 th1 mn2 code : Int} {SG VL SG1 VL1 : Int → Int} {P Q P2 Q2 : Nat} (hn : ¬ okN mn P Q) (hM : Mde mn SG VL sg2 P2 Q2 code z2 th1 mn2 SG1 VL1) (hs : Sm sg P Q sg2 P2 Q2) : Fld mn SG VL code z2 th1 mn2 SG1 VL1 := by
  rcases hM with ⟨e0, -⟩ | ⟨-, e⟩
  · exact absurd ((okN_Sm hs).mpr e0) hn
  · exact e
theorem RP_clear {dA : Nat → ClassId} {pl : va_W} {SG VL : Int → Int} {it : Nat → Option Nat} (hD : Dg VL) (h : ∀ k : Nat, k < 60 → it k = none) : RP dA pl it 0 SG VL := ⟨⟨⟨by decide, by decide⟩, hD, fun a h0 h1 => by omega⟩, fun a h0 h1 => by omega, fun k _ hk => h k hk⟩
/-! wide numbers of eight words -/
theorem fm_small {n : Int} {f : Int → Int} (h : OKw n f) (hb : ((bl (wN n f) : Nat) : Int) < 64) : wN n f < 9223372036854775808 ∧ n ≤ 8 ∧ sm6 ((wN n f : Nat) : Int) = ((wN n f : Nat) : Int) := by
  have h1 : wN n f < 2 ^ 63 := bl_le.mp (by omega)
  have h2 := wN_sz h (b := 63) (by omega)
  have h3 : (2 : Nat) ^ 63 = 9223372036854775808 := by decide
  refine ⟨by omega, by omega, ?_⟩
  unfold sm6
  omega
theorem wN8 {n : Int} {f : Int → Int} (h : OKw n f) : n ≤ 8 ↔ bl (wN n f) ≤ 256 := by
  constructor
  · intro hn
    have := wN_bl h
    have := h.1
    omega
  · intro hb
    have := wN_sz h hb
    omega
theorem cp0_D {n : Int} {f : Int → Int} (h : Dg f) : Dg (cpZ f (fun _ => 0) n) := cpZ_D h (fun _ => ⟨by decide, by decide⟩)
theorem cp0_N {n : Int} {f : Int → Int} (h : OKw n f) (hn : n ≤ 8) : wN 8 (cpZ f (fun _ => 0) n) = wN n f := by
  have h1 := gW_v (f := f) (n := n) (m := 8) h.1.1 (by omega)
  have h2 : vz (cpZ f (fun _ => 0) n) 0 8 = vz (gW n f) 0 8 := vz_congr (fun j _ _ => rfl)
  unfold wN
  show (vz _ 0 8).toNat = _
  rw [h2, h1]
/-! one? -/
def WB (f : Int → Int) (k : Int) : Prop := f 0 = 1 ∧ ∀ j : Int, 1 ≤ j → j < k → f j = 0
theorem WB_1 {f : Int → Int} : WB f 1 ↔ f 0 = 1 := ⟨fun h => h.1, fun h => ⟨h, fun j h1 h2 => by omega⟩⟩
theorem WB_t {f : Int → Int} {k : Int} (h : WB f k) (hz : f k = 0) : WB f (k + 1) := ⟨h.1, fun j h1 h2 => by
  by_cases e : j = k
  · rw [e]
    exact hz
  · exact h.2 j h1 (by omega)⟩
theorem WB_f {f : Int → Int} {k : Int} (hk : 1 ≤ k) (hz : ¬ f k = 0) : ¬ WB f (k + 1) := fun h => hz (h.2 k hk (by omega))
theorem WB_n {f : Int → Int} {k : Int} (h : ¬ WB f k) : ¬ WB f (k + 1) := fun q => h ⟨q.1, fun j h1 h2 => q.2 j h1 (by omega)⟩
theorem WB_e {f : Int → Int} (hD : Dg f) : WB f 8 ↔ wN 8 f = 1 := by
  have h := pv_s hD (a := 0) (M := 1) ⟨by decide, by decide⟩
  have e : pv f 0 = wN 8 f := rfl
  have e2 : ∀ j : Int, f (16 * 0 + j) = f j := fun j => by rw [show 16 * 0 + j = j by omega]
  have e3 : f (16 * 0) = f 0 := rfl
  simp only [e, e2, e3] at h
  constructor
  · intro q
    have := h.2 q.2
    have := q.1
    omega
  · intro q
    have h2 := h.1.mp (by omega)
    have h3 := h.2 h2.2
    exact ⟨by omega, h2.2⟩
theorem iw_e {f : Int → Int} {w k : Int} {Q : Nat} (hD : Dg f) (hQ : wN 8 f = Q) (hk : k = 8) (h : (w = 1 ∧ WB f k) ∨ (w = 0 ∧ ¬ WB f k)) : w = if Q = 1 then 1 else 0 := by
  subst hk
  subst hQ
  rcases h with ⟨h1, h2⟩ | ⟨h1, h2⟩
  · rw [h1, if_pos ((WB_e hD).mp h2)]
  · rw [h1, if_neg (fun q => h2 ((WB_e hD).mpr q))]
abbrev tE (a b h ct : Nat) : ExceptionTableEntry := ⟨a, b, h, ct⟩
