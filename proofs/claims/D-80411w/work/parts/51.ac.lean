/-! what the acts make, in words for both sides -/
set_option maxRecDepth 100000
theorem prod3 {x y : Int} (hx : x = -1 ∨ x = 0 ∨ x = 1) (hy : y = -1 ∨ y = 0 ∨ y = 1) : (x * y = -1 ∨ x * y = 0 ∨ x * y = 1) ∧ (x * y = 0 ↔ x = 0 ∨ y = 0) ∧ (x * y < 0 ↔ (x < 0 ∧ 0 < y) ∨ (0 < x ∧ y < 0)) := by
  rcases hx with rfl | rfl | rfl <;> rcases hy with rfl | rfl | rfl <;> decide
def recY (act y : Int) : Int := if act = 1 then -y else y
abbrev recDn (act x y : Int) (A B : Nat) : Prop := act < 6 ∧ x * y < 0 ∧ A % B ≠ 0
def recG (act x y : Int) (A B : Nat) : Int := if act < 2 then sumG x (recY act y) A B else if act = 5 ∨ act = 7 then (if recDn act x y A B then y else x) else x * y
def recP (act x y : Int) (pa pb A B : Nat) : Nat := if act < 2 then sumP x (recY act y) A B else if act = 2 then pa * pb else if act = 3 then A else if act = 4 ∨ act = 6 then (if recDn act x y A B then A / B + 1 else A / B) else if recDn act x y A B then B - A % B else A % B
def recQ (act : Int) (B C : Nat) : Nat := if act < 3 then C else if act = 3 then B else if act = 4 ∨ act = 6 then 1 else C
def pwO (p q n : Nat) : Prop := bl (p ^ n) ≤ 256 ∧ bl (q ^ n) ≤ 256
theorem pw_mono {x k n : Nat} (h : k + 1 ≤ n) (hb : ¬ bl (x ^ (k + 1)) ≤ 256) : ¬ bl (x ^ n) ≤ 256 := by
  intro q
  apply hb
  rw [bl_B8] at q ⊢
  rcases Nat.eq_zero_or_pos x with e | e
  · subst e
    rw [Nat.zero_pow (by omega)]
    exact B8_pos
  · exact Nat.lt_of_le_of_lt (Nat.pow_le_pow_right e h) q
theorem sumG3 {x y : Int} {A B : Nat} (hx : x = -1 ∨ x = 0 ∨ x = 1) (hy : y = -1 ∨ y = 0 ∨ y = 1) (hA : x = 0 → A = 0) (hB : y = 0 → B = 0) : (sumG x y A B = -1 ∨ sumG x y A B = 0 ∨ sumG x y A B = 1) ∧ (sumG x y A B = 0 → sumP x y A B = 0) := by
  unfold sumG sumP
  split
  · constructor
    · split <;> omega
    · split <;> omega
  · split <;> omega
theorem B8_2 : 2 * B8 ≤ BN := by
  have h1 := BB_BN
  have h2 := Nat.mul_le_mul_left B8 B8_pos
  omega
theorem rec_01 {act x y : Int} {A B C pa pb : Nat} (h : act < 2) : recG act x y A B = sumG x (recY act y) A B ∧ recP act x y pa pb A B = sumP x (recY act y) A B ∧ recQ act B C = C := by
  unfold recG recP recQ
  rw [if_pos h, if_pos h, if_pos (by omega)]
  exact ⟨rfl, rfl, rfl⟩
theorem rec_2 {act x y : Int} {A B C pa pb : Nat} (h : act = 2) : recG act x y A B = x * y ∧ recP act x y pa pb A B = pa * pb ∧ recQ act B C = C := by
  subst h
  unfold recG recP recQ
  exact ⟨rfl, rfl, rfl⟩
theorem rec_3 {act x y : Int} {A B C pa pb : Nat} (h : act = 3) : recG act x y A B = x * y ∧ recP act x y pa pb A B = A ∧ recQ act B C = B := by
  subst h
  unfold recG recP recQ
  exact ⟨rfl, rfl, rfl⟩
theorem rec_46 {act x y : Int} {A B C pa pb : Nat} (h : act = 4 ∨ act = 6) : recG act x y A B = x * y ∧ recP act x y pa pb A B = (if recDn act x y A B then A / B + 1 else A / B) ∧ recQ act B C = 1 := by
  rcases h with rfl | rfl <;> exact ⟨rfl, rfl, rfl⟩
theorem rec_57 {act x y : Int} {A B C pa pb : Nat} (h : act = 5 ∨ act = 7) : recG act x y A B = (if recDn act x y A B then y else x) ∧ recP act x y pa pb A B = (if recDn act x y A B then B - A % B else A % B) ∧ recQ act B C = C := by
  rcases h with rfl | rfl <;> exact ⟨rfl, rfl, rfl⟩
theorem recG3 {act x y : Int} {A B pa pb : Nat} (h7 : act ≤ 7) (hx : x = -1 ∨ x = 0 ∨ x = 1) (hy : y = -1 ∨ y = 0 ∨ y = 1) (hA : x = 0 → A = 0) (hB : y = 0 → B = 0) (hp : x = 0 → pa = 0) (hpb : y = 0 → pb = 0) (h0 : 3 ≤ act → y ≠ 0) : (recG act x y A B = -1 ∨ recG act x y A B = 0 ∨ recG act x y A B = 1) ∧ (recG act x y A B = 0 → recP act x y pa pb A B = 0) := by
  obtain ⟨h1, h2, h3⟩ := prod3 hx hy
  by_cases c : act < 2
  · have e := rec_01 (x := x) (y := y) (A := A) (B := B) (C := 0) (pa := pa) (pb := pb) c
    rw [e.1, e.2.1]
    apply sumG3 hx _ hA
    · intro q
      apply hB
      unfold recY at q
      split at q <;> omega
    · unfold recY
      split <;> omega
  · by_cases c2 : act = 2
    · have e := rec_2 (x := x) (y := y) (A := A) (B := B) (C := 0) (pa := pa) (pb := pb) c2
      rw [e.1, e.2.1]
      refine ⟨h1, fun q => ?_⟩
      rcases h2.mp q with q | q
      · rw [hp q, Nat.zero_mul]
      · rw [hpb q, Nat.mul_zero]
    · have hy0 := h0 (by omega)
      by_cases c3 : act = 3
      · have e := rec_3 (x := x) (y := y) (A := A) (B := B) (C := 0) (pa := pa) (pb := pb) c3
        rw [e.1, e.2.1]
        exact ⟨h1, fun q => hA ((h2.mp q).resolve_right hy0)⟩
      · by_cases c4 : act = 4 ∨ act = 6
        · have e := rec_46 (x := x) (y := y) (A := A) (B := B) (C := 0) (pa := pa) (pb := pb) c4
          rw [e.1, e.2.1]
          refine ⟨h1, fun q => ?_⟩
          have hA0 := hA ((h2.mp q).resolve_right hy0)
          rw [if_neg (fun d => d.2.2 (by rw [hA0]; exact Nat.zero_mod _)), hA0, Nat.zero_div]
        · have e := rec_57 (x := x) (y := y) (A := A) (B := B) (C := 0) (pa := pa) (pb := pb) (show act = 5 ∨ act = 7 by omega)
          rw [e.1, e.2.1]
          by_cases d : recDn act x y A B
          · rw [if_pos d, if_pos d]
            exact ⟨hy, fun q => absurd q hy0⟩
          · rw [if_neg d, if_neg d]
            exact ⟨hx, fun q => by rw [hA q]; exact Nat.zero_mod _⟩
