/-! a row: the first words of one array of ints to another -/
set_option maxRecDepth 100000
section WRW
variable {p : Program} {l : Launch} {e : Env} {R : Room} {s : State} {m : MethodId} {args : Array Value} {below : List Frame} {meth : Method} {c : Code} {H : Heap} {locs : List Loc} {cells slots : Nat} {Q : State → Prop}
variable {cc : ByteArray} {pc : Nat} {ls : Array Slot} {rest : List Value}
variable {D : va_G} {cl : List vw_C} {tys : List (ClassId × FieldType)} {ws : va_W} {A : Nat → Prop} {H0 : Heap} {a : Nat}
theorem ix_copyi (hx : p.tables.exec = Jvm.exec) (hb : c.code = cc) (hml : c.maxLocals = ls.size) {own : String} {index : Nat} (hown : s.vm.findClass own = some m.cls) (hlink : (Cond.methodLink own index arraycopyName).before args s = true) (hnat : (Cond.native arraycopyName).before args s = true) (hstat : (Cond.static arraycopyName).before args s = true) (hini : (Cond.initialized "java/lang/System").before args s = true)
    (hK : va_K D cl tys s) (hP : va_P D cl ws H) (hD : va_D A ws) (hS : va_S A H0 H locs) (q0 q1 t0 : Nat) {a0 : Nat} {c0 : ClassId} {n0 n1 : Nat} {f g : Int → Int} (ha0 : ws[q0]? = some (a0, .inl (c0, n0, .inl (iA f)))) (ha1 : ws[q1]? = some (a, .inl (c0, n1, .inl (iA g)))) (ht0 : tys[t0]? = some (c0, .int))
    {z : Int} (hz : 0 ≤ z ∧ z ≤ (n0 : Int) ∧ z ≤ (n1 : Int)) (hn : n0 < 100000)
    (hframes : 1 ≤ R.frames) (hlocals : (rest.map fun v => v.category).sum + 18 ≤ R.locals) (hdg : decode cc pc = .ok (.invokestatic index, 3))
    (kk : ∀ (H1 : Heap) (locs1 : List Loc), va_P D cl (ws.set q1 (a, .inl (c0, n1, .inl (iA (cpZ f g z))))) H1 → va_D A (ws.set q1 (a, .inl (c0, n1, .inl (iA (cpZ f g z))))) → va_S A H0 H1 locs1 → W p l e R s m args below meth c H1 locs1 cells slots Q (F0 m (pc + 3) ls rest)) : W p l e R s m args below meth c H locs cells slots Q (F0 m pc ls (.int (I3 z) :: .int (I3 0) :: .ref a :: .int (I3 0) :: .ref a0 :: rest)) := by
  have e0 : (I3 0).toNatClampNeg = 0 := rfl
  have ez : (I3 z).toNatClampNeg = z.toNat := I3_clamp hz.1 (by omega)
  have h00 : ¬ I3 0 < 0 := by decide
  refine va_copyi (sp := I3 0) (dp := I3 0) (n := I3 z) hx hb hml hown hlink hnat hstat hini hK hP hD hS q0 q1 t0 t0 ha0 ha1 ht0 ht0 rfl h00 h00 ?_ (by rw [e0, ez]; omega) (by rw [e0, ez]; omega) (fun i hi => rfl) hframes ?_ hdg ?_
  · have h0 : (0 : Int32) = I3 0 := rfl
    rw [h0, I3_lt (by constructor <;> omega) (by decide)]
    omega
  · have hnw : nativeFrameWords "java/lang/System" "arraycopy" 5 + 11 = 18 := by decide +kernel
    rw [hnw]
    exact hlocals
  · intro H1 locs1 hP1 hD1 hS1
    rw [e0, ez, cpZ_A hz.1] at hP1 hD1
    exact kk H1 locs1 hP1 hD1 hS1
end WRW
/-! long division, by halves of the divisor -/
theorem bl_lt {x y : Nat} (h : bl x < bl y) : x < y := by
  have hy : y ≠ 0 := by
    intro q
    subst q
    simp [bl] at h
  have h1 := bl_lo hy
  have h2 := bl_hi x
  have h3 : 2 ^ bl x ≤ 2 ^ (bl y - 1) := Nat.pow_le_pow_right (by decide) (by omega)
  omega
theorem bl_mono {x y : Nat} (h : x ≤ y) : bl x ≤ bl y := by
  apply Classical.byContradiction
  intro q
  have := bl_lt (x := y) (y := x) (by omega)
  omega
theorem qd_0 {A B : Nat} {n : Int} (hB : B ≠ 0) (h0 : 0 ≤ n) (hn : n = ((bl A : Nat) : Int) - ((bl B : Nat) : Int)) : A < B * 2 ^ (n + 1).toNat := by
  have h1 := bl_hi A
  have h2 := bl_lo hB
  have h3 := bl_pos hB
  have h4 := Nat.mul_le_mul_right (2 ^ (n + 1).toNat) h2
  rw [← Nat.pow_add, show bl B - 1 + (n + 1).toNat = bl A by omega] at h4
  omega
theorem qd_hi {A B Q R : Nat} {k : Int} (hk : 0 ≤ k) (h1 : Q * B + R = A) (h2 : Q % 2 ^ (k + 1).toNat = 0) (h3 : R < B * 2 ^ (k + 1).toNat) (h4 : B * 2 ^ k.toNat ≤ R) : (Q + 2 ^ k.toNat) * B + (R - B * 2 ^ k.toNat) = A ∧ (Q + 2 ^ k.toNat) % 2 ^ k.toNat = 0 ∧ R - B * 2 ^ k.toNat < B * 2 ^ k.toNat := by
  have e : (k + 1).toNat = k.toNat + 1 := by omega
  rw [e] at h2 h3
  generalize k.toNat = t at *
  refine ⟨?_, ?_, ?_⟩
  · rw [Nat.add_mul, Nat.mul_comm (2 ^ t) B]
    omega
  · obtain ⟨c, hc⟩ := Nat.dvd_of_mod_eq_zero h2
    rw [hc, Nat.pow_succ, Nat.mul_assoc]
    have : 2 ^ t * (2 * c) + 2 ^ t = 2 ^ t * (2 * c + 1) := by grind
    rw [this]
    exact Nat.mul_mod_right _ _
  · rw [Nat.pow_succ, ← Nat.mul_assoc] at h3
    omega
theorem qd_lo {Q : Nat} {k : Int} (hk : 0 ≤ k) (h2 : Q % 2 ^ (k + 1).toNat = 0) : Q % 2 ^ k.toNat = 0 := by
  have e : (k + 1).toNat = k.toNat + 1 := by omega
  rw [e] at h2
  obtain ⟨c, hc⟩ := Nat.dvd_of_mod_eq_zero h2
  rw [hc, Nat.pow_succ, Nat.mul_assoc]
  exact Nat.mul_mod_right _ _
theorem qd_end {A B Q R : Nat} (hB : B ≠ 0) (h1 : Q * B + R = A) (h3 : R < B) : Q = A / B ∧ R = A % B := by
  rw [Nat.mul_comm] at h1
  subst h1
  rw [Nat.mul_add_div (Nat.pos_of_ne_zero hB), Nat.div_eq_of_lt h3, Nat.mul_add_mod, Nat.mod_eq_of_lt h3]
  omega
theorem w0_N {n : Int} {f : Int → Int} (h : ∀ j : Int, 0 ≤ j → j < n → f j = 0) : wN n f = 0 := by
  unfold wN
  rw [vz_zero (fun k h0 h1 => by rw [Int.zero_add]; exact h k h0 (by omega))]
  rfl
