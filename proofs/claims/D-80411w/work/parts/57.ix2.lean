/-! more rows; longs that wrap -/
set_option maxRecDepth 100000
section IX2
variable {p : Program} {l : Launch} {e : Env} {R : Room} {s : State} {m : MethodId} {args : Array Value} {below : List Frame} {meth : Method} {c : Code} {H : Heap} {locs : List Loc} {cells slots : Nat} {Q : State → Prop}
variable {pc : Nat} {ls : Array Slot} {rest : List Value}
theorem ix_cl {x y : Int} (h : L6 x = L6 y) (k : W p l e R s m args below meth c H locs cells slots Q (F0 m pc ls (.long (L6 y) :: rest))) : W p l e R s m args below meth c H locs cells slots Q (F0 m pc ls (.long (L6 x) :: rest)) := by rw [h]; exact k
theorem ix_ci {x y : Int} (h : I3 x = I3 y) (k : W p l e R s m args below meth c H locs cells slots Q (F0 m pc ls (.int (I3 y) :: rest))) : W p l e R s m args below meth c H locs cells slots Q (F0 m pc ls (.int (I3 x) :: rest)) := by rw [h]; exact k
end IX2
theorem zand6_m {x : Int} {k : Nat} (hk : k < 64) : zand6 x (2 ^ k - 1) = x % 2 ^ k := by
  have h1 : (2 : Int) ^ k ≤ 2 ^ 63 := by
    have : 2 ^ k ≤ 2 ^ 63 := Nat.pow_le_pow_right (by decide) (by omega)
    exact_mod_cast this
  have h2 := Int.emod_nonneg x (Int.ne_of_gt (ppos k))
  have h3 := Int.emod_lt_of_pos x (ppos k)
  unfold zand6
  rw [L6_mask k hk rfl, L6_t]
  have h4 : (2 : Int) ^ 63 = 9223372036854775808 := by decide
  constructor <;> omega
theorem bv_or_add {x y : Int} (hx : 0 ≤ x ∧ x < 4294967296) (hy : 0 ≤ y ∧ y < 4294967296) : (L6 x ||| L6 (y * 4294967296)) = L6 (x + y * 4294967296) := by
  obtain ⟨a, rfl⟩ := Int.eq_ofNat_of_zero_le hx.1
  obtain ⟨b, rfl⟩ := Int.eq_ofNat_of_zero_le hy.1
  have e1 : ((b : Int) * 4294967296) = ((b * 4294967296 : Nat) : Int) := by omega
  have e2 : ((a : Int) + ((b * 4294967296 : Nat) : Int)) = ((a + b * 4294967296 : Nat) : Int) := by omega
  rw [e1, e2]
  apply Int64.toBitVec_inj.mp
  rw [Int64.toBitVec_or]
  show BitVec.ofInt 64 (a : Int) ||| BitVec.ofInt 64 ((b * 4294967296 : Nat) : Int) = BitVec.ofInt 64 ((a + b * 4294967296 : Nat) : Int)
  rw [BitVec.ofInt_natCast, BitVec.ofInt_natCast, BitVec.ofInt_natCast]
  apply BitVec.eq_of_toNat_eq
  rw [BitVec.toNat_or, BitVec.toNat_ofNat, BitVec.toNat_ofNat, BitVec.toNat_ofNat, Nat.mod_eq_of_lt (by omega), Nat.mod_eq_of_lt (by omega), Nat.mod_eq_of_lt (by omega)]
  have h := Nat.two_pow_add_eq_or_of_lt (i := 32) (b := a) (by omega) b
  have e3 : (2 : Nat) ^ 32 = 4294967296 := by decide
  rw [e3] at h
  rw [Nat.or_comm, Nat.mul_comm b, ← h]
  omega
theorem zor6_w {x y : Int} (hx : 0 ≤ x ∧ x < 4294967296) (hy : 0 ≤ y ∧ y < 4294967296) : zor6 x (y * 4294967296) = sm6 (x + y * 4294967296) := by
  unfold zor6
  rw [bv_or_add hx hy, L6_tm]
theorem lo64 {W : Int → Int} (hD : Dg W) (r : Int) : sm6 (W (64 * r) + W (64 * r + 1) * 4294967296) = sm6 ((rv W r : Nat) : Int) := by
  have h := rv_z hD r
  rw [vz_front W (64 * r) 63, vz_front W (64 * r + 1) 62] at h
  rw [h]
  unfold sm6
  omega
theorem sm6_neg (x : Int) : L6 (-(sm6 x)) = L6 (sm6 (-x)) := L6_congr (by unfold sm6; omega)
theorem sm6_mod (x : Int) {k : Nat} (hk : k < 64) : sm6 x % 2 ^ k = x % 2 ^ k := by
  have hd : (2 : Int) ^ k ∣ 18446744073709551616 := by
    have : (18446744073709551616 : Int) = 2 ^ 64 := by decide
    rw [this]
    exact ⟨2 ^ (64 - k), by rw [← Int.pow_add]; congr 1; omega⟩
  have h1 : sm6 x = x + 18446744073709551616 * (-((x + 9223372036854775808) / 18446744073709551616)) := by
    unfold sm6
    omega
  rw [h1]
  obtain ⟨c, hc⟩ := hd
  rw [hc, Int.mul_assoc, Int.add_mul_emod_self_left]
def meS (SG VL : Int → Int) (a v : Int) : Int :=
  if eX v = 2047 then (if pX v = 0 then -sgX v else 2)
  else if SG a = (if fX v = 0 then 0 else sgX v) then (if fX v = 0 then 0 else sgX v) * cmpN (pv VL a * 2 ^ (-plX v).toNat) (qv VL a * (fX v).toNat * 2 ^ (plX v).toNat)
  else if SG a < (if fX v = 0 then 0 else sgX v) then -1 else 1
theorem p63 {k : Nat} (h : k < 64) : (2 : Int) ^ k ≤ 9223372036854775808 := by
  have h1 : 2 ^ k ≤ 2 ^ 63 := Nat.pow_le_pow_right (by decide) (by omega)
  have h2 : ((2 ^ k : Nat) : Int) ≤ ((2 ^ 63 : Nat) : Int) := Int.ofNat_le.mpr h1
  have h3 : ((2 ^ 63 : Nat) : Int) = 9223372036854775808 := by decide
  rw [pw_cast, h3] at h2
  exact h2
