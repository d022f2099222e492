/-! what the reference's remainder, casts and comparisons of doubles tell; rows for switches and narrowing -/
set_option maxRecDepth 100000
section IX3
variable {p : Program} {l : Launch} {e : Env} {R : Room} {s : State} {m : MethodId} {args : Array Value} {below : List Frame} {meth : Method} {c : Code} {H : Heap} {locs : List Loc} {cells slots : Nat} {Q : State → Prop}
variable {cc : ByteArray} {pc : Nat} {ls : Array Slot} {rest : List Value}
theorem ix_tabI (hx : p.tables.exec = Jvm.exec) (hb : c.code = cc) {dflt lo hi : Int} {offs : Array Int} {len : Nat} {x off : Int} (v : Int) {tgt : Nat} (h : x = v) (hv : In3 v) (h1 : lo ≤ v) (h2 : v ≤ hi) (ho : offs[(v - lo).toNat]? = some off) (ht : (pc : Int) + off = (tgt : Int)) (hd : decode cc pc = .ok (.tableswitch dflt lo hi offs, len)) (k : W p l e R s m args below meth c H locs cells slots Q (F0 m tgt ls rest)) : W p l e R s m args below meth c H locs cells slots Q (F0 m pc ls (.int (I3 x) :: rest)) := by
  subst h
  exact lv_tableIn hx hb hd (by rw [I3_t hv]; omega) (by rw [I3_t hv]; omega) (by rw [I3_t hv]; exact ho) ht k
theorem ix_tabO (hx : p.tables.exec = Jvm.exec) (hb : c.code = cc) {dflt lo hi : Int} {offs : Array Int} {len : Nat} {x : Int} {tgt : Nat} (hv : In3 x) (h : x < lo ∨ hi < x) (ht : (pc : Int) + dflt = (tgt : Int)) (hd : decode cc pc = .ok (.tableswitch dflt lo hi offs, len)) (k : W p l e R s m args below meth c H locs cells slots Q (F0 m tgt ls rest)) : W p l e R s m args below meth c H locs cells slots Q (F0 m pc ls (.int (I3 x) :: rest)) := lv_tableOut hx hb hd (by rw [I3_t hv]; exact h) ht k
def sm16 (z : Int) : Int := (z + 32768) % 65536 - 32768
def sm8 (z : Int) : Int := (z + 128) % 256 - 128
theorem sm16_bmod (n : Int) : n.bmod 65536 = sm16 n := by
  unfold sm16
  have h1 := Int.le_bmod (x := n) (m := 65536) (by decide)
  have h2 := Int.bmod_lt (x := n) (m := 65536) (by decide)
  have h3 := Int.bmod_emod (x := n) (m := 65536)
  omega
theorem sm8_bmod (n : Int) : n.bmod 256 = sm8 n := by
  unfold sm8
  have h1 := Int.le_bmod (x := n) (m := 256) (by decide)
  have h2 := Int.bmod_lt (x := n) (m := 256) (by decide)
  have h3 := Int.bmod_emod (x := n) (m := 256)
  omega
theorem i2s_eq (z : Int) : (I3 z).toInt16.toInt32 = I3 (sm16 z) := by
  have h : (I3 z).toInt16 = Int16.ofInt (I3 z).toInt := (Int16.ofInt_int32ToInt _).symm
  rw [← Int32.toInt_inj, Int16.toInt_toInt32, h, Int16.toInt_ofInt, I3_tm]
  have e : (sm3 z).bmod Int16.size = sm16 (sm3 z) := sm16_bmod _
  rw [e, I3_t]
  · unfold sm16 sm3
    omega
  · unfold sm16
    constructor <;> omega
theorem i2b_eq (z : Int) : (I3 z).toInt8.toInt32 = I3 (sm8 z) := by
  have h : (I3 z).toInt8 = Int8.ofInt (I3 z).toInt := (Int8.ofInt_int32ToInt _).symm
  rw [← Int32.toInt_inj, Int8.toInt_toInt32, h, Int8.toInt_ofInt, I3_tm]
  have e : (sm3 z).bmod Int8.size = sm8 (sm3 z) := sm8_bmod _
  rw [e, I3_t]
  · unfold sm8 sm3
    omega
  · unfold sm8
    constructor <;> omega
theorem nI_I3 (n : Nat) : nI n = I3 (n : Int) := Int32.ofInt_eq_ofNat.symm
theorem i2c_eq (z : Int) : ((I3 z).toUInt32 % 65536).toInt32 = I3 (z % 65536) := by
  rw [pk_char, nI_I3]
  congr 1
  have h : ((I3 z).toBitVec.toNat : Int) = z % 4294967296 := by
    show ((BitVec.ofInt 32 z).toNat : Int) = _
    rw [bv_ofInt_nn]
    rfl
  omega
theorem ix_i2s (hx : p.tables.exec = Jvm.exec) (hb : c.code = cc) {x : Int} (hd : decode cc pc = .ok (.i2s, 1)) (k : W p l e R s m args below meth c H locs cells slots Q (F0 m (pc + 1) ls (.int (I3 (sm16 x)) :: rest))) : W p l e R s m args below meth c H locs cells slots Q (F0 m pc ls (.int (I3 x) :: rest)) := lv_i2s hx hb hd (i2s_eq x) k
theorem ix_i2b (hx : p.tables.exec = Jvm.exec) (hb : c.code = cc) {x : Int} (hd : decode cc pc = .ok (.i2b, 1)) (k : W p l e R s m args below meth c H locs cells slots Q (F0 m (pc + 1) ls (.int (I3 (sm8 x)) :: rest))) : W p l e R s m args below meth c H locs cells slots Q (F0 m pc ls (.int (I3 x) :: rest)) := lv_i2b hx hb hd (i2b_eq x) k
theorem ix_i2c (hx : p.tables.exec = Jvm.exec) (hb : c.code = cc) {x : Int} (hd : decode cc pc = .ok (.i2c, 1)) (k : W p l e R s m args below meth c H locs cells slots Q (F0 m (pc + 1) ls (.int (I3 (x % 65536)) :: rest))) : W p l e R s m args below meth c H locs cells slots Q (F0 m pc ls (.int (I3 x) :: rest)) := lv_i2c hx hb hd (i2c_eq x) k
end IX3
/-- the remainder of the amounts of two doubles, at the lesser place -/
def remR (v w : Int) : Int := fX v * 2 ^ (plX v - plX w).toNat % (fX w * 2 ^ (plX w - plX v).toNat)
def remY (v w : Int) : Int := if plX v ≤ plX w then plX v else plX w
abbrev noX (v : Int) : Prop := eX v = 2047 ∧ pX v ≠ 0
abbrev infX (v : Int) : Prop := eX v = 2047 ∧ pX v = 0
abbrev rmNo (v w : Int) : Prop := noX v ∨ noX w ∨ infX v ∨ fX w = 0
def rmX (v w z : Int) : Prop := (rmNo v w → z = 9221120237041090560) ∧ (¬ rmNo v w → (infX w → z = v) ∧ (¬ infX w → ∃ e : Int, scS (remR v w) (remY v w) e ∧ z = sgb v e))
theorem infX_f {w : Int} (h : infX w) : fX w ≠ 0 := by
  unfold fX
  rw [if_neg (by omega), h.2]
  decide
theorem remY_r (v w : Int) : -1074 ≤ remY v w ∧ remY v w ≤ 972 := by
  have h1 := plX_r v
  have h2 := plX_r w
  unfold remY
  split <;> omega
theorem rm_0 {v w : Int} (h : fX w ≠ 0) : (fX v).tmod (fX w) = fX v * 2 ^ (0 : Int).toNat % fX w := by
  have h1 := fX_r v
  rw [Int.tmod_eq_emod_of_nonneg h1.1]
  simp
theorem rm_s {m n r k : Int} (hk : 0 ≤ k) (hn : 0 < n) (hr : r = m * 2 ^ k.toNat % n) : (2 * r).tmod n = m * 2 ^ (k + 1).toNat % n := by
  have h0 : 0 ≤ r := by rw [hr]; exact Int.emod_nonneg _ (Int.ne_of_gt hn)
  rw [Int.tmod_eq_emod_of_nonneg (by omega), hr]
  have e : (k + 1).toNat = k.toNat + 1 := by omega
  rw [e, Int.pow_succ, Int.mul_comm 2, Int.mul_emod (m * 2 ^ k.toNat % n) 2 n, Int.emod_emod, ← Int.mul_emod, Int.mul_assoc]
theorem rm_e {v w d k r : Int} (hd : d = plX v - plX w) (hd0 : 0 ≤ d) (hk : k = d) (hr : r = fX v * 2 ^ k.toNat % fX w) : r = remR v w ∧ plX w = remY v w := by
  unfold remR remY
  have e1 : (plX w - plX v).toNat = 0 := by omega
  rw [e1, Int.pow_zero, Int.mul_one, hr, hk, hd]
  refine ⟨rfl, ?_⟩
  split <;> omega
/-- the lesser's place is that of the first -/
theorem rm_lo {v w d : Int} (hd : d = plX v - plX w) (hd0 : d < 0) : remY v w = plX v ∧ (fX v < fX w * 2 ^ (-d).toNat → fX v = remR v w) ∧ remR v w = fX v % (fX w * 2 ^ (-d).toNat) := by
  have e1 : (plX v - plX w).toNat = 0 := by omega
  have e2 : (plX w - plX v).toNat = (-d).toNat := by omega
  have h1 := fX_r v
  refine ⟨by unfold remY; rw [if_pos (by omega)], fun h => ?_, ?_⟩
  · unfold remR
    rw [e1, e2, Int.pow_zero, Int.mul_one, Int.emod_eq_of_lt h1.1 h]
  · unfold remR
    rw [e1, e2, Int.pow_zero, Int.mul_one]
theorem pw_mon {a b : Nat} (h : a ≤ b) : (2 : Int) ^ a ≤ 2 ^ b := by
  have h1 : 2 ^ a ≤ 2 ^ b := Nat.pow_le_pow_right (by decide) h
  have h2 : ((2 ^ a : Nat) : Int) ≤ ((2 ^ b : Nat) : Int) := Int.ofNat_le.mpr h1
  rw [pw_cast, pw_cast] at h2
  exact h2
theorem rm_far {n d : Int} (hn : 1 ≤ n) (hd : 53 ≤ -d) : 9007199254740992 ≤ n * 2 ^ (-d).toNat := by
  have h1 := pw_mon (a := 53) (b := (-d).toNat) (by omega)
  have h2 : (2 : Int) ^ 53 = 9007199254740992 := by decide
  have h3 := Int.mul_le_mul_of_nonneg_right hn (Int.le_of_lt (ppos (-d).toNat))
  omega
theorem rm_p {d : Int} (h0 : d < 0) (h1 : -d < 53) : (2 : Int) ^ (53 + d).toNat * 2 ^ (-d).toNat = 9007199254740992 := by
  rw [← pow_split]
  have e : (53 + d).toNat + (-d).toNat = 53 := by omega
  rw [e]
  decide
theorem rm_near {n d : Int} (h0 : d < 0) (h1 : -d < 53) (hn : 0 < n) : (n < 2 ^ (53 + d).toNat → 0 < n * 2 ^ (-d).toNat ∧ n * 2 ^ (-d).toNat < 9007199254740992) ∧ (2 ^ (53 + d).toNat ≤ n → 9007199254740992 ≤ n * 2 ^ (-d).toNat) := by
  have hp := rm_p h0 h1
  have h2 := ppos (-d).toNat
  refine ⟨fun h => ⟨Int.mul_pos hn h2, ?_⟩, fun h => ?_⟩
  · have := Int.mul_lt_mul_of_pos_right h h2
    omega
  · have := Int.mul_le_mul_of_nonneg_right h (Int.le_of_lt h2)
    omega
def clX (w : Int) : Int := if w < -3000 then -3000 else if 3000 < w then 3000 else w
/-- the further kinds of the machine: 6 sign, 7 next, 8 step, 9 scaled, else the order -/
def mmX (kind v w z : Int) : Prop :=
  (kind = 6 → z = if noX v then 9221120237041090560 else sgb w (v % 9223372036854775808)) ∧
  (kind = 7 → z = if noX v then 9221120237041090560 else if v = 9218868437227405312 then v else if v = 0 ∨ v = -9223372036854775808 then 1 else if v < 0 then v - 1 else v + 1) ∧
  (kind = 8 → (noX v → z = 9221120237041090560) ∧ (infX v → z = 9218868437227405312) ∧ (eX v ≠ 2047 → scS 1 (plX v) z)) ∧
  (kind = 9 → (noX v → z = 9221120237041090560) ∧ (infX v → z = v) ∧ (eX v ≠ 2047 → ∃ e : Int, scS (fX v) (plX v + clX w) e ∧ z = sgb v e)) ∧
  (kind = 10 → z = if noX v ∨ noX w then 4 else if (v % 9223372036854775808 = 0 ∧ w % 9223372036854775808 = 0) ∨ v = w then 2 else if rkX v < rkX w then 1 else 3)
def maX (kind v w z : Int) : Prop := (kind = 0 → rmX v w z) ∧ (1 ≤ kind → kind ≤ 3 → rdX kind v z) ∧ (kind = 4 ∨ kind = 5 → z = if noX v ∨ noX w then 9221120237041090560 else if (rkX w < rkX v ↔ kind = 4) then v else w) ∧ (6 ≤ kind → mmX kind v w z)
theorem rkX_r {v : Int} (h : In6 v) : In6 (rkX v) := by
  unfold rkX
  split <;> constructor <;> omega
/-- the amount of a double cut to a whole number -/
def tX (v : Int) : Int := fX v * 2 ^ (plX v).toNat / 2 ^ (-plX v).toNat
def cutX (v M : Int) : Int := if eX v = 2047 then (if pX v = 0 then (if v < 0 then -M - 1 else M) else 0) else if v < 0 then (if M < tX v then -M - 1 else -tX v) else (if M < tX v then M else tX v)
theorem tX_lo {v : Int} (h : plX v ≤ 0) : tX v = fX v / 2 ^ (-plX v).toNat := by
  unfold tX
  rw [show (plX v).toNat = 0 by omega, Int.pow_zero, Int.mul_one]
theorem tX_hi {v : Int} (h : 0 ≤ plX v) : tX v = fX v * 2 ^ (plX v).toNat := by
  unfold tX
  rw [show (-plX v).toNat = 0 by omega, Int.pow_zero, Int.ediv_one]
theorem tX_nn (v : Int) : 0 ≤ tX v := by
  unfold tX
  exact Int.ediv_nonneg (Int.mul_nonneg (fX_r v).1 (Int.le_of_lt (ppos _))) (Int.le_of_lt (ppos _))
theorem tX_lt {v : Int} (h : plX v ≤ 10) : tX v < 9223372036854775808 := by
  have h1 := fX_r v
  by_cases c : plX v ≤ 0
  · rw [tX_lo c]
    have := fd_r (v := v) (n := (-plX v).toNat)
    omega
  · rw [tX_hi (by omega)]
    have h2 := pw_mon (a := (plX v).toNat) (b := 10) (by omega)
    have h3 : (2 : Int) ^ 10 = 1024 := by decide
    have h4 := Int.mul_le_mul_of_nonneg_left h2 h1.1
    rw [h3] at h4
    omega
theorem tX_far {v : Int} (h : 10 < plX v) : 9223372036854775808 ≤ tX v := by
  have h1 := pX_r v
  have h0 : ¬ eX v = 0 := by
    intro q
    unfold plX at h
    rw [if_pos q] at h
    omega
  have hf : 4503599627370496 ≤ fX v := by
    unfold fX
    rw [if_neg h0]
    omega
  rw [tX_hi (by omega)]
  have h2 := pw_mon (a := 11) (b := (plX v).toNat) (by omega)
  have h3 : (2 : Int) ^ 11 = 2048 := by decide
  have h4 := Int.mul_le_mul hf h2 (by decide) (by omega)
  rw [h3] at h4
  omega
def caX (kind v z : Int) : Prop := (kind = 0 → z = cutX v 9223372036854775807) ∧ (kind = 1 → z = cutX v 2147483647) ∧ (kind = 2 → z = sm16 (cutX v 2147483647)) ∧ (kind = 3 → z = sm8 (cutX v 2147483647)) ∧ (kind = 4 → z = cutX v 2147483647 % 65536) ∧ (kind = 5 → fbX v z) ∧ (kind = 6 → ffX (sm3 v) z)
theorem cutX_r {v M : Int} (h : 0 ≤ M) : -M - 1 ≤ cutX v M ∧ cutX v M ≤ M := by
  have := tX_nn v
  unfold cutX
  split
  · split
    · split <;> omega
    · omega
  · split
    · split <;> omega
    · split <;> omega
