/-! rows: doubles and floats by their bits *-/
set_option maxRecDepth 100000
theorem noX_m (v : Int) : noX v ↔ 9218868437227405312 < v % 9223372036854775808 := by
  unfold noX eX pX
  omega
abbrev noF (v : Int) : Prop := 2139095040 < v % 2147483648
theorem mask64 (a : UInt64) : (a &&& 9223372036854775807).toNat = a.toNat % 2 ^ 63 := by
  have e : (9223372036854775807 : UInt64).toNat = 2 ^ 63 - 1 := by decide
  rw [UInt64.toNat_and, e, Nat.and_two_pow_sub_one_eq_mod]
theorem mask32 (a : UInt32) : (a &&& 2147483647).toNat = a.toNat % 2 ^ 31 := by
  have e : (2147483647 : UInt32).toNat = 2 ^ 31 - 1 := by decide
  rw [UInt32.toNat_and, e, Nat.and_two_pow_sub_one_eq_mod]
theorem dX_64 {v : Int} (h : ¬ noX v) : vf_n64 (dX v) := by
  unfold vf_n64
  rw [UInt64.le_iff_toNat_le, mask64, dX_n]
  have h1 := (not_congr (noX_m v)).mp h
  have h2 : (9218868437227405312 : UInt64).toNat = 9218868437227405312 := rfl
  have h3 : (2 : Nat) ^ 63 = 9223372036854775808 := by decide
  rw [h2, h3]
  omega
theorem fB_32 {v : Int} (h : ¬ noF v) : vf_n32 (fB v) := by
  unfold vf_n32
  rw [UInt32.le_iff_toNat_le, mask32, fB_n]
  unfold noF at h
  have h2 : (2139095040 : UInt32).toNat = 2139095040 := rfl
  have h3 : (2 : Nat) ^ 31 = 2147483648 := by decide
  rw [h2, h3]
  omega
theorem dX_l (v : Int) : (dX v).toInt64 = L6 v := rfl
theorem fB_i (v : Int) : (fB v).toInt32 = I3 v := rfl
/-- the order's key: sign and amount -/
def kX (v : Int) : Int := if v < 0 then -(v % 9223372036854775808) else v
theorem kX_a {v : Int} (h : In6 v) : kX v = if decide (v < 0) = true then -(v % 9223372036854775808) else v % 9223372036854775808 := by
  obtain ⟨h1, h2⟩ := h
  unfold kX
  by_cases c : v < 0
  · rw [if_pos c, decide_eq_true c, if_pos rfl]
  · rw [if_neg c, decide_eq_false c, if_neg (by decide)]
    omega
theorem kX_f {v : Int} (hn : eX v ≠ 2047) : v % 9223372036854775808 = (((fX v).toNat : Nat) : Int) + (plX v - -1074) * ((4503599627370496 : Nat) : Int) ∧ v % 9223372036854775808 < 9218868437227405312 := by
  have f := fX_r v
  have e := eX_r v
  rw [Int.toNat_of_nonneg f.1]
  unfold fX plX
  unfold pX
  unfold eX at *
  split <;> omega
theorem kX_i {v : Int} (h : infX v) : v % 9223372036854775808 = 9218868437227405312 := by
  obtain ⟨h1, h2⟩ := h
  unfold eX at h1
  unfold pX at h2
  omega
theorem fin_or {v : Int} (h : ¬ noX v) : infX v ∨ eX v ≠ 2047 := by
  by_cases c : eX v = 2047
  · left
    by_cases d : pX v = 0
    · exact ⟨c, d⟩
    · exact absurd ⟨c, d⟩ h
  · exact Or.inr c
theorem vD_q {v : Int} (hn : eX v ≠ 2047) : (fX v).toNat < 2 * 4503599627370496 ∧ -1074 ≤ plX v ∧ (plX v = -1074 ∨ 4503599627370496 ≤ (fX v).toNat) := by
  have f := fX_r v
  have g := plX_r v
  have q := pX_r v
  refine ⟨by omega, g.1, ?_⟩
  unfold plX fX
  by_cases d : eX v = 0
  · rw [if_pos d]
    exact Or.inl rfl
  · rw [if_neg d, if_neg d]
    right
    omega
theorem ord_X {x y : Int} (hx : In6 x) (hy : In6 y) (nx : ¬ noX x) (ny : ¬ noX y) : FP.Core.order (vD x) (vD y) = some (compare (kX x) (kX y)) := by
  rw [kX_a hx, kX_a hy]
  rcases fin_or nx with ix | fx
  · rw [vD_inf ix, kX_i ix]
    rcases fin_or ny with iy | fy
    · rw [vD_inf iy, kX_i iy]
      show some (compare (FP.Core.signed (decide (x < 0)) 1) (FP.Core.signed (decide (y < 0)) 1)) = _
      generalize decide (x < 0) = s
      generalize decide (y < 0) = t
      cases s <;> cases t <;> rfl
    · obtain ⟨-, h2⟩ := kX_f fy
      have h3 : 0 ≤ y % 9223372036854775808 := by omega
      rw [vD_fin fy]
      show some (compare (FP.Core.signed (decide (x < 0)) 1) 0) = _
      generalize y % 9223372036854775808 = b at *
      generalize decide (x < 0) = s
      generalize decide (y < 0) = t
      unfold FP.Core.signed
      congr 1
      refine cmp_of ?_ ?_
      · cases s <;> cases t <;> simp <;> omega
      · cases s <;> cases t <;> simp <;> omega
  · rcases fin_or ny with iy | fy
    · obtain ⟨-, h2⟩ := kX_f fx
      have h3 : 0 ≤ x % 9223372036854775808 := by omega
      rw [vD_inf iy, kX_i iy, vD_fin fx]
      show some (compare 0 (FP.Core.signed (decide (y < 0)) 1)) = _
      generalize x % 9223372036854775808 = a at *
      generalize decide (x < 0) = s
      generalize decide (y < 0) = t
      unfold FP.Core.signed
      congr 1
      refine cmp_of ?_ ?_
      · cases s <;> cases t <;> simp <;> omega
      · cases s <;> cases t <;> simp <;> omega
    · obtain ⟨a1, a2, a3⟩ := vD_q fx
      obtain ⟨b1, b2, b3⟩ := vD_q fy
      rw [vD_fin fx, vD_fin fy]
      exact ord_k a1 b1 a2 b2 a3 b3 (kX_f fx).1 (kX_f fy).1 (by omega) (by omega)
theorem dc_key {x y : Int} (hx : In6 x) (hy : In6 y) (nx : ¬ noX x) (ny : ¬ noX y) : FP.dcmp (dX x) (dX y) = some (compare (kX x) (kX y)) := by
  show FP.Core.order (v64 (dX x)) (v64 (dX y)) = _
  rw [vD_eq hx, vD_eq hy]
  exact ord_X hx hy nx ny
theorem ord_n {d e : FP.Core.Datum} (h : d = .nan ∨ e = .nan) : FP.Core.order d e = none := by
  rcases h with rfl | rfl
  · rfl
  · cases d <;> rfl
theorem dc_nan {x y : Int} (hx : In6 x) (hy : In6 y) (h : noX x ∨ noX y) : FP.dcmp (dX x) (dX y) = none := by
  show FP.Core.order (v64 (dX x)) (v64 (dX y)) = _
  rw [vD_eq hx, vD_eq hy]
  refine ord_n ?_
  rw [vD_nan, vD_nan]
  exact h
def cmZ (x y : Int) : Int := if x < y then -1 else if x = y then 0 else 1
theorem cmZ_i (x y : Int) : In3 (cmZ x y) := by
  unfold cmZ
  split
  · decide
  · split <;> decide
theorem cv_key (x y : Int) (op : CmpOp) : Op.cmpValue (some (compare x y)) op = I3 (cmZ x y) := by
  unfold cmZ
  rw [cmp_i]
  by_cases h : x < y
  · rw [if_pos h, if_pos h]
    cases op <;> rfl
  · rw [if_neg h, if_neg h]
    by_cases g : x = y
    · rw [if_pos g, if_pos g]
      cases op <;> rfl
    · rw [if_neg g, if_neg g]
      cases op <;> rfl
/-- floats alike -/
def kF (v : Int) : Int := if v < 0 then -(v % 2147483648) else v
theorem kF_a {v : Int} (h : In3 v) : kF v = if decide (v < 0) = true then -(v % 2147483648) else v % 2147483648 := by
  obtain ⟨h1, h2⟩ := h
  unfold kF
  by_cases c : v < 0
  · rw [if_pos c, decide_eq_true c, if_pos rfl]
  · rw [if_neg c, decide_eq_false c, if_neg (by decide)]
    omega
theorem kF_f {v : Int} (hn : eF v ≠ 255) : v % 2147483648 = (((fM v).toNat : Nat) : Int) + (plF v - -149) * ((8388608 : Nat) : Int) ∧ v % 2147483648 < 2139095040 ∧ (fM v).toNat < 2 * 8388608 ∧ -149 ≤ plF v ∧ (plF v = -149 ∨ 8388608 ≤ (fM v).toNat) := by
  have p := pF_r v
  have e := eF_r v
  unfold fM plF
  unfold pF at *
  unfold eF at *
  split <;> omega
theorem finF_or {v : Int} (h : ¬ noF v) : (eF v = 255 ∧ pF v = 0) ∨ eF v ≠ 255 := by
  unfold noF at h
  unfold eF pF
  omega
theorem kF_i {v : Int} (h : eF v = 255 ∧ pF v = 0) : v % 2147483648 = 2139095040 := by
  obtain ⟨h1, h2⟩ := h
  unfold eF at h1
  unfold pF at h2
  omega
theorem ord_F {x y : Int} (hx : In3 x) (hy : In3 y) (nx : ¬ noF x) (ny : ¬ noF y) : FP.Core.order (vF x) (vF y) = some (compare (kF x) (kF y)) := by
  rw [kF_a hx, kF_a hy, vF_eq hx, vF_eq hy]
  rcases finF_or nx with ix | fx
  · rw [if_pos ix.1, if_pos ix.2, kF_i ix]
    rcases finF_or ny with iy | fy
    · rw [if_pos iy.1, if_pos iy.2, kF_i iy]
      show some (compare (FP.Core.signed (decide (x < 0)) 1) (FP.Core.signed (decide (y < 0)) 1)) = _
      generalize decide (x < 0) = s
      generalize decide (y < 0) = t
      cases s <;> cases t <;> rfl
    · obtain ⟨-, h2, -⟩ := kF_f fy
      have h3 : 0 ≤ y % 2147483648 := by omega
      rw [if_neg fy]
      show some (compare (FP.Core.signed (decide (x < 0)) 1) 0) = _
      generalize y % 2147483648 = b at *
      generalize decide (x < 0) = s
      generalize decide (y < 0) = t
      unfold FP.Core.signed
      congr 1
      refine cmp_of ?_ ?_
      · cases s <;> cases t <;> simp <;> omega
      · cases s <;> cases t <;> simp <;> omega
  · rcases finF_or ny with iy | fy
    · obtain ⟨-, h2, -⟩ := kF_f fx
      have h3 : 0 ≤ x % 2147483648 := by omega
      rw [if_neg fx, if_pos iy.1, if_pos iy.2, kF_i iy]
      show some (compare 0 (FP.Core.signed (decide (y < 0)) 1)) = _
      generalize x % 2147483648 = a at *
      generalize decide (x < 0) = s
      generalize decide (y < 0) = t
      unfold FP.Core.signed
      congr 1
      refine cmp_of ?_ ?_
      · cases s <;> cases t <;> simp <;> omega
      · cases s <;> cases t <;> simp <;> omega
    · obtain ⟨a0, -, a1, a2, a3⟩ := kF_f fx
      obtain ⟨b0, -, b1, b2, b3⟩ := kF_f fy
      rw [if_neg fx, if_neg fy]
      exact ord_k a1 b1 a2 b2 a3 b3 a0 b0 (by omega) (by omega)
theorem vF_nan {v : Int} (h : In3 v) : vF v = .nan ↔ noF v := by
  rw [vF_eq h]
  unfold noF
  by_cases c : eF v = 255
  · rw [if_pos c]
    by_cases d : pF v = 0
    · rw [if_pos d]
      unfold eF at c
      unfold pF at d
      exact ⟨fun q => (by cases q), fun q => by omega⟩
    · rw [if_neg d]
      unfold eF at c
      unfold pF at d
      exact ⟨fun _ => by omega, fun _ => rfl⟩
  · rw [if_neg c]
    unfold eF at c
    exact ⟨fun q => (by cases q), fun q => by omega⟩
theorem fc_key {x y : Int} (hx : In3 x) (hy : In3 y) (nx : ¬ noF x) (ny : ¬ noF y) : FP.fcmp (fB x) (fB y) = some (compare (kF x) (kF y)) := ord_F hx hy nx ny
theorem fc_nan {x y : Int} (hx : In3 x) (hy : In3 y) (h : noF x ∨ noF y) : FP.fcmp (fB x) (fB y) = none := by
  show FP.Core.order (vF x) (vF y) = none
  refine ord_n ?_
  rw [vF_nan hx, vF_nan hy]
  exact h
section DRW
variable {p : Program} {l : Launch} {e : Env} {R : Room} {s : State} {m : MethodId} {args : Array Value} {below : List Frame} {meth : Method} {c : Code} {H : Heap} {locs : List Loc} {cells slots : Nat} {Q : State → Prop}
variable {cc : ByteArray} {pc : Nat} {ls : Array Slot} {rest : List Value}
theorem ix_dc {z : UInt64} {x : Int} (h : z = dX x) (k : W p l e R s m args below meth c H locs cells slots Q (F0 m pc ls (.double (dX x) :: rest))) : W p l e R s m args below meth c H locs cells slots Q (F0 m pc ls (.double z :: rest)) := by subst h; exact k
theorem ix_fc {z : UInt32} {x : Int} (h : z = fB x) (k : W p l e R s m args below meth c H locs cells slots Q (F0 m pc ls (.float (fB x) :: rest))) : W p l e R s m args below meth c H locs cells slots Q (F0 m pc ls (.float z :: rest)) := by subst h; exact k
theorem ix_td {x y : Int} (h : dX x = dX y) (k : W p l e R s m args below meth c H locs cells slots Q (F0 m pc ls (.double (dX y) :: rest))) : W p l e R s m args below meth c H locs cells slots Q (F0 m pc ls (.double (dX x) :: rest)) := by rw [h]; exact k
theorem ix_dmul (hx : p.tables.exec = Jvm.exec) (hb : c.code = cc) {x y u : Int} (h : FP.dmul (dX x) (dX y) = dX u) (hn : ¬ noX u) (hd : decode cc pc = .ok (.dmul, 1)) (k : W p l e R s m args below meth c H locs cells slots Q (F0 m (pc + 1) ls (.double (dX u) :: rest))) : W p l e R s m args below meth c H locs cells slots Q (F0 m pc ls (.double (dX y) :: .double (dX x) :: rest)) := lv_dmul hx hb hd (by rw [h]; exact dX_64 hn) (by rw [h]; exact k)
theorem ix_dadd (hx : p.tables.exec = Jvm.exec) (hb : c.code = cc) {x y u : Int} (h : FP.dadd (dX x) (dX y) = dX u) (hn : ¬ noX u) (hd : decode cc pc = .ok (.dadd, 1)) (k : W p l e R s m args below meth c H locs cells slots Q (F0 m (pc + 1) ls (.double (dX u) :: rest))) : W p l e R s m args below meth c H locs cells slots Q (F0 m pc ls (.double (dX y) :: .double (dX x) :: rest)) := lv_dadd hx hb hd (by rw [h]; exact dX_64 hn) (by rw [h]; exact k)
theorem ix_dsub (hx : p.tables.exec = Jvm.exec) (hb : c.code = cc) {x y u : Int} (h : FP.dsub (dX x) (dX y) = dX u) (hn : ¬ noX u) (hd : decode cc pc = .ok (.dsub, 1)) (k : W p l e R s m args below meth c H locs cells slots Q (F0 m (pc + 1) ls (.double (dX u) :: rest))) : W p l e R s m args below meth c H locs cells slots Q (F0 m pc ls (.double (dX y) :: .double (dX x) :: rest)) := lv_dsub hx hb hd (by rw [h]; exact dX_64 hn) (by rw [h]; exact k)
theorem ix_drem (hx : p.tables.exec = Jvm.exec) (hb : c.code = cc) {x y u : Int} (h : FP.drem (dX x) (dX y) = dX u) (hn : ¬ noX u) (hd : decode cc pc = .ok (.drem, 1)) (k : W p l e R s m args below meth c H locs cells slots Q (F0 m (pc + 1) ls (.double (dX u) :: rest))) : W p l e R s m args below meth c H locs cells slots Q (F0 m pc ls (.double (dX y) :: .double (dX x) :: rest)) := lv_drem hx hb hd (by rw [h]; exact dX_64 hn) (by rw [h]; exact k)
theorem ix_l2d (hx : p.tables.exec = Jvm.exec) (hb : c.code = cc) {x u : Int} (h : FP.l2d (L6 x) = dX u) (hd : decode cc pc = .ok (.l2d, 1)) (k : W p l e R s m args below meth c H locs cells slots Q (F0 m (pc + 1) ls (.double (dX u) :: rest))) : W p l e R s m args below meth c H locs cells slots Q (F0 m pc ls (.long (L6 x) :: rest)) := lv_l2d hx hb hd (by rw [h]; exact k)
theorem ix_i2d (hx : p.tables.exec = Jvm.exec) (hb : c.code = cc) {x u : Int} (h : FP.i2d (I3 x) = dX u) (hd : decode cc pc = .ok (.i2d, 1)) (k : W p l e R s m args below meth c H locs cells slots Q (F0 m (pc + 1) ls (.double (dX u) :: rest))) : W p l e R s m args below meth c H locs cells slots Q (F0 m pc ls (.int (I3 x) :: rest)) := lv_i2d hx hb hd (by rw [h]; exact k)
theorem ix_l2f (hx : p.tables.exec = Jvm.exec) (hb : c.code = cc) {x u : Int} (h : FP.l2f (L6 x) = fB u) (hd : decode cc pc = .ok (.l2f, 1)) (k : W p l e R s m args below meth c H locs cells slots Q (F0 m (pc + 1) ls (.float (fB u) :: rest))) : W p l e R s m args below meth c H locs cells slots Q (F0 m pc ls (.long (L6 x) :: rest)) := lv_l2f hx hb hd (by rw [h]; exact k)
theorem ix_i2f (hx : p.tables.exec = Jvm.exec) (hb : c.code = cc) {x u : Int} (h : FP.i2f (I3 x) = fB u) (hd : decode cc pc = .ok (.i2f, 1)) (k : W p l e R s m args below meth c H locs cells slots Q (F0 m (pc + 1) ls (.float (fB u) :: rest))) : W p l e R s m args below meth c H locs cells slots Q (F0 m pc ls (.int (I3 x) :: rest)) := lv_i2f hx hb hd (by rw [h]; exact k)
theorem ix_d2l (hx : p.tables.exec = Jvm.exec) (hb : c.code = cc) {x u : Int} (h : FP.d2l (dX x) = L6 u) (hd : decode cc pc = .ok (.d2l, 1)) (k : W p l e R s m args below meth c H locs cells slots Q (F0 m (pc + 1) ls (.long (L6 u) :: rest))) : W p l e R s m args below meth c H locs cells slots Q (F0 m pc ls (.double (dX x) :: rest)) := lv_d2l hx hb hd (by rw [h]; exact k)
theorem ix_d2i (hx : p.tables.exec = Jvm.exec) (hb : c.code = cc) {x u : Int} (h : FP.d2i (dX x) = I3 u) (hd : decode cc pc = .ok (.d2i, 1)) (k : W p l e R s m args below meth c H locs cells slots Q (F0 m (pc + 1) ls (.int (I3 u) :: rest))) : W p l e R s m args below meth c H locs cells slots Q (F0 m pc ls (.double (dX x) :: rest)) := lv_d2i hx hb hd (by rw [h]; exact k)
theorem ix_d2f (hx : p.tables.exec = Jvm.exec) (hb : c.code = cc) {x u : Int} (h : FP.d2f (dX x) = fB u) (hn : ¬ noF u) (hd : decode cc pc = .ok (.d2f, 1)) (k : W p l e R s m args below meth c H locs cells slots Q (F0 m (pc + 1) ls (.float (fB u) :: rest))) : W p l e R s m args below meth c H locs cells slots Q (F0 m pc ls (.double (dX x) :: rest)) := lv_d2f hx hb hd (by rw [h]; exact fB_32 hn) (by rw [h]; exact k)
theorem ix_f2d (hx : p.tables.exec = Jvm.exec) (hb : c.code = cc) {x u : Int} (h : FP.f2d (fB x) = dX u) (hn : ¬ noX u) (hd : decode cc pc = .ok (.f2d, 1)) (k : W p l e R s m args below meth c H locs cells slots Q (F0 m (pc + 1) ls (.double (dX u) :: rest))) : W p l e R s m args below meth c H locs cells slots Q (F0 m pc ls (.float (fB x) :: rest)) := lv_f2d hx hb hd (by rw [h]; exact dX_64 hn) (by rw [h]; exact k)
/-- compared: no NaN; or one -/
theorem ix_dcmp (hx : p.tables.exec = Jvm.exec) (hb : c.code = cc) {x y : Int} {op : CmpOp} (hx1 : In6 x) (hy1 : In6 y) (nx : ¬ noX x) (ny : ¬ noX y) (hd : decode cc pc = .ok (.dcmp op, 1)) (k : W p l e R s m args below meth c H locs cells slots Q (F0 m (pc + 1) ls (.int (I3 (cmZ (kX x) (kX y))) :: rest))) : W p l e R s m args below meth c H locs cells slots Q (F0 m pc ls (.double (dX y) :: .double (dX x) :: rest)) := lv_dcmp hx hb hd (by rw [dc_key hx1 hy1 nx ny, cv_key]; exact k)
theorem ix_dcmpN (hx : p.tables.exec = Jvm.exec) (hb : c.code = cc) {x y z : Int} {op : CmpOp} (hx1 : In6 x) (hy1 : In6 y) (hn : noX x ∨ noX y) (hz : Op.cmpValue none op = I3 z) (hd : decode cc pc = .ok (.dcmp op, 1)) (k : W p l e R s m args below meth c H locs cells slots Q (F0 m (pc + 1) ls (.int (I3 z) :: rest))) : W p l e R s m args below meth c H locs cells slots Q (F0 m pc ls (.double (dX y) :: .double (dX x) :: rest)) := lv_dcmp hx hb hd (by rw [dc_nan hx1 hy1 hn, hz]; exact k)
theorem ix_draw (hx : p.tables.exec = Jvm.exec) (hb : c.code = cc) (hml : c.maxLocals = ls.size) {own : String} {index : Nat} (hown : s.vm.findClass own = some m.cls) (hlink : (Cond.methodLink own index ⟨"java/lang/Double", "doubleToRawLongBits", "(D)J"⟩).before args s = true) (hnat : (Cond.native ⟨"java/lang/Double", "doubleToRawLongBits", "(D)J"⟩).before args s = true) (hstat : (Cond.static ⟨"java/lang/Double", "doubleToRawLongBits", "(D)J"⟩).before args s = true) (hinit : (Cond.initialized "java/lang/Double").before args s = true) {x : Int} (hframes : 1 ≤ R.frames) (hlocals : (rest.map fun v => v.category).sum + 15 ≤ R.locals) (hdg : decode cc pc = .ok (.invokestatic index, 3))
    (k : W p l e R s m args below meth c H locs cells slots Q (F0 m (pc + 3) ls (.long (L6 x) :: rest))) : W p l e R s m args below meth c H locs cells slots Q (F0 m pc ls (.double (dX x) :: rest)) := vn_d2l hx hb hml hown hlink hnat hstat hinit hframes hlocals hdg k
theorem snl_ok {v : Int} (h : ¬ noX v) : vn_snl2d (L6 v) = false := by
  have h1 := dX_64 h
  unfold vf_n64 at h1
  unfold vn_snl2d
  have h2 : ¬ (9218868437227405312 : UInt64) < (L6 v).toUInt64 &&& 9223372036854775807 := UInt64.not_lt.mpr h1
  simp [h2]
theorem sni_ok {v : Int} (h : ¬ noF v) : vn_sni2f (I3 v) = false := by
  have h1 := fB_32 h
  unfold vf_n32 at h1
  unfold vn_sni2f
  have h2 : ¬ (2139095040 : UInt32) < (I3 v).toUInt32 &&& 2147483647 := UInt32.not_lt.mpr h1
  simp [h2]
theorem ix_dbits (hx : p.tables.exec = Jvm.exec) (hb : c.code = cc) (hml : c.maxLocals = ls.size) {own : String} {index : Nat} (hown : s.vm.findClass own = some m.cls) (hlink : (Cond.methodLink own index ⟨"java/lang/Double", "longBitsToDouble", "(J)D"⟩).before args s = true) (hnat : (Cond.native ⟨"java/lang/Double", "longBitsToDouble", "(J)D"⟩).before args s = true) (hstat : (Cond.static ⟨"java/lang/Double", "longBitsToDouble", "(J)D"⟩).before args s = true) (hinit : (Cond.initialized "java/lang/Double").before args s = true) {x : Int} (hn : ¬ noX x) (hframes : 1 ≤ R.frames) (hlocals : (rest.map fun v => v.category).sum + 15 ≤ R.locals) (hdg : decode cc pc = .ok (.invokestatic index, 3))
    (k : W p l e R s m args below meth c H locs cells slots Q (F0 m (pc + 3) ls (.double (dX x) :: rest))) : W p l e R s m args below meth c H locs cells slots Q (F0 m pc ls (.long (L6 x) :: rest)) := vn_l2d hx hb hml hown hlink hnat hstat hinit (snl_ok hn) hframes hlocals hdg k
theorem ix_fraw (hx : p.tables.exec = Jvm.exec) (hb : c.code = cc) (hml : c.maxLocals = ls.size) {own : String} {index : Nat} (hown : s.vm.findClass own = some m.cls) (hlink : (Cond.methodLink own index ⟨"java/lang/Float", "floatToRawIntBits", "(F)I"⟩).before args s = true) (hnat : (Cond.native ⟨"java/lang/Float", "floatToRawIntBits", "(F)I"⟩).before args s = true) (hstat : (Cond.static ⟨"java/lang/Float", "floatToRawIntBits", "(F)I"⟩).before args s = true) (hinit : (Cond.initialized "java/lang/Float").before args s = true) {x : Int} (hframes : 1 ≤ R.frames) (hlocals : (rest.map fun v => v.category).sum + 15 ≤ R.locals) (hdg : decode cc pc = .ok (.invokestatic index, 3))
    (k : W p l e R s m args below meth c H locs cells slots Q (F0 m (pc + 3) ls (.int (I3 x) :: rest))) : W p l e R s m args below meth c H locs cells slots Q (F0 m pc ls (.float (fB x) :: rest)) := vn_f2i hx hb hml hown hlink hnat hstat hinit hframes hlocals hdg k
theorem ix_fbits (hx : p.tables.exec = Jvm.exec) (hb : c.code = cc) (hml : c.maxLocals = ls.size) {own : String} {index : Nat} (hown : s.vm.findClass own = some m.cls) (hlink : (Cond.methodLink own index ⟨"java/lang/Float", "intBitsToFloat", "(I)F"⟩).before args s = true) (hnat : (Cond.native ⟨"java/lang/Float", "intBitsToFloat", "(I)F"⟩).before args s = true) (hstat : (Cond.static ⟨"java/lang/Float", "intBitsToFloat", "(I)F"⟩).before args s = true) (hinit : (Cond.initialized "java/lang/Float").before args s = true) {x : Int} (hn : ¬ noF x) (hframes : 1 ≤ R.frames) (hlocals : (rest.map fun v => v.category).sum + 15 ≤ R.locals) (hdg : decode cc pc = .ok (.invokestatic index, 3))
    (k : W p l e R s m args below meth c H locs cells slots Q (F0 m (pc + 3) ls (.float (fB x) :: rest))) : W p l e R s m args below meth c H locs cells slots Q (F0 m pc ls (.int (I3 x) :: rest)) := vn_i2f hx hb hml hown hlink hnat hstat hinit (sni_ok hn) hframes hlocals hdg k
theorem ix_fcmp (hx : p.tables.exec = Jvm.exec) (hb : c.code = cc) {x y : Int} {op : CmpOp} (hx1 : In3 x) (hy1 : In3 y) (nx : ¬ noF x) (ny : ¬ noF y) (hd : decode cc pc = .ok (.fcmp op, 1)) (k : W p l e R s m args below meth c H locs cells slots Q (F0 m (pc + 1) ls (.int (I3 (cmZ (kF x) (kF y))) :: rest))) : W p l e R s m args below meth c H locs cells slots Q (F0 m pc ls (.float (fB y) :: .float (fB x) :: rest)) := lv_fcmp hx hb hd (by rw [fc_key hx1 hy1 nx ny, cv_key]; exact k)
theorem ix_fcmpN (hx : p.tables.exec = Jvm.exec) (hb : c.code = cc) {x y z : Int} {op : CmpOp} (hx1 : In3 x) (hy1 : In3 y) (hn : noF x ∨ noF y) (hz : Op.cmpValue none op = I3 z) (hd : decode cc pc = .ok (.fcmp op, 1)) (k : W p l e R s m args below meth c H locs cells slots Q (F0 m (pc + 1) ls (.int (I3 z) :: rest))) : W p l e R s m args below meth c H locs cells slots Q (F0 m pc ls (.float (fB y) :: .float (fB x) :: rest)) := lv_fcmp hx hb hd (by rw [fc_nan hx1 hy1 hn, hz]; exact k)
theorem ix_cm0 {x : Int} (k : W p l e R s m args below meth c H locs cells slots Q (F0 m pc ls (.int (I3 0) :: rest))) : W p l e R s m args below meth c H locs cells slots Q (F0 m pc ls (.int (I3 (cmZ x x)) :: rest)) := by
  have h : cmZ x x = 0 := by
    unfold cmZ
    rw [if_neg (by omega), if_pos rfl]
  rw [h]
  exact k
theorem ix_dci_eq (hx : p.tables.exec = Jvm.exec) (hb : c.code = cc) {x y off : Int} {op : CmpOp} {tgt : Nat} (hx1 : In6 x) (hy1 : In6 y) (nx : ¬ noX x) (ny : ¬ noX y) (hd : decode cc pc = .ok (.dcmp op, 1)) (hd2 : decode cc (pc + 1) = .ok (.ifCond .eq off, 3)) (ht : ((pc + 1 : Nat) : Int) + off = (tgt : Int)) (kt : kX x = kX y → W p l e R s m args below meth c H locs cells slots Q (F0 m tgt ls rest)) (kf : ¬ kX x = kX y → W p l e R s m args below meth c H locs cells slots Q (F0 m (pc + 4) ls rest)) : W p l e R s m args below meth c H locs cells slots Q (F0 m pc ls (.double (dX y) :: .double (dX x) :: rest)) := ix_dcmp hx hb hx1 hy1 nx ny hd (ix_if_eq hx hb (cmZ_i _ _) hd2 ht (fun q => kt (by unfold cmZ at q; split at q <;> (try split at q) <;> omega)) (fun q => kf (by unfold cmZ at q; split at q <;> (try split at q) <;> omega)))
theorem ix_fci_eq (hx : p.tables.exec = Jvm.exec) (hb : c.code = cc) {x y off : Int} {op : CmpOp} {tgt : Nat} (hx1 : In3 x) (hy1 : In3 y) (nx : ¬ noF x) (ny : ¬ noF y) (hd : decode cc pc = .ok (.fcmp op, 1)) (hd2 : decode cc (pc + 1) = .ok (.ifCond .eq off, 3)) (ht : ((pc + 1 : Nat) : Int) + off = (tgt : Int)) (kt : kF x = kF y → W p l e R s m args below meth c H locs cells slots Q (F0 m tgt ls rest)) (kf : ¬ kF x = kF y → W p l e R s m args below meth c H locs cells slots Q (F0 m (pc + 4) ls rest)) : W p l e R s m args below meth c H locs cells slots Q (F0 m pc ls (.float (fB y) :: .float (fB x) :: rest)) := ix_fcmp hx hb hx1 hy1 nx ny hd (ix_if_eq hx hb (cmZ_i _ _) hd2 ht (fun q => kt (by unfold cmZ at q; split at q <;> (try split at q) <;> omega)) (fun q => kf (by unfold cmZ at q; split at q <;> (try split at q) <;> omega)))
theorem ix_dci_ne (hx : p.tables.exec = Jvm.exec) (hb : c.code = cc) {x y off : Int} {op : CmpOp} {tgt : Nat} (hx1 : In6 x) (hy1 : In6 y) (nx : ¬ noX x) (ny : ¬ noX y) (hd : decode cc pc = .ok (.dcmp op, 1)) (hd2 : decode cc (pc + 1) = .ok (.ifCond .ne off, 3)) (ht : ((pc + 1 : Nat) : Int) + off = (tgt : Int)) (kt : ¬ kX x = kX y → W p l e R s m args below meth c H locs cells slots Q (F0 m tgt ls rest)) (kf : kX x = kX y → W p l e R s m args below meth c H locs cells slots Q (F0 m (pc + 4) ls rest)) : W p l e R s m args below meth c H locs cells slots Q (F0 m pc ls (.double (dX y) :: .double (dX x) :: rest)) := ix_dcmp hx hb hx1 hy1 nx ny hd (ix_if_ne hx hb (cmZ_i _ _) hd2 ht (fun q => kt (by unfold cmZ at q; split at q <;> (try split at q) <;> omega)) (fun q => kf (by unfold cmZ at q; split at q <;> (try split at q) <;> omega)))
theorem ix_fci_ne (hx : p.tables.exec = Jvm.exec) (hb : c.code = cc) {x y off : Int} {op : CmpOp} {tgt : Nat} (hx1 : In3 x) (hy1 : In3 y) (nx : ¬ noF x) (ny : ¬ noF y) (hd : decode cc pc = .ok (.fcmp op, 1)) (hd2 : decode cc (pc + 1) = .ok (.ifCond .ne off, 3)) (ht : ((pc + 1 : Nat) : Int) + off = (tgt : Int)) (kt : ¬ kF x = kF y → W p l e R s m args below meth c H locs cells slots Q (F0 m tgt ls rest)) (kf : kF x = kF y → W p l e R s m args below meth c H locs cells slots Q (F0 m (pc + 4) ls rest)) : W p l e R s m args below meth c H locs cells slots Q (F0 m pc ls (.float (fB y) :: .float (fB x) :: rest)) := ix_fcmp hx hb hx1 hy1 nx ny hd (ix_if_ne hx hb (cmZ_i _ _) hd2 ht (fun q => kt (by unfold cmZ at q; split at q <;> (try split at q) <;> omega)) (fun q => kf (by unfold cmZ at q; split at q <;> (try split at q) <;> omega)))
theorem ix_dci_lt (hx : p.tables.exec = Jvm.exec) (hb : c.code = cc) {x y off : Int} {op : CmpOp} {tgt : Nat} (hx1 : In6 x) (hy1 : In6 y) (nx : ¬ noX x) (ny : ¬ noX y) (hd : decode cc pc = .ok (.dcmp op, 1)) (hd2 : decode cc (pc + 1) = .ok (.ifCond .lt off, 3)) (ht : ((pc + 1 : Nat) : Int) + off = (tgt : Int)) (kt : kX x < kX y → W p l e R s m args below meth c H locs cells slots Q (F0 m tgt ls rest)) (kf : kX y ≤ kX x → W p l e R s m args below meth c H locs cells slots Q (F0 m (pc + 4) ls rest)) : W p l e R s m args below meth c H locs cells slots Q (F0 m pc ls (.double (dX y) :: .double (dX x) :: rest)) := ix_dcmp hx hb hx1 hy1 nx ny hd (ix_if_lt hx hb (cmZ_i _ _) hd2 ht (fun q => kt (by unfold cmZ at q; split at q <;> (try split at q) <;> omega)) (fun q => kf (by unfold cmZ at q; split at q <;> (try split at q) <;> omega)))
theorem ix_fci_lt (hx : p.tables.exec = Jvm.exec) (hb : c.code = cc) {x y off : Int} {op : CmpOp} {tgt : Nat} (hx1 : In3 x) (hy1 : In3 y) (nx : ¬ noF x) (ny : ¬ noF y) (hd : decode cc pc = .ok (.fcmp op, 1)) (hd2 : decode cc (pc + 1) = .ok (.ifCond .lt off, 3)) (ht : ((pc + 1 : Nat) : Int) + off = (tgt : Int)) (kt : kF x < kF y → W p l e R s m args below meth c H locs cells slots Q (F0 m tgt ls rest)) (kf : kF y ≤ kF x → W p l e R s m args below meth c H locs cells slots Q (F0 m (pc + 4) ls rest)) : W p l e R s m args below meth c H locs cells slots Q (F0 m pc ls (.float (fB y) :: .float (fB x) :: rest)) := ix_fcmp hx hb hx1 hy1 nx ny hd (ix_if_lt hx hb (cmZ_i _ _) hd2 ht (fun q => kt (by unfold cmZ at q; split at q <;> (try split at q) <;> omega)) (fun q => kf (by unfold cmZ at q; split at q <;> (try split at q) <;> omega)))
theorem ix_dci_ge (hx : p.tables.exec = Jvm.exec) (hb : c.code = cc) {x y off : Int} {op : CmpOp} {tgt : Nat} (hx1 : In6 x) (hy1 : In6 y) (nx : ¬ noX x) (ny : ¬ noX y) (hd : decode cc pc = .ok (.dcmp op, 1)) (hd2 : decode cc (pc + 1) = .ok (.ifCond .ge off, 3)) (ht : ((pc + 1 : Nat) : Int) + off = (tgt : Int)) (kt : kX y ≤ kX x → W p l e R s m args below meth c H locs cells slots Q (F0 m tgt ls rest)) (kf : kX x < kX y → W p l e R s m args below meth c H locs cells slots Q (F0 m (pc + 4) ls rest)) : W p l e R s m args below meth c H locs cells slots Q (F0 m pc ls (.double (dX y) :: .double (dX x) :: rest)) := ix_dcmp hx hb hx1 hy1 nx ny hd (ix_if_ge hx hb (cmZ_i _ _) hd2 ht (fun q => kt (by unfold cmZ at q; split at q <;> (try split at q) <;> omega)) (fun q => kf (by unfold cmZ at q; split at q <;> (try split at q) <;> omega)))
theorem ix_fci_ge (hx : p.tables.exec = Jvm.exec) (hb : c.code = cc) {x y off : Int} {op : CmpOp} {tgt : Nat} (hx1 : In3 x) (hy1 : In3 y) (nx : ¬ noF x) (ny : ¬ noF y) (hd : decode cc pc = .ok (.fcmp op, 1)) (hd2 : decode cc (pc + 1) = .ok (.ifCond .ge off, 3)) (ht : ((pc + 1 : Nat) : Int) + off = (tgt : Int)) (kt : kF y ≤ kF x → W p l e R s m args below meth c H locs cells slots Q (F0 m tgt ls rest)) (kf : kF x < kF y → W p l e R s m args below meth c H locs cells slots Q (F0 m (pc + 4) ls rest)) : W p l e R s m args below meth c H locs cells slots Q (F0 m pc ls (.float (fB y) :: .float (fB x) :: rest)) := ix_fcmp hx hb hx1 hy1 nx ny hd (ix_if_ge hx hb (cmZ_i _ _) hd2 ht (fun q => kt (by unfold cmZ at q; split at q <;> (try split at q) <;> omega)) (fun q => kf (by unfold cmZ at q; split at q <;> (try split at q) <;> omega)))
theorem ix_dci_gt (hx : p.tables.exec = Jvm.exec) (hb : c.code = cc) {x y off : Int} {op : CmpOp} {tgt : Nat} (hx1 : In6 x) (hy1 : In6 y) (nx : ¬ noX x) (ny : ¬ noX y) (hd : decode cc pc = .ok (.dcmp op, 1)) (hd2 : decode cc (pc + 1) = .ok (.ifCond .gt off, 3)) (ht : ((pc + 1 : Nat) : Int) + off = (tgt : Int)) (kt : kX y < kX x → W p l e R s m args below meth c H locs cells slots Q (F0 m tgt ls rest)) (kf : kX x ≤ kX y → W p l e R s m args below meth c H locs cells slots Q (F0 m (pc + 4) ls rest)) : W p l e R s m args below meth c H locs cells slots Q (F0 m pc ls (.double (dX y) :: .double (dX x) :: rest)) := ix_dcmp hx hb hx1 hy1 nx ny hd (ix_if_gt hx hb (cmZ_i _ _) hd2 ht (fun q => kt (by unfold cmZ at q; split at q <;> (try split at q) <;> omega)) (fun q => kf (by unfold cmZ at q; split at q <;> (try split at q) <;> omega)))
theorem ix_fci_gt (hx : p.tables.exec = Jvm.exec) (hb : c.code = cc) {x y off : Int} {op : CmpOp} {tgt : Nat} (hx1 : In3 x) (hy1 : In3 y) (nx : ¬ noF x) (ny : ¬ noF y) (hd : decode cc pc = .ok (.fcmp op, 1)) (hd2 : decode cc (pc + 1) = .ok (.ifCond .gt off, 3)) (ht : ((pc + 1 : Nat) : Int) + off = (tgt : Int)) (kt : kF y < kF x → W p l e R s m args below meth c H locs cells slots Q (F0 m tgt ls rest)) (kf : kF x ≤ kF y → W p l e R s m args below meth c H locs cells slots Q (F0 m (pc + 4) ls rest)) : W p l e R s m args below meth c H locs cells slots Q (F0 m pc ls (.float (fB y) :: .float (fB x) :: rest)) := ix_fcmp hx hb hx1 hy1 nx ny hd (ix_if_gt hx hb (cmZ_i _ _) hd2 ht (fun q => kt (by unfold cmZ at q; split at q <;> (try split at q) <;> omega)) (fun q => kf (by unfold cmZ at q; split at q <;> (try split at q) <;> omega)))
theorem ix_dci_le (hx : p.tables.exec = Jvm.exec) (hb : c.code = cc) {x y off : Int} {op : CmpOp} {tgt : Nat} (hx1 : In6 x) (hy1 : In6 y) (nx : ¬ noX x) (ny : ¬ noX y) (hd : decode cc pc = .ok (.dcmp op, 1)) (hd2 : decode cc (pc + 1) = .ok (.ifCond .le off, 3)) (ht : ((pc + 1 : Nat) : Int) + off = (tgt : Int)) (kt : kX x ≤ kX y → W p l e R s m args below meth c H locs cells slots Q (F0 m tgt ls rest)) (kf : kX y < kX x → W p l e R s m args below meth c H locs cells slots Q (F0 m (pc + 4) ls rest)) : W p l e R s m args below meth c H locs cells slots Q (F0 m pc ls (.double (dX y) :: .double (dX x) :: rest)) := ix_dcmp hx hb hx1 hy1 nx ny hd (ix_if_le hx hb (cmZ_i _ _) hd2 ht (fun q => kt (by unfold cmZ at q; split at q <;> (try split at q) <;> omega)) (fun q => kf (by unfold cmZ at q; split at q <;> (try split at q) <;> omega)))
theorem ix_fci_le (hx : p.tables.exec = Jvm.exec) (hb : c.code = cc) {x y off : Int} {op : CmpOp} {tgt : Nat} (hx1 : In3 x) (hy1 : In3 y) (nx : ¬ noF x) (ny : ¬ noF y) (hd : decode cc pc = .ok (.fcmp op, 1)) (hd2 : decode cc (pc + 1) = .ok (.ifCond .le off, 3)) (ht : ((pc + 1 : Nat) : Int) + off = (tgt : Int)) (kt : kF x ≤ kF y → W p l e R s m args below meth c H locs cells slots Q (F0 m tgt ls rest)) (kf : kF y < kF x → W p l e R s m args below meth c H locs cells slots Q (F0 m (pc + 4) ls rest)) : W p l e R s m args below meth c H locs cells slots Q (F0 m pc ls (.float (fB y) :: .float (fB x) :: rest)) := ix_fcmp hx hb hx1 hy1 nx ny hd (ix_if_le hx hb (cmZ_i _ _) hd2 ht (fun q => kt (by unfold cmZ at q; split at q <;> (try split at q) <;> omega)) (fun q => kf (by unfold cmZ at q; split at q <;> (try split at q) <;> omega)))
end DRW
