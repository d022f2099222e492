/-! Math.abs, copySign, signum, max and min of doubles, as the machine's entries tell them -/
set_option maxRecDepth 100000
theorem dX_or (x y : Int) : dX x ||| dX y = dX (zor6 x y) := by
  show (L6 x).toUInt64 ||| (L6 y).toUInt64 = (L6 ((L6 x ||| L6 y).toInt)).toUInt64
  rw [L6_of]
  rfl
theorem dX_and (x y : Int) : dX x &&& dX y = dX (zand6 x y) := by
  show (L6 x).toUInt64 &&& (L6 y).toUInt64 = (L6 ((L6 x &&& L6 y).toInt)).toUInt64
  rw [L6_of]
  rfl
theorem dX_m63 (v : Int) : dX v &&& 9223372036854775807 = dX (v % 9223372036854775808) := by
  apply UInt64.toNat_inj.mp
  have h3 : (2 : Nat) ^ 63 = 9223372036854775808 := by decide
  rw [mask64, dX_n, dX_n, h3]
  omega
theorem dX_sh {v : Int} (h : In6 v) : ((dX v >>> 63) == 1) = decide (v < 0) := by
  obtain ⟨h1, h2⟩ := h
  have e : (dX v >>> 63).toNat = (v % 18446744073709551616).toNat / 9223372036854775808 := by
    rw [UInt64.toNat_shiftRight, dX_n]
    show _ >>> 63 = _
    rw [Nat.shiftRight_eq_div_pow]
  by_cases c : v < 0
  · have : dX v >>> 63 = 1 := UInt64.toNat_inj.mp (by rw [e]; show _ = 1; omega)
    rw [this, decide_eq_true c]
    rfl
  · have : dX v >>> 63 = 0 := UInt64.toNat_inj.mp (by rw [e]; show _ = 0; omega)
    rw [this, decide_eq_false c]
    rfl
theorem dX_s1 (v : Int) : ((dX v <<< 1) == 0) = decide (v % 9223372036854775808 = 0) := by
  have e : (dX v <<< 1).toNat = (v % 18446744073709551616).toNat * 2 % 18446744073709551616 := by
    rw [UInt64.toNat_shiftLeft, dX_n]
    show _ <<< 1 % _ = _
    rw [Nat.shiftLeft_eq]
  by_cases c : v % 9223372036854775808 = 0
  · have : dX v <<< 1 = 0 := UInt64.toNat_inj.mp (by rw [e]; show _ = 0; omega)
    rw [this, decide_eq_true c]
    rfl
  · have h : dX v <<< 1 ≠ 0 := fun q => by
      have := congrArg UInt64.toNat q
      rw [e] at this
      have z : (0 : UInt64).toNat = 0 := rfl
      rw [z] at this
      omega
    rw [decide_eq_false c]
    exact beq_eq_false_iff_ne.mpr h
theorem dX_nn {v : Int} (h : In6 v) (hn : ¬ noX v) : FP.dIsNaN (dX v) = false := by
  refine decide_eq_false ?_
  show ¬ v64 (dX v) = .nan
  rw [vD_eq h]
  exact noX_v.mp hn
theorem dX_cs (v w : Int) : (dX v &&& 9223372036854775807) ||| (if decide (w < 0) = true then 9223372036854775808 else 0) = dX (sgb w (v % 9223372036854775808)) := by
  have e1 : (9223372036854775808 : UInt64) = dX (-9223372036854775808) := by decide +kernel
  have e2 : (0 : UInt64) = dX 0 := by decide +kernel
  have e3 : (if decide (w < 0) = true then (9223372036854775808 : UInt64) else 0) = dX (if w < 0 then -9223372036854775808 else 0) := by
    by_cases c : w < 0
    · rw [decide_eq_true c, if_pos rfl, if_pos c, e1]
    · rw [decide_eq_false c, if_neg (by decide), if_neg c, e2]
  rw [e3, dX_m63, dX_or, sgb_or (by omega)]
theorem dX_sg {v : Int} (h : In6 v) : (if dX v <<< 1 == 0 then dX v else (dX v &&& 9223372036854775808) ||| 4607182418800017408) = dX (if v % 9223372036854775808 = 0 then v else sgb v 4607182418800017408) := by
  rw [dX_s1]
  by_cases c : v % 9223372036854775808 = 0
  · rw [decide_eq_true c, if_pos rfl, if_pos c]
  · have e1 : (9223372036854775808 : UInt64) = dX (-9223372036854775808) := by decide +kernel
    have e2 : (4607182418800017408 : UInt64) = dX 4607182418800017408 := by decide +kernel
    rw [decide_eq_false c, if_neg (by decide), if_neg c, e1, e2, dX_and, zand6_sg h, dX_or, zor6_comm, sgb_or (by decide)]
theorem pick_max {v w : Int} (hv : In6 v) (hw : In6 w) (nv : ¬ noX v) (nw : ¬ noX w) : Native.java_lang_Math.nans.pick64 true (dX v) (dX w) = dX (if rkX w < rkX v then v else w) := by
  have r1 := rk_k hv
  have r2 := rk_k hw
  unfold Native.java_lang_Math.nans.pick64
  rw [dc_key hv hw nv nw, cmp_i]
  by_cases c : kX v < kX w
  · have z : ¬ rkX w < rkX v := by omega
    rw [if_pos c, if_neg z]
    rfl
  · rw [if_neg c]
    by_cases d : kX v = kX w
    · rw [if_pos d]
      show (if (dX v >>> 63 == 1) == true then dX w else dX v) = _
      rw [dX_sh hv]
      by_cases z : v < 0
      · have y : ¬ rkX w < rkX v := by omega
        rw [decide_eq_true z, if_neg y]
        rfl
      · rw [decide_eq_false z]
        by_cases y : rkX w < rkX v
        · rw [if_pos y]
          rfl
        · rw [if_neg y, show v = w by omega]
          rfl
    · have z : rkX w < rkX v := by omega
      rw [if_neg d, if_pos z]
      rfl
theorem pick_min {v w : Int} (hv : In6 v) (hw : In6 w) (nv : ¬ noX v) (nw : ¬ noX w) : Native.java_lang_Math.nans.pick64 false (dX v) (dX w) = dX (if rkX w < rkX v then w else v) := by
  have r1 := rk_k hv
  have r2 := rk_k hw
  unfold Native.java_lang_Math.nans.pick64
  rw [dc_key hv hw nv nw, cmp_i]
  by_cases c : kX v < kX w
  · have z : ¬ rkX w < rkX v := by omega
    rw [if_pos c, if_neg z]
    rfl
  · rw [if_neg c]
    by_cases d : kX v = kX w
    · rw [if_pos d]
      show (if (dX v >>> 63 == 1) == false then dX w else dX v) = _
      rw [dX_sh hv]
      by_cases z : v < 0
      · have y : ¬ rkX w < rkX v := by omega
        rw [decide_eq_true z, if_neg y]
        rfl
      · rw [decide_eq_false z]
        by_cases y : rkX w < rkX v
        · rw [if_pos y]
          rfl
        · rw [if_neg y, show v = w by omega]
          rfl
    · have z : rkX w < rkX v := by omega
      rw [if_neg d, if_pos z]
      rfl
section ORW
variable {p : Program} {l : Launch} {e : Env} {R : Room} {s : State} {m : MethodId} {args : Array Value} {below : List Frame} {meth : Method} {c : Code} {H : Heap} {locs : List Loc} {cells slots : Nat}
variable {cc : ByteArray} {pc : Nat} {ls : Array Slot} {rest : List Value} {Q : State → Prop}
theorem ix_mabs (hx : p.tables.exec = Jvm.exec) (hb : c.code = cc) (hml : c.maxLocals = ls.size) {own : String} {index : Nat} {bytes : ByteArray} (hown : s.vm.findClass own = some m.cls) (hlink : (Cond.methodLink own index ⟨"java/lang/Math", "abs", "(D)D"⟩).before args s = true) (hstat : (Cond.static ⟨"java/lang/Math", "abs", "(D)D"⟩).before args s = true) (hinit : (Cond.initialized "java/lang/Math").before args s = true) (hcode : (Cond.code ⟨"java/lang/Math", "abs", "(D)D"⟩ bytes 2 (some .double)).before args s = true)
    {x : Int} (hn : ¬ noX x) (hframes : 1 ≤ R.frames) (hlocals : (rest.map fun v => v.category).sum + 13 ≤ R.locals) (hdg : decode cc pc = .ok (.invokestatic index, 3)) (k : W p l e R s m args below meth c H locs cells slots Q (F0 m (pc + 3) ls (.double (dX (x % 9223372036854775808)) :: rest))) : W p l e R s m args below meth c H locs cells slots Q (F0 m pc ls (.double (dX x) :: rest)) :=
  ov_row hx hb hml hown hlink hstat hinit hcode (ps := [.double]) (by decide +kernel) (by decide) (by decide) (rwAbsD_row p) (As := [.double (dX x)]) rfl rfl (v := .double (dX (x % 9223372036854775808)))
    (fun Q S kk => abs_wp (by rw [dX_m63]; exact dX_64 (by rw [noX_m] at hn ⊢; omega)) Q S (fun d a => by rw [dX_m63]; exact kk d a)) hframes hlocals hdg k
theorem ix_msig (hx : p.tables.exec = Jvm.exec) (hb : c.code = cc) (hml : c.maxLocals = ls.size) {own : String} {index : Nat} {bytes : ByteArray} (hown : s.vm.findClass own = some m.cls) (hlink : (Cond.methodLink own index ⟨"java/lang/Math", "signum", "(D)D"⟩).before args s = true) (hstat : (Cond.static ⟨"java/lang/Math", "signum", "(D)D"⟩).before args s = true) (hinit : (Cond.initialized "java/lang/Math").before args s = true) (hcode : (Cond.code ⟨"java/lang/Math", "signum", "(D)D"⟩ bytes 2 (some .double)).before args s = true)
    {x : Int} (hx6 : In6 x) (hn : ¬ noX x) (hframes : 1 ≤ R.frames) (hlocals : (rest.map fun v => v.category).sum + 13 ≤ R.locals) (hdg : decode cc pc = .ok (.invokestatic index, 3)) (k : W p l e R s m args below meth c H locs cells slots Q (F0 m (pc + 3) ls (.double (dX (if x % 9223372036854775808 = 0 then x else sgb x 4607182418800017408)) :: rest))) : W p l e R s m args below meth c H locs cells slots Q (F0 m pc ls (.double (dX x) :: rest)) :=
  ov_row hx hb hml hown hlink hstat hinit hcode (ps := [.double]) (by decide +kernel) (by decide) (by decide) (rwSigD_row p) (As := [.double (dX x)]) rfl rfl (v := .double (dX (if x % 9223372036854775808 = 0 then x else sgb x 4607182418800017408)))
    (fun Q S kk => by
      show wp (do
          let r ← if FP.dIsNaN (dX x) then anyNaN64 (dX x) else Pure.pure (if dX x <<< 1 == 0 then dX x else (dX x &&& 0x8000000000000000) ||| 0x3ff0000000000000)
          mark "nat.java_lang_Math.signum"
          Pure.pure (some (Value.double r))) Q _ e false [] S
      rw [dX_nn hx6 hn, if_neg (by decide), dX_sg hx6]
      simp only [wp_bind', wp_pure', W.mark]
      exact kk _ _) hframes hlocals hdg k
theorem ix_mcs (hx : p.tables.exec = Jvm.exec) (hb : c.code = cc) (hml : c.maxLocals = ls.size) {own : String} {index : Nat} {bytes : ByteArray} (hown : s.vm.findClass own = some m.cls) (hlink : (Cond.methodLink own index ⟨"java/lang/Math", "copySign", "(DD)D"⟩).before args s = true) (hstat : (Cond.static ⟨"java/lang/Math", "copySign", "(DD)D"⟩).before args s = true) (hinit : (Cond.initialized "java/lang/Math").before args s = true) (hcode : (Cond.code ⟨"java/lang/Math", "copySign", "(DD)D"⟩ bytes 4 (some .double)).before args s = true)
    {x y : Int} (hy6 : In6 y) (hn : ¬ noX y) (hframes : 1 ≤ R.frames) (hlocals : (rest.map fun v => v.category).sum + 15 ≤ R.locals) (hdg : decode cc pc = .ok (.invokestatic index, 3)) (k : W p l e R s m args below meth c H locs cells slots Q (F0 m (pc + 3) ls (.double (dX (sgb y (x % 9223372036854775808))) :: rest))) : W p l e R s m args below meth c H locs cells slots Q (F0 m pc ls (.double (dX y) :: .double (dX x) :: rest)) :=
  ov_row hx hb hml hown hlink hstat hinit hcode (ps := [.double, .double]) (by decide +kernel) (by decide) (by decide) (rwCsD_row p) (As := [.double (dX x), .double (dX y)]) rfl rfl (v := .double (dX (sgb y (x % 9223372036854775808))))
    (fun Q S kk => by
      show wp (do let negative ← Native.java_lang_Math.nans.signOf (FP.dIsNaN (dX y)) (dX y >>> 63 == 1); mark "nat.java_lang_Math.copySign"; Pure.pure (some (Value.double ((dX x &&& 0x7fffffffffffffff) ||| (if negative then 0x8000000000000000 else 0))))) Q _ e false [] S
      have e1 : Native.java_lang_Math.nans.signOf false (decide (y < 0)) = Pure.pure (decide (y < 0)) := rfl
      rw [dX_nn hy6 hn, dX_sh hy6, e1]
      simp only [wp_bind', wp_pure', W.mark]
      rw [dX_cs]
      exact kk _ _) hframes hlocals hdg k
theorem ix_mmaxD (hx : p.tables.exec = Jvm.exec) (hb : c.code = cc) (hml : c.maxLocals = ls.size) {own : String} {index : Nat} {bytes : ByteArray} (hown : s.vm.findClass own = some m.cls) (hlink : (Cond.methodLink own index ⟨"java/lang/Math", "max", "(DD)D"⟩).before args s = true) (hstat : (Cond.static ⟨"java/lang/Math", "max", "(DD)D"⟩).before args s = true) (hinit : (Cond.initialized "java/lang/Math").before args s = true) (hcode : (Cond.code ⟨"java/lang/Math", "max", "(DD)D"⟩ bytes 4 (some .double)).before args s = true)
    {x y : Int} (hx6 : In6 x) (hy6 : In6 y) (nx : ¬ noX x) (ny : ¬ noX y) (hframes : 1 ≤ R.frames) (hlocals : (rest.map fun v => v.category).sum + 15 ≤ R.locals) (hdg : decode cc pc = .ok (.invokestatic index, 3)) (k : W p l e R s m args below meth c H locs cells slots Q (F0 m (pc + 3) ls (.double (dX (if rkX y < rkX x then x else y)) :: rest))) : W p l e R s m args below meth c H locs cells slots Q (F0 m pc ls (.double (dX y) :: .double (dX x) :: rest)) :=
  ov_row hx hb hml hown hlink hstat hinit hcode (ps := [.double, .double]) (by decide +kernel) (by decide) (by decide) (rwMaxD_row p) (As := [.double (dX x), .double (dX y)]) rfl rfl (v := .double (dX (if rkX y < rkX x then x else y)))
    (fun Q S kk => by
      show wp (do
          let r ← if FP.dIsNaN (dX x) then anyNaN64 (dX x) else if FP.dIsNaN (dX y) then anyNaN64 (dX y) else Pure.pure (Native.java_lang_Math.nans.pick64 true (dX x) (dX y))
          mark "nat.java_lang_Math.max"
          Pure.pure (some (Value.double r))) Q _ e false [] S
      rw [dX_nn hx6 nx, if_neg (by decide), dX_nn hy6 ny, if_neg (by decide), pick_max hx6 hy6 nx ny]
      simp only [wp_bind', wp_pure', W.mark]
      exact kk _ _) hframes hlocals hdg k
theorem ix_mminD (hx : p.tables.exec = Jvm.exec) (hb : c.code = cc) (hml : c.maxLocals = ls.size) {own : String} {index : Nat} {bytes : ByteArray} (hown : s.vm.findClass own = some m.cls) (hlink : (Cond.methodLink own index ⟨"java/lang/Math", "min", "(DD)D"⟩).before args s = true) (hstat : (Cond.static ⟨"java/lang/Math", "min", "(DD)D"⟩).before args s = true) (hinit : (Cond.initialized "java/lang/Math").before args s = true) (hcode : (Cond.code ⟨"java/lang/Math", "min", "(DD)D"⟩ bytes 4 (some .double)).before args s = true)
    {x y : Int} (hx6 : In6 x) (hy6 : In6 y) (nx : ¬ noX x) (ny : ¬ noX y) (hframes : 1 ≤ R.frames) (hlocals : (rest.map fun v => v.category).sum + 15 ≤ R.locals) (hdg : decode cc pc = .ok (.invokestatic index, 3)) (k : W p l e R s m args below meth c H locs cells slots Q (F0 m (pc + 3) ls (.double (dX (if rkX y < rkX x then y else x)) :: rest))) : W p l e R s m args below meth c H locs cells slots Q (F0 m pc ls (.double (dX y) :: .double (dX x) :: rest)) :=
  ov_row hx hb hml hown hlink hstat hinit hcode (ps := [.double, .double]) (by decide +kernel) (by decide) (by decide) (rwMinD_row p) (As := [.double (dX x), .double (dX y)]) rfl rfl (v := .double (dX (if rkX y < rkX x then y else x)))
    (fun Q S kk => by
      show wp (do
          let r ← if FP.dIsNaN (dX x) then anyNaN64 (dX x) else if FP.dIsNaN (dX y) then anyNaN64 (dX y) else Pure.pure (Native.java_lang_Math.nans.pick64 false (dX x) (dX y))
          mark "nat.java_lang_Math.min"
          Pure.pure (some (Value.double r))) Q _ e false [] S
      rw [dX_nn hx6 nx, if_neg (by decide), dX_nn hy6 ny, if_neg (by decide), pick_min hx6 hy6 nx ny]
      simp only [wp_bind', wp_pure', W.mark]
      exact kk _ _) hframes hlocals hdg k
end ORW
