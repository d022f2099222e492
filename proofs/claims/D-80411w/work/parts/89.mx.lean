/-! what Math and StrictMath hold in their statics; scaling rows -/
set_option maxRecDepth 100000
def MX (A : Nat → Prop) (U : State) (H : Heap) : Prop := va_Z "java/lang/Math" "$assertionsDisabled" "Z" (.int (I3 1)) A U H ∧ va_Z "java/lang/StrictMath" "$assertionsDisabled" "Z" (.int (I3 1)) A U H ∧ va_Z "java/lang/Math" "negativeZeroDoubleBits" "J" (.long (L6 (-9223372036854775808))) A U H ∧ va_Z "java/lang/Math" "twoToTheDoubleScaleDown" "D" (.double (dX 2301339409586323456)) A U H ∧ va_Z "java/lang/Math" "twoToTheDoubleScaleUp" "D" (.double (dX 6913025428013711360)) A U H
theorem MX.moved {A : Nat → Prop} {u U : State} {H : Heap} (hW : u.WarmedH U.vm) (h : MX A u H) : MX A U H := ⟨va_Z.moved hW.alike h.1, va_Z.moved hW.alike h.2.1, va_Z.moved hW.alike h.2.2.1, va_Z.moved hW.alike h.2.2.2.1, va_Z.moved hW.alike h.2.2.2.2⟩
theorem MX.kept {A : Nat → Prop} {s : State} {H : Heap} {locs : List Loc} (h : MX A s s.heap) (hS : va_S A s.heap H locs) : MX A s H := ⟨h.1.kept hS.2.1, h.2.1.kept hS.2.1, h.2.2.1.kept hS.2.1, h.2.2.2.1.kept hS.2.1, h.2.2.2.2.kept hS.2.1⟩
theorem MX.narrow {A B : Nat → Prop} {s : State} {H : Heap} (h : MX A s H) (hB : ∀ q, B q → A q) : MX B s H := ⟨h.1.narrow hB, h.2.1.narrow hB, h.2.2.1.narrow hB, h.2.2.2.1.narrow hB, h.2.2.2.2.narrow hB⟩
theorem noF_nan {v : Int} (h : In3 v) : ¬ noF v → vF v ≠ .nan := fun hn hq => hn ((vF_nan h).mp hq)
theorem sD_nan {d : FP.Core.Datum} {n : Int} (h : d ≠ .nan) : sD d n ≠ .nan := by
  cases d with
  | nan => exact absurd rfl h
  | inf s => intro q; cases q
  | fin s c q =>
    intro w
    have w : FP.Core.roundRatio FP.Core.b64 s c 1 (q + n) = .nan := w
    unfold FP.Core.roundRatio FP.Core.roundAt FP.Core.settle FP.Core.bound at w
    split at w
    · cases w
    · split at w
      · split at w <;> cases w
      · split at w <;> cases w
theorem rd_nan {f : FP.Core.Fmt} {d : FP.Core.Datum} (h : d ≠ .nan) : FP.Core.round f d ≠ .nan := by
  cases d with
  | nan => exact absurd rfl h
  | inf s => intro q; cases q
  | fin s c q =>
    intro w
    have w : FP.Core.roundRatio f s c 1 q = .nan := w
    unfold FP.Core.roundRatio FP.Core.roundAt FP.Core.settle FP.Core.bound at w
    split at w
    · cases w
    · split at w
      · split at w <;> cases w
      · split at w <;> cases w
theorem noX_v {v : Int} : ¬ noX v ↔ vD v ≠ .nan := by
  rw [Ne, vD_nan]
section MXR
variable {p : Program} {l : Launch} {e : Env} {R : Room} {s : State} {m : MethodId} {args : Array Value} {below : List Frame} {meth : Method} {c : Code} {H : Heap} {locs : List Loc} {cells slots : Nat}
variable {cc : ByteArray} {pc : Nat} {ls : Array Slot} {rest : List Value} {Q : State → Prop}
/-- scaled by a power of two -/
theorem ix_dscale (hx : p.tables.exec = Jvm.exec) (hb : c.code = cc) {x y n : Int} (hx6 : In6 x) (hn : ¬ noX x) (hy6 : In6 y) (hy : vD y = .fin false 4503599627370496 (n - 52)) (hd : decode cc pc = .ok (.dmul, 1)) (k : ∀ u : Int, In6 u → ¬ noX u → vD u = sD (vD x) n → W p l e R s m args below meth c H locs cells slots Q (F0 m (pc + 1) ls (.double (dX u) :: rest))) : W p l e R s m args below meth c H locs cells slots Q (F0 m pc ls (.double (dX y) :: .double (dX x) :: rest)) := by
  obtain ⟨u, hu, e⟩ := dX_ex (FP.dmul (dX x) (dX y))
  have h2 : vD u = sD (vD x) n := by
    rw [← vD_eq hu, ← e, ← vD_eq hx6]
    exact dmul_pw (by rw [vD_eq hy6, hy])
  have h3 : ¬ noX u := noX_v.mpr (by rw [h2]; exact sD_nan (noX_v.mp hn))
  exact ix_dmul hx hb e h3 hd (k u hu h3 h2)
theorem ix_f2dE (hx : p.tables.exec = Jvm.exec) (hb : c.code = cc) {x : Int} (hx3 : In3 x) (hn : ¬ noF x) (hd : decode cc pc = .ok (.f2d, 1)) (k : ∀ u : Int, In6 u → ¬ noX u → vD u = FP.Core.round FP.Core.b64 (vF x) → W p l e R s m args below meth c H locs cells slots Q (F0 m (pc + 1) ls (.double (dX u) :: rest))) : W p l e R s m args below meth c H locs cells slots Q (F0 m pc ls (.float (fB x) :: rest)) := by
  obtain ⟨u, hu, e⟩ := dX_ex (FP.f2d (fB x))
  have h2 : vD u = FP.Core.round FP.Core.b64 (vF x) := by
    rw [← vD_eq hu, ← e]
    exact v64_f2d (noF_nan hx3 hn)
  have h3 : ¬ noX u := noX_v.mpr (by rw [h2]; exact rd_nan (noF_nan hx3 hn))
  exact ix_f2d hx hb e h3 hd (k u hu h3 h2)
theorem vF_noF {u : Int} (hu : In3 u) (h : vF u ≠ .nan) : ¬ noF u := fun hn => h ((vF_nan hu).mpr hn)
theorem ix_d2fE (hx : p.tables.exec = Jvm.exec) (hb : c.code = cc) {x : Int} (hx6 : In6 x) (hn : ¬ noX x) (hd : decode cc pc = .ok (.d2f, 1)) (k : ∀ u : Int, In3 u → ¬ noF u → vF u = FP.Core.round FP.Core.b32 (vD x) → W p l e R s m args below meth c H locs cells slots Q (F0 m (pc + 1) ls (.float (fB u) :: rest))) : W p l e R s m args below meth c H locs cells slots Q (F0 m pc ls (.double (dX x) :: rest)) := by
  obtain ⟨u, hu, e⟩ := fB_ex (FP.d2f (dX x))
  have h2 : vF u = FP.Core.round FP.Core.b32 (vD x) := by
    unfold vF
    rw [← e, ← vD_eq hx6]
    exact v32_d2f (by rw [vD_eq hx6]; exact noX_v.mp hn)
  have h3 : ¬ noF u := vF_noF hu (by rw [h2]; exact rd_nan (noX_v.mp hn))
  exact ix_d2f hx hb e h3 hd (k u hu h3 h2)
theorem ix_lkI (hx : p.tables.exec = Jvm.exec) (hb : c.code = cc) {dflt : Int} {ps : List (Int × Int)} {len : Nat} {x : Int} (v : Int) {tgt : Nat} (h : x = v) (hv : In3 v) (off : Int) (ho : Op.lookupswitch.offset ps dflt v = off) (hp : (ps.zip (ps.drop 1)).all (fun (a, next) => a.1 < next.1) = true) (ht : (pc : Int) + off = (tgt : Int)) (hd : decode cc pc = .ok (.lookupswitch dflt ps.toArray, len)) (k : W p l e R s m args below meth c H locs cells slots Q (F0 m tgt ls rest)) : W p l e R s m args below meth c H locs cells slots Q (F0 m pc ls (.int (I3 x) :: rest)) := by
  subst h
  exact lv_lookup hx hb hd hp (by rw [I3_t hv]; exact ho) ht k
theorem ix_lkO (hx : p.tables.exec = Jvm.exec) (hb : c.code = cc) {dflt a1 o1 a2 o2 : Int} {len : Nat} {x : Int} {tgt : Nat} (hv : In3 x) (h1 : ¬ x = a1) (h2 : ¬ x = a2) (hp : ([(a1, o1), (a2, o2)].zip ([(a1, o1), (a2, o2)].drop 1)).all (fun (a, next) => a.1 < next.1) = true) (ht : (pc : Int) + dflt = (tgt : Int)) (hd : decode cc pc = .ok (.lookupswitch dflt #[(a1, o1), (a2, o2)], len)) (k : W p l e R s m args below meth c H locs cells slots Q (F0 m tgt ls rest)) : W p l e R s m args below meth c H locs cells slots Q (F0 m pc ls (.int (I3 x) :: rest)) :=
  lv_lookup hx hb hd hp (by
    rw [I3_t hv]
    show Op.lookupswitch.offset [(a1, o1), (a2, o2)] dflt x = dflt
    rw [Op.lookupswitch.offset_cons, if_neg (fun q => h1 q.symm), Op.lookupswitch.offset_cons, if_neg (fun q => h2 q.symm)]
    rfl) ht k
end MXR
theorem noX_lt {v : Int} (h0 : 0 ≤ v) (h : v < 9218868437227405312) : ¬ noX v := fun q => by
  have := q.1
  unfold eX at this
  omega
theorem clJ_r (n : Int) : -2099 ≤ clJ n ∧ clJ n ≤ 2099 := by
  unfold clJ
  split <;> split <;> omega
def ulpX (v : Int) : Int := if eX v = 0 then 1 else if 53 ≤ eX v then (eX v - 52) * 4503599627370496 else 2 ^ (eX v - 1).toNat
theorem rk_k {v : Int} (h : In6 v) : (v < 0 → rkX v = kX v - 1 ∧ kX v = -(v + 9223372036854775808)) ∧ (0 ≤ v → rkX v = v ∧ kX v = v) ∧ -9223372036854775808 ≤ v ∧ v ≤ 9223372036854775807 := by
  obtain ⟨h1, h2⟩ := h
  unfold rkX kX
  refine ⟨fun q => ?_, fun q => ?_, by omega, by omega⟩
  · rw [if_pos q, if_pos q]
    omega
  · rw [if_neg (by omega), if_neg (by omega)]
    omega
theorem kX_c {v : Int} (h : In6 v) : (v < 0 → kX v = -(v + 9223372036854775808)) ∧ (0 ≤ v → kX v = v) ∧ -9223372036854775808 ≤ v ∧ v ≤ 9223372036854775807 := ⟨fun q => ((rk_k h).1 q).2, fun q => ((rk_k h).2.1 q).2, (rk_k h).2.2⟩
theorem sg_f (n : Nat) : FP.Core.signed false n = (n : Int) := rfl
theorem sg_t (n : Nat) : FP.Core.signed true n = -(n : Int) := rfl
theorem dadd_0 {v : Int} (hv : In6 v) (hn : ¬ noX v) : FP.dadd (dX v) (dX 0) = dX (if v = -9223372036854775808 then 0 else v) := by
  by_cases c : v = -9223372036854775808
  · rw [if_pos c, c]
    decide +kernel
  · rw [if_neg c]
    refine dX_val hv hn ?_
    have e0 : v64 (dX 0) = .fin false 0 (-1074) := by decide +kernel
    rw [v64_dadd, vD_eq hv, e0]
    rcases fin_or hn with h | h
    · rw [vD_inf h]
      rfl
    · have hr := rof g64 (vD_fits hv)
      have hq := vD_q h
      rw [vD_fin h] at hr ⊢
      obtain ⟨k, hk⟩ : ∃ k : Nat, k = (fX v).toNat := ⟨_, rfl⟩
      rw [← hk] at hr hq ⊢
      have hm : min (plX v) (-1074) = -1074 := by omega
      obtain ⟨j, hj⟩ : ∃ j : Nat, (plX v - -1074).toNat = j := ⟨_, rfl⟩
      have hu : FP.Core.sumUnits (decide (v < 0)) k (plX v) false 0 (-1074) (min (plX v) (-1074)) = FP.Core.signed (decide (v < 0)) (k * 2 ^ j) := by
        unfold FP.Core.sumUnits FP.Core.inUnits
        rw [hm, hj, Nat.zero_mul]
        rw [sg_f]
        exact Int.add_zero _
      show FP.Core.round FP.Core.b64 (.fin (FP.Core.sumSign (decide (v < 0)) false (FP.Core.sumUnits (decide (v < 0)) k (plX v) false 0 (-1074) (min (plX v) (-1074)))) (FP.Core.sumUnits (decide (v < 0)) k (plX v) false 0 (-1074) (min (plX v) (-1074))).natAbs (min (plX v) (-1074))) = _
      rw [hu, hm]
      have hab : (FP.Core.signed (decide (v < 0)) (k * 2 ^ j)).natAbs = k * 2 ^ j := by
        unfold FP.Core.signed
        split
        · rw [Int.natAbs_neg]
          rfl
        · rfl
      have hsg : FP.Core.sumSign (decide (v < 0)) false (FP.Core.signed (decide (v < 0)) (k * 2 ^ j)) = decide (v < 0) := by
        have hj0 := Nat.two_pow_pos j
        by_cases d : v < 0
        · have hk0 : k ≠ 0 := by
            intro q
            refine c ?_
            have g := (kX_f h).1
            rw [← hk, q] at g
            have : plX v = -1074 := by omega
            rw [this] at g
            obtain ⟨g1, g2⟩ := hv
            omega
          have := Nat.mul_pos (Nat.pos_of_ne_zero hk0) hj0
          rw [decide_eq_true d, sg_t]
          unfold FP.Core.sumSign
          rw [if_neg (by omega)]
          exact decide_eq_true (by omega)
        · rw [decide_eq_false d, sg_f]
          unfold FP.Core.sumSign
          by_cases z : ((k * 2 ^ j : Nat) : Int) = 0
          · rw [if_pos z]
            rfl
          · rw [if_neg z]
            exact decide_eq_false (by omega)
      rw [hab, hsg, ← hr]
      show FP.Core.roundRatio _ _ (k * 2 ^ j) 1 (-1074) = FP.Core.roundRatio _ _ k 1 (plX v)
      refine rr_congr (by decide) (by decide) (by decide) ?_
      rw [show (-1074 - plX v).toNat = 0 by omega, hj, Nat.pow_zero, Nat.mul_one, Nat.mul_one, Nat.mul_one]
