/-! floats of the JDK: copySign, nextUp -/
set_option maxRecDepth 100000
theorem vF_fin {v : Int} (h : In3 v) (hn : eF v ≠ 255) : vF v = .fin (decide (v < 0)) (fM v).toNat (plF v) := by rw [vF_eq h, if_neg hn]
theorem vF_inf {v : Int} (h : In3 v) (hn : eF v = 255 ∧ pF v = 0) : vF v = .inf (decide (v < 0)) := by rw [vF_eq h, if_pos hn.1, if_pos hn.2]
theorem fB_inj {v w : Int} (h : In3 v) (hw : In3 w) (hn : ¬ noF v) (e : vF v = vF w) : v = w := by
  have hs : (v < 0 ↔ w < 0) → v % 2147483648 = w % 2147483648 → v = w := fun a b => by
    obtain ⟨h1, h2⟩ := h
    obtain ⟨h3, h4⟩ := hw
    by_cases c : v < 0
    · have := a.mp c
      omega
    · have : ¬ w < 0 := fun q => c (a.mpr q)
      omega
  have hnw : ¬ noF w := fun q => by
    rw [(vF_nan hw).mpr q] at e
    exact hn ((vF_nan h).mp e)
  rcases finF_or hn with a | a <;> rcases finF_or hnw with b | b
  · rw [vF_inf h a, vF_inf hw b] at e
    injection e with e
    exact hs (decide_eq_decide.mp e) (by rw [kF_i a, kF_i b])
  · rw [vF_inf h a, vF_fin hw b] at e
    cases e
  · rw [vF_fin h a, vF_inf hw b] at e
    cases e
  · have ha := (kF_f a).1
    have hb := (kF_f b).1
    rw [vF_fin h a, vF_fin hw b] at e
    injection e with e1 e2 e3
    exact hs (decide_eq_decide.mp e1) (by rw [ha, hb, e2, e3])
theorem fB_val {a : UInt32} {w : Int} (hw : In3 w) (hn : ¬ noF w) (e : v32 a = vF w) : a = fB w := by
  obtain ⟨u, hu, rfl⟩ := fB_ex a
  rw [fB_inj hw hu hn e.symm]
theorem vF_fits {v : Int} (h : In3 v) : FP.Core.fits FP.Core.b32 (vF v) := by
  rw [vF_eq h]
  by_cases c : eF v = 255
  · rw [if_pos c]
    split <;> trivial
  · rw [if_neg c]
    have k := kF_f c
    have e := eF_r v
    refine ⟨?_, ?_, ?_, ?_⟩
    · show (fM v).toNat < 2 ^ FP.Core.b32.p
      have : (2 : Nat) ^ FP.Core.b32.p = 16777216 := by decide
      omega
    · show FP.Core.b32.qmin ≤ plF v
      have : FP.Core.b32.qmin = -149 := by decide
      omega
    · show plF v ≤ FP.Core.b32.qmax
      have : FP.Core.b32.qmax = 104 := by decide
      unfold plF
      split <;> omega
    · show plF v = FP.Core.b32.qmin ∨ 2 ^ (FP.Core.b32.p - 1) ≤ (fM v).toNat
      have h1 : FP.Core.b32.qmin = -149 := by decide
      have h2 : (2 : Nat) ^ (FP.Core.b32.p - 1) = 8388608 := by decide
      rw [h1, h2]
      exact k.2.2.2.2
theorem v32_fadd (a b : UInt32) : v32 (FP.fadd a b) = FP.Core.round FP.Core.b32 (FP.Core.exactSum (v32 a) (v32 b)) := v32_of (rd_fits g32 _)
theorem fadd_0 {v : Int} (hv : In3 v) (hn : ¬ noF v) : FP.fadd (fB v) (fB 0) = fB (if v = -2147483648 then 0 else v) := by
  by_cases c : v = -2147483648
  · rw [if_pos c, c]
    decide +kernel
  · rw [if_neg c]
    refine fB_val hv hn ?_
    have e0 : v32 (fB 0) = .fin false 0 (-149) := by decide +kernel
    have ev : v32 (fB v) = vF v := rfl
    rw [v32_fadd, ev, e0]
    rcases finF_or hn with h | h
    · rw [vF_inf hv h]
      rfl
    · have hr := rof g32 (vF_fits hv)
      have hq := kF_f h
      rw [vF_fin hv h] at hr ⊢
      obtain ⟨k, hk⟩ : ∃ k : Nat, k = (fM v).toNat := ⟨_, rfl⟩
      rw [← hk] at hr hq ⊢
      have hm : min (plF v) (-149) = -149 := by omega
      obtain ⟨j, hj⟩ : ∃ j : Nat, (plF v - -149).toNat = j := ⟨_, rfl⟩
      have hu : FP.Core.sumUnits (decide (v < 0)) k (plF v) false 0 (-149) (min (plF v) (-149)) = FP.Core.signed (decide (v < 0)) (k * 2 ^ j) := by
        unfold FP.Core.sumUnits FP.Core.inUnits
        rw [hm, hj, Nat.zero_mul]
        rw [sg_f]
        exact Int.add_zero _
      show FP.Core.round FP.Core.b32 (.fin (FP.Core.sumSign (decide (v < 0)) false (FP.Core.sumUnits (decide (v < 0)) k (plF v) false 0 (-149) (min (plF v) (-149)))) (FP.Core.sumUnits (decide (v < 0)) k (plF v) false 0 (-149) (min (plF v) (-149))).natAbs (min (plF v) (-149))) = _
      rw [hu, hm]
      have hab : (FP.Core.signed (decide (v < 0)) (k * 2 ^ j)).natAbs = k * 2 ^ j := by
        unfold FP.Core.signed
        split
        · rw [Int.natAbs_neg]
          rfl
        · rfl
      have hsg : FP.Core.sumSign (decide (v < 0)) false (FP.Core.signed (decide (v < 0)) (k * 2 ^ j)) = decide (v < 0) := by
        have hj0 := Nat.two_pow_pos j
        by_cases d : v < 0
        · have hk0 : k ≠ 0 := by
            intro q
            refine c ?_
            have g := hq.1
            rw [q] at g
            have : plF v = -149 := by omega
            rw [this] at g
            obtain ⟨g1, g2⟩ := hv
            omega
          have := Nat.mul_pos (Nat.pos_of_ne_zero hk0) hj0
          rw [decide_eq_true d, sg_t]
          unfold FP.Core.sumSign
          rw [if_neg (by omega)]
          exact decide_eq_true (by omega)
        · rw [decide_eq_false d, sg_f]
          unfold FP.Core.sumSign
          by_cases z : ((k * 2 ^ j : Nat) : Int) = 0
          · rw [if_pos z]
            rfl
          · rw [if_neg z]
            exact decide_eq_false (by omega)
      rw [hab, hsg, ← hr]
      show FP.Core.roundRatio _ _ (k * 2 ^ j) 1 (-149) = FP.Core.roundRatio _ _ k 1 (plF v)
      refine rr_congr (by decide) (by decide) (by decide) ?_
      rw [show (-149 - plF v).toNat = 0 by omega, hj, Nat.pow_zero, Nat.mul_one, Nat.mul_one, Nat.mul_one]
theorem kF_c {v : Int} (h : In3 v) : (v < 0 → kF v = -(v + 2147483648)) ∧ (0 ≤ v → kF v = v) ∧ -2147483648 ≤ v ∧ v ≤ 2147483647 := by
  obtain ⟨h1, h2⟩ := h
  unfold kF
  refine ⟨fun q => ?_, fun q => ?_, h1, by omega⟩
  · rw [if_pos q]
    omega
  · rw [if_neg (by omega)]
theorem fB_or (x y : Int) : fB x ||| fB y = fB (zor3 x y) := by
  have e : I3 (zor3 x y) = I3 x ||| I3 y := by unfold zor3; rw [I3_of]
  unfold fB
  rw [e]
  rfl
theorem fB_m31 (v : Int) : fB v &&& 2147483647 = fB (v % 2147483648) := by
  apply UInt32.toNat_inj.mp
  rw [mask32, fB_n, fB_n]
  omega
theorem fB_sh {v : Int} (h : In3 v) : ((fB v >>> 31) == 1) = decide (v < 0) := by
  obtain ⟨h1, h2⟩ := h
  have e : (fB v >>> 31).toNat = (v % 4294967296).toNat / 2147483648 := by
    rw [UInt32.toNat_shiftRight, fB_n]
    show _ >>> 31 = _
    rw [Nat.shiftRight_eq_div_pow]
  by_cases c : v < 0
  · have : fB v >>> 31 = 1 := UInt32.toNat_inj.mp (by rw [e]; show _ = 1; omega)
    rw [this, decide_eq_true c]
    rfl
  · have : fB v >>> 31 = 0 := UInt32.toNat_inj.mp (by rw [e]; show _ = 0; omega)
    rw [this, decide_eq_false c]
    rfl
theorem fB_nn {v : Int} (h : In3 v) (hn : ¬ noF v) : FP.fIsNaN (fB v) = false := by
  refine decide_eq_false ?_
  show ¬ v32 (fB v) = .nan
  exact fun q => hn ((vF_nan h).mp q)
theorem fB_cs (v w : Int) : (fB v &&& 2147483647) ||| (if decide (w < 0) = true then 2147483648 else 0) = fB (sgf w (v % 2147483648)) := by
  have e1 : (2147483648 : UInt32) = fB (-2147483648) := by decide +kernel
  have e2 : (0 : UInt32) = fB 0 := by decide +kernel
  have e3 : (if decide (w < 0) = true then (2147483648 : UInt32) else 0) = fB (if w < 0 then -2147483648 else 0) := by
    by_cases c : w < 0
    · rw [decide_eq_true c, if_pos rfl, if_pos c, e1]
    · rw [decide_eq_false c, if_neg (by decide), if_neg c, e2]
  rw [e3, fB_m31, UInt32.or_comm, fB_or, zor3_sg (by omega)]
section FCS
variable {p : Program} {l : Launch} {e : Env} {R : Room} {s : State} {m : MethodId} {args : Array Value} {below : List Frame} {meth : Method} {c : Code} {H : Heap} {locs : List Loc} {cells slots : Nat} {Q : State → Prop}
variable {cc : ByteArray} {pc : Nat} {ls : Array Slot} {rest : List Value}
theorem ix_fadd (hx : p.tables.exec = Jvm.exec) (hb : c.code = cc) {x y u : Int} (h : FP.fadd (fB x) (fB y) = fB u) (hn : ¬ noF u) (hd : decode cc pc = .ok (.fadd, 1)) (k : W p l e R s m args below meth c H locs cells slots Q (F0 m (pc + 1) ls (.float (fB u) :: rest))) : W p l e R s m args below meth c H locs cells slots Q (F0 m pc ls (.float (fB y) :: .float (fB x) :: rest)) := lv_fadd hx hb hd (by rw [h]; exact fB_32 hn) (by rw [h]; exact k)
theorem lv_ldcfw (hx : p.tables.exec = Jvm.exec) (hb : c.code = cc) {own : String} {index : Nat} {v : UInt32} (hown : s.vm.findClass own = some m.cls) (hconst : (Jvm.Cond.constantFloat own index v).before args s = true) (hd : decode cc pc = .ok (.ldc_w index, 3)) (k : W p l e R s m args below meth c H locs cells slots Q (F0 m (pc + 3) ls (.float v :: rest))) : W p l e R s m args below meth c H locs cells slots Q (F0 m pc ls rest) := by
  intro T hT X
  obtain ⟨t, a, b⟩ := k T hT X
  refine ⟨t, ?_, b⟩
  obtain ⟨k0, cf, hk, hcf, hcp⟩ := Cond.constantFloat_spec hown hconst
  obtain ⟨k', hk', he⟩ := X.warmed.alike.2.2 _ _ hk
  have hg : decode c.code (F0 m pc ls rest).pc = .ok (.ldc_w index, 3) := by rw [hb]; exact hd
  have hm : (F0 m pc ls rest).method = m := rfl
  have ha : Steps p.tables e below (T.setTop { F0 m pc ls rest with pc := (F0 m pc ls rest).pc + 3, stack := .float v :: (F0 m pc ls rest).stack }) t := a
  generalize F0 m pc ls rest = g at hg hm ha ⊢
  subst hm
  jvm_step X.here [hx, hg, Op.ldc_w.wp_float (s := T) (f := g) X.here.top hk' (by rw [he]; exact hcf) hcp]
  exact ha
theorem ix_mcsF (hx : p.tables.exec = Jvm.exec) (hb : c.code = cc) (hml : c.maxLocals = ls.size) {own : String} {index : Nat} {bytes : ByteArray} (hown : s.vm.findClass own = some m.cls) (hlink : (Cond.methodLink own index ⟨"java/lang/Math", "copySign", "(FF)F"⟩).before args s = true) (hstat : (Cond.static ⟨"java/lang/Math", "copySign", "(FF)F"⟩).before args s = true) (hinit : (Cond.initialized "java/lang/Math").before args s = true) (hcode : (Cond.code ⟨"java/lang/Math", "copySign", "(FF)F"⟩ bytes 2 (some .float)).before args s = true)
    {x y : Int} (hy6 : In3 y) (hn : ¬ noF y) (hframes : 1 ≤ R.frames) (hlocals : (rest.map fun v => v.category).sum + 13 ≤ R.locals) (hdg : decode cc pc = .ok (.invokestatic index, 3)) (k : W p l e R s m args below meth c H locs cells slots Q (F0 m (pc + 3) ls (.float (fB (sgf y (x % 2147483648))) :: rest))) : W p l e R s m args below meth c H locs cells slots Q (F0 m pc ls (.float (fB y) :: .float (fB x) :: rest)) :=
  ov_row hx hb hml hown hlink hstat hinit hcode (ps := [.float, .float]) (by decide +kernel) (by decide) (by decide) (rwCsF_row p) (As := [.float (fB x), .float (fB y)]) rfl rfl (v := .float (fB (sgf y (x % 2147483648))))
    (fun Q S kk => by
      show wp (do let negative ← Native.java_lang_Math.nans.signOf (FP.fIsNaN (fB y)) (fB y >>> 31 == 1); mark "nat.java_lang_Math.copySign/float"; Pure.pure (some (Value.float ((fB x &&& 0x7fffffff) ||| (if negative then 0x80000000 else 0))))) Q _ e false [] S
      have e1 : Native.java_lang_Math.nans.signOf false (decide (y < 0)) = Pure.pure (decide (y < 0)) := rfl
      rw [fB_nn hy6 hn, fB_sh hy6, e1]
      simp only [wp_bind', wp_pure', W.mark]
      rw [fB_cs]
      exact kk _ _) hframes hlocals hdg k
end FCS
abbrev BmetJ7_nextUp_2 (dC : Nat → ClassId) (dI : Nat → Nat → Nat) (dA : Nat → ClassId) (A : Nat → Prop)  (v : Int) : Int → State → Prop := fun u t => (fun (u : Int) => (fun (z : Int) => va_P (dC, dI) vwCl [] t.heap ∧ va_K (dC, dI) vwCl (tyA dA) t ∧ va_D A []) u) u
abbrev QmetJ7_nextUp_2 (dC : Nat → ClassId) (dI : Nat → Nat → Nat) (dA : Nat → ClassId) (A : Nat → Prop)  (v : Int) := va_Qf (fun (rt_ : UInt32) => fun (u : Int) => (fun (z : Int) => rt_ = fB z ∧ (z = if v = 2139095040 then v else if v = 0 ∨ v = -2147483648 then 1 else if v < 0 then v - 1 else v + 1)) u) (BmetJ7_nextUp_2 dC dI dA A v) A
set_option maxHeartbeats 1000000 in
set_option maxRecDepth 100000 in
theorem metJ7_nextUp_2 (l : Launch) (dC : Nat → ClassId) (dI : Nat → Nat → Nat) (dA : Nat → ClassId)  (sz : Nat) (v : Int) (hv : In3 v) (hno : ¬ noF v) : Met l yJ7_nextUp_2 (ws_ yJ7_nextUp_2 cJ7_nextUp_2 2 (some .float)) ({ frames := 2, cells := 0, slots := 0, locals := 80 }) (va_Pc [.float (fB v)] (fun U => U.heap.size = sz ∧ va_P (dC, dI) vwCl [] U.heap ∧ va_K (dC, dI) vwCl (tyA dA) U ∧ va_D (fun _ => True) [])) (QmetJ7_nextUp_2 dC dI dA (va_A [] sz) v) 0 0 (va_A [] sz) := by
  refine va_MetF (cc := cJ7_nextUp_2) (maxL := 2) (ret := (some .float)) (by decide +kernel) rfl ?_
  intro p e s m args below meth c s₁ B hml hv
  obtain ⟨rfl, hsz, hP, hK, hD0⟩ := hv
  have hx := B.exec
  have hb := B.bytes
  have hr := B.returns
  have hts := atoms_spec (ws := (ws_ yJ7_nextUp_2 cJ7_nextUp_2 2 (some .float))) B.pre
  have hts : ∀ w ∈ lw_all, w.before _ s = true := fun w h => hts w (List.mem_cons_of_mem _ h)
  have hown : s.vm.findClass RJ7 = some m.cls := findClass_of_methodNamed B.named
  have hlocks := B.notSynchronized
  subst hsz
  have hD := hD0.self (sz := s.heap.size)
  generalize hAe : va_A [] s.heap.size = A at hD ⊢
  have hA : ∀ q : Nat, s.heap.size ≤ q → A q := fun q h => by rw [← hAe]; exact Or.inr h
  have hS : va_S A s.heap s.heap [] := va_S.rf
  have hP : va_P (dC, dI) vwCl [] s.heap := hP
  have hl := lv_entry ([.float (fB v)]) (n := 2) (Nat.le_of_ble_eq_true rfl)
  rw [lg_entry_eq]
  generalize (lg_sl ([.float (fB v)]) ++ List.replicate (2 - (lg_sl ([.float (fB v)])).length) Slot.unset).toArray = ls at hl ⊢
  have hl : lv_has ls 2 [(0, .float (fB v))] := hl
  have kI_ : kF 2139095040 = 2139095040 := by decide
  have r1_ := kF_c hv
  have hm_ : ¬ 2139095040 < v % 2147483648 := hno
  refine lv_fload_n hx hb dJ7_nextUp_2_0 rfl (lv_at hl 0 rfl) ?_
  refine lv_ldcfw hx hb hown (hts _ q796) dJ7_nextUp_2_1 ?_
  refine ix_fc (x := 2139095040) (by decide) ?_
  refine ix_fci_ge (tgt := 30) hx hb (by first | assumption | decide | (constructor <;> omega)) (by first | assumption | decide | (constructor <;> omega)) (by first | assumption | decide | omega) (by decide) dJ7_nextUp_2_4 dJ7_nextUp_2_5 (by decide) (fun c_4 => ?_) (fun c_4 => ?_)
  · skip
    refine lv_fload_n hx hb dJ7_nextUp_2_30 rfl (lv_at hl 0 rfl) ?_
    have o_1 : v = if v = 2139095040 then v else if v = 0 ∨ v = -2147483648 then 1 else if v < 0 then v - 1 else v + 1 := by rw [if_pos (by omega)]
    exact W.fret (v := fB v) hx hb hr (fun t ht hW => ⟨⟨fB v, v, rfl, ⟨rfl, o_1⟩, by rw [ht]; exact hP, va_K.moved hW.alike hK, hD⟩, hS.F ht⟩) hS.2.2 dJ7_nextUp_2_31
  · skip
    refine lv_fload_n hx hb dJ7_nextUp_2_8 rfl (lv_at hl 0 rfl) ?_
    refine lv_fconst0 hx hb dJ7_nextUp_2_9 ?_
    refine ix_fc (x := 0) rfl ?_
    refine ix_fadd (u := (if v = -2147483648 then 0 else v)) hx hb (by exact fadd_0 hv hno) (by split; (decide); (exact hno)) dJ7_nextUp_2_10 ?_
    refine ix_fraw hx hb (hml.trans hl.1.symm) hown (hts _ q797) (hts _ q799) (hts _ q798) (hts _ q84) (Nat.le_of_ble_eq_true rfl) (Nat.le_of_ble_eq_true rfl) dJ7_nextUp_2_11 ?_
    refine lv_istore_n (lv' := [(1, .int (I3 ((if v = -2147483648 then 0 else v)))), (0, .float (fB v))]) hx hb dJ7_nextUp_2_14 rfl hl (by decide) rfl (fun ls hl => ?_)
    refine lv_iload_n hx hb dJ7_nextUp_2_15 rfl (lv_at hl 0 rfl) ?_
    refine lv_iload_n hx hb dJ7_nextUp_2_16 rfl (lv_at hl 0 rfl) ?_
    refine ix_if_lt (tgt := 24) hx hb (by first | assumption | decide | (constructor <;> omega)) dJ7_nextUp_2_17 (by decide) (fun c_17 => ?_) (fun c_17 => ?_)
    · skip
      refine lv_iconst (v := I3 (-1)) hx hb dJ7_nextUp_2_24 rfl ?_
      refine ix_iadd hx hb dJ7_nextUp_2_25 ?_
      refine ix_ti (y := (if v = 0 ∨ v = -2147483648 then 1 else if v < 0 then v - 1 else v + 1)) (by split at * <;> (first | omega | (split <;> omega))) ?_
      refine ix_fbits hx hb (hml.trans hl.1.symm) hown (hts _ q800) (hts _ q802) (hts _ q801) (hts _ q84) (by show ¬ 2139095040 < _; repeat (first | omega | split)) (Nat.le_of_ble_eq_true rfl) (Nat.le_of_ble_eq_true rfl) dJ7_nextUp_2_26 ?_
      have o_2 : ((if v = 0 ∨ v = -2147483648 then 1 else if v < 0 then v - 1 else v + 1)) = if v = 2139095040 then v else if v = 0 ∨ v = -2147483648 then 1 else if v < 0 then v - 1 else v + 1 := by have z9 : ¬ v = 2139095040 := (by omega); rw [if_neg z9]
      exact W.fret (v := fB ((if v = 0 ∨ v = -2147483648 then 1 else if v < 0 then v - 1 else v + 1))) hx hb hr (fun t ht hW => ⟨⟨fB ((if v = 0 ∨ v = -2147483648 then 1 else if v < 0 then v - 1 else v + 1)), ((if v = 0 ∨ v = -2147483648 then 1 else if v < 0 then v - 1 else v + 1)), rfl, ⟨rfl, o_2⟩, by rw [ht]; exact hP, va_K.moved hW.alike hK, hD⟩, hS.F ht⟩) hS.2.2 dJ7_nextUp_2_29
    · skip
      refine lv_iconst (v := I3 (1)) hx hb dJ7_nextUp_2_20 rfl ?_
      refine lv_goto (tgt := 25) hx hb dJ7_nextUp_2_21 (by decide) ?_
      refine ix_iadd hx hb dJ7_nextUp_2_25 ?_
      refine ix_ti (y := (if v = 0 ∨ v = -2147483648 then 1 else if v < 0 then v - 1 else v + 1)) (by split at * <;> (first | omega | (split <;> omega))) ?_
      refine ix_fbits hx hb (hml.trans hl.1.symm) hown (hts _ q800) (hts _ q802) (hts _ q801) (hts _ q84) (by show ¬ 2139095040 < _; repeat (first | omega | split)) (Nat.le_of_ble_eq_true rfl) (Nat.le_of_ble_eq_true rfl) dJ7_nextUp_2_26 ?_
      have o_3 : ((if v = 0 ∨ v = -2147483648 then 1 else if v < 0 then v - 1 else v + 1)) = if v = 2139095040 then v else if v = 0 ∨ v = -2147483648 then 1 else if v < 0 then v - 1 else v + 1 := by have z9 : ¬ v = 2139095040 := (by omega); rw [if_neg z9]
      exact W.fret (v := fB ((if v = 0 ∨ v = -2147483648 then 1 else if v < 0 then v - 1 else v + 1))) hx hb hr (fun t ht hW => ⟨⟨fB ((if v = 0 ∨ v = -2147483648 then 1 else if v < 0 then v - 1 else v + 1)), ((if v = 0 ∨ v = -2147483648 then 1 else if v < 0 then v - 1 else v + 1)), rfl, ⟨rfl, o_3⟩, by rw [ht]; exact hP, va_K.moved hW.alike hK, hD⟩, hS.F ht⟩) hS.2.2 dJ7_nextUp_2_29
