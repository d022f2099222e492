/-! the component: machine, cast -/
set_option maxRecDepth 100000
theorem o_tab10 {x : Int} (h0 : ¬ x = 0) (h1 : ¬ x = 1) (h2 : ¬ x = 2) (h3 : ¬ x = 3) (h4 : ¬ x = 4) (h5 : ¬ x = 5) (h6 : ¬ x = 6) (h7 : ¬ x = 7) (h8 : ¬ x = 8) (h9 : ¬ x = 9) : x < 0 ∨ 9 < x := by omega
theorem o_tab6 {x : Int} (h0 : ¬ x = 0) (h1 : ¬ x = 1) (h2 : ¬ x = 2) (h3 : ¬ x = 3) (h4 : ¬ x = 4) (h5 : ¬ x = 5) : x < 0 ∨ 5 < x := by omega
theorem o_k10 {x : Int} (h : 0 ≤ x ∧ x ≤ 10) (h0 : ¬ x = 0) (h1 : ¬ x = 1) (h2 : ¬ x = 2) (h3 : ¬ x = 3) (h4 : ¬ x = 4) (h5 : ¬ x = 5) (h6 : ¬ x = 6) (h7 : ¬ x = 7) (h8 : ¬ x = 8) (h9 : ¬ x = 9) : x = 10 := by
  have := o_tab10 h0 h1 h2 h3 h4 h5 h6 h7 h8 h9
  omega
theorem o_k6 {x : Int} (h : 0 ≤ x ∧ x ≤ 6) (h0 : ¬ x = 0) (h1 : ¬ x = 1) (h2 : ¬ x = 2) (h3 : ¬ x = 3) (h4 : ¬ x = 4) (h5 : ¬ x = 5) : x = 6 := by
  have := o_tab6 h0 h1 h2 h3 h4 h5
  omega
abbrev BmetX1_isEndless (dC : Nat → ClassId) (dI : Nat → Nat → Nat) (dA : Nat → ClassId) (A : Nat → Prop)  (v : Int) : Int → State → Prop := fun u t => (fun (u : Int) => (fun (z : Int) => va_P (dC, dI) vwCl [] t.heap ∧ va_K (dC, dI) vwCl (tyA dA) t ∧ va_D A []) u) u
abbrev QmetX1_isEndless (dC : Nat → ClassId) (dI : Nat → Nat → Nat) (dA : Nat → ClassId) (A : Nat → Prop)  (v : Int) := va_Qi (fun (rt_ : Int32) => fun (u : Int) => (fun (z : Int) => rt_ = I3 z ∧ (z = if infX v then 1 else 0)) u) (BmetX1_isEndless dC dI dA A v) A
set_option maxHeartbeats 1000000 in
set_option maxRecDepth 100000 in
theorem metX1_isEndless (l : Launch) (dC : Nat → ClassId) (dI : Nat → Nat → Nat) (dA : Nat → ClassId)  (sz : Nat) (v : Int) (hv : In6 v) (hno : ¬ noX v) : Met l yX1_isEndless (ws_ yX1_isEndless cX1_isEndless 2 (some .boolean)) ({ frames := 1, cells := 0, slots := 0, locals := 40 }) (va_Pc [.double (dX v)] (fun U => U.heap.size = sz ∧ va_P (dC, dI) vwCl [] U.heap ∧ va_K (dC, dI) vwCl (tyA dA) U ∧ va_D (fun _ => True) [])) (QmetX1_isEndless dC dI dA (va_A [] sz) v) 0 0 (va_A [] sz) := by
  refine Met.ofW (cc := cX1_isEndless) (maxL := 2) (ret := (some .boolean)) (by decide) rfl ?_
  intro p e s m args below meth c s₁ B hml hv
  obtain ⟨rfl, hsz, hP, hK, hD0⟩ := hv
  have hx := B.exec
  have hb := B.bytes
  have hr := B.returns
  have hts := atoms_spec (ws := (ws_ yX1_isEndless cX1_isEndless 2 (some .boolean))) B.pre
  have hts : ∀ w ∈ lw_all, w.before _ s = true := fun w h => hts w (List.mem_cons_of_mem _ h)
  have hown : s.vm.findClass RX1 = some m.cls := findClass_of_methodNamed B.named
  have hlocks := B.notSynchronized
  subst hsz
  have hD := hD0.self (sz := s.heap.size)
  generalize hAe : va_A [] s.heap.size = A at hD ⊢
  have hA : ∀ q : Nat, s.heap.size ≤ q → A q := fun q h => by rw [← hAe]; exact Or.inr h
  have hS : va_S A s.heap s.heap [] := va_S.rf
  have hP : va_P (dC, dI) vwCl [] s.heap := hP
  have hl := lv_entry ([.double (dX v)]) (n := 2) (Nat.le_of_ble_eq_true rfl)
  rw [lg_entry_eq]
  generalize (lg_sl ([.double (dX v)]) ++ List.replicate (2 - (lg_sl ([.double (dX v)])).length) Slot.unset).toArray = ls at hl ⊢
  have hl : lv_has ls 2 [(0, .double (dX v))] := hl
  have kc_ := kX_c hv
  have im_ := inf_m (w := v)
  have k1_ : kX 9218868437227405312 = 9218868437227405312 := by decide
  have k2_ : kX (-4503599627370496) = -9218868437227405312 := by decide
  refine lv_dload_n hx hb dX1_isEndless_0 rfl (lv_at hl 0 rfl) ?_
  refine lv_ldc2d hx hb hown (hts _ q826) dX1_isEndless_1 ?_
  refine ix_dc (x := 9218868437227405312) (by decide) ?_
  refine ix_dci_eq (tgt := 16) hx hb (by first | assumption | decide | (constructor <;> omega)) (by decide) (by first | assumption | decide | omega) (by decide) dX1_isEndless_4 dX1_isEndless_5 (by decide) (fun c_4 => ?_) (fun c_4 => ?_)
  · skip
    refine lv_iconst (v := I3 (1)) hx hb dX1_isEndless_16 rfl ?_
    refine lv_goto (tgt := 21) hx hb dX1_isEndless_17 (by decide) ?_
    have o_1 : (1 : Int) = if infX v then 1 else 0 := by first | (rw [if_pos (im_.mpr (by omega))]; done) | (rw [if_neg (fun q => by have := im_.mp q; omega)]; done)
    exact W.zret (v := I3 1) hx hb hr rfl (fun t ht hW => ⟨⟨I3 1, 1, rfl, ⟨rfl, o_1⟩, by rw [ht]; exact hP, va_K.moved hW.alike hK, hD⟩, hS.F ht⟩) hS.2.2 dX1_isEndless_21
  · skip
    refine lv_dload_n hx hb dX1_isEndless_8 rfl (lv_at hl 0 rfl) ?_
    refine lv_ldc2d hx hb hown (hts _ q827) dX1_isEndless_9 ?_
    refine ix_dc (x := (-4503599627370496)) (by decide) ?_
    refine ix_dci_ne (tgt := 20) hx hb (by first | assumption | decide | (constructor <;> omega)) (by decide) (by first | assumption | decide | omega) (by decide) dX1_isEndless_12 dX1_isEndless_13 (by decide) (fun c_12 => ?_) (fun c_12 => ?_)
    · skip
      refine lv_iconst (v := I3 (0)) hx hb dX1_isEndless_20 rfl ?_
      have o_2 : (0 : Int) = if infX v then 1 else 0 := by first | (rw [if_pos (im_.mpr (by omega))]; done) | (rw [if_neg (fun q => by have := im_.mp q; omega)]; done)
      exact W.zret (v := I3 0) hx hb hr rfl (fun t ht hW => ⟨⟨I3 0, 0, rfl, ⟨rfl, o_2⟩, by rw [ht]; exact hP, va_K.moved hW.alike hK, hD⟩, hS.F ht⟩) hS.2.2 dX1_isEndless_21
    · skip
      refine lv_iconst (v := I3 (1)) hx hb dX1_isEndless_16 rfl ?_
      refine lv_goto (tgt := 21) hx hb dX1_isEndless_17 (by decide) ?_
      have o_3 : (1 : Int) = if infX v then 1 else 0 := by first | (rw [if_pos (im_.mpr (by omega))]; done) | (rw [if_neg (fun q => by have := im_.mp q; omega)]; done)
      exact W.zret (v := I3 1) hx hb hr rfl (fun t ht hW => ⟨⟨I3 1, 1, rfl, ⟨rfl, o_3⟩, by rw [ht]; exact hP, va_K.moved hW.alike hK, hD⟩, hS.F ht⟩) hS.2.2 dX1_isEndless_21
abbrev BmetX1_wide (dC : Nat → ClassId) (dI : Nat → Nat → Nat) (dA : Nat → ClassId) (A : Nat → Prop)  (v : Int) : Int → State → Prop := fun u t => (fun (u : Int) => (fun (z : Int) => va_P (dC, dI) vwCl [] t.heap ∧ va_K (dC, dI) vwCl (tyA dA) t ∧ va_D A []) u) u
abbrev QmetX1_wide (dC : Nat → ClassId) (dI : Nat → Nat → Nat) (dA : Nat → ClassId) (A : Nat → Prop)  (v : Int) := va_Qd (fun (rt_ : UInt64) => fun (u : Int) => (fun (z : Int) => rt_ = dX z ∧ (noF v → z = 9221120237041090560) ∧ (¬ noF v → ¬ noX z ∧ vD z = FP.Core.round FP.Core.b64 (vF v)) ∧ (In6 z)) u) (BmetX1_wide dC dI dA A v) A
set_option maxHeartbeats 1000000 in
set_option maxRecDepth 100000 in
theorem metX1_wide (l : Launch) (dC : Nat → ClassId) (dI : Nat → Nat → Nat) (dA : Nat → ClassId)  (sz : Nat) (v : Int) (hv : In3 v) : Met l yX1_wide (ws_ yX1_wide cX1_wide 1 (some .double)) ({ frames := 1, cells := 0, slots := 0, locals := 40 }) (va_Pc [.float (fB v)] (fun U => U.heap.size = sz ∧ va_P (dC, dI) vwCl [] U.heap ∧ va_K (dC, dI) vwCl (tyA dA) U ∧ va_D (fun _ => True) [])) (QmetX1_wide dC dI dA (va_A [] sz) v) 0 0 (va_A [] sz) := by
  refine Met.ofW (cc := cX1_wide) (maxL := 1) (ret := (some .double)) (by decide) rfl ?_
  intro p e s m args below meth c s₁ B hml hv
  obtain ⟨rfl, hsz, hP, hK, hD0⟩ := hv
  have hx := B.exec
  have hb := B.bytes
  have hr := B.returns
  have hts := atoms_spec (ws := (ws_ yX1_wide cX1_wide 1 (some .double))) B.pre
  have hts : ∀ w ∈ lw_all, w.before _ s = true := fun w h => hts w (List.mem_cons_of_mem _ h)
  have hown : s.vm.findClass RX1 = some m.cls := findClass_of_methodNamed B.named
  have hlocks := B.notSynchronized
  subst hsz
  have hD := hD0.self (sz := s.heap.size)
  generalize hAe : va_A [] s.heap.size = A at hD ⊢
  have hA : ∀ q : Nat, s.heap.size ≤ q → A q := fun q h => by rw [← hAe]; exact Or.inr h
  have hS : va_S A s.heap s.heap [] := va_S.rf
  have hP : va_P (dC, dI) vwCl [] s.heap := hP
  have hl := lv_entry ([.float (fB v)]) (n := 1) (Nat.le_of_ble_eq_true rfl)
  rw [lg_entry_eq]
  generalize (lg_sl ([.float (fB v)]) ++ List.replicate (1 - (lg_sl ([.float (fB v)])).length) Slot.unset).toArray = ls at hl ⊢
  have hl : lv_has ls 1 [(0, .float (fB v))] := hl
  refine lv_fload_n hx hb dX1_wide_0 rfl (lv_at hl 0 rfl) ?_
  refine lv_fload_n hx hb dX1_wide_1 rfl (lv_at hl 0 rfl) ?_
  by_cases n_2 : noF v
  · skip
    refine ix_fcmpN (z := -1) hx hb (by first | assumption | decide | (constructor <;> omega)) (by first | assumption | decide | (constructor <;> omega)) (Or.inl n_2) rfl dX1_wide_2 ?_
    refine ix_if_eq (tgt := 12) hx hb (by first | assumption | decide | (constructor <;> omega)) dX1_wide_3 (by decide) (fun c_3 => ?_) (fun c_3 => ?_)
    · skip
      exact absurd c_3 (by decide)
    · skip
      refine lv_ldc2d hx hb hown (hts _ q487) dX1_wide_6 ?_
      refine ix_dc (x := 9221120237041090560) (by decide) ?_
      refine lv_goto (tgt := 14) hx hb dX1_wide_9 (by decide) ?_
      have o_1 : noF v → (9221120237041090560 : Int) = 9221120237041090560 := by first | exact fun _ => rfl | exact fun q => absurd q n_2
      have o_2 : ¬ noF v → ¬ noX (9221120237041090560 : Int) ∧ vD (9221120237041090560 : Int) = FP.Core.round FP.Core.b64 (vF v) := by first | exact fun q => absurd n_2 q | exact fun _ => ⟨wn_13, wv_13⟩
      have o_3 : In6 (9221120237041090560 : Int) := by first | exact w6_13 | decide
      exact W.dret (v := dX 9221120237041090560) hx hb hr (fun t ht hW => ⟨⟨dX 9221120237041090560, 9221120237041090560, rfl, ⟨rfl, ⟨o_1, o_2, o_3⟩⟩, by rw [ht]; exact hP, va_K.moved hW.alike hK, hD⟩, hS.F ht⟩) hS.2.2 dX1_wide_14
  refine ix_fcmp hx hb (by first | assumption | decide | (constructor <;> omega)) (by first | assumption | decide | (constructor <;> omega)) n_2 n_2 dX1_wide_2 ?_
  refine ix_cm0 ?_
  refine ix_if_eq (tgt := 12) hx hb (by first | assumption | decide | (constructor <;> omega)) dX1_wide_3 (by decide) (fun c_3 => ?_) (fun c_3 => ?_)
  · skip
    refine lv_fload_n hx hb dX1_wide_12 rfl (lv_at hl 0 rfl) ?_
    refine ix_f2dE hx hb (by exact hv) (by exact n_2) dX1_wide_13 (fun w_13 w6_13 wn_13 wv_13 => ?_)
    have o_4 : noF v → w_13 = 9221120237041090560 := by first | exact fun _ => rfl | exact fun q => absurd q n_2
    have o_5 : ¬ noF v → ¬ noX w_13 ∧ vD w_13 = FP.Core.round FP.Core.b64 (vF v) := by first | exact fun q => absurd n_2 q | exact fun _ => ⟨wn_13, wv_13⟩
    have o_6 : In6 w_13 := by first | exact w6_13 | decide
    exact W.dret (v := dX w_13) hx hb hr (fun t ht hW => ⟨⟨dX w_13, w_13, rfl, ⟨rfl, ⟨o_4, o_5, o_6⟩⟩, by rw [ht]; exact hP, va_K.moved hW.alike hK, hD⟩, hS.F ht⟩) hS.2.2 dX1_wide_14
  · skip
    exact absurd c_3 (by decide)
abbrev BmetX1_narrow (dC : Nat → ClassId) (dI : Nat → Nat → Nat) (dA : Nat → ClassId) (A : Nat → Prop)  (v : Int) : Int → State → Prop := fun u t => (fun (u : Int) => (fun (z : Int) => va_P (dC, dI) vwCl [] t.heap ∧ va_K (dC, dI) vwCl (tyA dA) t ∧ va_D A []) u) u
abbrev QmetX1_narrow (dC : Nat → ClassId) (dI : Nat → Nat → Nat) (dA : Nat → ClassId) (A : Nat → Prop)  (v : Int) := va_Qf (fun (rt_ : UInt32) => fun (u : Int) => (fun (z : Int) => rt_ = fB z ∧ (noX v → z = 2143289344) ∧ (¬ noX v → ¬ noF z ∧ vF z = FP.Core.round FP.Core.b32 (vD v)) ∧ (In3 z)) u) (BmetX1_narrow dC dI dA A v) A
set_option maxHeartbeats 1000000 in
set_option maxRecDepth 100000 in
theorem metX1_narrow (l : Launch) (dC : Nat → ClassId) (dI : Nat → Nat → Nat) (dA : Nat → ClassId)  (sz : Nat) (v : Int) (hv : In6 v) : Met l yX1_narrow (ws_ yX1_narrow cX1_narrow 2 (some .float)) ({ frames := 1, cells := 0, slots := 0, locals := 40 }) (va_Pc [.double (dX v)] (fun U => U.heap.size = sz ∧ va_P (dC, dI) vwCl [] U.heap ∧ va_K (dC, dI) vwCl (tyA dA) U ∧ va_D (fun _ => True) [])) (QmetX1_narrow dC dI dA (va_A [] sz) v) 0 0 (va_A [] sz) := by
  refine Met.ofW (cc := cX1_narrow) (maxL := 2) (ret := (some .float)) (by decide) rfl ?_
  intro p e s m args below meth c s₁ B hml hv
  obtain ⟨rfl, hsz, hP, hK, hD0⟩ := hv
  have hx := B.exec
  have hb := B.bytes
  have hr := B.returns
  have hts := atoms_spec (ws := (ws_ yX1_narrow cX1_narrow 2 (some .float))) B.pre
  have hts : ∀ w ∈ lw_all, w.before _ s = true := fun w h => hts w (List.mem_cons_of_mem _ h)
  have hown : s.vm.findClass RX1 = some m.cls := findClass_of_methodNamed B.named
  have hlocks := B.notSynchronized
  subst hsz
  have hD := hD0.self (sz := s.heap.size)
  generalize hAe : va_A [] s.heap.size = A at hD ⊢
  have hA : ∀ q : Nat, s.heap.size ≤ q → A q := fun q h => by rw [← hAe]; exact Or.inr h
  have hS : va_S A s.heap s.heap [] := va_S.rf
  have hP : va_P (dC, dI) vwCl [] s.heap := hP
  have hl := lv_entry ([.double (dX v)]) (n := 2) (Nat.le_of_ble_eq_true rfl)
  rw [lg_entry_eq]
  generalize (lg_sl ([.double (dX v)]) ++ List.replicate (2 - (lg_sl ([.double (dX v)])).length) Slot.unset).toArray = ls at hl ⊢
  have hl : lv_has ls 2 [(0, .double (dX v))] := hl
  refine lv_dload_n hx hb dX1_narrow_0 rfl (lv_at hl 0 rfl) ?_
  refine lv_dload_n hx hb dX1_narrow_1 rfl (lv_at hl 0 rfl) ?_
  by_cases n_2 : noX v
  · skip
    refine ix_dcmpN (z := -1) hx hb (by first | assumption | decide | (constructor <;> omega)) (by first | assumption | decide | (constructor <;> omega)) (Or.inl n_2) rfl dX1_narrow_2 ?_
    refine ix_if_eq (tgt := 12) hx hb (by first | assumption | decide | (constructor <;> omega)) dX1_narrow_3 (by decide) (fun c_3 => ?_) (fun c_3 => ?_)
    · skip
      exact absurd c_3 (by decide)
    · skip
      refine lv_ldcfw hx hb hown (hts _ q897) dX1_narrow_6 ?_
      refine ix_fc (x := 2143289344) (by decide) ?_
      refine lv_goto (tgt := 14) hx hb dX1_narrow_9 (by decide) ?_
      have o_1 : noX v → (2143289344 : Int) = 2143289344 := by first | exact fun _ => rfl | exact fun q => absurd q n_2
      have o_2 : ¬ noX v → ¬ noF (2143289344 : Int) ∧ vF (2143289344 : Int) = FP.Core.round FP.Core.b32 (vD v) := by first | exact fun q => absurd n_2 q | exact fun _ => ⟨wn_13, wv_13⟩
      have o_3 : In3 (2143289344 : Int) := by first | exact w6_13 | decide
      exact W.fret (v := fB 2143289344) hx hb hr (fun t ht hW => ⟨⟨fB 2143289344, 2143289344, rfl, ⟨rfl, ⟨o_1, o_2, o_3⟩⟩, by rw [ht]; exact hP, va_K.moved hW.alike hK, hD⟩, hS.F ht⟩) hS.2.2 dX1_narrow_14
  refine ix_dcmp hx hb (by first | assumption | decide | (constructor <;> omega)) (by first | assumption | decide | (constructor <;> omega)) n_2 n_2 dX1_narrow_2 ?_
  refine ix_cm0 ?_
  refine ix_if_eq (tgt := 12) hx hb (by first | assumption | decide | (constructor <;> omega)) dX1_narrow_3 (by decide) (fun c_3 => ?_) (fun c_3 => ?_)
  · skip
    refine lv_dload_n hx hb dX1_narrow_12 rfl (lv_at hl 0 rfl) ?_
    refine ix_d2fE hx hb (by exact hv) (by exact n_2) dX1_narrow_13 (fun w_13 w6_13 wn_13 wv_13 => ?_)
    have o_4 : noX v → w_13 = 2143289344 := by first | exact fun _ => rfl | exact fun q => absurd q n_2
    have o_5 : ¬ noX v → ¬ noF w_13 ∧ vF w_13 = FP.Core.round FP.Core.b32 (vD v) := by first | exact fun q => absurd n_2 q | exact fun _ => ⟨wn_13, wv_13⟩
    have o_6 : In3 w_13 := by first | exact w6_13 | decide
    exact W.fret (v := fB w_13) hx hb hr (fun t ht hW => ⟨⟨fB w_13, w_13, rfl, ⟨rfl, ⟨o_4, o_5, o_6⟩⟩, by rw [ht]; exact hP, va_K.moved hW.alike hK, hD⟩, hS.F ht⟩) hS.2.2 dX1_narrow_14
  · skip
    exact absurd c_3 (by decide)
abbrev BmetX1_machine (dC : Nat → ClassId) (dI : Nat → Nat → Nat) (dA : Nat → ClassId) (A : Nat → Prop) (ax : Nat) (adr : Nat) (ait : Nat) (wp : Nat) (wq : Nat) (wr : Nat) (ws : Nat) (wt : Nat) (wu : Nat) (wv : Nat) (wx : Nat) (wy : Nat) (wz : Nat) (mn : Int) (sg : Int) (rch : Int) (lft : Int) (isl : Int) (kind : Int) (v : Int) (w : Int) : Int → State → Prop := fun u t => (fun (u : Int) => (fun (z : Int) => va_P (dC, dI) vwCl [(ax, .inr (1, [.ref adr, .ref ait, .int (I3 mn), .ref wp, .ref wq, .ref wr, .ref ws, .ref wt, .ref wu, .ref wv, .ref wx, .ref wy, .ref wz, .int (I3 sg), .long (L6 rch), .int (I3 lft), .int (I3 isl)]))] t.heap ∧ va_K (dC, dI) vwCl (tyA dA) t ∧ va_D A [(ax, .inr (1, [.ref adr, .ref ait, .int (I3 mn), .ref wp, .ref wq, .ref wr, .ref ws, .ref wt, .ref wu, .ref wv, .ref wx, .ref wy, .ref wz, .int (I3 sg), .long (L6 rch), .int (I3 lft), .int (I3 isl)]))]) u) u
abbrev QmetX1_machine (dC : Nat → ClassId) (dI : Nat → Nat → Nat) (dA : Nat → ClassId) (A : Nat → Prop) (ax : Nat) (adr : Nat) (ait : Nat) (wp : Nat) (wq : Nat) (wr : Nat) (ws : Nat) (wt : Nat) (wu : Nat) (wv : Nat) (wx : Nat) (wy : Nat) (wz : Nat) (mn : Int) (sg : Int) (rch : Int) (lft : Int) (isl : Int) (kind : Int) (v : Int) (w : Int) := va_Ql (fun (rt_ : Int64) => fun (u : Int) => (fun (z : Int) => rt_ = L6 z ∧ ((0 ≤ kind ∧ kind ≤ 10)) ∧ (∀ z2 : Int, maX kind v w z2 → L6 z = L6 z2)) u) (BmetX1_machine dC dI dA A ax adr ait wp wq wr ws wt wu wv wx wy wz mn sg rch lft isl kind v w) A
abbrev XmetX1_machine (dC : Nat → ClassId) (dI : Nat → Nat → Nat) (dA : Nat → ClassId) (A : Nat → Prop) (ax : Nat) (adr : Nat) (ait : Nat) (wp : Nat) (wq : Nat) (wr : Nat) (ws : Nat) (wt : Nat) (wu : Nat) (wv : Nat) (wx : Nat) (wy : Nat) (wz : Nat) (mn : Int) (sg : Int) (rch : Int) (lft : Int) (isl : Int) (kind : Int) (v : Int) (w : Int) : String → State → State → Prop := vx_X (S := Unit) (fun _ => True) (fun E u t => ((E = "java/lang/IllegalArgumentException") ∧ (¬ (0 ≤ kind ∧ kind ≤ 10))) ∧ va_P (dC, dI) vwCl [(ax, .inr (1, [.ref adr, .ref ait, .int (I3 mn), .ref wp, .ref wq, .ref wr, .ref ws, .ref wt, .ref wu, .ref wv, .ref wx, .ref wy, .ref wz, .int (I3 sg), .long (L6 rch), .int (I3 lft), .int (I3 isl)]))] t.heap ∧ va_K (dC, dI) vwCl (tyA dA) t ∧ va_D A [(ax, .inr (1, [.ref adr, .ref ait, .int (I3 mn), .ref wp, .ref wq, .ref wr, .ref ws, .ref wt, .ref wu, .ref wv, .ref wx, .ref wy, .ref wz, .int (I3 sg), .long (L6 rch), .int (I3 lft), .int (I3 isl)]))]) A
set_option maxHeartbeats 16000000 in
set_option maxRecDepth 100000 in
/-- machine -/
theorem metX1_machine (l : Launch) (hlt : l.stackTraces = false) (dC : Nat → ClassId) (dI : Nat → Nat → Nat) (dA : Nat → ClassId) (ax : Nat) (adr : Nat) (ait : Nat) (wp : Nat) (wq : Nat) (wr : Nat) (ws : Nat) (wt : Nat) (wu : Nat) (wv : Nat) (wx : Nat) (wy : Nat) (wz : Nat) (sz : Nat) (mn : Int) (sg : Int) (rch : Int) (lft : Int) (isl : Int) (kind : Int) (v : Int) (w : Int) (hk3 : In3 kind) (hv : In6 v) (hw6 : In6 w) : vx_Met l yX1_machine (ws_ yX1_machine cX1_machine 12 (some .long)) ({ frames := 10, cells := 1, slots := 6, locals := 1400 }) (va_Pc [.ref ax, .int (I3 kind), .long (L6 v), .long (L6 w)] (fun U => U.heap.size = sz ∧ va_P (dC, dI) vwCl [(ax, .inr (1, [.ref adr, .ref ait, .int (I3 mn), .ref wp, .ref wq, .ref wr, .ref ws, .ref wt, .ref wu, .ref wv, .ref wx, .ref wy, .ref wz, .int (I3 sg), .long (L6 rch), .int (I3 lft), .int (I3 isl)]))] U.heap ∧ va_K (dC, dI) vwCl (tyA dA) U ∧ va_D (fun _ => True) [(ax, .inr (1, [.ref adr, .ref ait, .int (I3 mn), .ref wp, .ref wq, .ref wr, .ref ws, .ref wt, .ref wu, .ref wv, .ref wx, .ref wy, .ref wz, .int (I3 sg), .long (L6 rch), .int (I3 lft), .int (I3 isl)]))] ∧ FX (va_A [(ax, .inr (1, [.ref adr, .ref ait, .int (I3 mn), .ref wp, .ref wq, .ref wr, .ref ws, .ref wt, .ref wu, .ref wv, .ref wx, .ref wy, .ref wz, .int (I3 sg), .long (L6 rch), .int (I3 lft), .int (I3 isl)]))] sz) U U.heap ∧ MX (va_A [(ax, .inr (1, [.ref adr, .ref ait, .int (I3 mn), .ref wp, .ref wq, .ref wr, .ref ws, .ref wt, .ref wu, .ref wv, .ref wx, .ref wy, .ref wz, .int (I3 sg), .long (L6 rch), .int (I3 lft), .int (I3 isl)]))] sz) U U.heap)) (QmetX1_machine dC dI dA (va_A [(ax, .inr (1, [.ref adr, .ref ait, .int (I3 mn), .ref wp, .ref wq, .ref wr, .ref ws, .ref wt, .ref wu, .ref wv, .ref wx, .ref wy, .ref wz, .int (I3 sg), .long (L6 rch), .int (I3 lft), .int (I3 isl)]))] sz) ax adr ait wp wq wr ws wt wu wv wx wy wz mn sg rch lft isl kind v w) (XmetX1_machine dC dI dA (va_A [(ax, .inr (1, [.ref adr, .ref ait, .int (I3 mn), .ref wp, .ref wq, .ref wr, .ref ws, .ref wt, .ref wu, .ref wv, .ref wx, .ref wy, .ref wz, .int (I3 sg), .long (L6 rch), .int (I3 lft), .int (I3 isl)]))] sz) ax adr ait wp wq wr ws wt wu wv wx wy wz mn sg rch lft isl kind v w) 1 6 (va_A [(ax, .inr (1, [.ref adr, .ref ait, .int (I3 mn), .ref wp, .ref wq, .ref wr, .ref ws, .ref wt, .ref wu, .ref wv, .ref wx, .ref wy, .ref wz, .int (I3 sg), .long (L6 rch), .int (I3 lft), .int (I3 isl)]))] sz) := by
  refine vx_ofW (cc := cX1_machine) (maxL := 12) (ret := (some .long)) (by decide) rfl ?_
  intro p e s m args below meth c s₁ B hml htb hv
  obtain ⟨rfl, hsz, hP, hK, hD0, hq0, hq1⟩ := hv
  have hx := B.exec
  have hb := B.bytes
  have hr := B.returns
  have hts := atoms_spec (ws := (ws_ yX1_machine cX1_machine 12 (some .long))) B.pre
  have hts : ∀ w ∈ lw_all, w.before _ s = true := fun w h => hts w (List.mem_cons_of_mem _ h)
  have hown : s.vm.findClass RX1 = some m.cls := findClass_of_methodNamed B.named
  have hlocks := B.notSynchronized
  subst hsz
  have hD := hD0.self (sz := s.heap.size)
  generalize hAe : va_A [(ax, .inr (1, [.ref adr, .ref ait, .int (I3 mn), .ref wp, .ref wq, .ref wr, .ref ws, .ref wt, .ref wu, .ref wv, .ref wx, .ref wy, .ref wz, .int (I3 sg), .long (L6 rch), .int (I3 lft), .int (I3 isl)]))] s.heap.size = A at hD hq0 hq1 ⊢
  have hA : ∀ q : Nat, s.heap.size ≤ q → A q := fun q h => by rw [← hAe]; exact Or.inr h
  have hS : va_S A s.heap s.heap [] := va_S.rf
  have hP : va_P (dC, dI) vwCl [(ax, .inr (1, [.ref adr, .ref ait, .int (I3 mn), .ref wp, .ref wq, .ref wr, .ref ws, .ref wt, .ref wu, .ref wv, .ref wx, .ref wy, .ref wz, .int (I3 sg), .long (L6 rch), .int (I3 lft), .int (I3 isl)]))] s.heap := hP
  have hl := lv_entry ([.ref ax, .int (I3 kind), .long (L6 v), .long (L6 w)]) (n := 12) (Nat.le_of_ble_eq_true rfl)
  rw [lg_entry_eq]
  generalize (lg_sl ([.ref ax, .int (I3 kind), .long (L6 v), .long (L6 w)]) ++ List.replicate (12 - (lg_sl ([.ref ax, .int (I3 kind), .long (L6 v), .long (L6 w)])).length) Slot.unset).toArray = ls at hl ⊢
  have hl : lv_has ls 12 [(0, .ref ax), (1, .int (I3 kind)), (2, .long (L6 v)), (4, .long (L6 w))] := hl
  have cut_444 : ∀ (u9 : Int), ((0 ≤ kind ∧ kind ≤ 10)) → (In6 u9) → (∀ z2 : Int, maX kind v w z2 → L6 (if noX u9 then 9221120237041090560 else u9) = L6 z2) → ∀ (H : Heap) (locs : List Loc), va_P (dC, dI) vwCl [(ax, .inr (1, [.ref adr, .ref ait, .int (I3 mn), .ref wp, .ref wq, .ref wr, .ref ws, .ref wt, .ref wu, .ref wv, .ref wx, .ref wy, .ref wz, .int (I3 sg), .long (L6 rch), .int (I3 lft), .int (I3 isl)]))] H → va_D A [(ax, .inr (1, [.ref adr, .ref ait, .int (I3 mn), .ref wp, .ref wq, .ref wr, .ref ws, .ref wt, .ref wu, .ref wv, .ref wx, .ref wy, .ref wz, .int (I3 sg), .long (L6 rch), .int (I3 lft), .int (I3 isl)]))] → va_S A s.heap H locs → ∀ (ls : Array Slot), lv_has ls 12 [(0, .ref ax), (10, .double (dX u9))] → W p l e (headSpec (ws_ yX1_machine cX1_machine 12 (some .long)) ({ frames := 10, cells := 1, slots := 6, locals := 1400 })).room s m ([.ref ax, .int (I3 kind), .long (L6 v), .long (L6 w)] : List Value).toArray below meth c H locs 1 6 (vx_MQ below (QmetX1_machine dC dI dA A ax adr ait wp wq wr ws wt wu wv wx wy wz mn sg rch lft isl kind v w) (XmetX1_machine dC dI dA A ax adr ait wp wq wr ws wt wu wv wx wy wz mn sg rch lft isl kind v w) ([.ref ax, .int (I3 kind), .long (L6 v), .long (L6 w)] : List Value).toArray s 1 6 A) (F0 m 444 ls []) := by
    intro u9 hgk hu6 hU H locs hP hD hS ls hl
    refine lv_dload hx hb dX1_machine_444 (lv_at hl 1 rfl) ?_
    have h_1 : In6 u9 := by first | assumption | (and_intros <;> omega)
    have hPc := hP.sub (ws' := []) [] rfl
    have hDc := hD.sub (ws' := []) [] (by decide) rfl
    have hFc := va_free (wc := []) hD hS hA [] rfl
    refine va_calll (va_runS (As := [.double (dX u9)]) (rest := []) ⟨hx, hb, hml, hown, hts⟩ (metJ10_doubleToLongBits l dC dI dA H.size u9 h_1) (va_cwS 1 hts (lw_S q776 q777 q80 q778) rfl rfl rfl (by decide +kernel) ⟨Nat.le_of_ble_eq_true rfl, Nat.le_of_ble_eq_true rfl⟩) ⟨fun a U g mk q => by obtain ⟨q0, q1, qP, qK, qD⟩ := q; exact ⟨q0, q1, qP, va_K.moved (u := U) (U := U.calling g mk a) (Vm.Alike.refl U.vm) qK, qD⟩, fun U hU hW => ⟨rfl, by rw [hU], by rw [hU]; exact hPc, va_K.moved hW.alike hK, hDc.weaken (fun _ _ _ _ => trivial)⟩⟩ rfl rfl hl.1 rfl (lv_room (Nat.le_of_ble_eq_true rfl)) dX1_machine_446 ⟨Nat.le_of_ble_eq_true rfl, Nat.le_of_ble_eq_true rfl⟩) hS (fun q _ h => hFc q h) hFc (fun r_446 u t H1 locs ht hvm hw hB hz1 hk1 hS => ?_)
    obtain ⟨z_446, rfl⟩ : ∃ z, z = u := ⟨_, rfl⟩
    obtain ⟨rfl, p0_446⟩ : r_446 = L6 z_446 ∧ (z_446 = if noX u9 then 9221120237041090560 else u9) := hw
    obtain ⟨hP1, hK1, hD1⟩ := hB
    rw [ht] at hP1
    obtain ⟨hP, hD⟩ := va_join (wr := [(ax, .inr (1, [.ref adr, .ref ait, .int (I3 mn), .ref wp, .ref wq, .ref wr, .ref ws, .ref wt, .ref wu, .ref wv, .ref wx, .ref wy, .ref wz, .int (I3 sg), .long (L6 rch), .int (I3 lft), .int (I3 isl)]))]) (w1 := []) hP hD [] [0] rfl rfl (by decide) (by decide) hk1 hFc hP1 hD1
    have hP : va_P (dC, dI) vwCl [(ax, .inr (1, [.ref adr, .ref ait, .int (I3 mn), .ref wp, .ref wq, .ref wr, .ref ws, .ref wt, .ref wu, .ref wv, .ref wx, .ref wy, .ref wz, .int (I3 sg), .long (L6 rch), .int (I3 lft), .int (I3 isl)]))] H1 := hP
    have hD : va_D A [(ax, .inr (1, [.ref adr, .ref ait, .int (I3 mn), .ref wp, .ref wq, .ref wr, .ref ws, .ref wt, .ref wu, .ref wv, .ref wx, .ref wy, .ref wz, .int (I3 sg), .long (L6 rch), .int (I3 lft), .int (I3 isl)]))] := hD
    generalize H1 = H at hP hS ⊢
    have o_2 : (0 ≤ kind ∧ kind ≤ 10) := by exact hgk
    have o_3 : ∀ z2 : Int, maX kind v w z2 → L6 z_446 = L6 z2 := by intro z2 q; rw [p0_446]; exact hU z2 q
    refine vx_ret ?_
    exact W.lret (v := L6 z_446) hx hb hr (fun t ht hW => ⟨⟨L6 z_446, z_446, rfl, ⟨rfl, ⟨o_2, o_3⟩⟩, by rw [ht]; exact hP, va_K.moved hW.alike hK, hD⟩, hS.F ht⟩) hS.2.2 dX1_machine_449
  have cut_15 : ∀ (b9 : Int), ((b9 = 1 ∧ (0 ≤ kind ∧ kind ≤ 10)) ∨ (b9 = 0 ∧ ¬ (0 ≤ kind ∧ kind ≤ 10))) → ∀ (H : Heap) (locs : List Loc), va_P (dC, dI) vwCl [(ax, .inr (1, [.ref adr, .ref ait, .int (I3 mn), .ref wp, .ref wq, .ref wr, .ref ws, .ref wt, .ref wu, .ref wv, .ref wx, .ref wy, .ref wz, .int (I3 sg), .long (L6 rch), .int (I3 lft), .int (I3 isl)]))] H → va_D A [(ax, .inr (1, [.ref adr, .ref ait, .int (I3 mn), .ref wp, .ref wq, .ref wr, .ref ws, .ref wt, .ref wu, .ref wv, .ref wx, .ref wy, .ref wz, .int (I3 sg), .long (L6 rch), .int (I3 lft), .int (I3 isl)]))] → va_S A s.heap H locs → ∀ (ls : Array Slot), lv_has ls 12 [(0, .ref ax), (1, .int (I3 kind)), (2, .long (L6 v)), (4, .long (L6 w))] → W p l e (headSpec (ws_ yX1_machine cX1_machine 12 (some .long)) ({ frames := 10, cells := 1, slots := 6, locals := 1400 })).room s m ([.ref ax, .int (I3 kind), .long (L6 v), .long (L6 w)] : List Value).toArray below meth c H locs 0 0 (vx_MQ below (QmetX1_machine dC dI dA A ax adr ait wp wq wr ws wt wu wv wx wy wz mn sg rch lft isl kind v w) (XmetX1_machine dC dI dA A ax adr ait wp wq wr ws wt wu wv wx wy wz mn sg rch lft isl kind v w) ([.ref ax, .int (I3 kind), .long (L6 v), .long (L6 w)] : List Value).toArray s 1 6 A) (F0 m 15 ls [.int (I3 b9)]) := by
    intro b9 hb9 H locs hP hD hS ls hl
    have h_4 : b9 = 0 ∨ b9 = 1 := by exact o_b1 hb9
    have hPc := hP.sub (ws' := []) [] rfl
    have hDc := hD.sub (ws' := []) [] (by decide) rfl
    have hFc := va_free (wc := []) hD hS hA [] rfl
    refine vx_callv (vx_runS (As := [.int (I3 b9)]) (rest := []) ⟨hx, hb, hml, hown, hts⟩ (metX1_argument l hlt dC dI dA H.size b9 h_4) (va_cwS 1 hts (lw_S q578 q579 q59 q580) rfl rfl rfl (by decide +kernel) ⟨Nat.le_of_ble_eq_true rfl, Nat.le_of_ble_eq_true rfl⟩) ⟨fun a U g mk q => by obtain ⟨q0, q1, qP, qK, qD, qF0⟩ := q; exact ⟨q0, q1, qP, va_K.moved (u := U) (U := U.calling g mk a) (Vm.Alike.refl U.vm) qK, qD, FX.moved (u := U) (U := U.calling g mk a) (State.WarmedH.refl U) qF0⟩, fun U hU hW => ⟨rfl, by rw [hU], by rw [hU]; exact hPc, va_K.moved hW.alike hK, hDc.weaken (fun _ _ _ _ => trivial), by rw [hU]; exact FX.moved hW ((FX.kept hq0 hS).narrow hFc)⟩⟩ rfl rfl hl.1 rfl (lv_room (Nat.le_of_ble_eq_true rfl)) dX1_machine_15 ⟨Nat.le_of_ble_eq_true rfl, Nat.le_of_ble_eq_true rfl⟩) hS (fun q _ h => hFc q h) hFc (fun q _ h => hFc q h) (fun E_15 ce_15 q9_15 u t H1 locs ht hvm _ hB hz1 hk1 hS hce_15 hcv_15 hcl_15 => ?_) (fun u t H1 locs ht hvm hw hB hz1 hk1 hS => ?_)
    · skip
      obtain ⟨⟨x0_15, x1_15⟩, hP1, hK1, hD1⟩ := hB
      have x0_15 : E_15 = "java/lang/IllegalArgumentException" := x0_15
      have x1_15 : b9 = 0 := x1_15
      rw [ht] at hP1
      obtain ⟨hP, hD⟩ := va_join (wr := [(ax, .inr (1, [.ref adr, .ref ait, .int (I3 mn), .ref wp, .ref wq, .ref wr, .ref ws, .ref wt, .ref wu, .ref wv, .ref wx, .ref wy, .ref wz, .int (I3 sg), .long (L6 rch), .int (I3 lft), .int (I3 isl)]))]) (w1 := []) hP hD [] [0] rfl rfl (by decide) (by decide) hk1 hFc hP1 hD1
      clear hP1 hD1
      have hP : va_P (dC, dI) vwCl [(ax, .inr (1, [.ref adr, .ref ait, .int (I3 mn), .ref wp, .ref wq, .ref wr, .ref ws, .ref wt, .ref wu, .ref wv, .ref wx, .ref wy, .ref wz, .int (I3 sg), .long (L6 rch), .int (I3 lft), .int (I3 isl)]))] H1 := hP
      have hD : va_D A [(ax, .inr (1, [.ref adr, .ref ait, .int (I3 mn), .ref wp, .ref wq, .ref wr, .ref ws, .ref wt, .ref wu, .ref wv, .ref wx, .ref wy, .ref wz, .int (I3 sg), .long (L6 rch), .int (I3 lft), .int (I3 isl)]))] := hD
      refine vx_widen (k := 1) (n := 6) (Nat.le_of_ble_eq_true rfl) (Nat.le_of_ble_eq_true rfl) ?_
      have y_5 : E_15 = "java/lang/IllegalArgumentException" := by assumption
      have y_6 : ¬ (0 ≤ kind ∧ kind ≤ 10) := by exact o_nz hb9 x1_15
      exact vx_out (E := E_15) (fun x hx => (htb x hx).elim) hlocks hce_15 hcv_15 hcl_15 (fun t ht hvm => ⟨(), trivial, ⟨⟨y_5, y_6⟩, by rw [ht]; exact hP, va_K.moved hvm hK, hD⟩, hS.F ht⟩) hS.2.2 (Nat.le_of_ble_eq_true rfl) (Nat.le_of_ble_eq_true rfl)
    skip
    have p0_15 : b9 = 1 := hw
    obtain ⟨hP1, hK1, hD1⟩ := hB
    rw [ht] at hP1
    obtain ⟨hP, hD⟩ := va_join (wr := [(ax, .inr (1, [.ref adr, .ref ait, .int (I3 mn), .ref wp, .ref wq, .ref wr, .ref ws, .ref wt, .ref wu, .ref wv, .ref wx, .ref wy, .ref wz, .int (I3 sg), .long (L6 rch), .int (I3 lft), .int (I3 isl)]))]) (w1 := []) hP hD [] [0] rfl rfl (by decide) (by decide) hk1 hFc hP1 hD1
    have hP : va_P (dC, dI) vwCl [(ax, .inr (1, [.ref adr, .ref ait, .int (I3 mn), .ref wp, .ref wq, .ref wr, .ref ws, .ref wt, .ref wu, .ref wv, .ref wx, .ref wy, .ref wz, .int (I3 sg), .long (L6 rch), .int (I3 lft), .int (I3 isl)]))] H1 := hP
    have hD : va_D A [(ax, .inr (1, [.ref adr, .ref ait, .int (I3 mn), .ref wp, .ref wq, .ref wr, .ref ws, .ref wt, .ref wu, .ref wv, .ref wx, .ref wy, .ref wz, .int (I3 sg), .long (L6 rch), .int (I3 lft), .int (I3 isl)]))] := hD
    generalize H1 = H at hP hS ⊢
    refine W.widen (k := 1) (n := 6) (Nat.le_of_ble_eq_true rfl) (Nat.le_of_ble_eq_true rfl) ?_
    have hgk : (0 ≤ kind ∧ kind ≤ 10) := o_z1 hb9 p0_15
    refine lv_lload_n hx hb dX1_machine_18 rfl (lv_at hl 2 rfl) ?_
    have h_7 : In6 v := by first | assumption | (and_intros <;> omega)
    have hPc := hP.sub (ws' := []) [] rfl
    have hDc := hD.sub (ws' := []) [] (by decide) rfl
    have hFc := va_free (wc := []) hD hS hA [] rfl
    refine va_calld (va_runS (As := [.long (L6 v)]) (rest := []) ⟨hx, hb, hml, hown, hts⟩ (metX1_doubleOf l dC dI dA H.size v h_7) (va_cwS 1 hts (lw_S q482 q483 q59 q484) rfl rfl rfl (by decide +kernel) ⟨Nat.le_of_ble_eq_true rfl, Nat.le_of_ble_eq_true rfl⟩) ⟨fun a U g mk q => by obtain ⟨q0, q1, qP, qK, qD⟩ := q; exact ⟨q0, q1, qP, va_K.moved (u := U) (U := U.calling g mk a) (Vm.Alike.refl U.vm) qK, qD⟩, fun U hU hW => ⟨rfl, by rw [hU], by rw [hU]; exact hPc, va_K.moved hW.alike hK, hDc.weaken (fun _ _ _ _ => trivial)⟩⟩ rfl rfl hl.1 rfl (lv_room (Nat.le_of_ble_eq_true rfl)) dX1_machine_19 ⟨Nat.le_of_ble_eq_true rfl, Nat.le_of_ble_eq_true rfl⟩) hS (fun q _ h => hFc q h) hFc (fun r_19 u t H1 locs ht hvm hw hB hz1 hk1 hS => ?_)
    obtain ⟨z_19, rfl⟩ : ∃ z, z = u := ⟨_, rfl⟩
    obtain ⟨rfl, p0_19, p1_19⟩ : r_19 = dX z_19 ∧ (z_19 = if noX v then 9221120237041090560 else v) ∧ (In6 z_19) := hw
    obtain ⟨hP1, hK1, hD1⟩ := hB
    rw [ht] at hP1
    obtain ⟨hP, hD⟩ := va_join (wr := [(ax, .inr (1, [.ref adr, .ref ait, .int (I3 mn), .ref wp, .ref wq, .ref wr, .ref ws, .ref wt, .ref wu, .ref wv, .ref wx, .ref wy, .ref wz, .int (I3 sg), .long (L6 rch), .int (I3 lft), .int (I3 isl)]))]) (w1 := []) hP hD [] [0] rfl rfl (by decide) (by decide) hk1 hFc hP1 hD1
    have hP : va_P (dC, dI) vwCl [(ax, .inr (1, [.ref adr, .ref ait, .int (I3 mn), .ref wp, .ref wq, .ref wr, .ref ws, .ref wt, .ref wu, .ref wv, .ref wx, .ref wy, .ref wz, .int (I3 sg), .long (L6 rch), .int (I3 lft), .int (I3 isl)]))] H1 := hP
    have hD : va_D A [(ax, .inr (1, [.ref adr, .ref ait, .int (I3 mn), .ref wp, .ref wq, .ref wr, .ref ws, .ref wt, .ref wu, .ref wv, .ref wx, .ref wy, .ref wz, .int (I3 sg), .long (L6 rch), .int (I3 lft), .int (I3 isl)]))] := hD
    generalize H1 = H at hP hS ⊢
    refine lv_dstore (lv' := [(6, .double (dX z_19)), (0, .ref ax), (1, .int (I3 kind)), (2, .long (L6 v)), (4, .long (L6 w))]) hx hb dX1_machine_22 hl (by decide) rfl (fun ls hl => ?_)
    refine lv_lload hx hb dX1_machine_24 (lv_at hl 4 rfl) ?_
    have h_8 : In6 w := by first | assumption | (and_intros <;> omega)
    have hPc := hP.sub (ws' := []) [] rfl
    have hDc := hD.sub (ws' := []) [] (by decide) rfl
    have hFc := va_free (wc := []) hD hS hA [] rfl
    refine va_calld (va_runS (As := [.long (L6 w)]) (rest := []) ⟨hx, hb, hml, hown, hts⟩ (metX1_doubleOf l dC dI dA H.size w h_8) (va_cwS 1 hts (lw_S q482 q483 q59 q484) rfl rfl rfl (by decide +kernel) ⟨Nat.le_of_ble_eq_true rfl, Nat.le_of_ble_eq_true rfl⟩) ⟨fun a U g mk q => by obtain ⟨q0, q1, qP, qK, qD⟩ := q; exact ⟨q0, q1, qP, va_K.moved (u := U) (U := U.calling g mk a) (Vm.Alike.refl U.vm) qK, qD⟩, fun U hU hW => ⟨rfl, by rw [hU], by rw [hU]; exact hPc, va_K.moved hW.alike hK, hDc.weaken (fun _ _ _ _ => trivial)⟩⟩ rfl rfl hl.1 rfl (lv_room (Nat.le_of_ble_eq_true rfl)) dX1_machine_26 ⟨Nat.le_of_ble_eq_true rfl, Nat.le_of_ble_eq_true rfl⟩) hS (fun q _ h => hFc q h) hFc (fun r_26 u t H1 locs ht hvm hw hB hz1 hk1 hS => ?_)
    obtain ⟨z_26, rfl⟩ : ∃ z, z = u := ⟨_, rfl⟩
    obtain ⟨rfl, p0_26, p1_26⟩ : r_26 = dX z_26 ∧ (z_26 = if noX w then 9221120237041090560 else w) ∧ (In6 z_26) := hw
    obtain ⟨hP1, hK1, hD1⟩ := hB
    rw [ht] at hP1
    obtain ⟨hP, hD⟩ := va_join (wr := [(ax, .inr (1, [.ref adr, .ref ait, .int (I3 mn), .ref wp, .ref wq, .ref wr, .ref ws, .ref wt, .ref wu, .ref wv, .ref wx, .ref wy, .ref wz, .int (I3 sg), .long (L6 rch), .int (I3 lft), .int (I3 isl)]))]) (w1 := []) hP hD [] [0] rfl rfl (by decide) (by decide) hk1 hFc hP1 hD1
    have hP : va_P (dC, dI) vwCl [(ax, .inr (1, [.ref adr, .ref ait, .int (I3 mn), .ref wp, .ref wq, .ref wr, .ref ws, .ref wt, .ref wu, .ref wv, .ref wx, .ref wy, .ref wz, .int (I3 sg), .long (L6 rch), .int (I3 lft), .int (I3 isl)]))] H1 := hP
    have hD : va_D A [(ax, .inr (1, [.ref adr, .ref ait, .int (I3 mn), .ref wp, .ref wq, .ref wr, .ref ws, .ref wt, .ref wu, .ref wv, .ref wx, .ref wy, .ref wz, .int (I3 sg), .long (L6 rch), .int (I3 lft), .int (I3 isl)]))] := hD
    generalize H1 = H at hP hS ⊢
    refine lv_dstore (lv' := [(8, .double (dX z_26)), (6, .double (dX z_19)), (0, .ref ax), (1, .int (I3 kind)), (2, .long (L6 v)), (4, .long (L6 w))]) hx hb dX1_machine_29 hl (by decide) rfl (fun ls hl => ?_)
    refine lv_iload_n hx hb dX1_machine_31 rfl (lv_at hl 3 rfl) ?_
    by_cases t_32_0 : kind = 0
    · skip
      refine ix_tabI hx hb 0 t_32_0 (by decide) (by decide) (by decide) (off := 56) rfl (tgt := 88) (by decide) dX1_machine_32 ?_
      refine lv_dload hx hb dX1_machine_88 (lv_at hl 1 rfl) ?_
      refine lv_dload hx hb dX1_machine_90 (lv_at hl 1 rfl) ?_
      by_cases n_92 : noX z_19
      · skip
        refine ix_dcmpN (z := -1) hx hb (by exact p1_19) (by exact p1_19) (Or.inl n_92) rfl dX1_machine_92 ?_
        refine ix_if_ne (tgt := 119) hx hb (by first | assumption | decide | (constructor <;> omega)) dX1_machine_93 (by decide) (fun c_93 => ?_) (fun c_93 => ?_)
        · skip
          refine lv_ldc2d hx hb hown (hts _ q487) dX1_machine_119 ?_
          refine ix_dc (x := 9221120237041090560) (by decide) ?_
          refine lv_goto (tgt := 130) hx hb dX1_machine_122 (by decide) ?_
          refine lv_dstore (lv' := [(10, .double (dX 9221120237041090560)), (8, .double (dX z_26)), (6, .double (dX z_19)), (0, .ref ax), (1, .int (I3 kind)), (2, .long (L6 v)), (4, .long (L6 w))]) hx hb dX1_machine_130 hl (by decide) rfl (fun ls hl => ?_)
          refine lv_goto (tgt := 444) hx hb dX1_machine_132 (by decide) ?_
          have e_9 : (0 ≤ kind ∧ kind ≤ 10) := by first | assumption | (and_intros <;> omega)
          have e_10 : In6 (9221120237041090560 : Int) := by first | exact w6_129 | decide
          have e_11 : ∀ z2 : Int, maX kind v w z2 → L6 (if noX (9221120237041090560 : Int) then 9221120237041090560 else (9221120237041090560 : Int)) = L6 z2 := by first | exact mk_nan (fun z2 q => (q.1 t_32_0).1 (Or.inl (nan_n p0_19 n_92))) | exact mk_nan (fun z2 q => (q.1 t_32_0).1 (Or.inr (Or.inl (nan_n p0_26 n_100)))) | exact mk_nan (fun z2 q => (q.1 t_32_0).1 (Or.inr (Or.inr (Or.inl i106)))) | exact mk_nan (fun z2 q => (q.1 t_32_0).1 (Or.inr (Or.inr (Or.inr f115)))) | exact mk_num wn_129 (fun z2 q => rm_L hv hw6 hnv129 w6_129 wn_129 (by rw [← e19.1, ← e26.1]; exact wv_129) (q.1 t_32_0))
          exact cut_444 9221120237041090560 e_9 e_10 e_11 _ _ hP hD hS ls (lv_sub hl [3, 0] rfl)
        · skip
          exact absurd c_93 (by decide)
      refine ix_dcmp hx hb (by exact p1_19) (by exact p1_19) n_92 n_92 dX1_machine_92 ?_
      refine ix_cm0 ?_
      refine ix_if_ne (tgt := 119) hx hb (by first | assumption | decide | (constructor <;> omega)) dX1_machine_93 (by decide) (fun c_93 => ?_) (fun c_93 => ?_)
      · skip
        exact absurd c_93 (by decide)
      · skip
        refine lv_dload hx hb dX1_machine_96 (lv_at hl 0 rfl) ?_
        refine lv_dload hx hb dX1_machine_98 (lv_at hl 0 rfl) ?_
        by_cases n_100 : noX z_26
        · skip
          refine ix_dcmpN (z := -1) hx hb (by exact p1_26) (by exact p1_26) (Or.inl n_100) rfl dX1_machine_100 ?_
          refine ix_if_ne (tgt := 119) hx hb (by first | assumption | decide | (constructor <;> omega)) dX1_machine_101 (by decide) (fun c_101 => ?_) (fun c_101 => ?_)
          · skip
            refine lv_ldc2d hx hb hown (hts _ q487) dX1_machine_119 ?_
            refine ix_dc (x := 9221120237041090560) (by decide) ?_
            refine lv_goto (tgt := 130) hx hb dX1_machine_122 (by decide) ?_
            refine lv_dstore (lv' := [(10, .double (dX 9221120237041090560)), (8, .double (dX z_26)), (6, .double (dX z_19)), (0, .ref ax), (1, .int (I3 kind)), (2, .long (L6 v)), (4, .long (L6 w))]) hx hb dX1_machine_130 hl (by decide) rfl (fun ls hl => ?_)
            refine lv_goto (tgt := 444) hx hb dX1_machine_132 (by decide) ?_
            have e_12 : (0 ≤ kind ∧ kind ≤ 10) := by first | assumption | (and_intros <;> omega)
            have e_13 : In6 (9221120237041090560 : Int) := by first | exact w6_129 | decide
            have e_14 : ∀ z2 : Int, maX kind v w z2 → L6 (if noX (9221120237041090560 : Int) then 9221120237041090560 else (9221120237041090560 : Int)) = L6 z2 := by first | exact mk_nan (fun z2 q => (q.1 t_32_0).1 (Or.inl (nan_n p0_19 n_92))) | exact mk_nan (fun z2 q => (q.1 t_32_0).1 (Or.inr (Or.inl (nan_n p0_26 n_100)))) | exact mk_nan (fun z2 q => (q.1 t_32_0).1 (Or.inr (Or.inr (Or.inl i106)))) | exact mk_nan (fun z2 q => (q.1 t_32_0).1 (Or.inr (Or.inr (Or.inr f115)))) | exact mk_num wn_129 (fun z2 q => rm_L hv hw6 hnv129 w6_129 wn_129 (by rw [← e19.1, ← e26.1]; exact wv_129) (q.1 t_32_0))
            exact cut_444 9221120237041090560 e_12 e_13 e_14 _ _ hP hD hS ls (lv_sub hl [3, 0] rfl)
          · skip
            exact absurd c_101 (by decide)
        refine ix_dcmp hx hb (by exact p1_26) (by exact p1_26) n_100 n_100 dX1_machine_100 ?_
        refine ix_cm0 ?_
        refine ix_if_ne (tgt := 119) hx hb (by first | assumption | decide | (constructor <;> omega)) dX1_machine_101 (by decide) (fun c_101 => ?_) (fun c_101 => ?_)
        · skip
          exact absurd c_101 (by decide)
        · skip
          refine lv_dload hx hb dX1_machine_104 (lv_at hl 1 rfl) ?_
          have h_15 : In6 z_19 := by exact p1_19
          have h_16 : ¬ noX z_19 := by exact n_92
          have hPc := hP.sub (ws' := []) [] rfl
          have hDc := hD.sub (ws' := []) [] (by decide) rfl
          have hFc := va_free (wc := []) hD hS hA [] rfl
          refine va_calli (va_runS (As := [.double (dX z_19)]) (rest := []) ⟨hx, hb, hml, hown, hts⟩ (metX1_isEndless l dC dI dA H.size z_19 h_15 h_16) (va_cwS 1 hts (lw_S q823 q824 q59 q825) rfl rfl rfl (by decide +kernel) ⟨Nat.le_of_ble_eq_true rfl, Nat.le_of_ble_eq_true rfl⟩) ⟨fun a U g mk q => by obtain ⟨q0, q1, qP, qK, qD⟩ := q; exact ⟨q0, q1, qP, va_K.moved (u := U) (U := U.calling g mk a) (Vm.Alike.refl U.vm) qK, qD⟩, fun U hU hW => ⟨rfl, by rw [hU], by rw [hU]; exact hPc, va_K.moved hW.alike hK, hDc.weaken (fun _ _ _ _ => trivial)⟩⟩ rfl rfl hl.1 rfl (lv_room (Nat.le_of_ble_eq_true rfl)) dX1_machine_106 ⟨Nat.le_of_ble_eq_true rfl, Nat.le_of_ble_eq_true rfl⟩) hS (fun q _ h => hFc q h) hFc (fun r_106 u t H1 locs ht hvm hw hB hz1 hk1 hS => ?_)
          obtain ⟨z_106, rfl⟩ : ∃ z, z = u := ⟨_, rfl⟩
          obtain ⟨rfl, p0_106⟩ : r_106 = I3 z_106 ∧ (z_106 = if infX z_19 then 1 else 0) := hw
          obtain ⟨hP1, hK1, hD1⟩ := hB
          rw [ht] at hP1
          obtain ⟨hP, hD⟩ := va_join (wr := [(ax, .inr (1, [.ref adr, .ref ait, .int (I3 mn), .ref wp, .ref wq, .ref wr, .ref ws, .ref wt, .ref wu, .ref wv, .ref wx, .ref wy, .ref wz, .int (I3 sg), .long (L6 rch), .int (I3 lft), .int (I3 isl)]))]) (w1 := []) hP hD [] [0] rfl rfl (by decide) (by decide) hk1 hFc hP1 hD1
          have hP : va_P (dC, dI) vwCl [(ax, .inr (1, [.ref adr, .ref ait, .int (I3 mn), .ref wp, .ref wq, .ref wr, .ref ws, .ref wt, .ref wu, .ref wv, .ref wx, .ref wy, .ref wz, .int (I3 sg), .long (L6 rch), .int (I3 lft), .int (I3 isl)]))] H1 := hP
          have hD : va_D A [(ax, .inr (1, [.ref adr, .ref ait, .int (I3 mn), .ref wp, .ref wq, .ref wr, .ref ws, .ref wt, .ref wu, .ref wv, .ref wx, .ref wy, .ref wz, .int (I3 sg), .long (L6 rch), .int (I3 lft), .int (I3 isl)]))] := hD
          generalize H1 = H at hP hS ⊢
          have e19 := nan_v p0_19 n_92
          have e26 := nan_v p0_26 n_100
          have y_106 : (z_106 = 1 ∧ infX z_19) ∨ (z_106 = 0 ∧ ¬ infX z_19) := by rw [p0_106]; by_cases q : infX z_19; (rw [if_pos q]; exact Or.inl ⟨rfl, q⟩); (rw [if_neg q]; exact Or.inr ⟨rfl, q⟩)
          refine ix_if_ne (tgt := 119) hx hb (by first | assumption | decide | (constructor <;> omega)) dX1_machine_109 (by decide) (fun c_109 => ?_) (fun c_109 => ?_)
          · skip
            have i106 : infX v := by rcases y_106 with q | q; (rw [← e19.1]; exact q.2); (exfalso; omega)
            refine lv_ldc2d hx hb hown (hts _ q487) dX1_machine_119 ?_
            refine ix_dc (x := 9221120237041090560) (by decide) ?_
            refine lv_goto (tgt := 130) hx hb dX1_machine_122 (by decide) ?_
            refine lv_dstore (lv' := [(10, .double (dX 9221120237041090560)), (8, .double (dX z_26)), (6, .double (dX z_19)), (0, .ref ax), (1, .int (I3 kind)), (2, .long (L6 v)), (4, .long (L6 w))]) hx hb dX1_machine_130 hl (by decide) rfl (fun ls hl => ?_)
            refine lv_goto (tgt := 444) hx hb dX1_machine_132 (by decide) ?_
            have e_17 : (0 ≤ kind ∧ kind ≤ 10) := by first | assumption | (and_intros <;> omega)
            have e_18 : In6 (9221120237041090560 : Int) := by first | exact w6_129 | decide
            have e_19 : ∀ z2 : Int, maX kind v w z2 → L6 (if noX (9221120237041090560 : Int) then 9221120237041090560 else (9221120237041090560 : Int)) = L6 z2 := by first | exact mk_nan (fun z2 q => (q.1 t_32_0).1 (Or.inl (nan_n p0_19 n_92))) | exact mk_nan (fun z2 q => (q.1 t_32_0).1 (Or.inr (Or.inl (nan_n p0_26 n_100)))) | exact mk_nan (fun z2 q => (q.1 t_32_0).1 (Or.inr (Or.inr (Or.inl i106)))) | exact mk_nan (fun z2 q => (q.1 t_32_0).1 (Or.inr (Or.inr (Or.inr f115)))) | exact mk_num wn_129 (fun z2 q => rm_L hv hw6 hnv129 w6_129 wn_129 (by rw [← e19.1, ← e26.1]; exact wv_129) (q.1 t_32_0))
            exact cut_444 9221120237041090560 e_17 e_18 e_19 _ _ hP hD hS ls (lv_sub hl [3, 0] rfl)
          · skip
            refine lv_dload hx hb dX1_machine_112 (lv_at hl 0 rfl) ?_
            refine lv_dconst0 hx hb dX1_machine_114 ?_
            refine ix_dc (x := 0) rfl ?_
            refine ix_dci_ne (tgt := 125) hx hb (by exact p1_26) (by decide) (by exact n_100) (by decide) dX1_machine_115 dX1_machine_116 (by decide) (fun c_115 => ?_) (fun c_115 => ?_)
            · skip
              have hno129 : ¬ rmNo z_19 z_26 := fun o => by rcases o with o | o | o | o; exact n_92 o; exact n_100 o; (rcases y_106 with q | q; (exfalso; omega); exact q.2 o); (have h9 := (k0_f p1_26 n_100).mpr o; have k0_ : kX 0 = 0 := (by decide); omega)
              have hnv129 : ¬ rmNo v w := by rw [← e19.1, ← e26.1]; exact hno129
              refine lv_dload hx hb dX1_machine_125 (lv_at hl 1 rfl) ?_
              refine lv_dload hx hb dX1_machine_127 (lv_at hl 0 rfl) ?_
              refine ix_dremE hx hb p1_19 p1_26 hno129 dX1_machine_129 (fun w_129 w6_129 wn_129 wv_129 => ?_)
              refine lv_dstore (lv' := [(10, .double (dX w_129)), (8, .double (dX z_26)), (6, .double (dX z_19)), (0, .ref ax), (1, .int (I3 kind)), (2, .long (L6 v)), (4, .long (L6 w))]) hx hb dX1_machine_130 hl (by decide) rfl (fun ls hl => ?_)
              refine lv_goto (tgt := 444) hx hb dX1_machine_132 (by decide) ?_
              have e_20 : (0 ≤ kind ∧ kind ≤ 10) := by first | assumption | (and_intros <;> omega)
              have e_21 : In6 w_129 := by first | exact w6_129 | decide
              have e_22 : ∀ z2 : Int, maX kind v w z2 → L6 (if noX w_129 then 9221120237041090560 else w_129) = L6 z2 := by first | exact mk_nan (fun z2 q => (q.1 t_32_0).1 (Or.inl (nan_n p0_19 n_92))) | exact mk_nan (fun z2 q => (q.1 t_32_0).1 (Or.inr (Or.inl (nan_n p0_26 n_100)))) | exact mk_nan (fun z2 q => (q.1 t_32_0).1 (Or.inr (Or.inr (Or.inl i106)))) | exact mk_nan (fun z2 q => (q.1 t_32_0).1 (Or.inr (Or.inr (Or.inr f115)))) | exact mk_num wn_129 (fun z2 q => rm_L hv hw6 hnv129 w6_129 wn_129 (by rw [← e19.1, ← e26.1]; exact wv_129) (q.1 t_32_0))
              exact cut_444 w_129 e_20 e_21 e_22 _ _ hP hD hS ls (lv_sub hl [3, 0] rfl)
            · skip
              have f115 : fX w = 0 := by rw [← e26.1]; exact (k0_f p1_26 n_100).mp (by have k0_ : kX 0 = 0 := (by decide); omega)
              refine lv_ldc2d hx hb hown (hts _ q487) dX1_machine_119 ?_
              refine ix_dc (x := 9221120237041090560) (by decide) ?_
              refine lv_goto (tgt := 130) hx hb dX1_machine_122 (by decide) ?_
              refine lv_dstore (lv' := [(10, .double (dX 9221120237041090560)), (8, .double (dX z_26)), (6, .double (dX z_19)), (0, .ref ax), (1, .int (I3 kind)), (2, .long (L6 v)), (4, .long (L6 w))]) hx hb dX1_machine_130 hl (by decide) rfl (fun ls hl => ?_)
              refine lv_goto (tgt := 444) hx hb dX1_machine_132 (by decide) ?_
              have e_23 : (0 ≤ kind ∧ kind ≤ 10) := by first | assumption | (and_intros <;> omega)
              have e_24 : In6 (9221120237041090560 : Int) := by first | exact w6_129 | decide
              have e_25 : ∀ z2 : Int, maX kind v w z2 → L6 (if noX (9221120237041090560 : Int) then 9221120237041090560 else (9221120237041090560 : Int)) = L6 z2 := by first | exact mk_nan (fun z2 q => (q.1 t_32_0).1 (Or.inl (nan_n p0_19 n_92))) | exact mk_nan (fun z2 q => (q.1 t_32_0).1 (Or.inr (Or.inl (nan_n p0_26 n_100)))) | exact mk_nan (fun z2 q => (q.1 t_32_0).1 (Or.inr (Or.inr (Or.inl i106)))) | exact mk_nan (fun z2 q => (q.1 t_32_0).1 (Or.inr (Or.inr (Or.inr f115)))) | exact mk_num wn_129 (fun z2 q => rm_L hv hw6 hnv129 w6_129 wn_129 (by rw [← e19.1, ← e26.1]; exact wv_129) (q.1 t_32_0))
              exact cut_444 9221120237041090560 e_23 e_24 e_25 _ _ hP hD hS ls (lv_sub hl [3, 0] rfl)
    by_cases t_32_1 : kind = 1
    · skip
      refine ix_tabI hx hb 1 t_32_1 (by decide) (by decide) (by decide) (off := 103) rfl (tgt := 135) (by decide) dX1_machine_32 ?_
      refine lv_dload hx hb dX1_machine_135 (lv_at hl 1 rfl) ?_
      refine lv_dload hx hb dX1_machine_137 (lv_at hl 1 rfl) ?_
      by_cases n_139 : noX z_19
      · skip
        refine ix_dcmpN (z := -1) hx hb (by exact p1_19) (by exact p1_19) (Or.inl n_139) rfl dX1_machine_139 ?_
        refine ix_if_eq (tgt := 149) hx hb (by first | assumption | decide | (constructor <;> omega)) dX1_machine_140 (by decide) (fun c_140 => ?_) (fun c_140 => ?_)
        · skip
          exact absurd c_140 (by decide)
        · skip
          refine lv_ldc2d hx hb hown (hts _ q487) dX1_machine_143 ?_
          refine ix_dc (x := 9221120237041090560) (by decide) ?_
          refine lv_goto (tgt := 154) hx hb dX1_machine_146 (by decide) ?_
          refine lv_dstore (lv' := [(10, .double (dX 9221120237041090560)), (8, .double (dX z_26)), (6, .double (dX z_19)), (0, .ref ax), (1, .int (I3 kind)), (2, .long (L6 v)), (4, .long (L6 w))]) hx hb dX1_machine_154 hl (by decide) rfl (fun ls hl => ?_)
          refine lv_goto (tgt := 444) hx hb dX1_machine_156 (by decide) ?_
          have e_26 : (0 ≤ kind ∧ kind ≤ 10) := by first | assumption | (and_intros <;> omega)
          have e_27 : In6 (9221120237041090560 : Int) := by first | exact p1_151 | decide
          have e_28 : ∀ z2 : Int, maX kind v w z2 → L6 (if noX (9221120237041090560 : Int) then 9221120237041090560 else (9221120237041090560 : Int)) = L6 z2 := by first | exact mk_nan (fun z2 q => (q.2.1 (by omega) (by omega)).1 (nan_n p0_19 n_139)) | exact mk_num p2_151 (fun z2 q => rd_L (nan_v p0_19 n_139).2 p1_151 p2_151 rfl ⟨p0_151.1, fun c => (p0_151.2 c).trans (rd_fc (Or.inl ⟨by omega, Iff.rfl⟩))⟩ (q.2.1 (by omega) (by omega)))
          exact cut_444 9221120237041090560 e_26 e_27 e_28 _ _ hP hD hS ls (lv_sub hl [3, 0] rfl)
      refine ix_dcmp hx hb (by exact p1_19) (by exact p1_19) n_139 n_139 dX1_machine_139 ?_
      refine ix_cm0 ?_
      refine ix_if_eq (tgt := 149) hx hb (by first | assumption | decide | (constructor <;> omega)) dX1_machine_140 (by decide) (fun c_140 => ?_) (fun c_140 => ?_)
      · skip
        refine lv_dload hx hb dX1_machine_149 (lv_at hl 1 rfl) ?_
        have h_29 : In6 z_19 := by exact p1_19
        have h_30 : ¬ noX z_19 := by exact n_139
        have hPc := hP.sub (ws' := []) [] rfl
        have hDc := hD.sub (ws' := []) [] (by decide) rfl
        have hFc := va_free (wc := []) hD hS hA [] rfl
        refine va_calld (ov_runT (As := [.double (dX z_19)]) (rest := []) ⟨hx, hb, hml, hown, hts⟩ (metJ15_floor l dC dI dA H.size z_19 h_29 h_30) (hts _ q828) (hts _ q829) (hts _ q76) (hts _ q830) (ps := [.double]) rfl (by decide) (by decide) (by decide) (rwFloor_row p) rfl rfl (pay_in hts (lw_meth q833)) List.mem_cons_self (fun a9 U9 h9 => word_at h9 (Or.inl rfl) (hts _ q85)) ⟨rfl, rfl⟩ ⟨Nat.le_of_ble_eq_true rfl, Nat.le_of_ble_eq_true rfl, Nat.le_of_ble_eq_true rfl⟩ (fun m2 k2 E9 U9 h1 h2 h3 h4 h5 => bs_sem h1 h2 h3 h4 h5) (fun st9 t9 v9 q9 => by obtain ⟨⟨r9, u9, hv9, hp9, -⟩, -⟩ := q9; cases hv9; obtain rfl := hp9.1; exact ⟨_, rfl, fun Q9 U9 k9 => bs_res (dX_64 hp9.2.2.2) Q9 U9 k9⟩) (fun U hU hW => ⟨rfl, by rw [hU], by rw [hU]; exact hPc, va_K.moved hW.alike hK, hDc.weaken (fun _ _ _ _ => trivial), by rw [hU]; exact MX.moved hW ((MX.kept hq1 hS).narrow hFc)⟩) rfl hl.1 rfl (lv_room (Nat.le_of_ble_eq_true rfl)) dX1_machine_151 ⟨Nat.le_of_ble_eq_true rfl, Nat.le_of_ble_eq_true rfl⟩) hS (fun q _ h => hFc q h) hFc (fun r_151 u t H1 locs ht hvm hw hB hz1 hk1 hS => ?_)
        obtain ⟨z_151, rfl⟩ : ∃ z, z = u := ⟨_, rfl⟩
        obtain ⟨rfl, p0_151, p1_151, p2_151⟩ : r_151 = dX z_151 ∧ ((eX z_19 = 2047 ∨ 0 ≤ plX z_19 → z_151 = z_19) ∧ (¬ (eX z_19 = 2047 ∨ 0 ≤ plX z_19) → vD z_151 = fcV (z_19 < 0) z_19)) ∧ (In6 z_151) ∧ (¬ noX z_151) := hw
        obtain ⟨hP1, hK1, hD1⟩ := hB
        rw [ht] at hP1
        obtain ⟨hP, hD⟩ := va_join (wr := [(ax, .inr (1, [.ref adr, .ref ait, .int (I3 mn), .ref wp, .ref wq, .ref wr, .ref ws, .ref wt, .ref wu, .ref wv, .ref wx, .ref wy, .ref wz, .int (I3 sg), .long (L6 rch), .int (I3 lft), .int (I3 isl)]))]) (w1 := []) hP hD [] [0] rfl rfl (by decide) (by decide) hk1 hFc hP1 hD1
        have hP : va_P (dC, dI) vwCl [(ax, .inr (1, [.ref adr, .ref ait, .int (I3 mn), .ref wp, .ref wq, .ref wr, .ref ws, .ref wt, .ref wu, .ref wv, .ref wx, .ref wy, .ref wz, .int (I3 sg), .long (L6 rch), .int (I3 lft), .int (I3 isl)]))] H1 := hP
        have hD : va_D A [(ax, .inr (1, [.ref adr, .ref ait, .int (I3 mn), .ref wp, .ref wq, .ref wr, .ref ws, .ref wt, .ref wu, .ref wv, .ref wx, .ref wy, .ref wz, .int (I3 sg), .long (L6 rch), .int (I3 lft), .int (I3 isl)]))] := hD
        generalize H1 = H at hP hS ⊢
        rw [(nan_v p0_19 n_139).1] at p0_151
        refine lv_dstore (lv' := [(10, .double (dX z_151)), (8, .double (dX z_26)), (6, .double (dX z_19)), (0, .ref ax), (1, .int (I3 kind)), (2, .long (L6 v)), (4, .long (L6 w))]) hx hb dX1_machine_154 hl (by decide) rfl (fun ls hl => ?_)
        refine lv_goto (tgt := 444) hx hb dX1_machine_156 (by decide) ?_
        have e_31 : (0 ≤ kind ∧ kind ≤ 10) := by first | assumption | (and_intros <;> omega)
        have e_32 : In6 z_151 := by first | exact p1_151 | decide
        have e_33 : ∀ z2 : Int, maX kind v w z2 → L6 (if noX z_151 then 9221120237041090560 else z_151) = L6 z2 := by first | exact mk_nan (fun z2 q => (q.2.1 (by omega) (by omega)).1 (nan_n p0_19 n_139)) | exact mk_num p2_151 (fun z2 q => rd_L (nan_v p0_19 n_139).2 p1_151 p2_151 rfl ⟨p0_151.1, fun c => (p0_151.2 c).trans (rd_fc (Or.inl ⟨by omega, Iff.rfl⟩))⟩ (q.2.1 (by omega) (by omega)))
        exact cut_444 z_151 e_31 e_32 e_33 _ _ hP hD hS ls (lv_sub hl [3, 0] rfl)
      · skip
        exact absurd c_140 (by decide)
    by_cases t_32_2 : kind = 2
    · skip
      refine ix_tabI hx hb 2 t_32_2 (by decide) (by decide) (by decide) (off := 127) rfl (tgt := 159) (by decide) dX1_machine_32 ?_
      refine lv_dload hx hb dX1_machine_159 (lv_at hl 1 rfl) ?_
      refine lv_dload hx hb dX1_machine_161 (lv_at hl 1 rfl) ?_
      by_cases n_163 : noX z_19
      · skip
        refine ix_dcmpN (z := -1) hx hb (by exact p1_19) (by exact p1_19) (Or.inl n_163) rfl dX1_machine_163 ?_
        refine ix_if_eq (tgt := 173) hx hb (by first | assumption | decide | (constructor <;> omega)) dX1_machine_164 (by decide) (fun c_164 => ?_) (fun c_164 => ?_)
        · skip
          exact absurd c_164 (by decide)
        · skip
          refine lv_ldc2d hx hb hown (hts _ q487) dX1_machine_167 ?_
          refine ix_dc (x := 9221120237041090560) (by decide) ?_
          refine lv_goto (tgt := 178) hx hb dX1_machine_170 (by decide) ?_
          refine lv_dstore (lv' := [(10, .double (dX 9221120237041090560)), (8, .double (dX z_26)), (6, .double (dX z_19)), (0, .ref ax), (1, .int (I3 kind)), (2, .long (L6 v)), (4, .long (L6 w))]) hx hb dX1_machine_178 hl (by decide) rfl (fun ls hl => ?_)
          refine lv_goto (tgt := 444) hx hb dX1_machine_180 (by decide) ?_
          have e_34 : (0 ≤ kind ∧ kind ≤ 10) := by first | assumption | (and_intros <;> omega)
          have e_35 : In6 (9221120237041090560 : Int) := by first | exact p1_175 | decide
          have e_36 : ∀ z2 : Int, maX kind v w z2 → L6 (if noX (9221120237041090560 : Int) then 9221120237041090560 else (9221120237041090560 : Int)) = L6 z2 := by first | exact mk_nan (fun z2 q => (q.2.1 (by omega) (by omega)).1 (nan_n p0_19 n_163)) | exact mk_num p2_175 (fun z2 q => rd_L (nan_v p0_19 n_163).2 p1_175 p2_175 rfl ⟨p0_175.1, fun c => (p0_175.2 c).trans (rd_fc (Or.inr ⟨by omega, Iff.rfl⟩))⟩ (q.2.1 (by omega) (by omega)))
          exact cut_444 9221120237041090560 e_34 e_35 e_36 _ _ hP hD hS ls (lv_sub hl [3, 0] rfl)
      refine ix_dcmp hx hb (by exact p1_19) (by exact p1_19) n_163 n_163 dX1_machine_163 ?_
      refine ix_cm0 ?_
      refine ix_if_eq (tgt := 173) hx hb (by first | assumption | decide | (constructor <;> omega)) dX1_machine_164 (by decide) (fun c_164 => ?_) (fun c_164 => ?_)
      · skip
        refine lv_dload hx hb dX1_machine_173 (lv_at hl 1 rfl) ?_
        have h_37 : In6 z_19 := by exact p1_19
        have h_38 : ¬ noX z_19 := by exact n_163
        have hPc := hP.sub (ws' := []) [] rfl
        have hDc := hD.sub (ws' := []) [] (by decide) rfl
        have hFc := va_free (wc := []) hD hS hA [] rfl
        refine va_calld (ov_runT (As := [.double (dX z_19)]) (rest := []) ⟨hx, hb, hml, hown, hts⟩ (metJ15_ceil l dC dI dA H.size z_19 h_37 h_38) (hts _ q845) (hts _ q846) (hts _ q76) (hts _ q847) (ps := [.double]) rfl (by decide) (by decide) (by decide) (rwCeil_row p) rfl rfl (pay_in hts (lw_meth q850)) List.mem_cons_self (fun a9 U9 h9 => word_at h9 (Or.inl rfl) (hts _ q85)) ⟨rfl, rfl⟩ ⟨Nat.le_of_ble_eq_true rfl, Nat.le_of_ble_eq_true rfl, Nat.le_of_ble_eq_true rfl⟩ (fun m2 k2 E9 U9 h1 h2 h3 h4 h5 => bs_sem h1 h2 h3 h4 h5) (fun st9 t9 v9 q9 => by obtain ⟨⟨r9, u9, hv9, hp9, -⟩, -⟩ := q9; cases hv9; obtain rfl := hp9.1; exact ⟨_, rfl, fun Q9 U9 k9 => bs_res (dX_64 hp9.2.2.2) Q9 U9 k9⟩) (fun U hU hW => ⟨rfl, by rw [hU], by rw [hU]; exact hPc, va_K.moved hW.alike hK, hDc.weaken (fun _ _ _ _ => trivial), by rw [hU]; exact MX.moved hW ((MX.kept hq1 hS).narrow hFc)⟩) rfl hl.1 rfl (lv_room (Nat.le_of_ble_eq_true rfl)) dX1_machine_175 ⟨Nat.le_of_ble_eq_true rfl, Nat.le_of_ble_eq_true rfl⟩) hS (fun q _ h => hFc q h) hFc (fun r_175 u t H1 locs ht hvm hw hB hz1 hk1 hS => ?_)
        obtain ⟨z_175, rfl⟩ : ∃ z, z = u := ⟨_, rfl⟩
        obtain ⟨rfl, p0_175, p1_175, p2_175⟩ : r_175 = dX z_175 ∧ ((eX z_19 = 2047 ∨ 0 ≤ plX z_19 → z_175 = z_19) ∧ (¬ (eX z_19 = 2047 ∨ 0 ≤ plX z_19) → vD z_175 = fcV (0 ≤ z_19) z_19)) ∧ (In6 z_175) ∧ (¬ noX z_175) := hw
        obtain ⟨hP1, hK1, hD1⟩ := hB
        rw [ht] at hP1
        obtain ⟨hP, hD⟩ := va_join (wr := [(ax, .inr (1, [.ref adr, .ref ait, .int (I3 mn), .ref wp, .ref wq, .ref wr, .ref ws, .ref wt, .ref wu, .ref wv, .ref wx, .ref wy, .ref wz, .int (I3 sg), .long (L6 rch), .int (I3 lft), .int (I3 isl)]))]) (w1 := []) hP hD [] [0] rfl rfl (by decide) (by decide) hk1 hFc hP1 hD1
        have hP : va_P (dC, dI) vwCl [(ax, .inr (1, [.ref adr, .ref ait, .int (I3 mn), .ref wp, .ref wq, .ref wr, .ref ws, .ref wt, .ref wu, .ref wv, .ref wx, .ref wy, .ref wz, .int (I3 sg), .long (L6 rch), .int (I3 lft), .int (I3 isl)]))] H1 := hP
        have hD : va_D A [(ax, .inr (1, [.ref adr, .ref ait, .int (I3 mn), .ref wp, .ref wq, .ref wr, .ref ws, .ref wt, .ref wu, .ref wv, .ref wx, .ref wy, .ref wz, .int (I3 sg), .long (L6 rch), .int (I3 lft), .int (I3 isl)]))] := hD
        generalize H1 = H at hP hS ⊢
        rw [(nan_v p0_19 n_163).1] at p0_175
        refine lv_dstore (lv' := [(10, .double (dX z_175)), (8, .double (dX z_26)), (6, .double (dX z_19)), (0, .ref ax), (1, .int (I3 kind)), (2, .long (L6 v)), (4, .long (L6 w))]) hx hb dX1_machine_178 hl (by decide) rfl (fun ls hl => ?_)
        refine lv_goto (tgt := 444) hx hb dX1_machine_180 (by decide) ?_
        have e_39 : (0 ≤ kind ∧ kind ≤ 10) := by first | assumption | (and_intros <;> omega)
        have e_40 : In6 z_175 := by first | exact p1_175 | decide
        have e_41 : ∀ z2 : Int, maX kind v w z2 → L6 (if noX z_175 then 9221120237041090560 else z_175) = L6 z2 := by first | exact mk_nan (fun z2 q => (q.2.1 (by omega) (by omega)).1 (nan_n p0_19 n_163)) | exact mk_num p2_175 (fun z2 q => rd_L (nan_v p0_19 n_163).2 p1_175 p2_175 rfl ⟨p0_175.1, fun c => (p0_175.2 c).trans (rd_fc (Or.inr ⟨by omega, Iff.rfl⟩))⟩ (q.2.1 (by omega) (by omega)))
        exact cut_444 z_175 e_39 e_40 e_41 _ _ hP hD hS ls (lv_sub hl [3, 0] rfl)
      · skip
        exact absurd c_164 (by decide)
    by_cases t_32_3 : kind = 3
    · skip
      refine ix_tabI hx hb 3 t_32_3 (by decide) (by decide) (by decide) (off := 151) rfl (tgt := 183) (by decide) dX1_machine_32 ?_
      refine lv_dload hx hb dX1_machine_183 (lv_at hl 1 rfl) ?_
      refine lv_dload hx hb dX1_machine_185 (lv_at hl 1 rfl) ?_
      by_cases n_187 : noX z_19
      · skip
        refine ix_dcmpN (z := -1) hx hb (by exact p1_19) (by exact p1_19) (Or.inl n_187) rfl dX1_machine_187 ?_
        refine ix_if_eq (tgt := 197) hx hb (by first | assumption | decide | (constructor <;> omega)) dX1_machine_188 (by decide) (fun c_188 => ?_) (fun c_188 => ?_)
        · skip
          exact absurd c_188 (by decide)
        · skip
          refine lv_ldc2d hx hb hown (hts _ q487) dX1_machine_191 ?_
          refine ix_dc (x := 9221120237041090560) (by decide) ?_
          refine lv_goto (tgt := 202) hx hb dX1_machine_194 (by decide) ?_
          refine lv_dstore (lv' := [(10, .double (dX 9221120237041090560)), (8, .double (dX z_26)), (6, .double (dX z_19)), (0, .ref ax), (1, .int (I3 kind)), (2, .long (L6 v)), (4, .long (L6 w))]) hx hb dX1_machine_202 hl (by decide) rfl (fun ls hl => ?_)
          refine lv_goto (tgt := 444) hx hb dX1_machine_204 (by decide) ?_
          have e_42 : (0 ≤ kind ∧ kind ≤ 10) := by first | assumption | (and_intros <;> omega)
          have e_43 : In6 (9221120237041090560 : Int) := by first | exact p1_199 | decide
          have e_44 : ∀ z2 : Int, maX kind v w z2 → L6 (if noX (9221120237041090560 : Int) then 9221120237041090560 else (9221120237041090560 : Int)) = L6 z2 := by first | exact mk_nan (fun z2 q => (q.2.1 (by omega) (by omega)).1 (nan_n p0_19 n_187)) | exact mk_num p2_199 (fun z2 q => rd_L (nan_v p0_19 n_187).2 p1_199 p2_199 rfl ⟨p0_199.1, fun c => (p0_199.2 c).trans (by rw [t_32_3]; exact rd_rt)⟩ (q.2.1 (by omega) (by omega)))
          exact cut_444 9221120237041090560 e_42 e_43 e_44 _ _ hP hD hS ls (lv_sub hl [3, 0] rfl)
      refine ix_dcmp hx hb (by exact p1_19) (by exact p1_19) n_187 n_187 dX1_machine_187 ?_
      refine ix_cm0 ?_
      refine ix_if_eq (tgt := 197) hx hb (by first | assumption | decide | (constructor <;> omega)) dX1_machine_188 (by decide) (fun c_188 => ?_) (fun c_188 => ?_)
      · skip
        refine lv_dload hx hb dX1_machine_197 (lv_at hl 1 rfl) ?_
        have h_45 : In6 z_19 := by exact p1_19
        have h_46 : ¬ noX z_19 := by exact n_187
        have hPc := hP.sub (ws' := []) [] rfl
        have hDc := hD.sub (ws' := []) [] (by decide) rfl
        have hFc := va_free (wc := []) hD hS hA [] rfl
        refine va_calld (ov_runT (As := [.double (dX z_19)]) (rest := []) ⟨hx, hb, hml, hown, hts⟩ (metJ15_rint l dC dI dA H.size z_19 h_45 h_46) (hts _ q852) (hts _ q853) (hts _ q76) (hts _ q854) (ps := [.double]) rfl (by decide) (by decide) (by decide) (rwRint_row p) rfl rfl (pay_in hts (lw_meth q857)) List.mem_cons_self (fun a9 U9 h9 => word_at h9 (Or.inl rfl) (hts _ q85)) ⟨rfl, rfl⟩ ⟨Nat.le_of_ble_eq_true rfl, Nat.le_of_ble_eq_true rfl, Nat.le_of_ble_eq_true rfl⟩ (fun m2 k2 E9 U9 h1 h2 h3 h4 h5 => bs_sem h1 h2 h3 h4 h5) (fun st9 t9 v9 q9 => by obtain ⟨⟨r9, u9, hv9, hp9, -⟩, -⟩ := q9; cases hv9; obtain rfl := hp9.1; exact ⟨_, rfl, fun Q9 U9 k9 => bs_res (dX_64 hp9.2.2.2) Q9 U9 k9⟩) (fun U hU hW => ⟨rfl, by rw [hU], by rw [hU]; exact hPc, va_K.moved hW.alike hK, hDc.weaken (fun _ _ _ _ => trivial), by rw [hU]; exact MX.moved hW ((MX.kept hq1 hS).narrow hFc)⟩) rfl hl.1 rfl (lv_room (Nat.le_of_ble_eq_true rfl)) dX1_machine_199 ⟨Nat.le_of_ble_eq_true rfl, Nat.le_of_ble_eq_true rfl⟩) hS (fun q _ h => hFc q h) hFc (fun r_199 u t H1 locs ht hvm hw hB hz1 hk1 hS => ?_)
        obtain ⟨z_199, rfl⟩ : ∃ z, z = u := ⟨_, rfl⟩
        obtain ⟨rfl, p0_199, p1_199, p2_199⟩ : r_199 = dX z_199 ∧ ((eX z_19 = 2047 ∨ 0 ≤ plX z_19 → z_199 = z_19) ∧ (¬ (eX z_19 = 2047 ∨ 0 ≤ plX z_19) → vD z_199 = rtV z_19)) ∧ (In6 z_199) ∧ (¬ noX z_199) := hw
        obtain ⟨hP1, hK1, hD1⟩ := hB
        rw [ht] at hP1
        obtain ⟨hP, hD⟩ := va_join (wr := [(ax, .inr (1, [.ref adr, .ref ait, .int (I3 mn), .ref wp, .ref wq, .ref wr, .ref ws, .ref wt, .ref wu, .ref wv, .ref wx, .ref wy, .ref wz, .int (I3 sg), .long (L6 rch), .int (I3 lft), .int (I3 isl)]))]) (w1 := []) hP hD [] [0] rfl rfl (by decide) (by decide) hk1 hFc hP1 hD1
        have hP : va_P (dC, dI) vwCl [(ax, .inr (1, [.ref adr, .ref ait, .int (I3 mn), .ref wp, .ref wq, .ref wr, .ref ws, .ref wt, .ref wu, .ref wv, .ref wx, .ref wy, .ref wz, .int (I3 sg), .long (L6 rch), .int (I3 lft), .int (I3 isl)]))] H1 := hP
        have hD : va_D A [(ax, .inr (1, [.ref adr, .ref ait, .int (I3 mn), .ref wp, .ref wq, .ref wr, .ref ws, .ref wt, .ref wu, .ref wv, .ref wx, .ref wy, .ref wz, .int (I3 sg), .long (L6 rch), .int (I3 lft), .int (I3 isl)]))] := hD
        generalize H1 = H at hP hS ⊢
        rw [(nan_v p0_19 n_187).1] at p0_199
        refine lv_dstore (lv' := [(10, .double (dX z_199)), (8, .double (dX z_26)), (6, .double (dX z_19)), (0, .ref ax), (1, .int (I3 kind)), (2, .long (L6 v)), (4, .long (L6 w))]) hx hb dX1_machine_202 hl (by decide) rfl (fun ls hl => ?_)
        refine lv_goto (tgt := 444) hx hb dX1_machine_204 (by decide) ?_
        have e_47 : (0 ≤ kind ∧ kind ≤ 10) := by first | assumption | (and_intros <;> omega)
        have e_48 : In6 z_199 := by first | exact p1_199 | decide
        have e_49 : ∀ z2 : Int, maX kind v w z2 → L6 (if noX z_199 then 9221120237041090560 else z_199) = L6 z2 := by first | exact mk_nan (fun z2 q => (q.2.1 (by omega) (by omega)).1 (nan_n p0_19 n_187)) | exact mk_num p2_199 (fun z2 q => rd_L (nan_v p0_19 n_187).2 p1_199 p2_199 rfl ⟨p0_199.1, fun c => (p0_199.2 c).trans (by rw [t_32_3]; exact rd_rt)⟩ (q.2.1 (by omega) (by omega)))
        exact cut_444 z_199 e_47 e_48 e_49 _ _ hP hD hS ls (lv_sub hl [3, 0] rfl)
      · skip
        exact absurd c_188 (by decide)
    by_cases t_32_4 : kind = 4
    · skip
      refine ix_tabI hx hb 4 t_32_4 (by decide) (by decide) (by decide) (off := 175) rfl (tgt := 207) (by decide) dX1_machine_32 ?_
      refine lv_dload hx hb dX1_machine_207 (lv_at hl 1 rfl) ?_
      refine lv_dload hx hb dX1_machine_209 (lv_at hl 1 rfl) ?_
      by_cases n_211 : noX z_19
      · skip
        refine ix_dcmpN (z := -1) hx hb (by exact p1_19) (by exact p1_19) (Or.inl n_211) rfl dX1_machine_211 ?_
        refine ix_if_ne (tgt := 223) hx hb (by first | assumption | decide | (constructor <;> omega)) dX1_machine_212 (by decide) (fun c_212 => ?_) (fun c_212 => ?_)
        · skip
          refine lv_ldc2d hx hb hown (hts _ q487) dX1_machine_223 ?_
          refine ix_dc (x := 9221120237041090560) (by decide) ?_
          refine lv_goto (tgt := 236) hx hb dX1_machine_226 (by decide) ?_
          refine lv_dstore (lv' := [(10, .double (dX 9221120237041090560)), (8, .double (dX z_26)), (6, .double (dX z_19)), (0, .ref ax), (1, .int (I3 kind)), (2, .long (L6 v)), (4, .long (L6 w))]) hx hb dX1_machine_236 hl (by decide) rfl (fun ls hl => ?_)
          refine lv_goto (tgt := 444) hx hb dX1_machine_238 (by decide) ?_
          have e_50 : (0 ≤ kind ∧ kind ≤ 10) := by first | assumption | (and_intros <;> omega)
          have e_51 : In6 (9221120237041090560 : Int) := by first | decide | (split; exact p1_19; exact p1_26)
          have e_52 : ∀ z2 : Int, maX kind v w z2 → L6 (if noX (9221120237041090560 : Int) then 9221120237041090560 else (9221120237041090560 : Int)) = L6 z2 := by first | exact mk_nan (fun z2 q => by rw [q.2.2.1 (by omega), if_pos (Or.inl (nan_n p0_19 n_211))]) | exact mk_nan (fun z2 q => by rw [q.2.2.1 (by omega), if_pos (Or.inr (nan_n p0_26 n_219))]) | exact mk_num (mx_no n_211 n_219) (fun z2 q => by rw [q.2.2.1 (by omega), if_neg (c := noX v ∨ noX w) (fun o => o.elim (nan_v p0_19 n_211).2 (nan_v p0_26 n_219).2), (nan_v p0_19 n_211).1, (nan_v p0_26 n_219).1, ← mm_4 t_32_4])
          exact cut_444 9221120237041090560 e_50 e_51 e_52 _ _ hP hD hS ls (lv_sub hl [3, 0] rfl)
        · skip
          exact absurd c_212 (by decide)
      refine ix_dcmp hx hb (by exact p1_19) (by exact p1_19) n_211 n_211 dX1_machine_211 ?_
      refine ix_cm0 ?_
      refine ix_if_ne (tgt := 223) hx hb (by first | assumption | decide | (constructor <;> omega)) dX1_machine_212 (by decide) (fun c_212 => ?_) (fun c_212 => ?_)
      · skip
        exact absurd c_212 (by decide)
      · skip
        refine lv_dload hx hb dX1_machine_215 (lv_at hl 0 rfl) ?_
        refine lv_dload hx hb dX1_machine_217 (lv_at hl 0 rfl) ?_
        by_cases n_219 : noX z_26
        · skip
          refine ix_dcmpN (z := -1) hx hb (by exact p1_26) (by exact p1_26) (Or.inl n_219) rfl dX1_machine_219 ?_
          refine ix_if_eq (tgt := 229) hx hb (by first | assumption | decide | (constructor <;> omega)) dX1_machine_220 (by decide) (fun c_220 => ?_) (fun c_220 => ?_)
          · skip
            exact absurd c_220 (by decide)
          · skip
            refine lv_ldc2d hx hb hown (hts _ q487) dX1_machine_223 ?_
            refine ix_dc (x := 9221120237041090560) (by decide) ?_
            refine lv_goto (tgt := 236) hx hb dX1_machine_226 (by decide) ?_
            refine lv_dstore (lv' := [(10, .double (dX 9221120237041090560)), (8, .double (dX z_26)), (6, .double (dX z_19)), (0, .ref ax), (1, .int (I3 kind)), (2, .long (L6 v)), (4, .long (L6 w))]) hx hb dX1_machine_236 hl (by decide) rfl (fun ls hl => ?_)
            refine lv_goto (tgt := 444) hx hb dX1_machine_238 (by decide) ?_
            have e_53 : (0 ≤ kind ∧ kind ≤ 10) := by first | assumption | (and_intros <;> omega)
            have e_54 : In6 (9221120237041090560 : Int) := by first | decide | (split; exact p1_19; exact p1_26)
            have e_55 : ∀ z2 : Int, maX kind v w z2 → L6 (if noX (9221120237041090560 : Int) then 9221120237041090560 else (9221120237041090560 : Int)) = L6 z2 := by first | exact mk_nan (fun z2 q => by rw [q.2.2.1 (by omega), if_pos (Or.inl (nan_n p0_19 n_211))]) | exact mk_nan (fun z2 q => by rw [q.2.2.1 (by omega), if_pos (Or.inr (nan_n p0_26 n_219))]) | exact mk_num (mx_no n_211 n_219) (fun z2 q => by rw [q.2.2.1 (by omega), if_neg (c := noX v ∨ noX w) (fun o => o.elim (nan_v p0_19 n_211).2 (nan_v p0_26 n_219).2), (nan_v p0_19 n_211).1, (nan_v p0_26 n_219).1, ← mm_4 t_32_4])
            exact cut_444 9221120237041090560 e_53 e_54 e_55 _ _ hP hD hS ls (lv_sub hl [3, 0] rfl)
        refine ix_dcmp hx hb (by exact p1_26) (by exact p1_26) n_219 n_219 dX1_machine_219 ?_
        refine ix_cm0 ?_
        refine ix_if_eq (tgt := 229) hx hb (by first | assumption | decide | (constructor <;> omega)) dX1_machine_220 (by decide) (fun c_220 => ?_) (fun c_220 => ?_)
        · skip
          refine lv_dload hx hb dX1_machine_229 (lv_at hl 1 rfl) ?_
          refine lv_dload hx hb dX1_machine_231 (lv_at hl 0 rfl) ?_
          refine ix_mmaxD hx hb (hml.trans hl.1.symm) hown (hts _ q861) (hts _ q862) (hts _ q76) (hts _ q863) (by exact p1_19) (by exact p1_26) (by exact n_211) (by exact n_219) (Nat.le_of_ble_eq_true rfl) (Nat.le_of_ble_eq_true rfl) dX1_machine_233 ?_
          refine lv_dstore (lv' := [(10, .double (dX ((if rkX z_26 < rkX z_19 then z_19 else z_26)))), (8, .double (dX z_26)), (6, .double (dX z_19)), (0, .ref ax), (1, .int (I3 kind)), (2, .long (L6 v)), (4, .long (L6 w))]) hx hb dX1_machine_236 hl (by decide) rfl (fun ls hl => ?_)
          refine lv_goto (tgt := 444) hx hb dX1_machine_238 (by decide) ?_
          have e_56 : (0 ≤ kind ∧ kind ≤ 10) := by first | assumption | (and_intros <;> omega)
          have e_57 : In6 ((if rkX z_26 < rkX z_19 then z_19 else z_26)) := by first | decide | (split; exact p1_19; exact p1_26)
          have e_58 : ∀ z2 : Int, maX kind v w z2 → L6 (if noX ((if rkX z_26 < rkX z_19 then z_19 else z_26)) then 9221120237041090560 else ((if rkX z_26 < rkX z_19 then z_19 else z_26))) = L6 z2 := by first | exact mk_nan (fun z2 q => by rw [q.2.2.1 (by omega), if_pos (Or.inl (nan_n p0_19 n_211))]) | exact mk_nan (fun z2 q => by rw [q.2.2.1 (by omega), if_pos (Or.inr (nan_n p0_26 n_219))]) | exact mk_num (mx_no n_211 n_219) (fun z2 q => by rw [q.2.2.1 (by omega), if_neg (c := noX v ∨ noX w) (fun o => o.elim (nan_v p0_19 n_211).2 (nan_v p0_26 n_219).2), (nan_v p0_19 n_211).1, (nan_v p0_26 n_219).1, ← mm_4 t_32_4])
          exact cut_444 ((if rkX z_26 < rkX z_19 then z_19 else z_26)) e_56 e_57 e_58 _ _ hP hD hS ls (lv_sub hl [3, 0] rfl)
        · skip
          exact absurd c_220 (by decide)
    by_cases t_32_5 : kind = 5
    · skip
      refine ix_tabI hx hb 5 t_32_5 (by decide) (by decide) (by decide) (off := 209) rfl (tgt := 241) (by decide) dX1_machine_32 ?_
      refine lv_dload hx hb dX1_machine_241 (lv_at hl 1 rfl) ?_
      refine lv_dload hx hb dX1_machine_243 (lv_at hl 1 rfl) ?_
      by_cases n_245 : noX z_19
      · skip
        refine ix_dcmpN (z := -1) hx hb (by exact p1_19) (by exact p1_19) (Or.inl n_245) rfl dX1_machine_245 ?_
        refine ix_if_ne (tgt := 257) hx hb (by first | assumption | decide | (constructor <;> omega)) dX1_machine_246 (by decide) (fun c_246 => ?_) (fun c_246 => ?_)
        · skip
          refine lv_ldc2d hx hb hown (hts _ q487) dX1_machine_257 ?_
          refine ix_dc (x := 9221120237041090560) (by decide) ?_
          refine lv_goto (tgt := 270) hx hb dX1_machine_260 (by decide) ?_
          refine lv_dstore (lv' := [(10, .double (dX 9221120237041090560)), (8, .double (dX z_26)), (6, .double (dX z_19)), (0, .ref ax), (1, .int (I3 kind)), (2, .long (L6 v)), (4, .long (L6 w))]) hx hb dX1_machine_270 hl (by decide) rfl (fun ls hl => ?_)
          refine lv_goto (tgt := 444) hx hb dX1_machine_272 (by decide) ?_
          have e_59 : (0 ≤ kind ∧ kind ≤ 10) := by first | assumption | (and_intros <;> omega)
          have e_60 : In6 (9221120237041090560 : Int) := by first | decide | (split; exact p1_26; exact p1_19)
          have e_61 : ∀ z2 : Int, maX kind v w z2 → L6 (if noX (9221120237041090560 : Int) then 9221120237041090560 else (9221120237041090560 : Int)) = L6 z2 := by first | exact mk_nan (fun z2 q => by rw [q.2.2.1 (by omega), if_pos (Or.inl (nan_n p0_19 n_245))]) | exact mk_nan (fun z2 q => by rw [q.2.2.1 (by omega), if_pos (Or.inr (nan_n p0_26 n_253))]) | exact mk_num (mx_no n_253 n_245) (fun z2 q => by rw [q.2.2.1 (by omega), if_neg (c := noX v ∨ noX w) (fun o => o.elim (nan_v p0_19 n_245).2 (nan_v p0_26 n_253).2), (nan_v p0_19 n_245).1, (nan_v p0_26 n_253).1, ← mm_5 t_32_5])
          exact cut_444 9221120237041090560 e_59 e_60 e_61 _ _ hP hD hS ls (lv_sub hl [3, 0] rfl)
        · skip
          exact absurd c_246 (by decide)
      refine ix_dcmp hx hb (by exact p1_19) (by exact p1_19) n_245 n_245 dX1_machine_245 ?_
      refine ix_cm0 ?_
      refine ix_if_ne (tgt := 257) hx hb (by first | assumption | decide | (constructor <;> omega)) dX1_machine_246 (by decide) (fun c_246 => ?_) (fun c_246 => ?_)
      · skip
        exact absurd c_246 (by decide)
      · skip
        refine lv_dload hx hb dX1_machine_249 (lv_at hl 0 rfl) ?_
        refine lv_dload hx hb dX1_machine_251 (lv_at hl 0 rfl) ?_
        by_cases n_253 : noX z_26
        · skip
          refine ix_dcmpN (z := -1) hx hb (by exact p1_26) (by exact p1_26) (Or.inl n_253) rfl dX1_machine_253 ?_
          refine ix_if_eq (tgt := 263) hx hb (by first | assumption | decide | (constructor <;> omega)) dX1_machine_254 (by decide) (fun c_254 => ?_) (fun c_254 => ?_)
          · skip
            exact absurd c_254 (by decide)
          · skip
            refine lv_ldc2d hx hb hown (hts _ q487) dX1_machine_257 ?_
            refine ix_dc (x := 9221120237041090560) (by decide) ?_
            refine lv_goto (tgt := 270) hx hb dX1_machine_260 (by decide) ?_
            refine lv_dstore (lv' := [(10, .double (dX 9221120237041090560)), (8, .double (dX z_26)), (6, .double (dX z_19)), (0, .ref ax), (1, .int (I3 kind)), (2, .long (L6 v)), (4, .long (L6 w))]) hx hb dX1_machine_270 hl (by decide) rfl (fun ls hl => ?_)
            refine lv_goto (tgt := 444) hx hb dX1_machine_272 (by decide) ?_
            have e_62 : (0 ≤ kind ∧ kind ≤ 10) := by first | assumption | (and_intros <;> omega)
            have e_63 : In6 (9221120237041090560 : Int) := by first | decide | (split; exact p1_26; exact p1_19)
            have e_64 : ∀ z2 : Int, maX kind v w z2 → L6 (if noX (9221120237041090560 : Int) then 9221120237041090560 else (9221120237041090560 : Int)) = L6 z2 := by first | exact mk_nan (fun z2 q => by rw [q.2.2.1 (by omega), if_pos (Or.inl (nan_n p0_19 n_245))]) | exact mk_nan (fun z2 q => by rw [q.2.2.1 (by omega), if_pos (Or.inr (nan_n p0_26 n_253))]) | exact mk_num (mx_no n_253 n_245) (fun z2 q => by rw [q.2.2.1 (by omega), if_neg (c := noX v ∨ noX w) (fun o => o.elim (nan_v p0_19 n_245).2 (nan_v p0_26 n_253).2), (nan_v p0_19 n_245).1, (nan_v p0_26 n_253).1, ← mm_5 t_32_5])
            exact cut_444 9221120237041090560 e_62 e_63 e_64 _ _ hP hD hS ls (lv_sub hl [3, 0] rfl)
        refine ix_dcmp hx hb (by exact p1_26) (by exact p1_26) n_253 n_253 dX1_machine_253 ?_
        refine ix_cm0 ?_
        refine ix_if_eq (tgt := 263) hx hb (by first | assumption | decide | (constructor <;> omega)) dX1_machine_254 (by decide) (fun c_254 => ?_) (fun c_254 => ?_)
        · skip
          refine lv_dload hx hb dX1_machine_263 (lv_at hl 1 rfl) ?_
          refine lv_dload hx hb dX1_machine_265 (lv_at hl 0 rfl) ?_
          refine ix_mminD hx hb (hml.trans hl.1.symm) hown (hts _ q866) (hts _ q867) (hts _ q76) (hts _ q868) (by exact p1_19) (by exact p1_26) (by exact n_245) (by exact n_253) (Nat.le_of_ble_eq_true rfl) (Nat.le_of_ble_eq_true rfl) dX1_machine_267 ?_
          refine lv_dstore (lv' := [(10, .double (dX ((if rkX z_26 < rkX z_19 then z_26 else z_19)))), (8, .double (dX z_26)), (6, .double (dX z_19)), (0, .ref ax), (1, .int (I3 kind)), (2, .long (L6 v)), (4, .long (L6 w))]) hx hb dX1_machine_270 hl (by decide) rfl (fun ls hl => ?_)
          refine lv_goto (tgt := 444) hx hb dX1_machine_272 (by decide) ?_
          have e_65 : (0 ≤ kind ∧ kind ≤ 10) := by first | assumption | (and_intros <;> omega)
          have e_66 : In6 ((if rkX z_26 < rkX z_19 then z_26 else z_19)) := by first | decide | (split; exact p1_26; exact p1_19)
          have e_67 : ∀ z2 : Int, maX kind v w z2 → L6 (if noX ((if rkX z_26 < rkX z_19 then z_26 else z_19)) then 9221120237041090560 else ((if rkX z_26 < rkX z_19 then z_26 else z_19))) = L6 z2 := by first | exact mk_nan (fun z2 q => by rw [q.2.2.1 (by omega), if_pos (Or.inl (nan_n p0_19 n_245))]) | exact mk_nan (fun z2 q => by rw [q.2.2.1 (by omega), if_pos (Or.inr (nan_n p0_26 n_253))]) | exact mk_num (mx_no n_253 n_245) (fun z2 q => by rw [q.2.2.1 (by omega), if_neg (c := noX v ∨ noX w) (fun o => o.elim (nan_v p0_19 n_245).2 (nan_v p0_26 n_253).2), (nan_v p0_19 n_245).1, (nan_v p0_26 n_253).1, ← mm_5 t_32_5])
          exact cut_444 ((if rkX z_26 < rkX z_19 then z_26 else z_19)) e_65 e_66 e_67 _ _ hP hD hS ls (lv_sub hl [3, 0] rfl)
        · skip
          exact absurd c_254 (by decide)
    by_cases t_32_6 : kind = 6
    · skip
      refine ix_tabI hx hb 6 t_32_6 (by decide) (by decide) (by decide) (off := 243) rfl (tgt := 275) (by decide) dX1_machine_32 ?_
      refine lv_dload hx hb dX1_machine_275 (lv_at hl 1 rfl) ?_
      refine lv_dload hx hb dX1_machine_277 (lv_at hl 1 rfl) ?_
      by_cases n_279 : noX z_19
      · skip
        refine ix_dcmpN (z := -1) hx hb (by exact p1_19) (by exact p1_19) (Or.inl n_279) rfl dX1_machine_279 ?_
        refine ix_if_eq (tgt := 289) hx hb (by first | assumption | decide | (constructor <;> omega)) dX1_machine_280 (by decide) (fun c_280 => ?_) (fun c_280 => ?_)
        · skip
          exact absurd c_280 (by decide)
        · skip
          refine lv_ldc2d hx hb hown (hts _ q487) dX1_machine_283 ?_
          refine ix_dc (x := 9221120237041090560) (by decide) ?_
          refine lv_goto (tgt := 308) hx hb dX1_machine_286 (by decide) ?_
          refine lv_dstore (lv' := [(10, .double (dX 9221120237041090560)), (8, .double (dX z_26)), (6, .double (dX z_19)), (0, .ref ax), (1, .int (I3 kind)), (2, .long (L6 v)), (4, .long (L6 w))]) hx hb dX1_machine_308 hl (by decide) rfl (fun ls hl => ?_)
          refine lv_goto (tgt := 444) hx hb dX1_machine_310 (by decide) ?_
          have e_68 : (0 ≤ kind ∧ kind ≤ 10) := by first | assumption | (and_intros <;> omega)
          have e_69 : In6 (9221120237041090560 : Int) := by first | decide | exact (sgb_no n_279).2
          have e_70 : ∀ z2 : Int, maX kind v w z2 → L6 (if noX (9221120237041090560 : Int) then 9221120237041090560 else (9221120237041090560 : Int)) = L6 z2 := by first | exact mk_nan (fun z2 q => by rw [(q.2.2.2 (by omega)).1 (by omega), if_pos (nan_n p0_19 n_279)]) | exact mk_num (sgb_no n_279).1 (fun z2 q => by rw [(q.2.2.2 (by omega)).1 (by omega), if_neg (nan_v p0_19 n_279).2, (nan_v p0_19 n_279).1]; unfold sgb; first | (rw [if_pos (by decide), if_pos (by omega)]; done) | (rw [if_neg (by decide), if_neg (by omega)]; done))
          exact cut_444 9221120237041090560 e_68 e_69 e_70 _ _ hP hD hS ls (lv_sub hl [3, 0] rfl)
      refine ix_dcmp hx hb (by exact p1_19) (by exact p1_19) n_279 n_279 dX1_machine_279 ?_
      refine ix_cm0 ?_
      refine ix_if_eq (tgt := 289) hx hb (by first | assumption | decide | (constructor <;> omega)) dX1_machine_280 (by decide) (fun c_280 => ?_) (fun c_280 => ?_)
      · skip
        refine lv_dload hx hb dX1_machine_289 (lv_at hl 1 rfl) ?_
        refine lv_lload hx hb dX1_machine_291 (lv_at hl 5 rfl) ?_
        refine lv_lconst (v := L6 0) hx hb dX1_machine_293 (by decide) ?_
        refine ix_lcmp_ge (tgt := 304) hx hb (by first | assumption | decide | (constructor <;> omega)) (by first | assumption | decide | (constructor <;> omega)) dX1_machine_294 dX1_machine_295 (by decide) (fun c_294 => ?_) (fun c_294 => ?_)
        · skip
          refine lv_dconst1 hx hb dX1_machine_304 ?_
          refine ix_dc (x := 4607182418800017408) rfl ?_
          refine ix_mcs hx hb (hml.trans hl.1.symm) hown (hts _ q775) (hts _ q711) (hts _ q76) (hts _ q712) (by decide) (by decide) (Nat.le_of_ble_eq_true rfl) (Nat.le_of_ble_eq_true rfl) dX1_machine_305 ?_
          refine lv_dstore (lv' := [(10, .double (dX (sgb 4607182418800017408 (z_19 % 9223372036854775808)))), (8, .double (dX z_26)), (6, .double (dX z_19)), (0, .ref ax), (1, .int (I3 kind)), (2, .long (L6 v)), (4, .long (L6 w))]) hx hb dX1_machine_308 hl (by decide) rfl (fun ls hl => ?_)
          refine lv_goto (tgt := 444) hx hb dX1_machine_310 (by decide) ?_
          have e_71 : (0 ≤ kind ∧ kind ≤ 10) := by first | assumption | (and_intros <;> omega)
          have e_72 : In6 (sgb 4607182418800017408 (z_19 % 9223372036854775808)) := by first | decide | exact (sgb_no n_279).2
          have e_73 : ∀ z2 : Int, maX kind v w z2 → L6 (if noX (sgb 4607182418800017408 (z_19 % 9223372036854775808)) then 9221120237041090560 else (sgb 4607182418800017408 (z_19 % 9223372036854775808))) = L6 z2 := by first | exact mk_nan (fun z2 q => by rw [(q.2.2.2 (by omega)).1 (by omega), if_pos (nan_n p0_19 n_279)]) | exact mk_num (sgb_no n_279).1 (fun z2 q => by rw [(q.2.2.2 (by omega)).1 (by omega), if_neg (nan_v p0_19 n_279).2, (nan_v p0_19 n_279).1]; unfold sgb; first | (rw [if_pos (by decide), if_pos (by omega)]; done) | (rw [if_neg (by decide), if_neg (by omega)]; done))
          exact cut_444 (sgb 4607182418800017408 (z_19 % 9223372036854775808)) e_71 e_72 e_73 _ _ hP hD hS ls (lv_sub hl [3, 0] rfl)
        · skip
          refine lv_ldc2d hx hb hown (hts _ q869) dX1_machine_298 ?_
          refine ix_dc (x := (-4616189618054758400)) (by decide) ?_
          refine lv_goto (tgt := 305) hx hb dX1_machine_301 (by decide) ?_
          refine ix_mcs hx hb (hml.trans hl.1.symm) hown (hts _ q775) (hts _ q711) (hts _ q76) (hts _ q712) (by decide) (by decide) (Nat.le_of_ble_eq_true rfl) (Nat.le_of_ble_eq_true rfl) dX1_machine_305 ?_
          refine lv_dstore (lv' := [(10, .double (dX (sgb (-4616189618054758400) (z_19 % 9223372036854775808)))), (8, .double (dX z_26)), (6, .double (dX z_19)), (0, .ref ax), (1, .int (I3 kind)), (2, .long (L6 v)), (4, .long (L6 w))]) hx hb dX1_machine_308 hl (by decide) rfl (fun ls hl => ?_)
          refine lv_goto (tgt := 444) hx hb dX1_machine_310 (by decide) ?_
          have e_74 : (0 ≤ kind ∧ kind ≤ 10) := by first | assumption | (and_intros <;> omega)
          have e_75 : In6 (sgb (-4616189618054758400) (z_19 % 9223372036854775808)) := by first | decide | exact (sgb_no n_279).2
          have e_76 : ∀ z2 : Int, maX kind v w z2 → L6 (if noX (sgb (-4616189618054758400) (z_19 % 9223372036854775808)) then 9221120237041090560 else (sgb (-4616189618054758400) (z_19 % 9223372036854775808))) = L6 z2 := by first | exact mk_nan (fun z2 q => by rw [(q.2.2.2 (by omega)).1 (by omega), if_pos (nan_n p0_19 n_279)]) | exact mk_num (sgb_no n_279).1 (fun z2 q => by rw [(q.2.2.2 (by omega)).1 (by omega), if_neg (nan_v p0_19 n_279).2, (nan_v p0_19 n_279).1]; unfold sgb; first | (rw [if_pos (by decide), if_pos (by omega)]; done) | (rw [if_neg (by decide), if_neg (by omega)]; done))
          exact cut_444 (sgb (-4616189618054758400) (z_19 % 9223372036854775808)) e_74 e_75 e_76 _ _ hP hD hS ls (lv_sub hl [3, 0] rfl)
      · skip
        exact absurd c_280 (by decide)
    by_cases t_32_7 : kind = 7
    · skip
      refine ix_tabI hx hb 7 t_32_7 (by decide) (by decide) (by decide) (off := 281) rfl (tgt := 313) (by decide) dX1_machine_32 ?_
      refine lv_dload hx hb dX1_machine_313 (lv_at hl 1 rfl) ?_
      refine lv_dload hx hb dX1_machine_315 (lv_at hl 1 rfl) ?_
      by_cases n_317 : noX z_19
      · skip
        refine ix_dcmpN (z := -1) hx hb (by exact p1_19) (by exact p1_19) (Or.inl n_317) rfl dX1_machine_317 ?_
        refine ix_if_eq (tgt := 327) hx hb (by first | assumption | decide | (constructor <;> omega)) dX1_machine_318 (by decide) (fun c_318 => ?_) (fun c_318 => ?_)
        · skip
          exact absurd c_318 (by decide)
        · skip
          refine lv_ldc2d hx hb hown (hts _ q487) dX1_machine_321 ?_
          refine ix_dc (x := 9221120237041090560) (by decide) ?_
          refine lv_goto (tgt := 332) hx hb dX1_machine_324 (by decide) ?_
          refine lv_dstore (lv' := [(10, .double (dX 9221120237041090560)), (8, .double (dX z_26)), (6, .double (dX z_19)), (0, .ref ax), (1, .int (I3 kind)), (2, .long (L6 v)), (4, .long (L6 w))]) hx hb dX1_machine_332 hl (by decide) rfl (fun ls hl => ?_)
          refine lv_goto (tgt := 444) hx hb dX1_machine_334 (by decide) ?_
          have e_77 : (0 ≤ kind ∧ kind ≤ 10) := by first | assumption | (and_intros <;> omega)
          have e_78 : In6 (9221120237041090560 : Int) := by first | decide | exact nu329b
          have e_79 : ∀ z2 : Int, maX kind v w z2 → L6 (if noX (9221120237041090560 : Int) then 9221120237041090560 else (9221120237041090560 : Int)) = L6 z2 := by first | exact mk_nan (fun z2 q => by rw [(q.2.2.2 (by omega)).2.1 (by omega), if_pos (nan_n p0_19 n_317)]) | exact mk_num nu329 (fun z2 q => by rw [(q.2.2.2 (by omega)).2.1 (by omega), if_neg (nan_v p0_19 n_317).2, p0_329, (nan_v p0_19 n_317).1])
          exact cut_444 9221120237041090560 e_77 e_78 e_79 _ _ hP hD hS ls (lv_sub hl [3, 0] rfl)
      refine ix_dcmp hx hb (by exact p1_19) (by exact p1_19) n_317 n_317 dX1_machine_317 ?_
      refine ix_cm0 ?_
      refine ix_if_eq (tgt := 327) hx hb (by first | assumption | decide | (constructor <;> omega)) dX1_machine_318 (by decide) (fun c_318 => ?_) (fun c_318 => ?_)
      · skip
        refine lv_dload hx hb dX1_machine_327 (lv_at hl 1 rfl) ?_
        have h_80 : In6 z_19 := by exact p1_19
        have h_81 : ¬ noX z_19 := by exact n_317
        have hPc := hP.sub (ws' := []) [] rfl
        have hDc := hD.sub (ws' := []) [] (by decide) rfl
        have hFc := va_free (wc := []) hD hS hA [] rfl
        refine va_calld (va_runS (As := [.double (dX z_19)]) (rest := []) ⟨hx, hb, hml, hown, hts⟩ (metJ7_nextUp l dC dI dA H.size z_19 h_80 h_81) (va_cwS 1 hts (lw_S q770 q771 q76 q772) rfl rfl rfl (by decide +kernel) ⟨Nat.le_of_ble_eq_true rfl, Nat.le_of_ble_eq_true rfl⟩) ⟨fun a U g mk q => by obtain ⟨q0, q1, qP, qK, qD⟩ := q; exact ⟨q0, q1, qP, va_K.moved (u := U) (U := U.calling g mk a) (Vm.Alike.refl U.vm) qK, qD⟩, fun U hU hW => ⟨rfl, by rw [hU], by rw [hU]; exact hPc, va_K.moved hW.alike hK, hDc.weaken (fun _ _ _ _ => trivial)⟩⟩ rfl rfl hl.1 rfl (lv_room (Nat.le_of_ble_eq_true rfl)) dX1_machine_329 ⟨Nat.le_of_ble_eq_true rfl, Nat.le_of_ble_eq_true rfl⟩) hS (fun q _ h => hFc q h) hFc (fun r_329 u t H1 locs ht hvm hw hB hz1 hk1 hS => ?_)
        obtain ⟨z_329, rfl⟩ : ∃ z, z = u := ⟨_, rfl⟩
        obtain ⟨rfl, p0_329⟩ : r_329 = dX z_329 ∧ (z_329 = if z_19 = 9218868437227405312 then z_19 else if z_19 = 0 ∨ z_19 = -9223372036854775808 then 1 else if z_19 < 0 then z_19 - 1 else z_19 + 1) := hw
        obtain ⟨hP1, hK1, hD1⟩ := hB
        rw [ht] at hP1
        obtain ⟨hP, hD⟩ := va_join (wr := [(ax, .inr (1, [.ref adr, .ref ait, .int (I3 mn), .ref wp, .ref wq, .ref wr, .ref ws, .ref wt, .ref wu, .ref wv, .ref wx, .ref wy, .ref wz, .int (I3 sg), .long (L6 rch), .int (I3 lft), .int (I3 isl)]))]) (w1 := []) hP hD [] [0] rfl rfl (by decide) (by decide) hk1 hFc hP1 hD1
        have hP : va_P (dC, dI) vwCl [(ax, .inr (1, [.ref adr, .ref ait, .int (I3 mn), .ref wp, .ref wq, .ref wr, .ref ws, .ref wt, .ref wu, .ref wv, .ref wx, .ref wy, .ref wz, .int (I3 sg), .long (L6 rch), .int (I3 lft), .int (I3 isl)]))] H1 := hP
        have hD : va_D A [(ax, .inr (1, [.ref adr, .ref ait, .int (I3 mn), .ref wp, .ref wq, .ref wr, .ref ws, .ref wt, .ref wu, .ref wv, .ref wx, .ref wy, .ref wz, .int (I3 sg), .long (L6 rch), .int (I3 lft), .int (I3 isl)]))] := hD
        generalize H1 = H at hP hS ⊢
        have nx_ := (not_congr (noX_m z_19)).mp n_317
        have nu329 : ¬ noX z_329 := by rw [p0_329, noX_m]; repeat (first | omega | split)
        have nu329b : In6 z_329 := by rw [p0_329]; have hh_ := p1_19; repeat (first | (constructor <;> omega) | split)
        refine lv_dstore (lv' := [(10, .double (dX z_329)), (8, .double (dX z_26)), (6, .double (dX z_19)), (0, .ref ax), (1, .int (I3 kind)), (2, .long (L6 v)), (4, .long (L6 w))]) hx hb dX1_machine_332 hl (by decide) rfl (fun ls hl => ?_)
        refine lv_goto (tgt := 444) hx hb dX1_machine_334 (by decide) ?_
        have e_82 : (0 ≤ kind ∧ kind ≤ 10) := by first | assumption | (and_intros <;> omega)
        have e_83 : In6 z_329 := by first | decide | exact nu329b
        have e_84 : ∀ z2 : Int, maX kind v w z2 → L6 (if noX z_329 then 9221120237041090560 else z_329) = L6 z2 := by first | exact mk_nan (fun z2 q => by rw [(q.2.2.2 (by omega)).2.1 (by omega), if_pos (nan_n p0_19 n_317)]) | exact mk_num nu329 (fun z2 q => by rw [(q.2.2.2 (by omega)).2.1 (by omega), if_neg (nan_v p0_19 n_317).2, p0_329, (nan_v p0_19 n_317).1])
        exact cut_444 z_329 e_82 e_83 e_84 _ _ hP hD hS ls (lv_sub hl [3, 0] rfl)
      · skip
        exact absurd c_318 (by decide)
    by_cases t_32_8 : kind = 8
    · skip
      refine ix_tabI hx hb 8 t_32_8 (by decide) (by decide) (by decide) (off := 305) rfl (tgt := 337) (by decide) dX1_machine_32 ?_
      refine lv_dload hx hb dX1_machine_337 (lv_at hl 1 rfl) ?_
      refine lv_dload hx hb dX1_machine_339 (lv_at hl 1 rfl) ?_
      by_cases n_341 : noX z_19
      · skip
        refine ix_dcmpN (z := -1) hx hb (by exact p1_19) (by exact p1_19) (Or.inl n_341) rfl dX1_machine_341 ?_
        refine ix_if_eq (tgt := 351) hx hb (by first | assumption | decide | (constructor <;> omega)) dX1_machine_342 (by decide) (fun c_342 => ?_) (fun c_342 => ?_)
        · skip
          exact absurd c_342 (by decide)
        · skip
          refine lv_ldc2d hx hb hown (hts _ q487) dX1_machine_345 ?_
          refine ix_dc (x := 9221120237041090560) (by decide) ?_
          refine lv_goto (tgt := 356) hx hb dX1_machine_348 (by decide) ?_
          refine lv_dstore (lv' := [(10, .double (dX 9221120237041090560)), (8, .double (dX z_26)), (6, .double (dX z_19)), (0, .ref ax), (1, .int (I3 kind)), (2, .long (L6 v)), (4, .long (L6 w))]) hx hb dX1_machine_356 hl (by decide) rfl (fun ls hl => ?_)
          refine lv_goto (tgt := 444) hx hb dX1_machine_358 (by decide) ?_
          have e_85 : (0 ≤ kind ∧ kind ≤ 10) := by first | assumption | (and_intros <;> omega)
          have e_86 : In6 (9221120237041090560 : Int) := by first | decide | exact nu353.2.1
          have e_87 : ∀ z2 : Int, maX kind v w z2 → L6 (if noX (9221120237041090560 : Int) then 9221120237041090560 else (9221120237041090560 : Int)) = L6 z2 := by first | exact mk_nan (fun z2 q => (q.2.2.2 (by omega)).2.2.1 (by omega) |>.1 (nan_n p0_19 n_341)) | exact mk_num nu353.1 (fun z2 q => nu353.2.2 z2 ((q.2.2.2 (by omega)).2.2.1 (by omega)))
          exact cut_444 9221120237041090560 e_85 e_86 e_87 _ _ hP hD hS ls (lv_sub hl [3, 0] rfl)
      refine ix_dcmp hx hb (by exact p1_19) (by exact p1_19) n_341 n_341 dX1_machine_341 ?_
      refine ix_cm0 ?_
      refine ix_if_eq (tgt := 351) hx hb (by first | assumption | decide | (constructor <;> omega)) dX1_machine_342 (by decide) (fun c_342 => ?_) (fun c_342 => ?_)
      · skip
        refine lv_dload hx hb dX1_machine_351 (lv_at hl 1 rfl) ?_
        have h_88 : In6 z_19 := by exact p1_19
        have h_89 : ¬ noX z_19 := by exact n_341
        have hPc := hP.sub (ws' := []) [] rfl
        have hDc := hD.sub (ws' := []) [] (by decide) rfl
        have hFc := va_free (wc := []) hD hS hA [] rfl
        refine va_calld (va_runS (As := [.double (dX z_19)]) (rest := []) ⟨hx, hb, hml, hown, hts⟩ (metJ7_ulp l dC dI dA H.size z_19 h_88 h_89) (va_cwS 1 hts (lw_S q870 q871 q76 q872) rfl rfl rfl (by decide +kernel) ⟨Nat.le_of_ble_eq_true rfl, Nat.le_of_ble_eq_true rfl⟩) ⟨fun a U g mk q => by obtain ⟨q0, q1, qP, qK, qD, qF0⟩ := q; exact ⟨q0, q1, qP, va_K.moved (u := U) (U := U.calling g mk a) (Vm.Alike.refl U.vm) qK, qD, MX.moved (u := U) (U := U.calling g mk a) (State.WarmedH.refl U) qF0⟩, fun U hU hW => ⟨rfl, by rw [hU], by rw [hU]; exact hPc, va_K.moved hW.alike hK, hDc.weaken (fun _ _ _ _ => trivial), by rw [hU]; exact MX.moved hW ((MX.kept hq1 hS).narrow hFc)⟩⟩ rfl rfl hl.1 rfl (lv_room (Nat.le_of_ble_eq_true rfl)) dX1_machine_353 ⟨Nat.le_of_ble_eq_true rfl, Nat.le_of_ble_eq_true rfl⟩) hS (fun q _ h => hFc q h) hFc (fun r_353 u t H1 locs ht hvm hw hB hz1 hk1 hS => ?_)
        obtain ⟨z_353, rfl⟩ : ∃ z, z = u := ⟨_, rfl⟩
        obtain ⟨rfl, p0_353⟩ : r_353 = dX z_353 ∧ ((eX z_19 = 2047 → z_353 = z_19 % 9223372036854775808) ∧ (eX z_19 ≠ 2047 → z_353 = ulpX z_19)) := hw
        obtain ⟨hP1, hK1, hD1⟩ := hB
        rw [ht] at hP1
        obtain ⟨hP, hD⟩ := va_join (wr := [(ax, .inr (1, [.ref adr, .ref ait, .int (I3 mn), .ref wp, .ref wq, .ref wr, .ref ws, .ref wt, .ref wu, .ref wv, .ref wx, .ref wy, .ref wz, .int (I3 sg), .long (L6 rch), .int (I3 lft), .int (I3 isl)]))]) (w1 := []) hP hD [] [0] rfl rfl (by decide) (by decide) hk1 hFc hP1 hD1
        have hP : va_P (dC, dI) vwCl [(ax, .inr (1, [.ref adr, .ref ait, .int (I3 mn), .ref wp, .ref wq, .ref wr, .ref ws, .ref wt, .ref wu, .ref wv, .ref wx, .ref wy, .ref wz, .int (I3 sg), .long (L6 rch), .int (I3 lft), .int (I3 isl)]))] H1 := hP
        have hD : va_D A [(ax, .inr (1, [.ref adr, .ref ait, .int (I3 mn), .ref wp, .ref wq, .ref wr, .ref ws, .ref wt, .ref wu, .ref wv, .ref wx, .ref wy, .ref wz, .int (I3 sg), .long (L6 rch), .int (I3 lft), .int (I3 isl)]))] := hD
        generalize H1 = H at hP hS ⊢
        have e353 := nan_v p0_19 n_341
        rw [e353.1] at p0_353
        have nu353 : ¬ noX z_353 ∧ In6 z_353 ∧ ∀ z2 : Int, ((noX v → z2 = 9221120237041090560) ∧ (infX v → z2 = 9218868437227405312) ∧ (eX v ≠ 2047 → scS 1 (plX v) z2)) → L6 z_353 = L6 z2 := by by_cases q : eX v = 2047; (have hi : infX v := ⟨q, Classical.byContradiction fun o => e353.2 ⟨q, o⟩⟩; have hm := inf_m.mp hi; have hz := p0_353.1 q; rw [hm] at hz; rw [hz]; exact ⟨by decide, by decide, fun z2 o => by rw [o.2.1 hi]⟩); (have hu := ulp_v q; rw [p0_353.2 q]; exact ⟨hu.2.2, hu.2.1, fun z2 o => ulp_L q (o.2.2 q)⟩)
        refine lv_dstore (lv' := [(10, .double (dX z_353)), (8, .double (dX z_26)), (6, .double (dX z_19)), (0, .ref ax), (1, .int (I3 kind)), (2, .long (L6 v)), (4, .long (L6 w))]) hx hb dX1_machine_356 hl (by decide) rfl (fun ls hl => ?_)
        refine lv_goto (tgt := 444) hx hb dX1_machine_358 (by decide) ?_
        have e_90 : (0 ≤ kind ∧ kind ≤ 10) := by first | assumption | (and_intros <;> omega)
        have e_91 : In6 z_353 := by first | decide | exact nu353.2.1
        have e_92 : ∀ z2 : Int, maX kind v w z2 → L6 (if noX z_353 then 9221120237041090560 else z_353) = L6 z2 := by first | exact mk_nan (fun z2 q => (q.2.2.2 (by omega)).2.2.1 (by omega) |>.1 (nan_n p0_19 n_341)) | exact mk_num nu353.1 (fun z2 q => nu353.2.2 z2 ((q.2.2.2 (by omega)).2.2.1 (by omega)))
        exact cut_444 z_353 e_90 e_91 e_92 _ _ hP hD hS ls (lv_sub hl [3, 0] rfl)
      · skip
        exact absurd c_342 (by decide)
    by_cases t_32_9 : kind = 9
    · skip
      refine ix_tabI hx hb 9 t_32_9 (by decide) (by decide) (by decide) (off := 329) rfl (tgt := 361) (by decide) dX1_machine_32 ?_
      refine lv_dload hx hb dX1_machine_361 (lv_at hl 1 rfl) ?_
      refine lv_dload hx hb dX1_machine_363 (lv_at hl 1 rfl) ?_
      by_cases n_365 : noX z_19
      · skip
        refine ix_dcmpN (z := -1) hx hb (by exact p1_19) (by exact p1_19) (Or.inl n_365) rfl dX1_machine_365 ?_
        refine ix_if_eq (tgt := 375) hx hb (by first | assumption | decide | (constructor <;> omega)) dX1_machine_366 (by decide) (fun c_366 => ?_) (fun c_366 => ?_)
        · skip
          exact absurd c_366 (by decide)
        · skip
          refine lv_ldc2d hx hb hown (hts _ q487) dX1_machine_369 ?_
          refine ix_dc (x := 9221120237041090560) (by decide) ?_
          refine lv_goto (tgt := 395) hx hb dX1_machine_372 (by decide) ?_
          refine lv_dstore (lv' := [(10, .double (dX 9221120237041090560)), (8, .double (dX z_26)), (6, .double (dX z_19)), (0, .ref ax), (1, .int (I3 kind)), (2, .long (L6 v)), (4, .long (L6 w))]) hx hb dX1_machine_395 hl (by decide) rfl (fun ls hl => ?_)
          refine lv_goto (tgt := 444) hx hb dX1_machine_397 (by decide) ?_
          have e_93 : (0 ≤ kind ∧ kind ≤ 10) := by first | assumption | (and_intros <;> omega)
          have e_94 : In6 (9221120237041090560 : Int) := by first | exact p0_392 | decide
          have e_95 : ∀ z2 : Int, maX kind v w z2 → L6 (if noX (9221120237041090560 : Int) then 9221120237041090560 else (9221120237041090560 : Int)) = L6 z2 := by first | exact mk_nan (fun z2 q => (q.2.2.2 (by omega)).2.2.2.1 (by omega) |>.1 (nan_n p0_19 n_365)) | exact mk_num p1_392 (fun z2 q => scl_L hv (nan_v p0_19 n_365).2 p0_392 p1_392 (by rw [p2_392, (nan_v p0_19 n_365).1, cl388]) ((q.2.2.2 (by omega)).2.2.2.1 (by omega)).2)
          exact cut_444 9221120237041090560 e_93 e_94 e_95 _ _ hP hD hS ls (lv_sub hl [3, 0] rfl)
      refine ix_dcmp hx hb (by exact p1_19) (by exact p1_19) n_365 n_365 dX1_machine_365 ?_
      refine ix_cm0 ?_
      refine ix_if_eq (tgt := 375) hx hb (by first | assumption | decide | (constructor <;> omega)) dX1_machine_366 (by decide) (fun c_366 => ?_) (fun c_366 => ?_)
      · skip
        refine lv_dload hx hb dX1_machine_375 (lv_at hl 1 rfl) ?_
        refine lv_ldc2 hx hb hown (hts _ q876) dX1_machine_377 ?_
        refine ix_vl (x := (-3000)) (by decide) ?_
        refine lv_ldc2 hx hb hown (hts _ q877) dX1_machine_380 ?_
        refine ix_vl (x := (3000)) (by decide) ?_
        refine lv_lload hx hb dX1_machine_383 (lv_at hl 5 rfl) ?_
        have h_96 : In6 (3000 : Int) := by first | assumption | (and_intros <;> omega)
        have h_97 : In6 w := by first | assumption | (and_intros <;> omega)
        have hPc := hP.sub (ws' := []) [] rfl
        have hDc := hD.sub (ws' := []) [] (by decide) rfl
        have hFc := va_free (wc := []) hD hS hA [] rfl
        refine va_calll (va_runS (As := [.long (L6 3000), .long (L6 w)]) (rest := [.long (L6 (-3000)), .double (dX z_19)]) ⟨hx, hb, hml, hown, hts⟩ (metJ7_min_3 l dC dI dA H.size 3000 w h_96 h_97) (va_cwS 2 hts (lw_S q878 q879 q76 q880) rfl rfl rfl (by decide +kernel) ⟨Nat.le_of_ble_eq_true rfl, Nat.le_of_ble_eq_true rfl⟩) ⟨fun a U g mk q => by obtain ⟨q0, q1, qP, qK, qD⟩ := q; exact ⟨q0, q1, qP, va_K.moved (u := U) (U := U.calling g mk a) (Vm.Alike.refl U.vm) qK, qD⟩, fun U hU hW => ⟨rfl, by rw [hU], by rw [hU]; exact hPc, va_K.moved hW.alike hK, hDc.weaken (fun _ _ _ _ => trivial)⟩⟩ rfl rfl hl.1 rfl (lv_room (Nat.le_of_ble_eq_true rfl)) dX1_machine_385 ⟨Nat.le_of_ble_eq_true rfl, Nat.le_of_ble_eq_true rfl⟩) hS (fun q _ h => hFc q h) hFc (fun r_385 u t H1 locs ht hvm hw hB hz1 hk1 hS => ?_)
        obtain ⟨z_385, rfl⟩ : ∃ z, z = u := ⟨_, rfl⟩
        obtain ⟨rfl, p0_385⟩ : r_385 = L6 z_385 ∧ (z_385 = if w < (3000 : Int) then w else (3000 : Int)) := hw
        obtain ⟨hP1, hK1, hD1⟩ := hB
        rw [ht] at hP1
        obtain ⟨hP, hD⟩ := va_join (wr := [(ax, .inr (1, [.ref adr, .ref ait, .int (I3 mn), .ref wp, .ref wq, .ref wr, .ref ws, .ref wt, .ref wu, .ref wv, .ref wx, .ref wy, .ref wz, .int (I3 sg), .long (L6 rch), .int (I3 lft), .int (I3 isl)]))]) (w1 := []) hP hD [] [0] rfl rfl (by decide) (by decide) hk1 hFc hP1 hD1
        have hP : va_P (dC, dI) vwCl [(ax, .inr (1, [.ref adr, .ref ait, .int (I3 mn), .ref wp, .ref wq, .ref wr, .ref ws, .ref wt, .ref wu, .ref wv, .ref wx, .ref wy, .ref wz, .int (I3 sg), .long (L6 rch), .int (I3 lft), .int (I3 isl)]))] H1 := hP
        have hD : va_D A [(ax, .inr (1, [.ref adr, .ref ait, .int (I3 mn), .ref wp, .ref wq, .ref wr, .ref ws, .ref wt, .ref wu, .ref wv, .ref wx, .ref wy, .ref wz, .int (I3 sg), .long (L6 rch), .int (I3 lft), .int (I3 isl)]))] := hD
        generalize H1 = H at hP hS ⊢
        have h_98 : In6 (-3000 : Int) := by first | assumption | (and_intros <;> omega)
        have h_99 : In6 z_385 := by first | assumption | (and_intros <;> omega)
        have hPc := hP.sub (ws' := []) [] rfl
        have hDc := hD.sub (ws' := []) [] (by decide) rfl
        have hFc := va_free (wc := []) hD hS hA [] rfl
        refine va_calll (va_runS (As := [.long (L6 (-3000)), .long (L6 z_385)]) (rest := [.double (dX z_19)]) ⟨hx, hb, hml, hown, hts⟩ (metJ7_max_3 l dC dI dA H.size (-3000) z_385 h_98 h_99) (va_cwS 2 hts (lw_S q881 q882 q76 q883) rfl rfl rfl (by decide +kernel) ⟨Nat.le_of_ble_eq_true rfl, Nat.le_of_ble_eq_true rfl⟩) ⟨fun a U g mk q => by obtain ⟨q0, q1, qP, qK, qD⟩ := q; exact ⟨q0, q1, qP, va_K.moved (u := U) (U := U.calling g mk a) (Vm.Alike.refl U.vm) qK, qD⟩, fun U hU hW => ⟨rfl, by rw [hU], by rw [hU]; exact hPc, va_K.moved hW.alike hK, hDc.weaken (fun _ _ _ _ => trivial)⟩⟩ rfl rfl hl.1 rfl (lv_room (Nat.le_of_ble_eq_true rfl)) dX1_machine_388 ⟨Nat.le_of_ble_eq_true rfl, Nat.le_of_ble_eq_true rfl⟩) hS (fun q _ h => hFc q h) hFc (fun r_388 u t H1 locs ht hvm hw hB hz1 hk1 hS => ?_)
        obtain ⟨z_388, rfl⟩ : ∃ z, z = u := ⟨_, rfl⟩
        obtain ⟨rfl, p0_388⟩ : r_388 = L6 z_388 ∧ (z_388 = if (-3000 : Int) < z_385 then z_385 else (-3000 : Int)) := hw
        obtain ⟨hP1, hK1, hD1⟩ := hB
        rw [ht] at hP1
        obtain ⟨hP, hD⟩ := va_join (wr := [(ax, .inr (1, [.ref adr, .ref ait, .int (I3 mn), .ref wp, .ref wq, .ref wr, .ref ws, .ref wt, .ref wu, .ref wv, .ref wx, .ref wy, .ref wz, .int (I3 sg), .long (L6 rch), .int (I3 lft), .int (I3 isl)]))]) (w1 := []) hP hD [] [0] rfl rfl (by decide) (by decide) hk1 hFc hP1 hD1
        have hP : va_P (dC, dI) vwCl [(ax, .inr (1, [.ref adr, .ref ait, .int (I3 mn), .ref wp, .ref wq, .ref wr, .ref ws, .ref wt, .ref wu, .ref wv, .ref wx, .ref wy, .ref wz, .int (I3 sg), .long (L6 rch), .int (I3 lft), .int (I3 isl)]))] H1 := hP
        have hD : va_D A [(ax, .inr (1, [.ref adr, .ref ait, .int (I3 mn), .ref wp, .ref wq, .ref wr, .ref ws, .ref wt, .ref wu, .ref wv, .ref wx, .ref wy, .ref wz, .int (I3 sg), .long (L6 rch), .int (I3 lft), .int (I3 isl)]))] := hD
        generalize H1 = H at hP hS ⊢
        have cl388 : z_388 = clX w := by rw [p0_388, p0_385]; unfold clX; split <;> split <;> omega
        refine ix_l2i hx hb dX1_machine_391 ?_
        have h_100 : In6 z_19 := by exact p1_19
        have h_101 : In3 z_388 := by rw [cl388]; unfold clX; constructor <;> split <;> omega
        have h_102 : ¬ noX z_19 := by exact n_365
        have hPc := hP.sub (ws' := []) [] rfl
        have hDc := hD.sub (ws' := []) [] (by decide) rfl
        have hFc := va_free (wc := []) hD hS hA [] rfl
        refine va_calld (va_runS (As := [.double (dX z_19), .int (I3 z_388)]) (rest := []) ⟨hx, hb, hml, hown, hts⟩ (metJ7_scalb l dC dI dA H.size z_19 z_388 h_100 h_101 h_102) (va_cwS 2 hts (lw_S q510 q511 q76 q512) rfl rfl rfl (by decide +kernel) ⟨Nat.le_of_ble_eq_true rfl, Nat.le_of_ble_eq_true rfl⟩) ⟨fun a U g mk q => by obtain ⟨q0, q1, qP, qK, qD, qF0⟩ := q; exact ⟨q0, q1, qP, va_K.moved (u := U) (U := U.calling g mk a) (Vm.Alike.refl U.vm) qK, qD, MX.moved (u := U) (U := U.calling g mk a) (State.WarmedH.refl U) qF0⟩, fun U hU hW => ⟨rfl, by rw [hU], by rw [hU]; exact hPc, va_K.moved hW.alike hK, hDc.weaken (fun _ _ _ _ => trivial), by rw [hU]; exact MX.moved hW ((MX.kept hq1 hS).narrow hFc)⟩⟩ rfl rfl hl.1 rfl (lv_room (Nat.le_of_ble_eq_true rfl)) dX1_machine_392 ⟨Nat.le_of_ble_eq_true rfl, Nat.le_of_ble_eq_true rfl⟩) hS (fun q _ h => hFc q h) hFc (fun r_392 u t H1 locs ht hvm hw hB hz1 hk1 hS => ?_)
        obtain ⟨z_392, rfl⟩ : ∃ z, z = u := ⟨_, rfl⟩
        obtain ⟨rfl, p0_392, p1_392, p2_392⟩ : r_392 = dX z_392 ∧ (In6 z_392) ∧ (¬ noX z_392) ∧ (vD z_392 = sD (vD z_19) z_388) := hw
        obtain ⟨hP1, hK1, hD1⟩ := hB
        rw [ht] at hP1
        obtain ⟨hP, hD⟩ := va_join (wr := [(ax, .inr (1, [.ref adr, .ref ait, .int (I3 mn), .ref wp, .ref wq, .ref wr, .ref ws, .ref wt, .ref wu, .ref wv, .ref wx, .ref wy, .ref wz, .int (I3 sg), .long (L6 rch), .int (I3 lft), .int (I3 isl)]))]) (w1 := []) hP hD [] [0] rfl rfl (by decide) (by decide) hk1 hFc hP1 hD1
        have hP : va_P (dC, dI) vwCl [(ax, .inr (1, [.ref adr, .ref ait, .int (I3 mn), .ref wp, .ref wq, .ref wr, .ref ws, .ref wt, .ref wu, .ref wv, .ref wx, .ref wy, .ref wz, .int (I3 sg), .long (L6 rch), .int (I3 lft), .int (I3 isl)]))] H1 := hP
        have hD : va_D A [(ax, .inr (1, [.ref adr, .ref ait, .int (I3 mn), .ref wp, .ref wq, .ref wr, .ref ws, .ref wt, .ref wu, .ref wv, .ref wx, .ref wy, .ref wz, .int (I3 sg), .long (L6 rch), .int (I3 lft), .int (I3 isl)]))] := hD
        generalize H1 = H at hP hS ⊢
        refine lv_dstore (lv' := [(10, .double (dX z_392)), (8, .double (dX z_26)), (6, .double (dX z_19)), (0, .ref ax), (1, .int (I3 kind)), (2, .long (L6 v)), (4, .long (L6 w))]) hx hb dX1_machine_395 hl (by decide) rfl (fun ls hl => ?_)
        refine lv_goto (tgt := 444) hx hb dX1_machine_397 (by decide) ?_
        have e_103 : (0 ≤ kind ∧ kind ≤ 10) := by first | assumption | (and_intros <;> omega)
        have e_104 : In6 z_392 := by first | exact p0_392 | decide
        have e_105 : ∀ z2 : Int, maX kind v w z2 → L6 (if noX z_392 then 9221120237041090560 else z_392) = L6 z2 := by first | exact mk_nan (fun z2 q => (q.2.2.2 (by omega)).2.2.2.1 (by omega) |>.1 (nan_n p0_19 n_365)) | exact mk_num p1_392 (fun z2 q => scl_L hv (nan_v p0_19 n_365).2 p0_392 p1_392 (by rw [p2_392, (nan_v p0_19 n_365).1, cl388]) ((q.2.2.2 (by omega)).2.2.2.1 (by omega)).2)
        exact cut_444 z_392 e_103 e_104 e_105 _ _ hP hD hS ls (lv_sub hl [3, 0] rfl)
      · skip
        exact absurd c_366 (by decide)
    refine ix_tabO hx hb (by first | assumption | decide | (constructor <;> omega)) (by exact o_tab10 t_32_0 t_32_1 t_32_2 t_32_3 t_32_4 t_32_5 t_32_6 t_32_7 t_32_8 t_32_9) (tgt := 400) (by decide) dX1_machine_32 ?_
    have k10_ : kind = 10 := o_k10 hgk t_32_0 t_32_1 t_32_2 t_32_3 t_32_4 t_32_5 t_32_6 t_32_7 t_32_8 t_32_9
    by_cases hn10 : noX z_19 ∨ noX z_26
    · skip
      refine lv_dload hx hb dX1_machine_400 (lv_at hl 1 rfl) ?_
      refine lv_dload hx hb dX1_machine_402 (lv_at hl 0 rfl) ?_
      refine ix_dcmpN (z := 1) hx hb (by exact p1_19) (by exact p1_26) hn10 rfl dX1_machine_404 ?_
      refine ix_if_ge (tgt := 412) hx hb (by first | assumption | decide | (constructor <;> omega)) dX1_machine_405 (by decide) (fun c_405 => ?_) (fun c_405 => ?_)
      · skip
        refine lv_dload hx hb dX1_machine_412 (lv_at hl 1 rfl) ?_
        refine lv_dload hx hb dX1_machine_414 (lv_at hl 0 rfl) ?_
        refine ix_dcmpN (z := -1) hx hb (by exact p1_19) (by exact p1_26) hn10 rfl dX1_machine_416 ?_
        refine ix_if_ne (tgt := 426) hx hb (by first | assumption | decide | (constructor <;> omega)) dX1_machine_417 (by decide) (fun c_417 => ?_) (fun c_417 => ?_)
        · skip
          refine lv_dload hx hb dX1_machine_426 (lv_at hl 1 rfl) ?_
          refine lv_dload hx hb dX1_machine_428 (lv_at hl 0 rfl) ?_
          refine ix_dcmpN (z := -1) hx hb (by exact p1_19) (by exact p1_26) hn10 rfl dX1_machine_430 ?_
          refine ix_if_le (tgt := 440) hx hb (by first | assumption | decide | (constructor <;> omega)) dX1_machine_431 (by decide) (fun c_431 => ?_) (fun c_431 => ?_)
          · skip
            refine lv_ldc2 hx hb hown (hts _ q886) dX1_machine_440 ?_
            refine ix_vl (x := (4)) (by decide) ?_
            have o_106 : (0 ≤ kind ∧ kind ≤ 10) := by exact hgk
            have o_107 : ∀ z2 : Int, maX kind v w z2 → L6 (4 : Int) = L6 z2 := by intro z2 q; have h9 := (q.2.2.2 (by omega)).2.2.2.2 (by omega); rw [h9]; first | (rw [if_pos (by rcases hn10 with o | o; exact Or.inl (nan_n p0_19 o); exact Or.inr (nan_n p0_26 o))]; done) | (rw [← ea10.1, ← eb10.1, cm10.1 c_404]; done) | (rw [← ea10.1, ← eb10.1, cm10.2.1 c_416]; done) | (rw [← ea10.1, ← eb10.1, cm10.2.2 c_430]; done) | exact absurd (Int.le_antisymm c_430 c_404) c_416
            refine vx_ret ?_
            exact W.lret (v := L6 4) hx hb hr (fun t ht hW => ⟨⟨L6 4, 4, rfl, ⟨rfl, ⟨o_106, o_107⟩⟩, by rw [ht]; exact hP, va_K.moved hW.alike hK, hD⟩, hS.F ht⟩) hS.2.2 dX1_machine_443
          · skip
            exact absurd c_431 (by decide)
        · skip
          exact absurd c_417 (by decide)
      · skip
        exact absurd c_405 (by decide)
    · skip
      have na10 : ¬ noX z_19 := fun q => hn10 (Or.inl q)
      have nb10 : ¬ noX z_26 := fun q => hn10 (Or.inr q)
      have ea10 := nan_v p0_19 na10
      have eb10 := nan_v p0_26 nb10
      have cm10 := cm_10 hv hw6 ea10.2 eb10.2
      rw [← ea10.1, ← eb10.1] at cm10
      refine lv_dload hx hb dX1_machine_400 (lv_at hl 1 rfl) ?_
      refine lv_dload hx hb dX1_machine_402 (lv_at hl 0 rfl) ?_
      refine ix_dci_ge (tgt := 412) hx hb (by exact p1_19) (by exact p1_26) (by exact na10) (by exact nb10) dX1_machine_404 dX1_machine_405 (by decide) (fun c_404 => ?_) (fun c_404 => ?_)
      · skip
        refine lv_dload hx hb dX1_machine_412 (lv_at hl 1 rfl) ?_
        refine lv_dload hx hb dX1_machine_414 (lv_at hl 0 rfl) ?_
        refine ix_dci_ne (tgt := 426) hx hb (by exact p1_19) (by exact p1_26) (by exact na10) (by exact nb10) dX1_machine_416 dX1_machine_417 (by decide) (fun c_416 => ?_) (fun c_416 => ?_)
        · skip
          refine lv_dload hx hb dX1_machine_426 (lv_at hl 1 rfl) ?_
          refine lv_dload hx hb dX1_machine_428 (lv_at hl 0 rfl) ?_
          refine ix_dci_le (tgt := 440) hx hb (by exact p1_19) (by exact p1_26) (by exact na10) (by exact nb10) dX1_machine_430 dX1_machine_431 (by decide) (fun c_430 => ?_) (fun c_430 => ?_)
          · skip
            refine lv_ldc2 hx hb hown (hts _ q886) dX1_machine_440 ?_
            refine ix_vl (x := (4)) (by decide) ?_
            have o_108 : (0 ≤ kind ∧ kind ≤ 10) := by exact hgk
            have o_109 : ∀ z2 : Int, maX kind v w z2 → L6 (4 : Int) = L6 z2 := by intro z2 q; have h9 := (q.2.2.2 (by omega)).2.2.2.2 (by omega); rw [h9]; first | (rw [if_pos (by rcases hn10 with o | o; exact Or.inl (nan_n p0_19 o); exact Or.inr (nan_n p0_26 o))]; done) | (rw [← ea10.1, ← eb10.1, cm10.1 c_404]; done) | (rw [← ea10.1, ← eb10.1, cm10.2.1 c_416]; done) | (rw [← ea10.1, ← eb10.1, cm10.2.2 c_430]; done) | exact absurd (Int.le_antisymm c_430 c_404) c_416
            refine vx_ret ?_
            exact W.lret (v := L6 4) hx hb hr (fun t ht hW => ⟨⟨L6 4, 4, rfl, ⟨rfl, ⟨o_108, o_109⟩⟩, by rw [ht]; exact hP, va_K.moved hW.alike hK, hD⟩, hS.F ht⟩) hS.2.2 dX1_machine_443
          · skip
            refine lv_ldc2 hx hb hown (hts _ q885) dX1_machine_434 ?_
            refine ix_vl (x := (3)) (by decide) ?_
            refine lv_goto (tgt := 443) hx hb dX1_machine_437 (by decide) ?_
            have o_110 : (0 ≤ kind ∧ kind ≤ 10) := by exact hgk
            have o_111 : ∀ z2 : Int, maX kind v w z2 → L6 (3 : Int) = L6 z2 := by intro z2 q; have h9 := (q.2.2.2 (by omega)).2.2.2.2 (by omega); rw [h9]; first | (rw [if_pos (by rcases hn10 with o | o; exact Or.inl (nan_n p0_19 o); exact Or.inr (nan_n p0_26 o))]; done) | (rw [← ea10.1, ← eb10.1, cm10.1 c_404]; done) | (rw [← ea10.1, ← eb10.1, cm10.2.1 c_416]; done) | (rw [← ea10.1, ← eb10.1, cm10.2.2 c_430]; done) | exact absurd (Int.le_antisymm c_430 c_404) c_416
            refine vx_ret ?_
            exact W.lret (v := L6 3) hx hb hr (fun t ht hW => ⟨⟨L6 3, 3, rfl, ⟨rfl, ⟨o_110, o_111⟩⟩, by rw [ht]; exact hP, va_K.moved hW.alike hK, hD⟩, hS.F ht⟩) hS.2.2 dX1_machine_443
        · skip
          refine lv_ldc2 hx hb hown (hts _ q884) dX1_machine_420 ?_
          refine ix_vl (x := (2)) (by decide) ?_
          refine lv_goto (tgt := 443) hx hb dX1_machine_423 (by decide) ?_
          have o_112 : (0 ≤ kind ∧ kind ≤ 10) := by exact hgk
          have o_113 : ∀ z2 : Int, maX kind v w z2 → L6 (2 : Int) = L6 z2 := by intro z2 q; have h9 := (q.2.2.2 (by omega)).2.2.2.2 (by omega); rw [h9]; first | (rw [if_pos (by rcases hn10 with o | o; exact Or.inl (nan_n p0_19 o); exact Or.inr (nan_n p0_26 o))]; done) | (rw [← ea10.1, ← eb10.1, cm10.1 c_404]; done) | (rw [← ea10.1, ← eb10.1, cm10.2.1 c_416]; done) | (rw [← ea10.1, ← eb10.1, cm10.2.2 c_430]; done) | exact absurd (Int.le_antisymm c_430 c_404) c_416
          refine vx_ret ?_
          exact W.lret (v := L6 2) hx hb hr (fun t ht hW => ⟨⟨L6 2, 2, rfl, ⟨rfl, ⟨o_112, o_113⟩⟩, by rw [ht]; exact hP, va_K.moved hW.alike hK, hD⟩, hS.F ht⟩) hS.2.2 dX1_machine_443
      · skip
        refine lv_lconst (v := L6 1) hx hb dX1_machine_408 (by decide) ?_
        refine lv_goto (tgt := 443) hx hb dX1_machine_409 (by decide) ?_
        have o_114 : (0 ≤ kind ∧ kind ≤ 10) := by exact hgk
        have o_115 : ∀ z2 : Int, maX kind v w z2 → L6 (1 : Int) = L6 z2 := by intro z2 q; have h9 := (q.2.2.2 (by omega)).2.2.2.2 (by omega); rw [h9]; first | (rw [if_pos (by rcases hn10 with o | o; exact Or.inl (nan_n p0_19 o); exact Or.inr (nan_n p0_26 o))]; done) | (rw [← ea10.1, ← eb10.1, cm10.1 c_404]; done) | (rw [← ea10.1, ← eb10.1, cm10.2.1 c_416]; done) | (rw [← ea10.1, ← eb10.1, cm10.2.2 c_430]; done) | exact absurd (Int.le_antisymm c_430 c_404) c_416
        refine vx_ret ?_
        exact W.lret (v := L6 1) hx hb hr (fun t ht hW => ⟨⟨L6 1, 1, rfl, ⟨rfl, ⟨o_114, o_115⟩⟩, by rw [ht]; exact hP, va_K.moved hW.alike hK, hD⟩, hS.F ht⟩) hS.2.2 dX1_machine_443
  refine lv_iload_n hx hb dX1_machine_0 rfl (lv_at hl 1 rfl) ?_
  refine ix_if_lt (tgt := 14) hx hb (by first | assumption | decide | (constructor <;> omega)) dX1_machine_1 (by decide) (fun c_1 => ?_) (fun c_1 => ?_)
  · skip
    refine lv_iconst (v := I3 (0)) hx hb dX1_machine_14 rfl ?_
    have e_116 : ((0 : Int) = 1 ∧ (0 ≤ kind ∧ kind ≤ 10)) ∨ ((0 : Int) = 0 ∧ ¬ (0 ≤ kind ∧ kind ≤ 10)) := by exact Or.inr ⟨rfl, fun q => absurd q.1 (Int.not_le.mpr c_1)⟩
    exact cut_15 0 e_116 _ _ hP hD hS ls (lv_sub hl [0, 1, 2, 3] rfl)
  · skip
    refine lv_iload_n hx hb dX1_machine_4 rfl (lv_at hl 1 rfl) ?_
    refine lv_bipush (v := I3 (10)) hx hb dX1_machine_5 (by decide) ?_
    refine ix_icmp_gt (tgt := 14) hx hb (by first | assumption | decide | (constructor <;> omega)) (by first | assumption | decide | (constructor <;> omega)) dX1_machine_7 (by decide) (fun c_7 => ?_) (fun c_7 => ?_)
    · skip
      refine lv_iconst (v := I3 (0)) hx hb dX1_machine_14 rfl ?_
      have e_117 : ((0 : Int) = 1 ∧ (0 ≤ kind ∧ kind ≤ 10)) ∨ ((0 : Int) = 0 ∧ ¬ (0 ≤ kind ∧ kind ≤ 10)) := by exact Or.inr ⟨rfl, fun q => absurd q.2 (Int.not_le.mpr c_7)⟩
      exact cut_15 0 e_117 _ _ hP hD hS ls (lv_sub hl [0, 1, 2, 3] rfl)
    · skip
      refine lv_iconst (v := I3 (1)) hx hb dX1_machine_10 rfl ?_
      refine lv_goto (tgt := 15) hx hb dX1_machine_11 (by decide) ?_
      have e_118 : ((1 : Int) = 1 ∧ (0 ≤ kind ∧ kind ≤ 10)) ∨ ((1 : Int) = 0 ∧ ¬ (0 ≤ kind ∧ kind ≤ 10)) := by exact Or.inl ⟨rfl, c_1, c_7⟩
      exact cut_15 1 e_118 _ _ hP hD hS ls (lv_sub hl [0, 1, 2, 3] rfl)
abbrev BmetX1_cast (dC : Nat → ClassId) (dI : Nat → Nat → Nat) (dA : Nat → ClassId) (A : Nat → Prop) (ax : Nat) (adr : Nat) (ait : Nat) (wp : Nat) (wq : Nat) (wr : Nat) (ws : Nat) (wt : Nat) (wu : Nat) (wv : Nat) (wx : Nat) (wy : Nat) (wz : Nat) (mn : Int) (sg : Int) (rch : Int) (lft : Int) (isl : Int) (kind : Int) (v : Int) : Int → State → Prop := fun u t => (fun (u : Int) => (fun (z : Int) => va_P (dC, dI) vwCl [(ax, .inr (1, [.ref adr, .ref ait, .int (I3 mn), .ref wp, .ref wq, .ref wr, .ref ws, .ref wt, .ref wu, .ref wv, .ref wx, .ref wy, .ref wz, .int (I3 sg), .long (L6 rch), .int (I3 lft), .int (I3 isl)]))] t.heap ∧ va_K (dC, dI) vwCl (tyA dA) t ∧ va_D A [(ax, .inr (1, [.ref adr, .ref ait, .int (I3 mn), .ref wp, .ref wq, .ref wr, .ref ws, .ref wt, .ref wu, .ref wv, .ref wx, .ref wy, .ref wz, .int (I3 sg), .long (L6 rch), .int (I3 lft), .int (I3 isl)]))]) u) u
abbrev QmetX1_cast (dC : Nat → ClassId) (dI : Nat → Nat → Nat) (dA : Nat → ClassId) (A : Nat → Prop) (ax : Nat) (adr : Nat) (ait : Nat) (wp : Nat) (wq : Nat) (wr : Nat) (ws : Nat) (wt : Nat) (wu : Nat) (wv : Nat) (wx : Nat) (wy : Nat) (wz : Nat) (mn : Int) (sg : Int) (rch : Int) (lft : Int) (isl : Int) (kind : Int) (v : Int) := va_Ql (fun (rt_ : Int64) => fun (u : Int) => (fun (z : Int) => rt_ = L6 z ∧ ((0 ≤ kind ∧ kind ≤ 6)) ∧ (∀ z2 : Int, caX kind v z2 → L6 z = L6 z2)) u) (BmetX1_cast dC dI dA A ax adr ait wp wq wr ws wt wu wv wx wy wz mn sg rch lft isl kind v) A
abbrev XmetX1_cast (dC : Nat → ClassId) (dI : Nat → Nat → Nat) (dA : Nat → ClassId) (A : Nat → Prop) (ax : Nat) (adr : Nat) (ait : Nat) (wp : Nat) (wq : Nat) (wr : Nat) (ws : Nat) (wt : Nat) (wu : Nat) (wv : Nat) (wx : Nat) (wy : Nat) (wz : Nat) (mn : Int) (sg : Int) (rch : Int) (lft : Int) (isl : Int) (kind : Int) (v : Int) : String → State → State → Prop := vx_X (S := Unit) (fun _ => True) (fun E u t => ((E = "java/lang/IllegalArgumentException") ∧ (¬ (0 ≤ kind ∧ kind ≤ 6))) ∧ va_P (dC, dI) vwCl [(ax, .inr (1, [.ref adr, .ref ait, .int (I3 mn), .ref wp, .ref wq, .ref wr, .ref ws, .ref wt, .ref wu, .ref wv, .ref wx, .ref wy, .ref wz, .int (I3 sg), .long (L6 rch), .int (I3 lft), .int (I3 isl)]))] t.heap ∧ va_K (dC, dI) vwCl (tyA dA) t ∧ va_D A [(ax, .inr (1, [.ref adr, .ref ait, .int (I3 mn), .ref wp, .ref wq, .ref wr, .ref ws, .ref wt, .ref wu, .ref wv, .ref wx, .ref wy, .ref wz, .int (I3 sg), .long (L6 rch), .int (I3 lft), .int (I3 isl)]))]) A
set_option maxHeartbeats 8000000 in
set_option maxRecDepth 100000 in
/-- cast -/
theorem metX1_cast (l : Launch) (hlt : l.stackTraces = false) (dC : Nat → ClassId) (dI : Nat → Nat → Nat) (dA : Nat → ClassId) (ax : Nat) (adr : Nat) (ait : Nat) (wp : Nat) (wq : Nat) (wr : Nat) (ws : Nat) (wt : Nat) (wu : Nat) (wv : Nat) (wx : Nat) (wy : Nat) (wz : Nat) (sz : Nat) (mn : Int) (sg : Int) (rch : Int) (lft : Int) (isl : Int) (kind : Int) (v : Int) (hk3 : In3 kind) (hv : In6 v) : vx_Met l yX1_cast (ws_ yX1_cast cX1_cast 6 (some .long)) ({ frames := 10, cells := 1, slots := 6, locals := 500 }) (va_Pc [.ref ax, .int (I3 kind), .long (L6 v)] (fun U => U.heap.size = sz ∧ va_P (dC, dI) vwCl [(ax, .inr (1, [.ref adr, .ref ait, .int (I3 mn), .ref wp, .ref wq, .ref wr, .ref ws, .ref wt, .ref wu, .ref wv, .ref wx, .ref wy, .ref wz, .int (I3 sg), .long (L6 rch), .int (I3 lft), .int (I3 isl)]))] U.heap ∧ va_K (dC, dI) vwCl (tyA dA) U ∧ va_D (fun _ => True) [(ax, .inr (1, [.ref adr, .ref ait, .int (I3 mn), .ref wp, .ref wq, .ref wr, .ref ws, .ref wt, .ref wu, .ref wv, .ref wx, .ref wy, .ref wz, .int (I3 sg), .long (L6 rch), .int (I3 lft), .int (I3 isl)]))] ∧ FX (va_A [(ax, .inr (1, [.ref adr, .ref ait, .int (I3 mn), .ref wp, .ref wq, .ref wr, .ref ws, .ref wt, .ref wu, .ref wv, .ref wx, .ref wy, .ref wz, .int (I3 sg), .long (L6 rch), .int (I3 lft), .int (I3 isl)]))] sz) U U.heap)) (QmetX1_cast dC dI dA (va_A [(ax, .inr (1, [.ref adr, .ref ait, .int (I3 mn), .ref wp, .ref wq, .ref wr, .ref ws, .ref wt, .ref wu, .ref wv, .ref wx, .ref wy, .ref wz, .int (I3 sg), .long (L6 rch), .int (I3 lft), .int (I3 isl)]))] sz) ax adr ait wp wq wr ws wt wu wv wx wy wz mn sg rch lft isl kind v) (XmetX1_cast dC dI dA (va_A [(ax, .inr (1, [.ref adr, .ref ait, .int (I3 mn), .ref wp, .ref wq, .ref wr, .ref ws, .ref wt, .ref wu, .ref wv, .ref wx, .ref wy, .ref wz, .int (I3 sg), .long (L6 rch), .int (I3 lft), .int (I3 isl)]))] sz) ax adr ait wp wq wr ws wt wu wv wx wy wz mn sg rch lft isl kind v) 1 6 (va_A [(ax, .inr (1, [.ref adr, .ref ait, .int (I3 mn), .ref wp, .ref wq, .ref wr, .ref ws, .ref wt, .ref wu, .ref wv, .ref wx, .ref wy, .ref wz, .int (I3 sg), .long (L6 rch), .int (I3 lft), .int (I3 isl)]))] sz) := by
  refine vx_ofW (cc := cX1_cast) (maxL := 6) (ret := (some .long)) (by decide) rfl ?_
  intro p e s m args below meth c s₁ B hml htb hv
  obtain ⟨rfl, hsz, hP, hK, hD0, hq0⟩ := hv
  have hx := B.exec
  have hb := B.bytes
  have hr := B.returns
  have hts := atoms_spec (ws := (ws_ yX1_cast cX1_cast 6 (some .long))) B.pre
  have hts : ∀ w ∈ lw_all, w.before _ s = true := fun w h => hts w (List.mem_cons_of_mem _ h)
  have hown : s.vm.findClass RX1 = some m.cls := findClass_of_methodNamed B.named
  have hlocks := B.notSynchronized
  subst hsz
  have hD := hD0.self (sz := s.heap.size)
  generalize hAe : va_A [(ax, .inr (1, [.ref adr, .ref ait, .int (I3 mn), .ref wp, .ref wq, .ref wr, .ref ws, .ref wt, .ref wu, .ref wv, .ref wx, .ref wy, .ref wz, .int (I3 sg), .long (L6 rch), .int (I3 lft), .int (I3 isl)]))] s.heap.size = A at hD hq0 ⊢
  have hA : ∀ q : Nat, s.heap.size ≤ q → A q := fun q h => by rw [← hAe]; exact Or.inr h
  have hS : va_S A s.heap s.heap [] := va_S.rf
  have hP : va_P (dC, dI) vwCl [(ax, .inr (1, [.ref adr, .ref ait, .int (I3 mn), .ref wp, .ref wq, .ref wr, .ref ws, .ref wt, .ref wu, .ref wv, .ref wx, .ref wy, .ref wz, .int (I3 sg), .long (L6 rch), .int (I3 lft), .int (I3 isl)]))] s.heap := hP
  have hl := lv_entry ([.ref ax, .int (I3 kind), .long (L6 v)]) (n := 6) (Nat.le_of_ble_eq_true rfl)
  rw [lg_entry_eq]
  generalize (lg_sl ([.ref ax, .int (I3 kind), .long (L6 v)]) ++ List.replicate (6 - (lg_sl ([.ref ax, .int (I3 kind), .long (L6 v)])).length) Slot.unset).toArray = ls at hl ⊢
  have hl : lv_has ls 6 [(0, .ref ax), (1, .int (I3 kind)), (2, .long (L6 v))] := hl
  have cut_15 : ∀ (b9 : Int), ((b9 = 1 ∧ (0 ≤ kind ∧ kind ≤ 6)) ∨ (b9 = 0 ∧ ¬ (0 ≤ kind ∧ kind ≤ 6))) → ∀ (H : Heap) (locs : List Loc), va_P (dC, dI) vwCl [(ax, .inr (1, [.ref adr, .ref ait, .int (I3 mn), .ref wp, .ref wq, .ref wr, .ref ws, .ref wt, .ref wu, .ref wv, .ref wx, .ref wy, .ref wz, .int (I3 sg), .long (L6 rch), .int (I3 lft), .int (I3 isl)]))] H → va_D A [(ax, .inr (1, [.ref adr, .ref ait, .int (I3 mn), .ref wp, .ref wq, .ref wr, .ref ws, .ref wt, .ref wu, .ref wv, .ref wx, .ref wy, .ref wz, .int (I3 sg), .long (L6 rch), .int (I3 lft), .int (I3 isl)]))] → va_S A s.heap H locs → ∀ (ls : Array Slot), lv_has ls 6 [(0, .ref ax), (1, .int (I3 kind)), (2, .long (L6 v))] → W p l e (headSpec (ws_ yX1_cast cX1_cast 6 (some .long)) ({ frames := 10, cells := 1, slots := 6, locals := 500 })).room s m ([.ref ax, .int (I3 kind), .long (L6 v)] : List Value).toArray below meth c H locs 0 0 (vx_MQ below (QmetX1_cast dC dI dA A ax adr ait wp wq wr ws wt wu wv wx wy wz mn sg rch lft isl kind v) (XmetX1_cast dC dI dA A ax adr ait wp wq wr ws wt wu wv wx wy wz mn sg rch lft isl kind v) ([.ref ax, .int (I3 kind), .long (L6 v)] : List Value).toArray s 1 6 A) (F0 m 15 ls [.int (I3 b9)]) := by
    intro b9 hb9 H locs hP hD hS ls hl
    have h_1 : b9 = 0 ∨ b9 = 1 := by exact o_b1 hb9
    have hPc := hP.sub (ws' := []) [] rfl
    have hDc := hD.sub (ws' := []) [] (by decide) rfl
    have hFc := va_free (wc := []) hD hS hA [] rfl
    refine vx_callv (vx_runS (As := [.int (I3 b9)]) (rest := []) ⟨hx, hb, hml, hown, hts⟩ (metX1_argument l hlt dC dI dA H.size b9 h_1) (va_cwS 1 hts (lw_S q578 q579 q59 q580) rfl rfl rfl (by decide +kernel) ⟨Nat.le_of_ble_eq_true rfl, Nat.le_of_ble_eq_true rfl⟩) ⟨fun a U g mk q => by obtain ⟨q0, q1, qP, qK, qD, qF0⟩ := q; exact ⟨q0, q1, qP, va_K.moved (u := U) (U := U.calling g mk a) (Vm.Alike.refl U.vm) qK, qD, FX.moved (u := U) (U := U.calling g mk a) (State.WarmedH.refl U) qF0⟩, fun U hU hW => ⟨rfl, by rw [hU], by rw [hU]; exact hPc, va_K.moved hW.alike hK, hDc.weaken (fun _ _ _ _ => trivial), by rw [hU]; exact FX.moved hW ((FX.kept hq0 hS).narrow hFc)⟩⟩ rfl rfl hl.1 rfl (lv_room (Nat.le_of_ble_eq_true rfl)) dX1_cast_15 ⟨Nat.le_of_ble_eq_true rfl, Nat.le_of_ble_eq_true rfl⟩) hS (fun q _ h => hFc q h) hFc (fun q _ h => hFc q h) (fun E_15 ce_15 q9_15 u t H1 locs ht hvm _ hB hz1 hk1 hS hce_15 hcv_15 hcl_15 => ?_) (fun u t H1 locs ht hvm hw hB hz1 hk1 hS => ?_)
    · skip
      obtain ⟨⟨x0_15, x1_15⟩, hP1, hK1, hD1⟩ := hB
      have x0_15 : E_15 = "java/lang/IllegalArgumentException" := x0_15
      have x1_15 : b9 = 0 := x1_15
      rw [ht] at hP1
      obtain ⟨hP, hD⟩ := va_join (wr := [(ax, .inr (1, [.ref adr, .ref ait, .int (I3 mn), .ref wp, .ref wq, .ref wr, .ref ws, .ref wt, .ref wu, .ref wv, .ref wx, .ref wy, .ref wz, .int (I3 sg), .long (L6 rch), .int (I3 lft), .int (I3 isl)]))]) (w1 := []) hP hD [] [0] rfl rfl (by decide) (by decide) hk1 hFc hP1 hD1
      clear hP1 hD1
      have hP : va_P (dC, dI) vwCl [(ax, .inr (1, [.ref adr, .ref ait, .int (I3 mn), .ref wp, .ref wq, .ref wr, .ref ws, .ref wt, .ref wu, .ref wv, .ref wx, .ref wy, .ref wz, .int (I3 sg), .long (L6 rch), .int (I3 lft), .int (I3 isl)]))] H1 := hP
      have hD : va_D A [(ax, .inr (1, [.ref adr, .ref ait, .int (I3 mn), .ref wp, .ref wq, .ref wr, .ref ws, .ref wt, .ref wu, .ref wv, .ref wx, .ref wy, .ref wz, .int (I3 sg), .long (L6 rch), .int (I3 lft), .int (I3 isl)]))] := hD
      refine vx_widen (k := 1) (n := 6) (Nat.le_of_ble_eq_true rfl) (Nat.le_of_ble_eq_true rfl) ?_
      have y_2 : E_15 = "java/lang/IllegalArgumentException" := by assumption
      have y_3 : ¬ (0 ≤ kind ∧ kind ≤ 6) := by exact o_nz hb9 x1_15
      exact vx_out (E := E_15) (fun x hx => (htb x hx).elim) hlocks hce_15 hcv_15 hcl_15 (fun t ht hvm => ⟨(), trivial, ⟨⟨y_2, y_3⟩, by rw [ht]; exact hP, va_K.moved hvm hK, hD⟩, hS.F ht⟩) hS.2.2 (Nat.le_of_ble_eq_true rfl) (Nat.le_of_ble_eq_true rfl)
    skip
    have p0_15 : b9 = 1 := hw
    obtain ⟨hP1, hK1, hD1⟩ := hB
    rw [ht] at hP1
    obtain ⟨hP, hD⟩ := va_join (wr := [(ax, .inr (1, [.ref adr, .ref ait, .int (I3 mn), .ref wp, .ref wq, .ref wr, .ref ws, .ref wt, .ref wu, .ref wv, .ref wx, .ref wy, .ref wz, .int (I3 sg), .long (L6 rch), .int (I3 lft), .int (I3 isl)]))]) (w1 := []) hP hD [] [0] rfl rfl (by decide) (by decide) hk1 hFc hP1 hD1
    have hP : va_P (dC, dI) vwCl [(ax, .inr (1, [.ref adr, .ref ait, .int (I3 mn), .ref wp, .ref wq, .ref wr, .ref ws, .ref wt, .ref wu, .ref wv, .ref wx, .ref wy, .ref wz, .int (I3 sg), .long (L6 rch), .int (I3 lft), .int (I3 isl)]))] H1 := hP
    have hD : va_D A [(ax, .inr (1, [.ref adr, .ref ait, .int (I3 mn), .ref wp, .ref wq, .ref wr, .ref ws, .ref wt, .ref wu, .ref wv, .ref wx, .ref wy, .ref wz, .int (I3 sg), .long (L6 rch), .int (I3 lft), .int (I3 isl)]))] := hD
    generalize H1 = H at hP hS ⊢
    refine W.widen (k := 1) (n := 6) (Nat.le_of_ble_eq_true rfl) (Nat.le_of_ble_eq_true rfl) ?_
    have hgk : (0 ≤ kind ∧ kind ≤ 6) := o_z1 hb9 p0_15
    refine lv_lload_n hx hb dX1_cast_18 rfl (lv_at hl 2 rfl) ?_
    have h_4 : In6 v := by first | assumption | (and_intros <;> omega)
    have hPc := hP.sub (ws' := []) [] rfl
    have hDc := hD.sub (ws' := []) [] (by decide) rfl
    have hFc := va_free (wc := []) hD hS hA [] rfl
    refine va_calld (va_runS (As := [.long (L6 v)]) (rest := []) ⟨hx, hb, hml, hown, hts⟩ (metX1_doubleOf l dC dI dA H.size v h_4) (va_cwS 1 hts (lw_S q482 q483 q59 q484) rfl rfl rfl (by decide +kernel) ⟨Nat.le_of_ble_eq_true rfl, Nat.le_of_ble_eq_true rfl⟩) ⟨fun a U g mk q => by obtain ⟨q0, q1, qP, qK, qD⟩ := q; exact ⟨q0, q1, qP, va_K.moved (u := U) (U := U.calling g mk a) (Vm.Alike.refl U.vm) qK, qD⟩, fun U hU hW => ⟨rfl, by rw [hU], by rw [hU]; exact hPc, va_K.moved hW.alike hK, hDc.weaken (fun _ _ _ _ => trivial)⟩⟩ rfl rfl hl.1 rfl (lv_room (Nat.le_of_ble_eq_true rfl)) dX1_cast_19 ⟨Nat.le_of_ble_eq_true rfl, Nat.le_of_ble_eq_true rfl⟩) hS (fun q _ h => hFc q h) hFc (fun r_19 u t H1 locs ht hvm hw hB hz1 hk1 hS => ?_)
    obtain ⟨z_19, rfl⟩ : ∃ z, z = u := ⟨_, rfl⟩
    obtain ⟨rfl, p0_19, p1_19⟩ : r_19 = dX z_19 ∧ (z_19 = if noX v then 9221120237041090560 else v) ∧ (In6 z_19) := hw
    obtain ⟨hP1, hK1, hD1⟩ := hB
    rw [ht] at hP1
    obtain ⟨hP, hD⟩ := va_join (wr := [(ax, .inr (1, [.ref adr, .ref ait, .int (I3 mn), .ref wp, .ref wq, .ref wr, .ref ws, .ref wt, .ref wu, .ref wv, .ref wx, .ref wy, .ref wz, .int (I3 sg), .long (L6 rch), .int (I3 lft), .int (I3 isl)]))]) (w1 := []) hP hD [] [0] rfl rfl (by decide) (by decide) hk1 hFc hP1 hD1
    have hP : va_P (dC, dI) vwCl [(ax, .inr (1, [.ref adr, .ref ait, .int (I3 mn), .ref wp, .ref wq, .ref wr, .ref ws, .ref wt, .ref wu, .ref wv, .ref wx, .ref wy, .ref wz, .int (I3 sg), .long (L6 rch), .int (I3 lft), .int (I3 isl)]))] H1 := hP
    have hD : va_D A [(ax, .inr (1, [.ref adr, .ref ait, .int (I3 mn), .ref wp, .ref wq, .ref wr, .ref ws, .ref wt, .ref wu, .ref wv, .ref wx, .ref wy, .ref wz, .int (I3 sg), .long (L6 rch), .int (I3 lft), .int (I3 isl)]))] := hD
    generalize H1 = H at hP hS ⊢
    refine lv_dstore (lv' := [(4, .double (dX z_19)), (0, .ref ax), (1, .int (I3 kind)), (2, .long (L6 v))]) hx hb dX1_cast_22 hl (by decide) rfl (fun ls hl => ?_)
    have cr1_ := cutX_r (v := v) (M := 2147483647) (by decide)
    have cr2_ := cutX_r (v := v) (M := 9223372036854775807) (by decide)
    refine lv_iload_n hx hb dX1_cast_24 rfl (lv_at hl 2 rfl) ?_
    by_cases t_25_0 : kind = 0
    · skip
      refine ix_tabI hx hb 0 t_25_0 (by decide) (by decide) (by decide) (off := 39) rfl (tgt := 64) (by decide) dX1_cast_25 ?_
      refine lv_dload hx hb dX1_cast_64 (lv_at hl 0 rfl) ?_
      refine ix_d2l (u := cutX v 9223372036854775807) hx hb (by rw [← cut_z p0_19]; exact d2l_X p1_19) dX1_cast_66 ?_
      have o_5 : (0 ≤ kind ∧ kind ≤ 6) := by exact hgk
      have o_6 : ∀ z2 : Int, caX kind v z2 → L6 (cutX v 9223372036854775807) = L6 z2 := by intro z2 q; rw [q.1 t_25_0]
      refine vx_ret ?_
      exact W.lret (v := L6 (cutX v 9223372036854775807)) hx hb hr (fun t ht hW => ⟨⟨L6 (cutX v 9223372036854775807), (cutX v 9223372036854775807), rfl, ⟨rfl, ⟨o_5, o_6⟩⟩, by rw [ht]; exact hP, va_K.moved hW.alike hK, hD⟩, hS.F ht⟩) hS.2.2 dX1_cast_67
    by_cases t_25_1 : kind = 1
    · skip
      refine ix_tabI hx hb 1 t_25_1 (by decide) (by decide) (by decide) (off := 43) rfl (tgt := 68) (by decide) dX1_cast_25 ?_
      refine lv_dload hx hb dX1_cast_68 (lv_at hl 0 rfl) ?_
      refine ix_d2i (u := cutX v 2147483647) hx hb (by rw [← cut_z p0_19]; exact d2i_X p1_19) dX1_cast_70 ?_
      refine ix_i2l hx hb (by constructor <;> omega) dX1_cast_71 ?_
      have o_7 : (0 ≤ kind ∧ kind ≤ 6) := by exact hgk
      have o_8 : ∀ z2 : Int, caX kind v z2 → L6 (cutX v 2147483647) = L6 z2 := by intro z2 q; rw [q.2.1 t_25_1]
      refine vx_ret ?_
      exact W.lret (v := L6 (cutX v 2147483647)) hx hb hr (fun t ht hW => ⟨⟨L6 (cutX v 2147483647), (cutX v 2147483647), rfl, ⟨rfl, ⟨o_7, o_8⟩⟩, by rw [ht]; exact hP, va_K.moved hW.alike hK, hD⟩, hS.F ht⟩) hS.2.2 dX1_cast_72
    by_cases t_25_2 : kind = 2
    · skip
      refine ix_tabI hx hb 2 t_25_2 (by decide) (by decide) (by decide) (off := 48) rfl (tgt := 73) (by decide) dX1_cast_25 ?_
      refine lv_dload hx hb dX1_cast_73 (lv_at hl 0 rfl) ?_
      refine ix_d2i (u := cutX v 2147483647) hx hb (by rw [← cut_z p0_19]; exact d2i_X p1_19) dX1_cast_75 ?_
      refine ix_i2s hx hb dX1_cast_76 ?_
      refine ix_i2l hx hb (by unfold sm16; constructor <;> omega) dX1_cast_77 ?_
      have o_9 : (0 ≤ kind ∧ kind ≤ 6) := by exact hgk
      have o_10 : ∀ z2 : Int, caX kind v z2 → L6 (sm16 (cutX v 2147483647)) = L6 z2 := by intro z2 q; rw [q.2.2.1 t_25_2]
      refine vx_ret ?_
      exact W.lret (v := L6 (sm16 (cutX v 2147483647))) hx hb hr (fun t ht hW => ⟨⟨L6 (sm16 (cutX v 2147483647)), (sm16 (cutX v 2147483647)), rfl, ⟨rfl, ⟨o_9, o_10⟩⟩, by rw [ht]; exact hP, va_K.moved hW.alike hK, hD⟩, hS.F ht⟩) hS.2.2 dX1_cast_78
    by_cases t_25_3 : kind = 3
    · skip
      refine ix_tabI hx hb 3 t_25_3 (by decide) (by decide) (by decide) (off := 54) rfl (tgt := 79) (by decide) dX1_cast_25 ?_
      refine lv_dload hx hb dX1_cast_79 (lv_at hl 0 rfl) ?_
      refine ix_d2i (u := cutX v 2147483647) hx hb (by rw [← cut_z p0_19]; exact d2i_X p1_19) dX1_cast_81 ?_
      refine ix_i2b hx hb dX1_cast_82 ?_
      refine ix_i2l hx hb (by unfold sm8; constructor <;> omega) dX1_cast_83 ?_
      have o_11 : (0 ≤ kind ∧ kind ≤ 6) := by exact hgk
      have o_12 : ∀ z2 : Int, caX kind v z2 → L6 (sm8 (cutX v 2147483647)) = L6 z2 := by intro z2 q; rw [q.2.2.2.1 t_25_3]
      refine vx_ret ?_
      exact W.lret (v := L6 (sm8 (cutX v 2147483647))) hx hb hr (fun t ht hW => ⟨⟨L6 (sm8 (cutX v 2147483647)), (sm8 (cutX v 2147483647)), rfl, ⟨rfl, ⟨o_11, o_12⟩⟩, by rw [ht]; exact hP, va_K.moved hW.alike hK, hD⟩, hS.F ht⟩) hS.2.2 dX1_cast_84
    by_cases t_25_4 : kind = 4
    · skip
      refine ix_tabI hx hb 4 t_25_4 (by decide) (by decide) (by decide) (off := 60) rfl (tgt := 85) (by decide) dX1_cast_25 ?_
      refine lv_dload hx hb dX1_cast_85 (lv_at hl 0 rfl) ?_
      refine ix_d2i (u := cutX v 2147483647) hx hb (by rw [← cut_z p0_19]; exact d2i_X p1_19) dX1_cast_87 ?_
      refine ix_i2c hx hb dX1_cast_88 ?_
      refine ix_i2l hx hb (by constructor <;> omega) dX1_cast_89 ?_
      have o_13 : (0 ≤ kind ∧ kind ≤ 6) := by exact hgk
      have o_14 : ∀ z2 : Int, caX kind v z2 → L6 ((cutX v 2147483647) % 65536) = L6 z2 := by intro z2 q; rw [q.2.2.2.2.1 t_25_4]
      refine vx_ret ?_
      exact W.lret (v := L6 ((cutX v 2147483647) % 65536)) hx hb hr (fun t ht hW => ⟨⟨L6 ((cutX v 2147483647) % 65536), ((cutX v 2147483647) % 65536), rfl, ⟨rfl, ⟨o_13, o_14⟩⟩, by rw [ht]; exact hP, va_K.moved hW.alike hK, hD⟩, hS.F ht⟩) hS.2.2 dX1_cast_90
    by_cases t_25_5 : kind = 5
    · skip
      refine ix_tabI hx hb 5 t_25_5 (by decide) (by decide) (by decide) (off := 66) rfl (tgt := 91) (by decide) dX1_cast_25 ?_
      refine lv_dload hx hb dX1_cast_91 (lv_at hl 0 rfl) ?_
      have h_15 : In6 z_19 := by exact p1_19
      have hPc := hP.sub (ws' := []) [] rfl
      have hDc := hD.sub (ws' := []) [] (by decide) rfl
      have hFc := va_free (wc := []) hD hS hA [] rfl
      refine va_callf (va_runS (As := [.double (dX z_19)]) (rest := []) ⟨hx, hb, hml, hown, hts⟩ (metX1_narrow l dC dI dA H.size z_19 h_15) (va_cwS 1 hts (lw_S q894 q895 q59 q896) rfl rfl rfl (by decide +kernel) ⟨Nat.le_of_ble_eq_true rfl, Nat.le_of_ble_eq_true rfl⟩) ⟨fun a U g mk q => by obtain ⟨q0, q1, qP, qK, qD⟩ := q; exact ⟨q0, q1, qP, va_K.moved (u := U) (U := U.calling g mk a) (Vm.Alike.refl U.vm) qK, qD⟩, fun U hU hW => ⟨rfl, by rw [hU], by rw [hU]; exact hPc, va_K.moved hW.alike hK, hDc.weaken (fun _ _ _ _ => trivial)⟩⟩ rfl rfl hl.1 rfl (lv_room (Nat.le_of_ble_eq_true rfl)) dX1_cast_93 ⟨Nat.le_of_ble_eq_true rfl, Nat.le_of_ble_eq_true rfl⟩) hS (fun q _ h => hFc q h) hFc (fun r_93 u t H1 locs ht hvm hw hB hz1 hk1 hS => ?_)
      obtain ⟨z_93, rfl⟩ : ∃ z, z = u := ⟨_, rfl⟩
      obtain ⟨rfl, p0_93, p1_93, p2_93⟩ : r_93 = fB z_93 ∧ (noX z_19 → z_93 = 2143289344) ∧ (¬ noX z_19 → ¬ noF z_93 ∧ vF z_93 = FP.Core.round FP.Core.b32 (vD z_19)) ∧ (In3 z_93) := hw
      obtain ⟨hP1, hK1, hD1⟩ := hB
      rw [ht] at hP1
      obtain ⟨hP, hD⟩ := va_join (wr := [(ax, .inr (1, [.ref adr, .ref ait, .int (I3 mn), .ref wp, .ref wq, .ref wr, .ref ws, .ref wt, .ref wu, .ref wv, .ref wx, .ref wy, .ref wz, .int (I3 sg), .long (L6 rch), .int (I3 lft), .int (I3 isl)]))]) (w1 := []) hP hD [] [0] rfl rfl (by decide) (by decide) hk1 hFc hP1 hD1
      have hP : va_P (dC, dI) vwCl [(ax, .inr (1, [.ref adr, .ref ait, .int (I3 mn), .ref wp, .ref wq, .ref wr, .ref ws, .ref wt, .ref wu, .ref wv, .ref wx, .ref wy, .ref wz, .int (I3 sg), .long (L6 rch), .int (I3 lft), .int (I3 isl)]))] H1 := hP
      have hD : va_D A [(ax, .inr (1, [.ref adr, .ref ait, .int (I3 mn), .ref wp, .ref wq, .ref wr, .ref ws, .ref wt, .ref wu, .ref wv, .ref wx, .ref wy, .ref wz, .int (I3 sg), .long (L6 rch), .int (I3 lft), .int (I3 isl)]))] := hD
      generalize H1 = H at hP hS ⊢
      have h_16 : In3 z_93 := by exact p2_93
      have hPc := hP.sub (ws' := []) [] rfl
      have hDc := hD.sub (ws' := []) [] (by decide) rfl
      have hFc := va_free (wc := []) hD hS hA [] rfl
      refine va_calli (va_runS (As := [.float (fB z_93)]) (rest := []) ⟨hx, hb, hml, hown, hts⟩ (metJ14_floatToIntBits l dC dI dA H.size z_93 h_16) (va_cwS 1 hts (lw_S q808 q809 q84 q810) rfl rfl rfl (by decide +kernel) ⟨Nat.le_of_ble_eq_true rfl, Nat.le_of_ble_eq_true rfl⟩) ⟨fun a U g mk q => by obtain ⟨q0, q1, qP, qK, qD⟩ := q; exact ⟨q0, q1, qP, va_K.moved (u := U) (U := U.calling g mk a) (Vm.Alike.refl U.vm) qK, qD⟩, fun U hU hW => ⟨rfl, by rw [hU], by rw [hU]; exact hPc, va_K.moved hW.alike hK, hDc.weaken (fun _ _ _ _ => trivial)⟩⟩ rfl rfl hl.1 rfl (lv_room (Nat.le_of_ble_eq_true rfl)) dX1_cast_96 ⟨Nat.le_of_ble_eq_true rfl, Nat.le_of_ble_eq_true rfl⟩) hS (fun q _ h => hFc q h) hFc (fun r_96 u t H1 locs ht hvm hw hB hz1 hk1 hS => ?_)
      obtain ⟨z_96, rfl⟩ : ∃ z, z = u := ⟨_, rfl⟩
      obtain ⟨rfl, p0_96⟩ : r_96 = I3 z_96 ∧ (z_96 = if noF z_93 then 2143289344 else z_93) := hw
      obtain ⟨hP1, hK1, hD1⟩ := hB
      rw [ht] at hP1
      obtain ⟨hP, hD⟩ := va_join (wr := [(ax, .inr (1, [.ref adr, .ref ait, .int (I3 mn), .ref wp, .ref wq, .ref wr, .ref ws, .ref wt, .ref wu, .ref wv, .ref wx, .ref wy, .ref wz, .int (I3 sg), .long (L6 rch), .int (I3 lft), .int (I3 isl)]))]) (w1 := []) hP hD [] [0] rfl rfl (by decide) (by decide) hk1 hFc hP1 hD1
      have hP : va_P (dC, dI) vwCl [(ax, .inr (1, [.ref adr, .ref ait, .int (I3 mn), .ref wp, .ref wq, .ref wr, .ref ws, .ref wt, .ref wu, .ref wv, .ref wx, .ref wy, .ref wz, .int (I3 sg), .long (L6 rch), .int (I3 lft), .int (I3 isl)]))] H1 := hP
      have hD : va_D A [(ax, .inr (1, [.ref adr, .ref ait, .int (I3 mn), .ref wp, .ref wq, .ref wr, .ref ws, .ref wt, .ref wu, .ref wv, .ref wx, .ref wy, .ref wz, .int (I3 sg), .long (L6 rch), .int (I3 lft), .int (I3 isl)]))] := hD
      generalize H1 = H at hP hS ⊢
      refine ix_i2l hx hb (by rw [p0_96]; have h9 := p2_93; split; decide; exact h9) dX1_cast_99 ?_
      have o_17 : (0 ≤ kind ∧ kind ≤ 6) := by exact hgk
      have o_18 : ∀ z2 : Int, caX kind v z2 → L6 z_96 = L6 z2 := by intro z2 q; have h9 := q.2.2.2.2.2.1 t_25_5; exact nr_L p0_19 p0_93 p1_93 p2_93 p0_96 h9
      refine vx_ret ?_
      exact W.lret (v := L6 z_96) hx hb hr (fun t ht hW => ⟨⟨L6 z_96, z_96, rfl, ⟨rfl, ⟨o_17, o_18⟩⟩, by rw [ht]; exact hP, va_K.moved hW.alike hK, hD⟩, hS.F ht⟩) hS.2.2 dX1_cast_100
    refine ix_tabO hx hb (by first | assumption | decide | (constructor <;> omega)) (by exact o_tab6 t_25_0 t_25_1 t_25_2 t_25_3 t_25_4 t_25_5) (tgt := 101) (by decide) dX1_cast_25 ?_
    refine lv_lload_n hx hb dX1_cast_101 rfl (lv_at hl 3 rfl) ?_
    refine ix_l2i hx hb dX1_cast_102 ?_
    refine ix_ci (y := sm3 v) (by exact I3_sm _) ?_
    have h_19 : In3 (sm3 v) := by exact sm3_in v
    have hPc := hP.sub (ws' := []) [] rfl
    have hDc := hD.sub (ws' := []) [] (by decide) rfl
    have hFc := va_free (wc := []) hD hS hA [] rfl
    refine va_callf (va_runS (As := [.int (I3 (sm3 v))]) (rest := []) ⟨hx, hb, hml, hown, hts⟩ (metX1_floatOf l dC dI dA H.size (sm3 v) h_19) (va_cwS 1 hts (lw_S q898 q899 q59 q900) rfl rfl rfl (by decide +kernel) ⟨Nat.le_of_ble_eq_true rfl, Nat.le_of_ble_eq_true rfl⟩) ⟨fun a U g mk q => by obtain ⟨q0, q1, qP, qK, qD⟩ := q; exact ⟨q0, q1, qP, va_K.moved (u := U) (U := U.calling g mk a) (Vm.Alike.refl U.vm) qK, qD⟩, fun U hU hW => ⟨rfl, by rw [hU], by rw [hU]; exact hPc, va_K.moved hW.alike hK, hDc.weaken (fun _ _ _ _ => trivial)⟩⟩ rfl rfl hl.1 rfl (lv_room (Nat.le_of_ble_eq_true rfl)) dX1_cast_103 ⟨Nat.le_of_ble_eq_true rfl, Nat.le_of_ble_eq_true rfl⟩) hS (fun q _ h => hFc q h) hFc (fun r_103 u t H1 locs ht hvm hw hB hz1 hk1 hS => ?_)
    obtain ⟨z_103, rfl⟩ : ∃ z, z = u := ⟨_, rfl⟩
    obtain ⟨rfl, p0_103, p1_103⟩ : r_103 = fB z_103 ∧ (z_103 = if noF (sm3 v) then 2143289344 else (sm3 v)) ∧ (In3 z_103) := hw
    obtain ⟨hP1, hK1, hD1⟩ := hB
    rw [ht] at hP1
    obtain ⟨hP, hD⟩ := va_join (wr := [(ax, .inr (1, [.ref adr, .ref ait, .int (I3 mn), .ref wp, .ref wq, .ref wr, .ref ws, .ref wt, .ref wu, .ref wv, .ref wx, .ref wy, .ref wz, .int (I3 sg), .long (L6 rch), .int (I3 lft), .int (I3 isl)]))]) (w1 := []) hP hD [] [0] rfl rfl (by decide) (by decide) hk1 hFc hP1 hD1
    have hP : va_P (dC, dI) vwCl [(ax, .inr (1, [.ref adr, .ref ait, .int (I3 mn), .ref wp, .ref wq, .ref wr, .ref ws, .ref wt, .ref wu, .ref wv, .ref wx, .ref wy, .ref wz, .int (I3 sg), .long (L6 rch), .int (I3 lft), .int (I3 isl)]))] H1 := hP
    have hD : va_D A [(ax, .inr (1, [.ref adr, .ref ait, .int (I3 mn), .ref wp, .ref wq, .ref wr, .ref ws, .ref wt, .ref wu, .ref wv, .ref wx, .ref wy, .ref wz, .int (I3 sg), .long (L6 rch), .int (I3 lft), .int (I3 isl)]))] := hD
    generalize H1 = H at hP hS ⊢
    have h_20 : In3 z_103 := by exact p1_103
    have hPc := hP.sub (ws' := []) [] rfl
    have hDc := hD.sub (ws' := []) [] (by decide) rfl
    have hFc := va_free (wc := []) hD hS hA [] rfl
    refine va_calld (va_runS (As := [.float (fB z_103)]) (rest := []) ⟨hx, hb, hml, hown, hts⟩ (metX1_wide l dC dI dA H.size z_103 h_20) (va_cwS 1 hts (lw_S q904 q905 q59 q906) rfl rfl rfl (by decide +kernel) ⟨Nat.le_of_ble_eq_true rfl, Nat.le_of_ble_eq_true rfl⟩) ⟨fun a U g mk q => by obtain ⟨q0, q1, qP, qK, qD⟩ := q; exact ⟨q0, q1, qP, va_K.moved (u := U) (U := U.calling g mk a) (Vm.Alike.refl U.vm) qK, qD⟩, fun U hU hW => ⟨rfl, by rw [hU], by rw [hU]; exact hPc, va_K.moved hW.alike hK, hDc.weaken (fun _ _ _ _ => trivial)⟩⟩ rfl rfl hl.1 rfl (lv_room (Nat.le_of_ble_eq_true rfl)) dX1_cast_106 ⟨Nat.le_of_ble_eq_true rfl, Nat.le_of_ble_eq_true rfl⟩) hS (fun q _ h => hFc q h) hFc (fun r_106 u t H1 locs ht hvm hw hB hz1 hk1 hS => ?_)
    obtain ⟨z_106, rfl⟩ : ∃ z, z = u := ⟨_, rfl⟩
    obtain ⟨rfl, p0_106, p1_106, p2_106⟩ : r_106 = dX z_106 ∧ (noF z_103 → z_106 = 9221120237041090560) ∧ (¬ noF z_103 → ¬ noX z_106 ∧ vD z_106 = FP.Core.round FP.Core.b64 (vF z_103)) ∧ (In6 z_106) := hw
    obtain ⟨hP1, hK1, hD1⟩ := hB
    rw [ht] at hP1
    obtain ⟨hP, hD⟩ := va_join (wr := [(ax, .inr (1, [.ref adr, .ref ait, .int (I3 mn), .ref wp, .ref wq, .ref wr, .ref ws, .ref wt, .ref wu, .ref wv, .ref wx, .ref wy, .ref wz, .int (I3 sg), .long (L6 rch), .int (I3 lft), .int (I3 isl)]))]) (w1 := []) hP hD [] [0] rfl rfl (by decide) (by decide) hk1 hFc hP1 hD1
    have hP : va_P (dC, dI) vwCl [(ax, .inr (1, [.ref adr, .ref ait, .int (I3 mn), .ref wp, .ref wq, .ref wr, .ref ws, .ref wt, .ref wu, .ref wv, .ref wx, .ref wy, .ref wz, .int (I3 sg), .long (L6 rch), .int (I3 lft), .int (I3 isl)]))] H1 := hP
    have hD : va_D A [(ax, .inr (1, [.ref adr, .ref ait, .int (I3 mn), .ref wp, .ref wq, .ref wr, .ref ws, .ref wt, .ref wu, .ref wv, .ref wx, .ref wy, .ref wz, .int (I3 sg), .long (L6 rch), .int (I3 lft), .int (I3 isl)]))] := hD
    generalize H1 = H at hP hS ⊢
    have h_21 : In6 z_106 := by exact p2_106
    have hPc := hP.sub (ws' := []) [] rfl
    have hDc := hD.sub (ws' := []) [] (by decide) rfl
    have hFc := va_free (wc := []) hD hS hA [] rfl
    refine va_calll (va_runS (As := [.double (dX z_106)]) (rest := []) ⟨hx, hb, hml, hown, hts⟩ (metJ10_doubleToLongBits l dC dI dA H.size z_106 h_21) (va_cwS 1 hts (lw_S q776 q777 q80 q778) rfl rfl rfl (by decide +kernel) ⟨Nat.le_of_ble_eq_true rfl, Nat.le_of_ble_eq_true rfl⟩) ⟨fun a U g mk q => by obtain ⟨q0, q1, qP, qK, qD⟩ := q; exact ⟨q0, q1, qP, va_K.moved (u := U) (U := U.calling g mk a) (Vm.Alike.refl U.vm) qK, qD⟩, fun U hU hW => ⟨rfl, by rw [hU], by rw [hU]; exact hPc, va_K.moved hW.alike hK, hDc.weaken (fun _ _ _ _ => trivial)⟩⟩ rfl rfl hl.1 rfl (lv_room (Nat.le_of_ble_eq_true rfl)) dX1_cast_109 ⟨Nat.le_of_ble_eq_true rfl, Nat.le_of_ble_eq_true rfl⟩) hS (fun q _ h => hFc q h) hFc (fun r_109 u t H1 locs ht hvm hw hB hz1 hk1 hS => ?_)
    obtain ⟨z_109, rfl⟩ : ∃ z, z = u := ⟨_, rfl⟩
    obtain ⟨rfl, p0_109⟩ : r_109 = L6 z_109 ∧ (z_109 = if noX z_106 then 9221120237041090560 else z_106) := hw
    obtain ⟨hP1, hK1, hD1⟩ := hB
    rw [ht] at hP1
    obtain ⟨hP, hD⟩ := va_join (wr := [(ax, .inr (1, [.ref adr, .ref ait, .int (I3 mn), .ref wp, .ref wq, .ref wr, .ref ws, .ref wt, .ref wu, .ref wv, .ref wx, .ref wy, .ref wz, .int (I3 sg), .long (L6 rch), .int (I3 lft), .int (I3 isl)]))]) (w1 := []) hP hD [] [0] rfl rfl (by decide) (by decide) hk1 hFc hP1 hD1
    have hP : va_P (dC, dI) vwCl [(ax, .inr (1, [.ref adr, .ref ait, .int (I3 mn), .ref wp, .ref wq, .ref wr, .ref ws, .ref wt, .ref wu, .ref wv, .ref wx, .ref wy, .ref wz, .int (I3 sg), .long (L6 rch), .int (I3 lft), .int (I3 isl)]))] H1 := hP
    have hD : va_D A [(ax, .inr (1, [.ref adr, .ref ait, .int (I3 mn), .ref wp, .ref wq, .ref wr, .ref ws, .ref wt, .ref wu, .ref wv, .ref wx, .ref wy, .ref wz, .int (I3 sg), .long (L6 rch), .int (I3 lft), .int (I3 isl)]))] := hD
    generalize H1 = H at hP hS ⊢
    have o_22 : (0 ≤ kind ∧ kind ≤ 6) := by exact hgk
    have o_23 : ∀ z2 : Int, caX kind v z2 → L6 z_109 = L6 z2 := by intro z2 q; have h9 := q.2.2.2.2.2.2 (o_k6 hgk t_25_0 t_25_1 t_25_2 t_25_3 t_25_4 t_25_5); exact wd_L p0_103 p0_106 p1_106 p2_106 p0_109 h9
    refine vx_ret ?_
    exact W.lret (v := L6 z_109) hx hb hr (fun t ht hW => ⟨⟨L6 z_109, z_109, rfl, ⟨rfl, ⟨o_22, o_23⟩⟩, by rw [ht]; exact hP, va_K.moved hW.alike hK, hD⟩, hS.F ht⟩) hS.2.2 dX1_cast_112
  refine lv_iload_n hx hb dX1_cast_0 rfl (lv_at hl 1 rfl) ?_
  refine ix_if_lt (tgt := 14) hx hb (by first | assumption | decide | (constructor <;> omega)) dX1_cast_1 (by decide) (fun c_1 => ?_) (fun c_1 => ?_)
  · skip
    refine lv_iconst (v := I3 (0)) hx hb dX1_cast_14 rfl ?_
    have e_24 : ((0 : Int) = 1 ∧ (0 ≤ kind ∧ kind ≤ 6)) ∨ ((0 : Int) = 0 ∧ ¬ (0 ≤ kind ∧ kind ≤ 6)) := by exact Or.inr ⟨rfl, fun q => absurd q.1 (Int.not_le.mpr c_1)⟩
    exact cut_15 0 e_24 _ _ hP hD hS ls (lv_sub hl [0, 1, 2] rfl)
  · skip
    refine lv_iload_n hx hb dX1_cast_4 rfl (lv_at hl 1 rfl) ?_
    refine lv_bipush (v := I3 (6)) hx hb dX1_cast_5 (by decide) ?_
    refine ix_icmp_gt (tgt := 14) hx hb (by first | assumption | decide | (constructor <;> omega)) (by first | assumption | decide | (constructor <;> omega)) dX1_cast_7 (by decide) (fun c_7 => ?_) (fun c_7 => ?_)
    · skip
      refine lv_iconst (v := I3 (0)) hx hb dX1_cast_14 rfl ?_
      have e_25 : ((0 : Int) = 1 ∧ (0 ≤ kind ∧ kind ≤ 6)) ∨ ((0 : Int) = 0 ∧ ¬ (0 ≤ kind ∧ kind ≤ 6)) := by exact Or.inr ⟨rfl, fun q => absurd q.2 (Int.not_le.mpr c_7)⟩
      exact cut_15 0 e_25 _ _ hP hD hS ls (lv_sub hl [0, 1, 2] rfl)
    · skip
      refine lv_iconst (v := I3 (1)) hx hb dX1_cast_10 rfl ?_
      refine lv_goto (tgt := 15) hx hb dX1_cast_11 (by decide) ?_
      have e_26 : ((1 : Int) = 1 ∧ (0 ≤ kind ∧ kind ≤ 6)) ∨ ((1 : Int) = 0 ∧ ¬ (0 ≤ kind ∧ kind ≤ 6)) := by exact Or.inl ⟨rfl, c_1, c_7⟩
      exact cut_15 1 e_26 _ _ hP hD hS ls (lv_sub hl [0, 1, 2] rfl)
