/-! doubles of the JDK: bits, signs, exponents -/
set_option maxRecDepth 100000
abbrev BmetJ10_isNaN (dC : Nat → ClassId) (dI : Nat → Nat → Nat) (dA : Nat → ClassId) (A : Nat → Prop)  (v : Int) : Int → State → Prop := fun u t => (fun (u : Int) => (fun (z : Int) => va_P (dC, dI) vwCl [] t.heap ∧ va_K (dC, dI) vwCl (tyA dA) t ∧ va_D A []) u) u
abbrev QmetJ10_isNaN (dC : Nat → ClassId) (dI : Nat → Nat → Nat) (dA : Nat → ClassId) (A : Nat → Prop)  (v : Int) := va_Qi (fun (rt_ : Int32) => fun (u : Int) => (fun (z : Int) => rt_ = I3 z ∧ (z = if noX v then 1 else 0)) u) (BmetJ10_isNaN dC dI dA A v) A
set_option maxHeartbeats 1000000 in
set_option maxRecDepth 100000 in
theorem metJ10_isNaN (l : Launch) (dC : Nat → ClassId) (dI : Nat → Nat → Nat) (dA : Nat → ClassId)  (sz : Nat) (v : Int) (hv : In6 v) : Met l yJ10_isNaN (ws_ yJ10_isNaN cJ10_isNaN 2 (some .boolean)) ({ frames := 1, cells := 0, slots := 0, locals := 40 }) (va_Pc [.double (dX v)] (fun U => U.heap.size = sz ∧ va_P (dC, dI) vwCl [] U.heap ∧ va_K (dC, dI) vwCl (tyA dA) U ∧ va_D (fun _ => True) [])) (QmetJ10_isNaN dC dI dA (va_A [] sz) v) 0 0 (va_A [] sz) := by
  refine Met.ofW (cc := cJ10_isNaN) (maxL := 2) (ret := (some .boolean)) (by decide) rfl ?_
  intro p e s m args below meth c s₁ B hml hv
  obtain ⟨rfl, hsz, hP, hK, hD0⟩ := hv
  have hx := B.exec
  have hb := B.bytes
  have hr := B.returns
  have hts := atoms_spec (ws := (ws_ yJ10_isNaN cJ10_isNaN 2 (some .boolean))) B.pre
  have hts : ∀ w ∈ lw_all, w.before _ s = true := fun w h => hts w (List.mem_cons_of_mem _ h)
  have hown : s.vm.findClass RJ10 = some m.cls := findClass_of_methodNamed B.named
  have hlocks := B.notSynchronized
  subst hsz
  have hD := hD0.self (sz := s.heap.size)
  generalize hAe : va_A [] s.heap.size = A at hD ⊢
  have hA : ∀ q : Nat, s.heap.size ≤ q → A q := fun q h => by rw [← hAe]; exact Or.inr h
  have hS : va_S A s.heap s.heap [] := va_S.rf
  have hP : va_P (dC, dI) vwCl [] s.heap := hP
  have hl := lv_entry ([.double (dX v)]) (n := 2) (Nat.le_of_ble_eq_true rfl)
  rw [lg_entry_eq]
  generalize (lg_sl ([.double (dX v)]) ++ List.replicate (2 - (lg_sl ([.double (dX v)])).length) Slot.unset).toArray = ls at hl ⊢
  have hl : lv_has ls 2 [(0, .double (dX v))] := hl
  refine lv_dload_n hx hb dJ10_isNaN_0 rfl (lv_at hl 0 rfl) ?_
  refine lv_dload_n hx hb dJ10_isNaN_1 rfl (lv_at hl 0 rfl) ?_
  by_cases n_2 : noX v
  · skip
    refine ix_dcmpN (z := -1) hx hb (by first | assumption | decide | (constructor <;> omega)) (by first | assumption | decide | (constructor <;> omega)) (Or.inl n_2) rfl dJ10_isNaN_2 ?_
    refine ix_if_eq (tgt := 10) hx hb (by first | assumption | decide | (constructor <;> omega)) dJ10_isNaN_3 (by decide) (fun c_3 => ?_) (fun c_3 => ?_)
    · skip
      omega
    · skip
      refine lv_iconst (v := I3 (1)) hx hb dJ10_isNaN_6 rfl ?_
      refine lv_goto (tgt := 11) hx hb dJ10_isNaN_7 (by decide) ?_
      have o_1 : (1 : Int) = if noX v then 1 else 0 := by first | (rw [if_pos (by assumption)]; done) | (rw [if_neg (by assumption)]; done)
      exact W.zret (v := I3 1) hx hb hr rfl (fun t ht hW => ⟨⟨I3 1, 1, rfl, ⟨rfl, o_1⟩, by rw [ht]; exact hP, va_K.moved hW.alike hK, hD⟩, hS.F ht⟩) hS.2.2 dJ10_isNaN_11
  refine ix_dcmp hx hb (by first | assumption | decide | (constructor <;> omega)) (by first | assumption | decide | (constructor <;> omega)) n_2 n_2 dJ10_isNaN_2 ?_
  refine ix_cm0 ?_
  refine ix_if_eq (tgt := 10) hx hb (by first | assumption | decide | (constructor <;> omega)) dJ10_isNaN_3 (by decide) (fun c_3 => ?_) (fun c_3 => ?_)
  · skip
    refine lv_iconst (v := I3 (0)) hx hb dJ10_isNaN_10 rfl ?_
    have o_2 : (0 : Int) = if noX v then 1 else 0 := by first | (rw [if_pos (by assumption)]; done) | (rw [if_neg (by assumption)]; done)
    exact W.zret (v := I3 0) hx hb hr rfl (fun t ht hW => ⟨⟨I3 0, 0, rfl, ⟨rfl, o_2⟩, by rw [ht]; exact hP, va_K.moved hW.alike hK, hD⟩, hS.F ht⟩) hS.2.2 dJ10_isNaN_11
  · skip
    omega
abbrev BmetJ14_isNaN (dC : Nat → ClassId) (dI : Nat → Nat → Nat) (dA : Nat → ClassId) (A : Nat → Prop)  (v : Int) : Int → State → Prop := fun u t => (fun (u : Int) => (fun (z : Int) => va_P (dC, dI) vwCl [] t.heap ∧ va_K (dC, dI) vwCl (tyA dA) t ∧ va_D A []) u) u
abbrev QmetJ14_isNaN (dC : Nat → ClassId) (dI : Nat → Nat → Nat) (dA : Nat → ClassId) (A : Nat → Prop)  (v : Int) := va_Qi (fun (rt_ : Int32) => fun (u : Int) => (fun (z : Int) => rt_ = I3 z ∧ (z = if noF v then 1 else 0)) u) (BmetJ14_isNaN dC dI dA A v) A
set_option maxHeartbeats 1000000 in
set_option maxRecDepth 100000 in
theorem metJ14_isNaN (l : Launch) (dC : Nat → ClassId) (dI : Nat → Nat → Nat) (dA : Nat → ClassId)  (sz : Nat) (v : Int) (hv : In3 v) : Met l yJ14_isNaN (ws_ yJ14_isNaN cJ14_isNaN 1 (some .boolean)) ({ frames := 1, cells := 0, slots := 0, locals := 40 }) (va_Pc [.float (fB v)] (fun U => U.heap.size = sz ∧ va_P (dC, dI) vwCl [] U.heap ∧ va_K (dC, dI) vwCl (tyA dA) U ∧ va_D (fun _ => True) [])) (QmetJ14_isNaN dC dI dA (va_A [] sz) v) 0 0 (va_A [] sz) := by
  refine va_MetF (cc := cJ14_isNaN) (maxL := 1) (ret := (some .boolean)) (by decide +kernel) rfl ?_
  intro p e s m args below meth c s₁ B hml hv
  obtain ⟨rfl, hsz, hP, hK, hD0⟩ := hv
  have hx := B.exec
  have hb := B.bytes
  have hr := B.returns
  have hts := atoms_spec (ws := (ws_ yJ14_isNaN cJ14_isNaN 1 (some .boolean))) B.pre
  have hts : ∀ w ∈ lw_all, w.before _ s = true := fun w h => hts w (List.mem_cons_of_mem _ h)
  have hown : s.vm.findClass RJ14 = some m.cls := findClass_of_methodNamed B.named
  have hlocks := B.notSynchronized
  subst hsz
  have hD := hD0.self (sz := s.heap.size)
  generalize hAe : va_A [] s.heap.size = A at hD ⊢
  have hA : ∀ q : Nat, s.heap.size ≤ q → A q := fun q h => by rw [← hAe]; exact Or.inr h
  have hS : va_S A s.heap s.heap [] := va_S.rf
  have hP : va_P (dC, dI) vwCl [] s.heap := hP
  have hl := lv_entry ([.float (fB v)]) (n := 1) (Nat.le_of_ble_eq_true rfl)
  rw [lg_entry_eq]
  generalize (lg_sl ([.float (fB v)]) ++ List.replicate (1 - (lg_sl ([.float (fB v)])).length) Slot.unset).toArray = ls at hl ⊢
  have hl : lv_has ls 1 [(0, .float (fB v))] := hl
  refine lv_fload_n hx hb dJ14_isNaN_0 rfl (lv_at hl 0 rfl) ?_
  refine lv_fload_n hx hb dJ14_isNaN_1 rfl (lv_at hl 0 rfl) ?_
  by_cases n_2 : noF v
  · skip
    refine ix_fcmpN (z := -1) hx hb (by first | assumption | decide | (constructor <;> omega)) (by first | assumption | decide | (constructor <;> omega)) (Or.inl n_2) rfl dJ14_isNaN_2 ?_
    refine ix_if_eq (tgt := 10) hx hb (by first | assumption | decide | (constructor <;> omega)) dJ14_isNaN_3 (by decide) (fun c_3 => ?_) (fun c_3 => ?_)
    · skip
      omega
    · skip
      refine lv_iconst (v := I3 (1)) hx hb dJ14_isNaN_6 rfl ?_
      refine lv_goto (tgt := 11) hx hb dJ14_isNaN_7 (by decide) ?_
      have o_1 : (1 : Int) = if noF v then 1 else 0 := by first | (rw [if_pos (by assumption)]; done) | (rw [if_neg (by assumption)]; done)
      exact W.zret (v := I3 1) hx hb hr rfl (fun t ht hW => ⟨⟨I3 1, 1, rfl, ⟨rfl, o_1⟩, by rw [ht]; exact hP, va_K.moved hW.alike hK, hD⟩, hS.F ht⟩) hS.2.2 dJ14_isNaN_11
  refine ix_fcmp hx hb (by first | assumption | decide | (constructor <;> omega)) (by first | assumption | decide | (constructor <;> omega)) n_2 n_2 dJ14_isNaN_2 ?_
  refine ix_cm0 ?_
  refine ix_if_eq (tgt := 10) hx hb (by first | assumption | decide | (constructor <;> omega)) dJ14_isNaN_3 (by decide) (fun c_3 => ?_) (fun c_3 => ?_)
  · skip
    refine lv_iconst (v := I3 (0)) hx hb dJ14_isNaN_10 rfl ?_
    have o_2 : (0 : Int) = if noF v then 1 else 0 := by first | (rw [if_pos (by assumption)]; done) | (rw [if_neg (by assumption)]; done)
    exact W.zret (v := I3 0) hx hb hr rfl (fun t ht hW => ⟨⟨I3 0, 0, rfl, ⟨rfl, o_2⟩, by rw [ht]; exact hP, va_K.moved hW.alike hK, hD⟩, hS.F ht⟩) hS.2.2 dJ14_isNaN_11
  · skip
    omega
abbrev BmetJ10_doubleToLongBits (dC : Nat → ClassId) (dI : Nat → Nat → Nat) (dA : Nat → ClassId) (A : Nat → Prop)  (v : Int) : Int → State → Prop := fun u t => (fun (u : Int) => (fun (z : Int) => va_P (dC, dI) vwCl [] t.heap ∧ va_K (dC, dI) vwCl (tyA dA) t ∧ va_D A []) u) u
abbrev QmetJ10_doubleToLongBits (dC : Nat → ClassId) (dI : Nat → Nat → Nat) (dA : Nat → ClassId) (A : Nat → Prop)  (v : Int) := va_Ql (fun (rt_ : Int64) => fun (u : Int) => (fun (z : Int) => rt_ = L6 z ∧ (z = if noX v then 9221120237041090560 else v)) u) (BmetJ10_doubleToLongBits dC dI dA A v) A
set_option maxHeartbeats 1000000 in
set_option maxRecDepth 100000 in
theorem metJ10_doubleToLongBits (l : Launch) (dC : Nat → ClassId) (dI : Nat → Nat → Nat) (dA : Nat → ClassId)  (sz : Nat) (v : Int) (hv : In6 v) : Met l yJ10_doubleToLongBits (ws_ yJ10_doubleToLongBits cJ10_doubleToLongBits 2 (some .long)) ({ frames := 2, cells := 0, slots := 0, locals := 80 }) (va_Pc [.double (dX v)] (fun U => U.heap.size = sz ∧ va_P (dC, dI) vwCl [] U.heap ∧ va_K (dC, dI) vwCl (tyA dA) U ∧ va_D (fun _ => True) [])) (QmetJ10_doubleToLongBits dC dI dA (va_A [] sz) v) 0 0 (va_A [] sz) := by
  refine Met.ofW (cc := cJ10_doubleToLongBits) (maxL := 2) (ret := (some .long)) (by decide) rfl ?_
  intro p e s m args below meth c s₁ B hml hv
  obtain ⟨rfl, hsz, hP, hK, hD0⟩ := hv
  have hx := B.exec
  have hb := B.bytes
  have hr := B.returns
  have hts := atoms_spec (ws := (ws_ yJ10_doubleToLongBits cJ10_doubleToLongBits 2 (some .long))) B.pre
  have hts : ∀ w ∈ lw_all, w.before _ s = true := fun w h => hts w (List.mem_cons_of_mem _ h)
  have hown : s.vm.findClass RJ10 = some m.cls := findClass_of_methodNamed B.named
  have hlocks := B.notSynchronized
  subst hsz
  have hD := hD0.self (sz := s.heap.size)
  generalize hAe : va_A [] s.heap.size = A at hD ⊢
  have hA : ∀ q : Nat, s.heap.size ≤ q → A q := fun q h => by rw [← hAe]; exact Or.inr h
  have hS : va_S A s.heap s.heap [] := va_S.rf
  have hP : va_P (dC, dI) vwCl [] s.heap := hP
  have hl := lv_entry ([.double (dX v)]) (n := 2) (Nat.le_of_ble_eq_true rfl)
  rw [lg_entry_eq]
  generalize (lg_sl ([.double (dX v)]) ++ List.replicate (2 - (lg_sl ([.double (dX v)])).length) Slot.unset).toArray = ls at hl ⊢
  have hl : lv_has ls 2 [(0, .double (dX v))] := hl
  refine lv_dload_n hx hb dJ10_doubleToLongBits_0 rfl (lv_at hl 0 rfl) ?_
  have h_1 : In6 v := by first | assumption | omega | (constructor <;> omega)
  have hPc := hP.sub (ws' := []) [] rfl
  have hDc := hD.sub (ws' := []) [] (by decide) rfl
  have hFc := va_free (wc := []) hD hS hA [] rfl
  refine va_calli (va_runS (As := [.double (dX v)]) (rest := []) ⟨hx, hb, hml, hown, hts⟩ (metJ10_isNaN l dC dI dA s.heap.size v h_1) (va_cwS 1 hts (lw_S q779 q708 q80 q709) rfl rfl rfl (by decide +kernel) ⟨Nat.le_of_ble_eq_true rfl, Nat.le_of_ble_eq_true rfl⟩) ⟨fun a U g mk q => by obtain ⟨q0, q1, qP, qK, qD⟩ := q; exact ⟨q0, q1, qP, va_K.moved (u := U) (U := U.calling g mk a) (Vm.Alike.refl U.vm) qK, qD⟩, fun U hU hW => ⟨rfl, by rw [hU], by rw [hU]; exact hPc, va_K.moved hW.alike hK, hDc.weaken (fun _ _ _ _ => trivial)⟩⟩ rfl rfl hl.1 rfl (lv_room (Nat.le_of_ble_eq_true rfl)) dJ10_doubleToLongBits_1 ⟨Nat.le_of_ble_eq_true rfl, Nat.le_of_ble_eq_true rfl⟩) hS (fun q _ h => hFc q h) hFc (fun r_1 u t H1 locs ht hvm hw hB hz1 hk1 hS => ?_)
  obtain ⟨z_1, rfl⟩ : ∃ z, z = u := ⟨_, rfl⟩
  obtain ⟨rfl, p0_1⟩ : r_1 = I3 z_1 ∧ (z_1 = if noX v then 1 else 0) := hw
  obtain ⟨hP1, hK1, hD1⟩ := hB
  rw [ht] at hP1
  obtain ⟨hP, hD⟩ := va_join (wr := []) (w1 := []) hP hD [] [] rfl rfl (by decide) (by decide) hk1 hFc hP1 hD1
  generalize H1 = H at hP hS ⊢
  have hP : va_P (dC, dI) vwCl [] H := hP
  have hD : va_D A [] := hD
  have y_1 := b01 p0_1
  refine ix_if_ne (tgt := 12) hx hb (by first | assumption | decide | (constructor <;> omega)) dJ10_doubleToLongBits_4 (by decide) (fun c_4 => ?_) (fun c_4 => ?_)
  · skip
    refine lv_ldc2 hx hb hown (hts _ q781) dJ10_doubleToLongBits_12 ?_
    refine ix_vl (x := (9221120237041090560)) (by decide) ?_
    have o_2 : (9221120237041090560 : Int) = if noX v then 9221120237041090560 else v := by first | (rw [if_pos (by omega)]; done) | (rw [if_neg (by omega)]; done)
    exact W.lret (v := L6 9221120237041090560) hx hb hr (fun t ht hW => ⟨⟨L6 9221120237041090560, 9221120237041090560, rfl, ⟨rfl, o_2⟩, by rw [ht]; exact hP, va_K.moved hW.alike hK, hD⟩, hS.F ht⟩) hS.2.2 dJ10_doubleToLongBits_15
  · skip
    refine lv_dload_n hx hb dJ10_doubleToLongBits_7 rfl (lv_at hl 0 rfl) ?_
    refine ix_draw hx hb (hml.trans hl.1.symm) hown (hts _ q780) (hts _ q496) (hts _ q495) (hts _ q80) (Nat.le_of_ble_eq_true rfl) (Nat.le_of_ble_eq_true rfl) dJ10_doubleToLongBits_8 ?_
    have o_3 : v = if noX v then 9221120237041090560 else v := by first | (rw [if_pos (by omega)]; done) | (rw [if_neg (by omega)]; done)
    exact W.lret (v := L6 v) hx hb hr (fun t ht hW => ⟨⟨L6 v, v, rfl, ⟨rfl, o_3⟩, by rw [ht]; exact hP, va_K.moved hW.alike hK, hD⟩, hS.F ht⟩) hS.2.2 dJ10_doubleToLongBits_11
abbrev BmetJ14_floatToIntBits (dC : Nat → ClassId) (dI : Nat → Nat → Nat) (dA : Nat → ClassId) (A : Nat → Prop)  (v : Int) : Int → State → Prop := fun u t => (fun (u : Int) => (fun (z : Int) => va_P (dC, dI) vwCl [] t.heap ∧ va_K (dC, dI) vwCl (tyA dA) t ∧ va_D A []) u) u
abbrev QmetJ14_floatToIntBits (dC : Nat → ClassId) (dI : Nat → Nat → Nat) (dA : Nat → ClassId) (A : Nat → Prop)  (v : Int) := va_Qi (fun (rt_ : Int32) => fun (u : Int) => (fun (z : Int) => rt_ = I3 z ∧ (z = if noF v then 2143289344 else v)) u) (BmetJ14_floatToIntBits dC dI dA A v) A
set_option maxHeartbeats 1000000 in
set_option maxRecDepth 100000 in
theorem metJ14_floatToIntBits (l : Launch) (dC : Nat → ClassId) (dI : Nat → Nat → Nat) (dA : Nat → ClassId)  (sz : Nat) (v : Int) (hv : In3 v) : Met l yJ14_floatToIntBits (ws_ yJ14_floatToIntBits cJ14_floatToIntBits 1 (some .int)) ({ frames := 2, cells := 0, slots := 0, locals := 80 }) (va_Pc [.float (fB v)] (fun U => U.heap.size = sz ∧ va_P (dC, dI) vwCl [] U.heap ∧ va_K (dC, dI) vwCl (tyA dA) U ∧ va_D (fun _ => True) [])) (QmetJ14_floatToIntBits dC dI dA (va_A [] sz) v) 0 0 (va_A [] sz) := by
  refine va_MetF (cc := cJ14_floatToIntBits) (maxL := 1) (ret := (some .int)) (by decide +kernel) rfl ?_
  intro p e s m args below meth c s₁ B hml hv
  obtain ⟨rfl, hsz, hP, hK, hD0⟩ := hv
  have hx := B.exec
  have hb := B.bytes
  have hr := B.returns
  have hts := atoms_spec (ws := (ws_ yJ14_floatToIntBits cJ14_floatToIntBits 1 (some .int))) B.pre
  have hts : ∀ w ∈ lw_all, w.before _ s = true := fun w h => hts w (List.mem_cons_of_mem _ h)
  have hown : s.vm.findClass RJ14 = some m.cls := findClass_of_methodNamed B.named
  have hlocks := B.notSynchronized
  subst hsz
  have hD := hD0.self (sz := s.heap.size)
  generalize hAe : va_A [] s.heap.size = A at hD ⊢
  have hA : ∀ q : Nat, s.heap.size ≤ q → A q := fun q h => by rw [← hAe]; exact Or.inr h
  have hS : va_S A s.heap s.heap [] := va_S.rf
  have hP : va_P (dC, dI) vwCl [] s.heap := hP
  have hl := lv_entry ([.float (fB v)]) (n := 1) (Nat.le_of_ble_eq_true rfl)
  rw [lg_entry_eq]
  generalize (lg_sl ([.float (fB v)]) ++ List.replicate (1 - (lg_sl ([.float (fB v)])).length) Slot.unset).toArray = ls at hl ⊢
  have hl : lv_has ls 1 [(0, .float (fB v))] := hl
  refine lv_fload_n hx hb dJ14_floatToIntBits_0 rfl (lv_at hl 0 rfl) ?_
  have h_1 : In3 v := by first | assumption | omega | (constructor <;> omega)
  have hPc := hP.sub (ws' := []) [] rfl
  have hDc := hD.sub (ws' := []) [] (by decide) rfl
  have hFc := va_free (wc := []) hD hS hA [] rfl
  refine va_calli (va_runS (As := [.float (fB v)]) (rest := []) ⟨hx, hb, hml, hown, hts⟩ (metJ14_isNaN l dC dI dA s.heap.size v h_1) (va_cwS 1 hts (lw_S q811 q812 q84 q813) rfl rfl rfl (by decide +kernel) ⟨Nat.le_of_ble_eq_true rfl, Nat.le_of_ble_eq_true rfl⟩) ⟨fun a U g mk q => by obtain ⟨q0, q1, qP, qK, qD⟩ := q; exact ⟨q0, q1, qP, va_K.moved (u := U) (U := U.calling g mk a) (Vm.Alike.refl U.vm) qK, qD⟩, fun U hU hW => ⟨rfl, by rw [hU], by rw [hU]; exact hPc, va_K.moved hW.alike hK, hDc.weaken (fun _ _ _ _ => trivial)⟩⟩ rfl rfl hl.1 rfl (lv_room (Nat.le_of_ble_eq_true rfl)) dJ14_floatToIntBits_1 ⟨Nat.le_of_ble_eq_true rfl, Nat.le_of_ble_eq_true rfl⟩) hS (fun q _ h => hFc q h) hFc (fun r_1 u t H1 locs ht hvm hw hB hz1 hk1 hS => ?_)
  obtain ⟨z_1, rfl⟩ : ∃ z, z = u := ⟨_, rfl⟩
  obtain ⟨rfl, p0_1⟩ : r_1 = I3 z_1 ∧ (z_1 = if noF v then 1 else 0) := hw
  obtain ⟨hP1, hK1, hD1⟩ := hB
  rw [ht] at hP1
  obtain ⟨hP, hD⟩ := va_join (wr := []) (w1 := []) hP hD [] [] rfl rfl (by decide) (by decide) hk1 hFc hP1 hD1
  generalize H1 = H at hP hS ⊢
  have hP : va_P (dC, dI) vwCl [] H := hP
  have hD : va_D A [] := hD
  have y_1 : (z_1 = 1 ∧ noF v) ∨ (z_1 = 0 ∧ ¬ noF v) := by rw [p0_1]; by_cases q : noF v; (rw [if_pos q]; exact Or.inl ⟨rfl, q⟩); (rw [if_neg q]; exact Or.inr ⟨rfl, q⟩)
  refine ix_if_ne (tgt := 12) hx hb (by first | assumption | decide | (constructor <;> omega)) dJ14_floatToIntBits_4 (by decide) (fun c_4 => ?_) (fun c_4 => ?_)
  · skip
    refine lv_ldc hx hb hown (hts _ q815) dJ14_floatToIntBits_12 ?_
    refine ix_vi (x := (2143289344)) (by decide) ?_
    have o_2 : (2143289344 : Int) = if noF v then 2143289344 else v := by rcases y_1 with ⟨q1, q2⟩ | ⟨q1, q2⟩ <;> first | (rw [if_pos q2]; done) | (rw [if_neg q2]; done) | (exfalso; omega)
    exact W.iret (v := I3 2143289344) hx hb hr (fun t ht hW => ⟨⟨I3 2143289344, 2143289344, rfl, ⟨rfl, o_2⟩, by rw [ht]; exact hP, va_K.moved hW.alike hK, hD⟩, hS.F ht⟩) hS.2.2 dJ14_floatToIntBits_14
  · skip
    refine lv_fload_n hx hb dJ14_floatToIntBits_7 rfl (lv_at hl 0 rfl) ?_
    refine ix_fraw hx hb (hml.trans hl.1.symm) hown (hts _ q814) (hts _ q799) (hts _ q798) (hts _ q84) (Nat.le_of_ble_eq_true rfl) (Nat.le_of_ble_eq_true rfl) dJ14_floatToIntBits_8 ?_
    have o_3 : v = if noF v then 2143289344 else v := by rcases y_1 with ⟨q1, q2⟩ | ⟨q1, q2⟩ <;> first | (rw [if_pos q2]; done) | (rw [if_neg q2]; done) | (exfalso; omega)
    exact W.iret (v := I3 v) hx hb hr (fun t ht hW => ⟨⟨I3 v, v, rfl, ⟨rfl, o_3⟩, by rw [ht]; exact hP, va_K.moved hW.alike hK, hD⟩, hS.F ht⟩) hS.2.2 dJ14_floatToIntBits_11
abbrev BmetJ7_getExponent (dC : Nat → ClassId) (dI : Nat → Nat → Nat) (dA : Nat → ClassId) (A : Nat → Prop)  (v : Int) : Int → State → Prop := fun u t => (fun (u : Int) => (fun (z : Int) => va_P (dC, dI) vwCl [] t.heap ∧ va_K (dC, dI) vwCl (tyA dA) t ∧ va_D A []) u) u
abbrev QmetJ7_getExponent (dC : Nat → ClassId) (dI : Nat → Nat → Nat) (dA : Nat → ClassId) (A : Nat → Prop)  (v : Int) := va_Qi (fun (rt_ : Int32) => fun (u : Int) => (fun (z : Int) => rt_ = I3 z ∧ (z = eX v - 1023)) u) (BmetJ7_getExponent dC dI dA A v) A
set_option maxHeartbeats 1000000 in
set_option maxRecDepth 100000 in
theorem metJ7_getExponent (l : Launch) (dC : Nat → ClassId) (dI : Nat → Nat → Nat) (dA : Nat → ClassId)  (sz : Nat) (v : Int) (hv : In6 v) : Met l yJ7_getExponent (ws_ yJ7_getExponent cJ7_getExponent 2 (some .int)) ({ frames := 2, cells := 0, slots := 0, locals := 80 }) (va_Pc [.double (dX v)] (fun U => U.heap.size = sz ∧ va_P (dC, dI) vwCl [] U.heap ∧ va_K (dC, dI) vwCl (tyA dA) U ∧ va_D (fun _ => True) [])) (QmetJ7_getExponent dC dI dA (va_A [] sz) v) 0 0 (va_A [] sz) := by
  refine va_MetF (cc := cJ7_getExponent) (maxL := 2) (ret := (some .int)) (by decide +kernel) rfl ?_
  intro p e s m args below meth c s₁ B hml hv
  obtain ⟨rfl, hsz, hP, hK, hD0⟩ := hv
  have hx := B.exec
  have hb := B.bytes
  have hr := B.returns
  have hts := atoms_spec (ws := (ws_ yJ7_getExponent cJ7_getExponent 2 (some .int))) B.pre
  have hts : ∀ w ∈ lw_all, w.before _ s = true := fun w h => hts w (List.mem_cons_of_mem _ h)
  have hown : s.vm.findClass RJ7 = some m.cls := findClass_of_methodNamed B.named
  have hlocks := B.notSynchronized
  subst hsz
  have hD := hD0.self (sz := s.heap.size)
  generalize hAe : va_A [] s.heap.size = A at hD ⊢
  have hA : ∀ q : Nat, s.heap.size ≤ q → A q := fun q h => by rw [← hAe]; exact Or.inr h
  have hS : va_S A s.heap s.heap [] := va_S.rf
  have hP : va_P (dC, dI) vwCl [] s.heap := hP
  have hl := lv_entry ([.double (dX v)]) (n := 2) (Nat.le_of_ble_eq_true rfl)
  rw [lg_entry_eq]
  generalize (lg_sl ([.double (dX v)]) ++ List.replicate (2 - (lg_sl ([.double (dX v)])).length) Slot.unset).toArray = ls at hl ⊢
  have hl : lv_has ls 2 [(0, .double (dX v))] := hl
  have hx_ := eX_r v
  refine lv_dload_n hx hb dJ7_getExponent_0 rfl (lv_at hl 0 rfl) ?_
  refine ix_draw hx hb (hml.trans hl.1.symm) hown (hts _ q494) (hts _ q496) (hts _ q495) (hts _ q80) (Nat.le_of_ble_eq_true rfl) (Nat.le_of_ble_eq_true rfl) dJ7_getExponent_1 ?_
  refine lv_ldc2 hx hb hown (hts _ q507) dJ7_getExponent_4 ?_
  refine ix_vl (x := (9218868437227405312)) (by decide) ?_
  refine ix_land hx hb dJ7_getExponent_7 ?_
  refine ix_tl (y := eX v * 4503599627370496) (by exact zand6_ex v) ?_
  refine lv_bipush (v := I3 (52)) hx hb dJ7_getExponent_8 (by decide) ?_
  refine ix_lshr hx hb (by first | assumption | (constructor <;> omega)) (by first | decide | omega) dJ7_getExponent_10 ?_
  refine ix_tl (y := (eX v * 4503599627370496) / 4503599627370496) rfl ?_
  refine ix_tl (y := eX v) (by omega) ?_
  refine lv_ldc2 hx hb hown (hts _ q508) dJ7_getExponent_11 ?_
  refine ix_vl (x := (1023)) (by decide) ?_
  refine ix_lsub hx hb dJ7_getExponent_14 ?_
  refine ix_l2i hx hb dJ7_getExponent_15 ?_
  have o_1 : ((eX v) - 1023) = eX v - 1023 := by first | assumption | omega | (constructor <;> omega)
  exact W.iret (v := I3 ((eX v) - 1023)) hx hb hr (fun t ht hW => ⟨⟨I3 ((eX v) - 1023), ((eX v) - 1023), rfl, ⟨rfl, o_1⟩, by rw [ht]; exact hP, va_K.moved hW.alike hK, hD⟩, hS.F ht⟩) hS.2.2 dJ7_getExponent_16
abbrev BmetJ7_max_3 (dC : Nat → ClassId) (dI : Nat → Nat → Nat) (dA : Nat → ClassId) (A : Nat → Prop)  (x : Int) (y : Int) : Int → State → Prop := fun u t => (fun (u : Int) => (fun (z : Int) => va_P (dC, dI) vwCl [] t.heap ∧ va_K (dC, dI) vwCl (tyA dA) t ∧ va_D A []) u) u
abbrev QmetJ7_max_3 (dC : Nat → ClassId) (dI : Nat → Nat → Nat) (dA : Nat → ClassId) (A : Nat → Prop)  (x : Int) (y : Int) := va_Ql (fun (rt_ : Int64) => fun (u : Int) => (fun (z : Int) => rt_ = L6 z ∧ (z = if x < y then y else x)) u) (BmetJ7_max_3 dC dI dA A x y) A
set_option maxHeartbeats 1000000 in
set_option maxRecDepth 100000 in
theorem metJ7_max_3 (l : Launch) (dC : Nat → ClassId) (dI : Nat → Nat → Nat) (dA : Nat → ClassId)  (sz : Nat) (x : Int) (y : Int) (hx6 : In6 x) (hy6 : In6 y) : Met l yJ7_max_3 (ws_ yJ7_max_3 cJ7_max_3 4 (some .long)) ({ frames := 1, cells := 0, slots := 0, locals := 40 }) (va_Pc [.long (L6 x), .long (L6 y)] (fun U => U.heap.size = sz ∧ va_P (dC, dI) vwCl [] U.heap ∧ va_K (dC, dI) vwCl (tyA dA) U ∧ va_D (fun _ => True) [])) (QmetJ7_max_3 dC dI dA (va_A [] sz) x y) 0 0 (va_A [] sz) := by
  refine va_MetF (cc := cJ7_max_3) (maxL := 4) (ret := (some .long)) (by decide +kernel) rfl ?_
  intro p e s m args below meth c s₁ B hml hv
  obtain ⟨rfl, hsz, hP, hK, hD0⟩ := hv
  have hx := B.exec
  have hb := B.bytes
  have hr := B.returns
  have hts := atoms_spec (ws := (ws_ yJ7_max_3 cJ7_max_3 4 (some .long))) B.pre
  have hts : ∀ w ∈ lw_all, w.before _ s = true := fun w h => hts w (List.mem_cons_of_mem _ h)
  have hown : s.vm.findClass RJ7 = some m.cls := findClass_of_methodNamed B.named
  have hlocks := B.notSynchronized
  subst hsz
  have hD := hD0.self (sz := s.heap.size)
  generalize hAe : va_A [] s.heap.size = A at hD ⊢
  have hA : ∀ q : Nat, s.heap.size ≤ q → A q := fun q h => by rw [← hAe]; exact Or.inr h
  have hS : va_S A s.heap s.heap [] := va_S.rf
  have hP : va_P (dC, dI) vwCl [] s.heap := hP
  have hl := lv_entry ([.long (L6 x), .long (L6 y)]) (n := 4) (Nat.le_of_ble_eq_true rfl)
  rw [lg_entry_eq]
  generalize (lg_sl ([.long (L6 x), .long (L6 y)]) ++ List.replicate (4 - (lg_sl ([.long (L6 x), .long (L6 y)])).length) Slot.unset).toArray = ls at hl ⊢
  have hl : lv_has ls 4 [(0, .long (L6 x)), (2, .long (L6 y))] := hl
  refine lv_lload_n hx hb dJ7_max_3_0 rfl (lv_at hl 0 rfl) ?_
  refine lv_lload_n hx hb dJ7_max_3_1 rfl (lv_at hl 1 rfl) ?_
  refine ix_lcmp_lt (tgt := 10) hx hb (by first | assumption | decide | (constructor <;> omega)) (by first | assumption | decide | (constructor <;> omega)) dJ7_max_3_2 dJ7_max_3_3 (by decide) (fun c_2 => ?_) (fun c_2 => ?_)
  · skip
    refine lv_lload_n hx hb dJ7_max_3_10 rfl (lv_at hl 1 rfl) ?_
    have o_1 : y = if x < y then y else x := by first | (rw [if_pos (by omega)]; done) | (rw [if_neg (by omega)]; done)
    exact W.lret (v := L6 y) hx hb hr (fun t ht hW => ⟨⟨L6 y, y, rfl, ⟨rfl, o_1⟩, by rw [ht]; exact hP, va_K.moved hW.alike hK, hD⟩, hS.F ht⟩) hS.2.2 dJ7_max_3_11
  · skip
    refine lv_lload_n hx hb dJ7_max_3_6 rfl (lv_at hl 0 rfl) ?_
    refine lv_goto (tgt := 11) hx hb dJ7_max_3_7 (by decide) ?_
    have o_2 : x = if x < y then y else x := by first | (rw [if_pos (by omega)]; done) | (rw [if_neg (by omega)]; done)
    exact W.lret (v := L6 x) hx hb hr (fun t ht hW => ⟨⟨L6 x, x, rfl, ⟨rfl, o_2⟩, by rw [ht]; exact hP, va_K.moved hW.alike hK, hD⟩, hS.F ht⟩) hS.2.2 dJ7_max_3_11
abbrev BmetJ7_min_3 (dC : Nat → ClassId) (dI : Nat → Nat → Nat) (dA : Nat → ClassId) (A : Nat → Prop)  (x : Int) (y : Int) : Int → State → Prop := fun u t => (fun (u : Int) => (fun (z : Int) => va_P (dC, dI) vwCl [] t.heap ∧ va_K (dC, dI) vwCl (tyA dA) t ∧ va_D A []) u) u
abbrev QmetJ7_min_3 (dC : Nat → ClassId) (dI : Nat → Nat → Nat) (dA : Nat → ClassId) (A : Nat → Prop)  (x : Int) (y : Int) := va_Ql (fun (rt_ : Int64) => fun (u : Int) => (fun (z : Int) => rt_ = L6 z ∧ (z = if y < x then y else x)) u) (BmetJ7_min_3 dC dI dA A x y) A
set_option maxHeartbeats 1000000 in
set_option maxRecDepth 100000 in
theorem metJ7_min_3 (l : Launch) (dC : Nat → ClassId) (dI : Nat → Nat → Nat) (dA : Nat → ClassId)  (sz : Nat) (x : Int) (y : Int) (hx6 : In6 x) (hy6 : In6 y) : Met l yJ7_min_3 (ws_ yJ7_min_3 cJ7_min_3 4 (some .long)) ({ frames := 1, cells := 0, slots := 0, locals := 40 }) (va_Pc [.long (L6 x), .long (L6 y)] (fun U => U.heap.size = sz ∧ va_P (dC, dI) vwCl [] U.heap ∧ va_K (dC, dI) vwCl (tyA dA) U ∧ va_D (fun _ => True) [])) (QmetJ7_min_3 dC dI dA (va_A [] sz) x y) 0 0 (va_A [] sz) := by
  refine va_MetF (cc := cJ7_min_3) (maxL := 4) (ret := (some .long)) (by decide +kernel) rfl ?_
  intro p e s m args below meth c s₁ B hml hv
  obtain ⟨rfl, hsz, hP, hK, hD0⟩ := hv
  have hx := B.exec
  have hb := B.bytes
  have hr := B.returns
  have hts := atoms_spec (ws := (ws_ yJ7_min_3 cJ7_min_3 4 (some .long))) B.pre
  have hts : ∀ w ∈ lw_all, w.before _ s = true := fun w h => hts w (List.mem_cons_of_mem _ h)
  have hown : s.vm.findClass RJ7 = some m.cls := findClass_of_methodNamed B.named
  have hlocks := B.notSynchronized
  subst hsz
  have hD := hD0.self (sz := s.heap.size)
  generalize hAe : va_A [] s.heap.size = A at hD ⊢
  have hA : ∀ q : Nat, s.heap.size ≤ q → A q := fun q h => by rw [← hAe]; exact Or.inr h
  have hS : va_S A s.heap s.heap [] := va_S.rf
  have hP : va_P (dC, dI) vwCl [] s.heap := hP
  have hl := lv_entry ([.long (L6 x), .long (L6 y)]) (n := 4) (Nat.le_of_ble_eq_true rfl)
  rw [lg_entry_eq]
  generalize (lg_sl ([.long (L6 x), .long (L6 y)]) ++ List.replicate (4 - (lg_sl ([.long (L6 x), .long (L6 y)])).length) Slot.unset).toArray = ls at hl ⊢
  have hl : lv_has ls 4 [(0, .long (L6 x)), (2, .long (L6 y))] := hl
  refine lv_lload_n hx hb dJ7_min_3_0 rfl (lv_at hl 0 rfl) ?_
  refine lv_lload_n hx hb dJ7_min_3_1 rfl (lv_at hl 1 rfl) ?_
  refine ix_lcmp_gt (tgt := 10) hx hb (by first | assumption | decide | (constructor <;> omega)) (by first | assumption | decide | (constructor <;> omega)) dJ7_min_3_2 dJ7_min_3_3 (by decide) (fun c_2 => ?_) (fun c_2 => ?_)
  · skip
    refine lv_lload_n hx hb dJ7_min_3_10 rfl (lv_at hl 1 rfl) ?_
    have o_1 : y = if y < x then y else x := by first | (rw [if_pos (by omega)]; done) | (rw [if_neg (by omega)]; done)
    exact W.lret (v := L6 y) hx hb hr (fun t ht hW => ⟨⟨L6 y, y, rfl, ⟨rfl, o_1⟩, by rw [ht]; exact hP, va_K.moved hW.alike hK, hD⟩, hS.F ht⟩) hS.2.2 dJ7_min_3_11
  · skip
    refine lv_lload_n hx hb dJ7_min_3_6 rfl (lv_at hl 0 rfl) ?_
    refine lv_goto (tgt := 11) hx hb dJ7_min_3_7 (by decide) ?_
    have o_2 : x = if y < x then y else x := by first | (rw [if_pos (by omega)]; done) | (rw [if_neg (by omega)]; done)
    exact W.lret (v := L6 x) hx hb hr (fun t ht hW => ⟨⟨L6 x, x, rfl, ⟨rfl, o_2⟩, by rw [ht]; exact hP, va_K.moved hW.alike hK, hD⟩, hS.F ht⟩) hS.2.2 dJ7_min_3_11
