/-! the directions -/
set_option maxRecDepth 100000
abbrev yX4_goes_ : MethodName := ⟨RX4, "goes", "(ZZI)Z"⟩
abbrev BmetX2_goes (dC : Nat → ClassId) (dI : Nat → Nat → Nat) (dA : Nat → ClassId) (A : Nat → Prop) (ag : Nat) (bl_ : Int) (od : Int) (lf : Int) : Int → State → Prop := fun u t => (fun (u : Int) => (fun (z : Int) => va_P (dC, dI) vwCl [(ag, .inr (4, []))] t.heap ∧ va_K (dC, dI) vwCl (tyA dA) t ∧ va_D A [(ag, .inr (4, []))]) u) u
abbrev QmetX2_goes (dC : Nat → ClassId) (dI : Nat → Nat → Nat) (dA : Nat → ClassId) (A : Nat → Prop) (ag : Nat) (bl_ : Int) (od : Int) (lf : Int) := va_Qi (fun (rt_ : Int32) => fun (u : Int) => (fun (z : Int) => rt_ = I3 z ∧ (z = if 0 < lf ∨ lf = 0 ∧ od = 1 then 1 else 0)) u) (BmetX2_goes dC dI dA A ag bl_ od lf) A
set_option maxHeartbeats 1000000 in
set_option maxRecDepth 100000 in
theorem metX2_goes (l : Launch) (dC : Nat → ClassId) (dI : Nat → Nat → Nat) (dA : Nat → ClassId) (ag : Nat) (sz : Nat) (bl_ : Int) (od : Int) (lf : Int) (hb1 : bl_ = 0 ∨ bl_ = 1) (ho1 : od = 0 ∨ od = 1) (hlf : In3 lf) : Met l yX2_goes (ws_ yX2_goes cX2_goes 4 (some .boolean)) ({ frames := 1, cells := 0, slots := 0, locals := 40 }) (va_Pc [.ref ag, .int (I3 bl_), .int (I3 od), .int (I3 lf)] (fun U => U.heap.size = sz ∧ va_P (dC, dI) vwCl [(ag, .inr (4, []))] U.heap ∧ va_K (dC, dI) vwCl (tyA dA) U ∧ va_D (fun _ => True) [(ag, .inr (4, []))])) (QmetX2_goes dC dI dA (va_A [(ag, .inr (4, []))] sz) ag bl_ od lf) 0 0 (va_A [(ag, .inr (4, []))] sz) := by
  refine Met.ofW (cc := cX2_goes) (maxL := 4) (ret := (some .boolean)) (by decide) rfl ?_
  intro p e s m args below meth c s₁ B hml hv
  obtain ⟨rfl, hsz, hP, hK, hD0⟩ := hv
  have hx := B.exec
  have hb := B.bytes
  have hr := B.returns
  have hts := atoms_spec (ws := (ws_ yX2_goes cX2_goes 4 (some .boolean))) B.pre
  have hts : ∀ w ∈ lw_all, w.before _ s = true := fun w h => hts w (List.mem_cons_of_mem _ h)
  have hown : s.vm.findClass RX2 = some m.cls := findClass_of_methodNamed B.named
  have hlocks := B.notSynchronized
  subst hsz
  have hD := hD0.self (sz := s.heap.size)
  generalize hAe : va_A [(ag, .inr (4, []))] s.heap.size = A at hD ⊢
  have hA : ∀ q : Nat, s.heap.size ≤ q → A q := fun q h => by rw [← hAe]; exact Or.inr h
  have hS : va_S A s.heap s.heap [] := va_S.rf
  have hP : va_P (dC, dI) vwCl [(ag, .inr (4, []))] s.heap := hP
  have hl := lv_entry ([.ref ag, .int (I3 bl_), .int (I3 od), .int (I3 lf)]) (n := 4) (Nat.le_of_ble_eq_true rfl)
  rw [lg_entry_eq]
  generalize (lg_sl ([.ref ag, .int (I3 bl_), .int (I3 od), .int (I3 lf)]) ++ List.replicate (4 - (lg_sl ([.ref ag, .int (I3 bl_), .int (I3 od), .int (I3 lf)])).length) Slot.unset).toArray = ls at hl ⊢
  have hl : lv_has ls 4 [(0, .ref ag), (1, .int (I3 bl_)), (2, .int (I3 od)), (3, .int (I3 lf))] := hl
  refine lv_iload_n hx hb dX2_goes_0 rfl (lv_at hl 3 rfl) ?_
  refine ix_if_gt (tgt := 12) hx hb (by first | assumption | decide | (constructor <;> omega)) dX2_goes_1 (by decide) (fun c_1 => ?_) (fun c_1 => ?_)
  · skip
    refine lv_iconst (v := I3 (1)) hx hb dX2_goes_12 rfl ?_
    refine lv_goto (tgt := 17) hx hb dX2_goes_13 (by decide) ?_
    have o_1 : (1 : Int) = if 0 < lf ∨ lf = 0 ∧ od = 1 then 1 else 0 := by first | (rw [if_pos (by omega)]; done) | (rw [if_neg (by omega)]; done)
    exact W.zret (v := I3 1) hx hb hr rfl (fun t ht hW => ⟨⟨I3 1, 1, rfl, ⟨rfl, o_1⟩, by rw [ht]; exact hP, va_K.moved hW.alike hK, hD⟩, hS.F ht⟩) hS.2.2 dX2_goes_17
  · skip
    refine lv_iload_n hx hb dX2_goes_4 rfl (lv_at hl 3 rfl) ?_
    refine ix_if_ne (tgt := 16) hx hb (by first | assumption | decide | (constructor <;> omega)) dX2_goes_5 (by decide) (fun c_5 => ?_) (fun c_5 => ?_)
    · skip
      refine lv_iconst (v := I3 (0)) hx hb dX2_goes_16 rfl ?_
      have o_2 : (0 : Int) = if 0 < lf ∨ lf = 0 ∧ od = 1 then 1 else 0 := by first | (rw [if_pos (by omega)]; done) | (rw [if_neg (by omega)]; done)
      exact W.zret (v := I3 0) hx hb hr rfl (fun t ht hW => ⟨⟨I3 0, 0, rfl, ⟨rfl, o_2⟩, by rw [ht]; exact hP, va_K.moved hW.alike hK, hD⟩, hS.F ht⟩) hS.2.2 dX2_goes_17
    · skip
      refine lv_iload_n hx hb dX2_goes_8 rfl (lv_at hl 2 rfl) ?_
      refine ix_if_eq (tgt := 16) hx hb (by first | assumption | decide | (constructor <;> omega)) dX2_goes_9 (by decide) (fun c_9 => ?_) (fun c_9 => ?_)
      · skip
        refine lv_iconst (v := I3 (0)) hx hb dX2_goes_16 rfl ?_
        have o_3 : (0 : Int) = if 0 < lf ∨ lf = 0 ∧ od = 1 then 1 else 0 := by first | (rw [if_pos (by omega)]; done) | (rw [if_neg (by omega)]; done)
        exact W.zret (v := I3 0) hx hb hr rfl (fun t ht hW => ⟨⟨I3 0, 0, rfl, ⟨rfl, o_3⟩, by rw [ht]; exact hP, va_K.moved hW.alike hK, hD⟩, hS.F ht⟩) hS.2.2 dX2_goes_17
      · skip
        refine lv_iconst (v := I3 (1)) hx hb dX2_goes_12 rfl ?_
        refine lv_goto (tgt := 17) hx hb dX2_goes_13 (by decide) ?_
        have o_4 : (1 : Int) = if 0 < lf ∨ lf = 0 ∧ od = 1 then 1 else 0 := by first | (rw [if_pos (by omega)]; done) | (rw [if_neg (by omega)]; done)
        exact W.zret (v := I3 1) hx hb hr rfl (fun t ht hW => ⟨⟨I3 1, 1, rfl, ⟨rfl, o_4⟩, by rw [ht]; exact hP, va_K.moved hW.alike hK, hD⟩, hS.F ht⟩) hS.2.2 dX2_goes_17
abbrev BmetX10_goes (dC : Nat → ClassId) (dI : Nat → Nat → Nat) (dA : Nat → ClassId) (A : Nat → Prop) (ag : Nat) (bl_ : Int) (od : Int) (lf : Int) : Int → State → Prop := fun u t => (fun (u : Int) => (fun (z : Int) => va_P (dC, dI) vwCl [(ag, .inr (7, []))] t.heap ∧ va_K (dC, dI) vwCl (tyA dA) t ∧ va_D A [(ag, .inr (7, []))]) u) u
abbrev QmetX10_goes (dC : Nat → ClassId) (dI : Nat → Nat → Nat) (dA : Nat → ClassId) (A : Nat → Prop) (ag : Nat) (bl_ : Int) (od : Int) (lf : Int) := va_Qi (fun (rt_ : Int32) => fun (u : Int) => (fun (z : Int) => rt_ = I3 z ∧ (z = 0)) u) (BmetX10_goes dC dI dA A ag bl_ od lf) A
set_option maxHeartbeats 1000000 in
set_option maxRecDepth 100000 in
theorem metX10_goes (l : Launch) (dC : Nat → ClassId) (dI : Nat → Nat → Nat) (dA : Nat → ClassId) (ag : Nat) (sz : Nat) (bl_ : Int) (od : Int) (lf : Int) (hb1 : bl_ = 0 ∨ bl_ = 1) (ho1 : od = 0 ∨ od = 1) (hlf : In3 lf) : Met l yX10_goes (ws_ yX10_goes cX10_goes 4 (some .boolean)) ({ frames := 1, cells := 0, slots := 0, locals := 40 }) (va_Pc [.ref ag, .int (I3 bl_), .int (I3 od), .int (I3 lf)] (fun U => U.heap.size = sz ∧ va_P (dC, dI) vwCl [(ag, .inr (7, []))] U.heap ∧ va_K (dC, dI) vwCl (tyA dA) U ∧ va_D (fun _ => True) [(ag, .inr (7, []))])) (QmetX10_goes dC dI dA (va_A [(ag, .inr (7, []))] sz) ag bl_ od lf) 0 0 (va_A [(ag, .inr (7, []))] sz) := by
  refine Met.ofW (cc := cX10_goes) (maxL := 4) (ret := (some .boolean)) (by decide) rfl ?_
  intro p e s m args below meth c s₁ B hml hv
  obtain ⟨rfl, hsz, hP, hK, hD0⟩ := hv
  have hx := B.exec
  have hb := B.bytes
  have hr := B.returns
  have hts := atoms_spec (ws := (ws_ yX10_goes cX10_goes 4 (some .boolean))) B.pre
  have hts : ∀ w ∈ lw_all, w.before _ s = true := fun w h => hts w (List.mem_cons_of_mem _ h)
  have hown : s.vm.findClass RX10 = some m.cls := findClass_of_methodNamed B.named
  have hlocks := B.notSynchronized
  subst hsz
  have hD := hD0.self (sz := s.heap.size)
  generalize hAe : va_A [(ag, .inr (7, []))] s.heap.size = A at hD ⊢
  have hA : ∀ q : Nat, s.heap.size ≤ q → A q := fun q h => by rw [← hAe]; exact Or.inr h
  have hS : va_S A s.heap s.heap [] := va_S.rf
  have hP : va_P (dC, dI) vwCl [(ag, .inr (7, []))] s.heap := hP
  have hl := lv_entry ([.ref ag, .int (I3 bl_), .int (I3 od), .int (I3 lf)]) (n := 4) (Nat.le_of_ble_eq_true rfl)
  rw [lg_entry_eq]
  generalize (lg_sl ([.ref ag, .int (I3 bl_), .int (I3 od), .int (I3 lf)]) ++ List.replicate (4 - (lg_sl ([.ref ag, .int (I3 bl_), .int (I3 od), .int (I3 lf)])).length) Slot.unset).toArray = ls at hl ⊢
  have hl : lv_has ls 4 [(0, .ref ag), (1, .int (I3 bl_)), (2, .int (I3 od)), (3, .int (I3 lf))] := hl
  refine lv_iconst (v := I3 (0)) hx hb dX10_goes_0 rfl ?_
  have o_1 : (0 : Int) = 0 := by first | assumption | omega | (constructor <;> omega)
  exact W.zret (v := I3 0) hx hb hr rfl (fun t ht hW => ⟨⟨I3 0, 0, rfl, ⟨rfl, o_1⟩, by rw [ht]; exact hP, va_K.moved hW.alike hK, hD⟩, hS.F ht⟩) hS.2.2 dX10_goes_1
abbrev BmetX4_isFor (dC : Nat → ClassId) (dI : Nat → Nat → Nat) (dA : Nat → ClassId) (A : Nat → Prop) (ag : Nat) (bl_ : Int) : Int → State → Prop := fun u t => (fun (u : Int) => (fun (z : Int) => va_P (dC, dI) vwCl [(ag, .inr (5, []))] t.heap ∧ va_K (dC, dI) vwCl (tyA dA) t ∧ va_D A [(ag, .inr (5, []))]) u) u
abbrev QmetX4_isFor (dC : Nat → ClassId) (dI : Nat → Nat → Nat) (dA : Nat → ClassId) (A : Nat → Prop) (ag : Nat) (bl_ : Int) := va_Qi (fun (rt_ : Int32) => fun (u : Int) => (fun (z : Int) => rt_ = I3 z ∧ (z = 1 - bl_)) u) (BmetX4_isFor dC dI dA A ag bl_) A
set_option maxHeartbeats 1000000 in
set_option maxRecDepth 100000 in
theorem metX4_isFor (l : Launch) (dC : Nat → ClassId) (dI : Nat → Nat → Nat) (dA : Nat → ClassId) (ag : Nat) (sz : Nat) (bl_ : Int) (hb1 : bl_ = 0 ∨ bl_ = 1) : Met l yX4_isFor (ws_ yX4_isFor cX4_isFor 2 (some .boolean)) ({ frames := 1, cells := 0, slots := 0, locals := 40 }) (va_Pc [.ref ag, .int (I3 bl_)] (fun U => U.heap.size = sz ∧ va_P (dC, dI) vwCl [(ag, .inr (5, []))] U.heap ∧ va_K (dC, dI) vwCl (tyA dA) U ∧ va_D (fun _ => True) [(ag, .inr (5, []))])) (QmetX4_isFor dC dI dA (va_A [(ag, .inr (5, []))] sz) ag bl_) 0 0 (va_A [(ag, .inr (5, []))] sz) := by
  refine Met.ofW (cc := cX4_isFor) (maxL := 2) (ret := (some .boolean)) (by decide) rfl ?_
  intro p e s m args below meth c s₁ B hml hv
  obtain ⟨rfl, hsz, hP, hK, hD0⟩ := hv
  have hx := B.exec
  have hb := B.bytes
  have hr := B.returns
  have hts := atoms_spec (ws := (ws_ yX4_isFor cX4_isFor 2 (some .boolean))) B.pre
  have hts : ∀ w ∈ lw_all, w.before _ s = true := fun w h => hts w (List.mem_cons_of_mem _ h)
  have hown : s.vm.findClass RX4 = some m.cls := findClass_of_methodNamed B.named
  have hlocks := B.notSynchronized
  subst hsz
  have hD := hD0.self (sz := s.heap.size)
  generalize hAe : va_A [(ag, .inr (5, []))] s.heap.size = A at hD ⊢
  have hA : ∀ q : Nat, s.heap.size ≤ q → A q := fun q h => by rw [← hAe]; exact Or.inr h
  have hS : va_S A s.heap s.heap [] := va_S.rf
  have hP : va_P (dC, dI) vwCl [(ag, .inr (5, []))] s.heap := hP
  have hl := lv_entry ([.ref ag, .int (I3 bl_)]) (n := 2) (Nat.le_of_ble_eq_true rfl)
  rw [lg_entry_eq]
  generalize (lg_sl ([.ref ag, .int (I3 bl_)]) ++ List.replicate (2 - (lg_sl ([.ref ag, .int (I3 bl_)])).length) Slot.unset).toArray = ls at hl ⊢
  have hl : lv_has ls 2 [(0, .ref ag), (1, .int (I3 bl_))] := hl
  refine lv_iload_n hx hb dX4_isFor_0 rfl (lv_at hl 1 rfl) ?_
  refine ix_if_ne (tgt := 8) hx hb (by first | assumption | decide | (constructor <;> omega)) dX4_isFor_1 (by decide) (fun c_1 => ?_) (fun c_1 => ?_)
  · skip
    refine lv_iconst (v := I3 (0)) hx hb dX4_isFor_8 rfl ?_
    have o_1 : (0 : Int) = 1 - bl_ := by first | assumption | omega | (constructor <;> omega)
    exact W.zret (v := I3 0) hx hb hr rfl (fun t ht hW => ⟨⟨I3 0, 0, rfl, ⟨rfl, o_1⟩, by rw [ht]; exact hP, va_K.moved hW.alike hK, hD⟩, hS.F ht⟩) hS.2.2 dX4_isFor_9
  · skip
    refine lv_iconst (v := I3 (1)) hx hb dX4_isFor_4 rfl ?_
    refine lv_goto (tgt := 9) hx hb dX4_isFor_5 (by decide) ?_
    have o_2 : (1 : Int) = 1 - bl_ := by first | assumption | omega | (constructor <;> omega)
    exact W.zret (v := I3 1) hx hb hr rfl (fun t ht hW => ⟨⟨I3 1, 1, rfl, ⟨rfl, o_2⟩, by rw [ht]; exact hP, va_K.moved hW.alike hK, hD⟩, hS.F ht⟩) hS.2.2 dX4_isFor_9
abbrev BmetX4_isForD (dC : Nat → ClassId) (dI : Nat → Nat → Nat) (dA : Nat → ClassId) (A : Nat → Prop) (ag : Nat) (bl_ : Int) : Int → State → Prop := fun u t => (fun (u : Int) => (fun (z : Int) => va_P (dC, dI) vwCl [(ag, .inr (6, []))] t.heap ∧ va_K (dC, dI) vwCl (tyA dA) t ∧ va_D A [(ag, .inr (6, []))]) u) u
abbrev QmetX4_isForD (dC : Nat → ClassId) (dI : Nat → Nat → Nat) (dA : Nat → ClassId) (A : Nat → Prop) (ag : Nat) (bl_ : Int) := va_Qi (fun (rt_ : Int32) => fun (u : Int) => (fun (z : Int) => rt_ = I3 z ∧ (z = 1 - bl_)) u) (BmetX4_isForD dC dI dA A ag bl_) A
set_option maxHeartbeats 1000000 in
set_option maxRecDepth 100000 in
theorem metX4_isForD (l : Launch) (dC : Nat → ClassId) (dI : Nat → Nat → Nat) (dA : Nat → ClassId) (ag : Nat) (sz : Nat) (bl_ : Int) (hb1 : bl_ = 0 ∨ bl_ = 1) : Met l yX4_isFor (ws_ yX4_isFor cX4_isFor 2 (some .boolean)) ({ frames := 1, cells := 0, slots := 0, locals := 40 }) (va_Pc [.ref ag, .int (I3 bl_)] (fun U => U.heap.size = sz ∧ va_P (dC, dI) vwCl [(ag, .inr (6, []))] U.heap ∧ va_K (dC, dI) vwCl (tyA dA) U ∧ va_D (fun _ => True) [(ag, .inr (6, []))])) (QmetX4_isForD dC dI dA (va_A [(ag, .inr (6, []))] sz) ag bl_) 0 0 (va_A [(ag, .inr (6, []))] sz) := by
  refine Met.ofW (cc := cX4_isFor) (maxL := 2) (ret := (some .boolean)) (by decide) rfl ?_
  intro p e s m args below meth c s₁ B hml hv
  obtain ⟨rfl, hsz, hP, hK, hD0⟩ := hv
  have hx := B.exec
  have hb := B.bytes
  have hr := B.returns
  have hts := atoms_spec (ws := (ws_ yX4_isFor cX4_isFor 2 (some .boolean))) B.pre
  have hts : ∀ w ∈ lw_all, w.before _ s = true := fun w h => hts w (List.mem_cons_of_mem _ h)
  have hown : s.vm.findClass RX4 = some m.cls := findClass_of_methodNamed B.named
  have hlocks := B.notSynchronized
  subst hsz
  have hD := hD0.self (sz := s.heap.size)
  generalize hAe : va_A [(ag, .inr (6, []))] s.heap.size = A at hD ⊢
  have hA : ∀ q : Nat, s.heap.size ≤ q → A q := fun q h => by rw [← hAe]; exact Or.inr h
  have hS : va_S A s.heap s.heap [] := va_S.rf
  have hP : va_P (dC, dI) vwCl [(ag, .inr (6, []))] s.heap := hP
  have hl := lv_entry ([.ref ag, .int (I3 bl_)]) (n := 2) (Nat.le_of_ble_eq_true rfl)
  rw [lg_entry_eq]
  generalize (lg_sl ([.ref ag, .int (I3 bl_)]) ++ List.replicate (2 - (lg_sl ([.ref ag, .int (I3 bl_)])).length) Slot.unset).toArray = ls at hl ⊢
  have hl : lv_has ls 2 [(0, .ref ag), (1, .int (I3 bl_))] := hl
  refine lv_iload_n hx hb dX4_isFor_0 rfl (lv_at hl 1 rfl) ?_
  refine ix_if_ne (tgt := 8) hx hb (by first | assumption | decide | (constructor <;> omega)) dX4_isFor_1 (by decide) (fun c_1 => ?_) (fun c_1 => ?_)
  · skip
    refine lv_iconst (v := I3 (0)) hx hb dX4_isFor_8 rfl ?_
    have o_1 : (0 : Int) = 1 - bl_ := by first | assumption | omega | (constructor <;> omega)
    exact W.zret (v := I3 0) hx hb hr rfl (fun t ht hW => ⟨⟨I3 0, 0, rfl, ⟨rfl, o_1⟩, by rw [ht]; exact hP, va_K.moved hW.alike hK, hD⟩, hS.F ht⟩) hS.2.2 dX4_isFor_9
  · skip
    refine lv_iconst (v := I3 (1)) hx hb dX4_isFor_4 rfl ?_
    refine lv_goto (tgt := 9) hx hb dX4_isFor_5 (by decide) ?_
    have o_2 : (1 : Int) = 1 - bl_ := by first | assumption | omega | (constructor <;> omega)
    exact W.zret (v := I3 1) hx hb hr rfl (fun t ht hW => ⟨⟨I3 1, 1, rfl, ⟨rfl, o_2⟩, by rw [ht]; exact hP, va_K.moved hW.alike hK, hD⟩, hS.F ht⟩) hS.2.2 dX4_isFor_9
abbrev BmetX5_isFor (dC : Nat → ClassId) (dI : Nat → Nat → Nat) (dA : Nat → ClassId) (A : Nat → Prop) (ag : Nat) (bl_ : Int) : Int → State → Prop := fun u t => (fun (u : Int) => (fun (z : Int) => va_P (dC, dI) vwCl [(ag, .inr (6, []))] t.heap ∧ va_K (dC, dI) vwCl (tyA dA) t ∧ va_D A [(ag, .inr (6, []))]) u) u
abbrev QmetX5_isFor (dC : Nat → ClassId) (dI : Nat → Nat → Nat) (dA : Nat → ClassId) (A : Nat → Prop) (ag : Nat) (bl_ : Int) := va_Qi (fun (rt_ : Int32) => fun (u : Int) => (fun (z : Int) => rt_ = I3 z ∧ (z = bl_)) u) (BmetX5_isFor dC dI dA A ag bl_) A
set_option maxHeartbeats 1000000 in
set_option maxRecDepth 100000 in
theorem metX5_isFor (l : Launch) (dC : Nat → ClassId) (dI : Nat → Nat → Nat) (dA : Nat → ClassId) (ag : Nat) (sz : Nat) (bl_ : Int) (hb1 : bl_ = 0 ∨ bl_ = 1) : Met l yX5_isFor (ws_ yX5_isFor cX5_isFor 2 (some .boolean)) ({ frames := 2, cells := 0, slots := 0, locals := 80 }) (va_Pc [.ref ag, .int (I3 bl_)] (fun U => U.heap.size = sz ∧ va_P (dC, dI) vwCl [(ag, .inr (6, []))] U.heap ∧ va_K (dC, dI) vwCl (tyA dA) U ∧ va_D (fun _ => True) [(ag, .inr (6, []))])) (QmetX5_isFor dC dI dA (va_A [(ag, .inr (6, []))] sz) ag bl_) 0 0 (va_A [(ag, .inr (6, []))] sz) := by
  refine Met.ofW (cc := cX5_isFor) (maxL := 2) (ret := (some .boolean)) (by decide) rfl ?_
  intro p e s m args below meth c s₁ B hml hv
  obtain ⟨rfl, hsz, hP, hK, hD0⟩ := hv
  have hx := B.exec
  have hb := B.bytes
  have hr := B.returns
  have hts := atoms_spec (ws := (ws_ yX5_isFor cX5_isFor 2 (some .boolean))) B.pre
  have hts : ∀ w ∈ lw_all, w.before _ s = true := fun w h => hts w (List.mem_cons_of_mem _ h)
  have hown : s.vm.findClass RX5 = some m.cls := findClass_of_methodNamed B.named
  have hlocks := B.notSynchronized
  subst hsz
  have hD := hD0.self (sz := s.heap.size)
  generalize hAe : va_A [(ag, .inr (6, []))] s.heap.size = A at hD ⊢
  have hA : ∀ q : Nat, s.heap.size ≤ q → A q := fun q h => by rw [← hAe]; exact Or.inr h
  have hS : va_S A s.heap s.heap [] := va_S.rf
  have hP : va_P (dC, dI) vwCl [(ag, .inr (6, []))] s.heap := hP
  have hl := lv_entry ([.ref ag, .int (I3 bl_)]) (n := 2) (Nat.le_of_ble_eq_true rfl)
  rw [lg_entry_eq]
  generalize (lg_sl ([.ref ag, .int (I3 bl_)]) ++ List.replicate (2 - (lg_sl ([.ref ag, .int (I3 bl_)])).length) Slot.unset).toArray = ls at hl ⊢
  have hl : lv_has ls 2 [(0, .ref ag), (1, .int (I3 bl_))] := hl
  refine lv_aload_n hx hb dX5_isFor_0 rfl (lv_at hl 0 rfl) ?_
  refine lv_iload_n hx hb dX5_isFor_1 rfl (lv_at hl 1 rfl) ?_
  have h_1 : bl_ = 0 ∨ bl_ = 1 := by first | assumption | omega | (constructor <;> omega)
  have hPc := hP.sub (ws' := [(ag, .inr (6, []))]) [0] rfl
  have hDc := hD.sub (ws' := [(ag, .inr (6, []))]) [0] (by decide) rfl
  have hFc := va_free (wc := [(ag, .inr (6, []))]) hD hS hA [0] rfl
  refine va_calli (va_runSU (As := [.int (I3 bl_)]) (rest := []) (hK.1 6 _ rfl).2 ⟨hx, hb, hml, hown, hts⟩ (metX4_isForD l dC dI dA ag s.heap.size bl_ h_1) (va_cwSU 1 hts (lw_app (ac_c q750 (ac_c q1218 (ac_c q119 (ac_c q751 (ac_c q62 (ac_n)))))) (lw_meth q752)) rfl rfl rfl (by decide +kernel) ⟨Nat.le_of_ble_eq_true rfl, Nat.le_of_ble_eq_true rfl⟩) ⟨fun a U g mk q => by obtain ⟨q0, q1, qP, qK, qD⟩ := q; exact ⟨q0, q1, qP, va_K.moved (u := U) (U := U.calling g mk a) (Vm.Alike.refl U.vm) qK, qD⟩, va_recv hK hP (ci := 6) (q0 := 0) rfl rfl, fun U hU hW => ⟨rfl, by rw [hU], by rw [hU]; exact hPc, va_K.moved hW.alike hK, hDc.weaken (fun _ _ _ _ => trivial)⟩⟩ rfl rfl hl.1 rfl (lv_room (Nat.le_of_ble_eq_true rfl)) dX5_isFor_2 ⟨Nat.le_of_ble_eq_true rfl, Nat.le_of_ble_eq_true rfl⟩) hS (fun q _ h => hFc q h) hFc (fun r_2 u t H1 locs ht hvm hw hB hz1 hk1 hS => ?_)
  obtain ⟨z_2, rfl⟩ : ∃ z, z = u := ⟨_, rfl⟩
  obtain ⟨rfl, p0_2⟩ : r_2 = I3 z_2 ∧ (z_2 = 1 - bl_) := hw
  obtain ⟨hP1, hK1, hD1⟩ := hB
  rw [ht] at hP1
  obtain ⟨hP, hD⟩ := va_join (wr := []) (w1 := [(ag, .inr (6, []))]) hP hD [0] [] rfl rfl (by decide) (by decide) hk1 hFc hP1 hD1
  have hP : va_P (dC, dI) vwCl [(ag, .inr (6, []))] H1 := hP
  have hD : va_D A [(ag, .inr (6, []))] := hD
  generalize H1 = H at hP hS ⊢
  refine ix_if_ne (tgt := 12) hx hb (by first | assumption | decide | (constructor <;> omega)) dX5_isFor_5 (by decide) (fun c_5 => ?_) (fun c_5 => ?_)
  · skip
    refine lv_iconst (v := I3 (0)) hx hb dX5_isFor_12 rfl ?_
    have o_2 : (0 : Int) = bl_ := by first | assumption | omega | (constructor <;> omega)
    exact W.zret (v := I3 0) hx hb hr rfl (fun t ht hW => ⟨⟨I3 0, 0, rfl, ⟨rfl, o_2⟩, by rw [ht]; exact hP, va_K.moved hW.alike hK, hD⟩, hS.F ht⟩) hS.2.2 dX5_isFor_13
  · skip
    refine lv_iconst (v := I3 (1)) hx hb dX5_isFor_8 rfl ?_
    refine lv_goto (tgt := 13) hx hb dX5_isFor_9 (by decide) ?_
    have o_3 : (1 : Int) = bl_ := by first | assumption | omega | (constructor <;> omega)
    exact W.zret (v := I3 1) hx hb hr rfl (fun t ht hW => ⟨⟨I3 1, 1, rfl, ⟨rfl, o_3⟩, by rw [ht]; exact hP, va_K.moved hW.alike hK, hD⟩, hS.F ht⟩) hS.2.2 dX5_isFor_13
abbrev BmetX3_goes (dC : Nat → ClassId) (dI : Nat → Nat → Nat) (dA : Nat → ClassId) (A : Nat → Prop) (ag : Nat) (bl_ : Int) (od : Int) (lf : Int) : Int → State → Prop := fun u t => (fun (u : Int) => (fun (z : Int) => va_P (dC, dI) vwCl [(ag, .inr (5, []))] t.heap ∧ va_K (dC, dI) vwCl (tyA dA) t ∧ va_D A [(ag, .inr (5, []))]) u) u
abbrev QmetX3_goes (dC : Nat → ClassId) (dI : Nat → Nat → Nat) (dA : Nat → ClassId) (A : Nat → Prop) (ag : Nat) (bl_ : Int) (od : Int) (lf : Int) := va_Qi (fun (rt_ : Int32) => fun (u : Int) => (fun (z : Int) => rt_ = I3 z ∧ (z = 1 - bl_)) u) (BmetX3_goes dC dI dA A ag bl_ od lf) A
set_option maxHeartbeats 1000000 in
set_option maxRecDepth 100000 in
theorem metX3_goes (l : Launch) (dC : Nat → ClassId) (dI : Nat → Nat → Nat) (dA : Nat → ClassId) (ag : Nat) (sz : Nat) (bl_ : Int) (od : Int) (lf : Int) (hb1 : bl_ = 0 ∨ bl_ = 1) (ho1 : od = 0 ∨ od = 1) (hlf : In3 lf) : Met l yX3_goes (ws_ yX3_goes cX3_goes 4 (some .boolean)) ({ frames := 2, cells := 0, slots := 0, locals := 80 }) (va_Pc [.ref ag, .int (I3 bl_), .int (I3 od), .int (I3 lf)] (fun U => U.heap.size = sz ∧ va_P (dC, dI) vwCl [(ag, .inr (5, []))] U.heap ∧ va_K (dC, dI) vwCl (tyA dA) U ∧ va_D (fun _ => True) [(ag, .inr (5, []))])) (QmetX3_goes dC dI dA (va_A [(ag, .inr (5, []))] sz) ag bl_ od lf) 0 0 (va_A [(ag, .inr (5, []))] sz) := by
  refine Met.ofW (cc := cX3_goes) (maxL := 4) (ret := (some .boolean)) (by decide) rfl ?_
  intro p e s m args below meth c s₁ B hml hv
  obtain ⟨rfl, hsz, hP, hK, hD0⟩ := hv
  have hx := B.exec
  have hb := B.bytes
  have hr := B.returns
  have hts := atoms_spec (ws := (ws_ yX3_goes cX3_goes 4 (some .boolean))) B.pre
  have hts : ∀ w ∈ lw_all, w.before _ s = true := fun w h => hts w (List.mem_cons_of_mem _ h)
  have hown : s.vm.findClass RX3 = some m.cls := findClass_of_methodNamed B.named
  have hlocks := B.notSynchronized
  subst hsz
  have hD := hD0.self (sz := s.heap.size)
  generalize hAe : va_A [(ag, .inr (5, []))] s.heap.size = A at hD ⊢
  have hA : ∀ q : Nat, s.heap.size ≤ q → A q := fun q h => by rw [← hAe]; exact Or.inr h
  have hS : va_S A s.heap s.heap [] := va_S.rf
  have hP : va_P (dC, dI) vwCl [(ag, .inr (5, []))] s.heap := hP
  have hl := lv_entry ([.ref ag, .int (I3 bl_), .int (I3 od), .int (I3 lf)]) (n := 4) (Nat.le_of_ble_eq_true rfl)
  rw [lg_entry_eq]
  generalize (lg_sl ([.ref ag, .int (I3 bl_), .int (I3 od), .int (I3 lf)]) ++ List.replicate (4 - (lg_sl ([.ref ag, .int (I3 bl_), .int (I3 od), .int (I3 lf)])).length) Slot.unset).toArray = ls at hl ⊢
  have hl : lv_has ls 4 [(0, .ref ag), (1, .int (I3 bl_)), (2, .int (I3 od)), (3, .int (I3 lf))] := hl
  refine lv_aload_n hx hb dX3_goes_0 rfl (lv_at hl 0 rfl) ?_
  refine lv_iload_n hx hb dX3_goes_1 rfl (lv_at hl 1 rfl) ?_
  have h_1 : bl_ = 0 ∨ bl_ = 1 := by first | assumption | omega | (constructor <;> omega)
  have hPc := hP.sub (ws' := [(ag, .inr (5, []))]) [0] rfl
  have hDc := hD.sub (ws' := [(ag, .inr (5, []))]) [0] (by decide) rfl
  have hFc := va_free (wc := [(ag, .inr (5, []))]) hD hS hA [0] rfl
  refine va_calli (va_runU (As := [.int (I3 bl_)]) (rest := []) ⟨hx, hb, hml, hown, hts⟩ (metX4_isFor l dC dI dA ag s.heap.size bl_ h_1) (va_cwO 1 hts (lw_app (ac_c q744 (ac_c q746 (ac_c q745 (ac_c q753 (ac_c q751 (ac_c q62 (ac_n))))))) (lw_meth q752)) rfl rfl rfl q754 (by decide +kernel) ⟨Nat.le_of_ble_eq_true rfl, Nat.le_of_ble_eq_true rfl⟩) ⟨fun a U g mk q => by obtain ⟨q0, q1, qP, qK, qD⟩ := q; exact ⟨q0, q1, qP, va_K.moved (u := U) (U := U.calling g mk a) (Vm.Alike.refl U.vm) qK, qD⟩, va_recv hK hP (ci := 5) (q0 := 0) rfl rfl, fun U hU hW => ⟨rfl, by rw [hU], by rw [hU]; exact hPc, va_K.moved hW.alike hK, hDc.weaken (fun _ _ _ _ => trivial)⟩⟩ rfl rfl hl.1 rfl (lv_room (Nat.le_of_ble_eq_true rfl)) dX3_goes_2 ⟨Nat.le_of_ble_eq_true rfl, Nat.le_of_ble_eq_true rfl⟩) hS (fun q _ h => hFc q h) hFc (fun r_2 u t H1 locs ht hvm hw hB hz1 hk1 hS => ?_)
  obtain ⟨z_2, rfl⟩ : ∃ z, z = u := ⟨_, rfl⟩
  obtain ⟨rfl, p0_2⟩ : r_2 = I3 z_2 ∧ (z_2 = 1 - bl_) := hw
  obtain ⟨hP1, hK1, hD1⟩ := hB
  rw [ht] at hP1
  obtain ⟨hP, hD⟩ := va_join (wr := []) (w1 := [(ag, .inr (5, []))]) hP hD [0] [] rfl rfl (by decide) (by decide) hk1 hFc hP1 hD1
  have hP : va_P (dC, dI) vwCl [(ag, .inr (5, []))] H1 := hP
  have hD : va_D A [(ag, .inr (5, []))] := hD
  generalize H1 = H at hP hS ⊢
  have o_2 : z_2 = 1 - bl_ := by first | assumption | omega | (constructor <;> omega)
  exact W.zret (v := I3 z_2) hx hb hr (nar_z (by omega)) (fun t ht hW => ⟨⟨I3 z_2, z_2, rfl, ⟨rfl, o_2⟩, by rw [ht]; exact hP, va_K.moved hW.alike hK, hD⟩, hS.F ht⟩) hS.2.2 dX3_goes_5
abbrev BmetX3_goesD (dC : Nat → ClassId) (dI : Nat → Nat → Nat) (dA : Nat → ClassId) (A : Nat → Prop) (ag : Nat) (bl_ : Int) (od : Int) (lf : Int) : Int → State → Prop := fun u t => (fun (u : Int) => (fun (z : Int) => va_P (dC, dI) vwCl [(ag, .inr (6, []))] t.heap ∧ va_K (dC, dI) vwCl (tyA dA) t ∧ va_D A [(ag, .inr (6, []))]) u) u
abbrev QmetX3_goesD (dC : Nat → ClassId) (dI : Nat → Nat → Nat) (dA : Nat → ClassId) (A : Nat → Prop) (ag : Nat) (bl_ : Int) (od : Int) (lf : Int) := va_Qi (fun (rt_ : Int32) => fun (u : Int) => (fun (z : Int) => rt_ = I3 z ∧ (z = bl_)) u) (BmetX3_goesD dC dI dA A ag bl_ od lf) A
set_option maxHeartbeats 1000000 in
set_option maxRecDepth 100000 in
theorem metX3_goesD (l : Launch) (dC : Nat → ClassId) (dI : Nat → Nat → Nat) (dA : Nat → ClassId) (ag : Nat) (sz : Nat) (bl_ : Int) (od : Int) (lf : Int) (hb1 : bl_ = 0 ∨ bl_ = 1) (ho1 : od = 0 ∨ od = 1) (hlf : In3 lf) : Met l yX3_goes (ws_ yX3_goes cX3_goes 4 (some .boolean)) ({ frames := 3, cells := 0, slots := 0, locals := 120 }) (va_Pc [.ref ag, .int (I3 bl_), .int (I3 od), .int (I3 lf)] (fun U => U.heap.size = sz ∧ va_P (dC, dI) vwCl [(ag, .inr (6, []))] U.heap ∧ va_K (dC, dI) vwCl (tyA dA) U ∧ va_D (fun _ => True) [(ag, .inr (6, []))])) (QmetX3_goesD dC dI dA (va_A [(ag, .inr (6, []))] sz) ag bl_ od lf) 0 0 (va_A [(ag, .inr (6, []))] sz) := by
  refine Met.ofW (cc := cX3_goes) (maxL := 4) (ret := (some .boolean)) (by decide) rfl ?_
  intro p e s m args below meth c s₁ B hml hv
  obtain ⟨rfl, hsz, hP, hK, hD0⟩ := hv
  have hx := B.exec
  have hb := B.bytes
  have hr := B.returns
  have hts := atoms_spec (ws := (ws_ yX3_goes cX3_goes 4 (some .boolean))) B.pre
  have hts : ∀ w ∈ lw_all, w.before _ s = true := fun w h => hts w (List.mem_cons_of_mem _ h)
  have hown : s.vm.findClass RX3 = some m.cls := findClass_of_methodNamed B.named
  have hlocks := B.notSynchronized
  subst hsz
  have hD := hD0.self (sz := s.heap.size)
  generalize hAe : va_A [(ag, .inr (6, []))] s.heap.size = A at hD ⊢
  have hA : ∀ q : Nat, s.heap.size ≤ q → A q := fun q h => by rw [← hAe]; exact Or.inr h
  have hS : va_S A s.heap s.heap [] := va_S.rf
  have hP : va_P (dC, dI) vwCl [(ag, .inr (6, []))] s.heap := hP
  have hl := lv_entry ([.ref ag, .int (I3 bl_), .int (I3 od), .int (I3 lf)]) (n := 4) (Nat.le_of_ble_eq_true rfl)
  rw [lg_entry_eq]
  generalize (lg_sl ([.ref ag, .int (I3 bl_), .int (I3 od), .int (I3 lf)]) ++ List.replicate (4 - (lg_sl ([.ref ag, .int (I3 bl_), .int (I3 od), .int (I3 lf)])).length) Slot.unset).toArray = ls at hl ⊢
  have hl : lv_has ls 4 [(0, .ref ag), (1, .int (I3 bl_)), (2, .int (I3 od)), (3, .int (I3 lf))] := hl
  refine lv_aload_n hx hb dX3_goes_0 rfl (lv_at hl 0 rfl) ?_
  refine lv_iload_n hx hb dX3_goes_1 rfl (lv_at hl 1 rfl) ?_
  have h_1 : bl_ = 0 ∨ bl_ = 1 := by first | assumption | omega | (constructor <;> omega)
  have hPc := hP.sub (ws' := [(ag, .inr (6, []))]) [0] rfl
  have hDc := hD.sub (ws' := [(ag, .inr (6, []))]) [0] (by decide) rfl
  have hFc := va_free (wc := [(ag, .inr (6, []))]) hD hS hA [0] rfl
  refine va_calli (va_runU (As := [.int (I3 bl_)]) (rest := []) ⟨hx, hb, hml, hown, hts⟩ (metX5_isFor l dC dI dA ag s.heap.size bl_ h_1) (va_cwO 1 hts (lw_app (ac_c q744 (ac_c q746 (ac_c q745 (ac_c q747 (ac_c q748 (ac_c q63 (ac_n))))))) (lw_meth q749)) rfl rfl rfl q754 (by decide +kernel) ⟨Nat.le_of_ble_eq_true rfl, Nat.le_of_ble_eq_true rfl⟩) ⟨fun a U g mk q => by obtain ⟨q0, q1, qP, qK, qD⟩ := q; exact ⟨q0, q1, qP, va_K.moved (u := U) (U := U.calling g mk a) (Vm.Alike.refl U.vm) qK, qD⟩, va_recv hK hP (ci := 6) (q0 := 0) rfl rfl, fun U hU hW => ⟨rfl, by rw [hU], by rw [hU]; exact hPc, va_K.moved hW.alike hK, hDc.weaken (fun _ _ _ _ => trivial)⟩⟩ rfl rfl hl.1 rfl (lv_room (Nat.le_of_ble_eq_true rfl)) dX3_goes_2 ⟨Nat.le_of_ble_eq_true rfl, Nat.le_of_ble_eq_true rfl⟩) hS (fun q _ h => hFc q h) hFc (fun r_2 u t H1 locs ht hvm hw hB hz1 hk1 hS => ?_)
  obtain ⟨z_2, rfl⟩ : ∃ z, z = u := ⟨_, rfl⟩
  obtain ⟨rfl, p0_2⟩ : r_2 = I3 z_2 ∧ (z_2 = bl_) := hw
  obtain ⟨hP1, hK1, hD1⟩ := hB
  rw [ht] at hP1
  obtain ⟨hP, hD⟩ := va_join (wr := []) (w1 := [(ag, .inr (6, []))]) hP hD [0] [] rfl rfl (by decide) (by decide) hk1 hFc hP1 hD1
  have hP : va_P (dC, dI) vwCl [(ag, .inr (6, []))] H1 := hP
  have hD : va_D A [(ag, .inr (6, []))] := hD
  generalize H1 = H at hP hS ⊢
  have o_2 : z_2 = bl_ := by first | assumption | omega | (constructor <;> omega)
  exact W.zret (v := I3 z_2) hx hb hr (nar_z (by omega)) (fun t ht hW => ⟨⟨I3 z_2, z_2, rfl, ⟨rfl, o_2⟩, by rw [ht]; exact hP, va_K.moved hW.alike hK, hD⟩, hS.F ht⟩) hS.2.2 dX3_goes_5
abbrev BmetX5_goes (dC : Nat → ClassId) (dI : Nat → Nat → Nat) (dA : Nat → ClassId) (A : Nat → Prop) (ag : Nat) (bl_ : Int) (od : Int) (lf : Int) : Int → State → Prop := fun u t => (fun (u : Int) => (fun (z : Int) => va_P (dC, dI) vwCl [(ag, .inr (6, []))] t.heap ∧ va_K (dC, dI) vwCl (tyA dA) t ∧ va_D A [(ag, .inr (6, []))]) u) u
abbrev QmetX5_goes (dC : Nat → ClassId) (dI : Nat → Nat → Nat) (dA : Nat → ClassId) (A : Nat → Prop) (ag : Nat) (bl_ : Int) (od : Int) (lf : Int) := va_Qi (fun (rt_ : Int32) => fun (u : Int) => (fun (z : Int) => rt_ = I3 z ∧ (z = bl_)) u) (BmetX5_goes dC dI dA A ag bl_ od lf) A
set_option maxHeartbeats 1000000 in
set_option maxRecDepth 100000 in
theorem metX5_goes (l : Launch) (dC : Nat → ClassId) (dI : Nat → Nat → Nat) (dA : Nat → ClassId) (ag : Nat) (sz : Nat) (bl_ : Int) (od : Int) (lf : Int) (hb1 : bl_ = 0 ∨ bl_ = 1) (ho1 : od = 0 ∨ od = 1) (hlf : In3 lf) : Met l yX5_goes (ws_ yX5_goes cX5_goes 4 (some .boolean)) ({ frames := 4, cells := 0, slots := 0, locals := 160 }) (va_Pc [.ref ag, .int (I3 bl_), .int (I3 od), .int (I3 lf)] (fun U => U.heap.size = sz ∧ va_P (dC, dI) vwCl [(ag, .inr (6, []))] U.heap ∧ va_K (dC, dI) vwCl (tyA dA) U ∧ va_D (fun _ => True) [(ag, .inr (6, []))])) (QmetX5_goes dC dI dA (va_A [(ag, .inr (6, []))] sz) ag bl_ od lf) 0 0 (va_A [(ag, .inr (6, []))] sz) := by
  refine Met.ofW (cc := cX5_goes) (maxL := 4) (ret := (some .boolean)) (by decide) rfl ?_
  intro p e s m args below meth c s₁ B hml hv
  obtain ⟨rfl, hsz, hP, hK, hD0⟩ := hv
  have hx := B.exec
  have hb := B.bytes
  have hr := B.returns
  have hts := atoms_spec (ws := (ws_ yX5_goes cX5_goes 4 (some .boolean))) B.pre
  have hts : ∀ w ∈ lw_all, w.before _ s = true := fun w h => hts w (List.mem_cons_of_mem _ h)
  have hown : s.vm.findClass RX5 = some m.cls := findClass_of_methodNamed B.named
  have hlocks := B.notSynchronized
  subst hsz
  have hD := hD0.self (sz := s.heap.size)
  generalize hAe : va_A [(ag, .inr (6, []))] s.heap.size = A at hD ⊢
  have hA : ∀ q : Nat, s.heap.size ≤ q → A q := fun q h => by rw [← hAe]; exact Or.inr h
  have hS : va_S A s.heap s.heap [] := va_S.rf
  have hP : va_P (dC, dI) vwCl [(ag, .inr (6, []))] s.heap := hP
  have hl := lv_entry ([.ref ag, .int (I3 bl_), .int (I3 od), .int (I3 lf)]) (n := 4) (Nat.le_of_ble_eq_true rfl)
  rw [lg_entry_eq]
  generalize (lg_sl ([.ref ag, .int (I3 bl_), .int (I3 od), .int (I3 lf)]) ++ List.replicate (4 - (lg_sl ([.ref ag, .int (I3 bl_), .int (I3 od), .int (I3 lf)])).length) Slot.unset).toArray = ls at hl ⊢
  have hl : lv_has ls 4 [(0, .ref ag), (1, .int (I3 bl_)), (2, .int (I3 od)), (3, .int (I3 lf))] := hl
  refine lv_aload_n hx hb dX5_goes_0 rfl (lv_at hl 0 rfl) ?_
  refine lv_iload_n hx hb dX5_goes_1 rfl (lv_at hl 1 rfl) ?_
  refine lv_iload_n hx hb dX5_goes_2 rfl (lv_at hl 2 rfl) ?_
  refine lv_iload_n hx hb dX5_goes_3 rfl (lv_at hl 3 rfl) ?_
  have h_1 : bl_ = 0 ∨ bl_ = 1 := by first | assumption | omega | (constructor <;> omega)
  have h_2 : od = 0 ∨ od = 1 := by first | assumption | omega | (constructor <;> omega)
  have h_3 : In3 lf := by first | assumption | (and_intros <;> omega)
  have hPc := hP.sub (ws' := [(ag, .inr (6, []))]) [0] rfl
  have hDc := hD.sub (ws' := [(ag, .inr (6, []))]) [0] (by decide) rfl
  have hFc := va_free (wc := [(ag, .inr (6, []))]) hD hS hA [0] rfl
  refine va_calli (dr_runSU (n := 3) (As := [.int (I3 bl_), .int (I3 od), .int (I3 lf)]) (rest := []) (x := yX4_goes_) (hK.1 6 _ rfl).2 ⟨hx, hb, hml, hown, hts⟩ (metX3_goesD l dC dI dA ag s.heap.size bl_ od lf h_1 h_2 h_3) (hts _ q739) (hts _ q740) (hts _ q119) (hts _ q112) rfl (hts _ q742) (hts _ q743) (hts _ q61) (by decide) (pay_in hts (lw_meth q743)) List.mem_cons_self ⟨rfl, rfl, Nat.le_of_ble_eq_true rfl, Nat.le_of_ble_eq_true rfl⟩ (by decide +kernel) ⟨fun a U g mk q => by obtain ⟨q0, q1, qP, qK, qD⟩ := q; exact ⟨q0, q1, qP, va_K.moved (u := U) (U := U.calling g mk a) (Vm.Alike.refl U.vm) qK, qD⟩, va_recv hK hP (ci := 6) (q0 := 0) rfl rfl, fun U hU hW => ⟨rfl, by rw [hU], by rw [hU]; exact hPc, va_K.moved hW.alike hK, hDc.weaken (fun _ _ _ _ => trivial)⟩⟩ rfl rfl hl.1 rfl (lv_room (Nat.le_of_ble_eq_true rfl)) dX5_goes_4 ⟨Nat.le_of_ble_eq_true rfl, Nat.le_of_ble_eq_true rfl⟩) hS (fun q _ h => hFc q h) hFc (fun r_4 u t H1 locs ht hvm hw hB hz1 hk1 hS => ?_)
  obtain ⟨z_4, rfl⟩ : ∃ z, z = u := ⟨_, rfl⟩
  obtain ⟨rfl, p0_4⟩ : r_4 = I3 z_4 ∧ (z_4 = bl_) := hw
  obtain ⟨hP1, hK1, hD1⟩ := hB
  rw [ht] at hP1
  obtain ⟨hP, hD⟩ := va_join (wr := []) (w1 := [(ag, .inr (6, []))]) hP hD [0] [] rfl rfl (by decide) (by decide) hk1 hFc hP1 hD1
  have hP : va_P (dC, dI) vwCl [(ag, .inr (6, []))] H1 := hP
  have hD : va_D A [(ag, .inr (6, []))] := hD
  generalize H1 = H at hP hS ⊢
  have o_4 : z_4 = bl_ := by first | assumption | omega | (constructor <;> omega)
  exact W.zret (v := I3 z_4) hx hb hr (nar_z (by omega)) (fun t ht hW => ⟨⟨I3 z_4, z_4, rfl, ⟨rfl, o_4⟩, by rw [ht]; exact hP, va_K.moved hW.alike hK, hD⟩, hS.F ht⟩) hS.2.2 dX5_goes_7
