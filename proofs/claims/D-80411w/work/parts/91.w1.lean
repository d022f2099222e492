/-! the whole numbers helpers of the JDK -/
set_option maxRecDepth 100000
abbrev BmetJ6_compare (dC : Nat → ClassId) (dI : Nat → Nat → Nat) (dA : Nat → ClassId) (A : Nat → Prop)  (x : Int) (y : Int) : Int → State → Prop := fun u t => (fun (u : Int) => (fun (z : Int) => va_P (dC, dI) vwCl [] t.heap ∧ va_K (dC, dI) vwCl (tyA dA) t ∧ va_D A []) u) u
abbrev QmetJ6_compare (dC : Nat → ClassId) (dI : Nat → Nat → Nat) (dA : Nat → ClassId) (A : Nat → Prop)  (x : Int) (y : Int) := va_Qi (fun (rt_ : Int32) => fun (u : Int) => (fun (z : Int) => rt_ = I3 z ∧ ((x < y → z = -1) ∧ (x = y → z = 0) ∧ (y < x → z = 1))) u) (BmetJ6_compare dC dI dA A x y) A
set_option maxHeartbeats 1000000 in
set_option maxRecDepth 100000 in
theorem metJ6_compare (l : Launch) (dC : Nat → ClassId) (dI : Nat → Nat → Nat) (dA : Nat → ClassId)  (sz : Nat) (x : Int) (y : Int) (hx3 : In3 x) (hy3 : In3 y) : Met l yJ6_compare (ws_ yJ6_compare cJ6_compare 2 (some .int)) ({ frames := 1, cells := 0, slots := 0, locals := 40 }) (va_Pc [.int (I3 x), .int (I3 y)] (fun U => U.heap.size = sz ∧ va_P (dC, dI) vwCl [] U.heap ∧ va_K (dC, dI) vwCl (tyA dA) U ∧ va_D (fun _ => True) [])) (QmetJ6_compare dC dI dA (va_A [] sz) x y) 0 0 (va_A [] sz) := by
  refine Met.ofW (cc := cJ6_compare) (maxL := 2) (ret := (some .int)) (by decide) rfl ?_
  intro p e s m args below meth c s₁ B hml hv
  obtain ⟨rfl, hsz, hP, hK, hD0⟩ := hv
  have hx := B.exec
  have hb := B.bytes
  have hr := B.returns
  have hts := atoms_spec (ws := (ws_ yJ6_compare cJ6_compare 2 (some .int))) B.pre
  have hts : ∀ w ∈ lw_all, w.before _ s = true := fun w h => hts w (List.mem_cons_of_mem _ h)
  have hown : s.vm.findClass RJ6 = some m.cls := findClass_of_methodNamed B.named
  have hlocks := B.notSynchronized
  subst hsz
  have hD := hD0.self (sz := s.heap.size)
  generalize hAe : va_A [] s.heap.size = A at hD ⊢
  have hA : ∀ q : Nat, s.heap.size ≤ q → A q := fun q h => by rw [← hAe]; exact Or.inr h
  have hS : va_S A s.heap s.heap [] := va_S.rf
  have hP : va_P (dC, dI) vwCl [] s.heap := hP
  have hl := lv_entry ([.int (I3 x), .int (I3 y)]) (n := 2) (Nat.le_of_ble_eq_true rfl)
  rw [lg_entry_eq]
  generalize (lg_sl ([.int (I3 x), .int (I3 y)]) ++ List.replicate (2 - (lg_sl ([.int (I3 x), .int (I3 y)])).length) Slot.unset).toArray = ls at hl ⊢
  have hl : lv_has ls 2 [(0, .int (I3 x)), (1, .int (I3 y))] := hl
  refine lv_iload_n hx hb dJ6_compare_0 rfl (lv_at hl 0 rfl) ?_
  refine lv_iload_n hx hb dJ6_compare_1 rfl (lv_at hl 1 rfl) ?_
  refine ix_icmp_ge (tgt := 9) hx hb (by first | assumption | decide | (constructor <;> omega)) (by first | assumption | decide | (constructor <;> omega)) dJ6_compare_2 (by decide) (fun c_2 => ?_) (fun c_2 => ?_)
  · skip
    refine lv_iload_n hx hb dJ6_compare_9 rfl (lv_at hl 0 rfl) ?_
    refine lv_iload_n hx hb dJ6_compare_10 rfl (lv_at hl 1 rfl) ?_
    refine ix_icmp_ne (tgt := 18) hx hb (by first | assumption | decide | (constructor <;> omega)) (by first | assumption | decide | (constructor <;> omega)) dJ6_compare_11 (by decide) (fun c_11 => ?_) (fun c_11 => ?_)
    · skip
      refine lv_iconst (v := I3 (1)) hx hb dJ6_compare_18 rfl ?_
      have o_1 : (x < y → (1 : Int) = -1) ∧ (x = y → (1 : Int) = 0) ∧ (y < x → (1 : Int) = 1) := by first | assumption | omega | (constructor <;> omega)
      exact W.iret (v := I3 1) hx hb hr (fun t ht hW => ⟨⟨I3 1, 1, rfl, ⟨rfl, o_1⟩, by rw [ht]; exact hP, va_K.moved hW.alike hK, hD⟩, hS.F ht⟩) hS.2.2 dJ6_compare_19
    · skip
      refine lv_iconst (v := I3 (0)) hx hb dJ6_compare_14 rfl ?_
      refine lv_goto (tgt := 19) hx hb dJ6_compare_15 (by decide) ?_
      have o_2 : (x < y → (0 : Int) = -1) ∧ (x = y → (0 : Int) = 0) ∧ (y < x → (0 : Int) = 1) := by first | assumption | omega | (constructor <;> omega)
      exact W.iret (v := I3 0) hx hb hr (fun t ht hW => ⟨⟨I3 0, 0, rfl, ⟨rfl, o_2⟩, by rw [ht]; exact hP, va_K.moved hW.alike hK, hD⟩, hS.F ht⟩) hS.2.2 dJ6_compare_19
  · skip
    refine lv_iconst (v := I3 (-1)) hx hb dJ6_compare_5 rfl ?_
    refine lv_goto (tgt := 19) hx hb dJ6_compare_6 (by decide) ?_
    have o_3 : (x < y → (-1 : Int) = -1) ∧ (x = y → (-1 : Int) = 0) ∧ (y < x → (-1 : Int) = 1) := by first | assumption | omega | (constructor <;> omega)
    exact W.iret (v := I3 (-1)) hx hb hr (fun t ht hW => ⟨⟨I3 (-1), (-1), rfl, ⟨rfl, o_3⟩, by rw [ht]; exact hP, va_K.moved hW.alike hK, hD⟩, hS.F ht⟩) hS.2.2 dJ6_compare_19
abbrev BmetJ6_compareUnsigned (dC : Nat → ClassId) (dI : Nat → Nat → Nat) (dA : Nat → ClassId) (A : Nat → Prop)  (x : Int) (y : Int) : Int → State → Prop := fun u t => (fun (u : Int) => (fun (z : Int) => va_P (dC, dI) vwCl [] t.heap ∧ va_K (dC, dI) vwCl (tyA dA) t ∧ va_D A []) u) u
abbrev QmetJ6_compareUnsigned (dC : Nat → ClassId) (dI : Nat → Nat → Nat) (dA : Nat → ClassId) (A : Nat → Prop)  (x : Int) (y : Int) := va_Qi (fun (rt_ : Int32) => fun (u : Int) => (fun (z : Int) => rt_ = I3 z ∧ ((x < y → z = -1) ∧ (x = y → z = 0) ∧ (y < x → z = 1))) u) (BmetJ6_compareUnsigned dC dI dA A x y) A
set_option maxHeartbeats 1000000 in
set_option maxRecDepth 100000 in
theorem metJ6_compareUnsigned (l : Launch) (dC : Nat → ClassId) (dI : Nat → Nat → Nat) (dA : Nat → ClassId)  (sz : Nat) (x : Int) (y : Int) (hx3 : 0 ≤ x ∧ x < 4294967296) (hy3 : 0 ≤ y ∧ y < 4294967296) : Met l yJ6_compareUnsigned (ws_ yJ6_compareUnsigned cJ6_compareUnsigned 2 (some .int)) ({ frames := 2, cells := 0, slots := 0, locals := 80 }) (va_Pc [.int (I3 x), .int (I3 y)] (fun U => U.heap.size = sz ∧ va_P (dC, dI) vwCl [] U.heap ∧ va_K (dC, dI) vwCl (tyA dA) U ∧ va_D (fun _ => True) [])) (QmetJ6_compareUnsigned dC dI dA (va_A [] sz) x y) 0 0 (va_A [] sz) := by
  refine Met.ofW (cc := cJ6_compareUnsigned) (maxL := 2) (ret := (some .int)) (by decide) rfl ?_
  intro p e s m args below meth c s₁ B hml hv
  obtain ⟨rfl, hsz, hP, hK, hD0⟩ := hv
  have hx := B.exec
  have hb := B.bytes
  have hr := B.returns
  have hts := atoms_spec (ws := (ws_ yJ6_compareUnsigned cJ6_compareUnsigned 2 (some .int))) B.pre
  have hts : ∀ w ∈ lw_all, w.before _ s = true := fun w h => hts w (List.mem_cons_of_mem _ h)
  have hown : s.vm.findClass RJ6 = some m.cls := findClass_of_methodNamed B.named
  have hlocks := B.notSynchronized
  subst hsz
  have hD := hD0.self (sz := s.heap.size)
  generalize hAe : va_A [] s.heap.size = A at hD ⊢
  have hA : ∀ q : Nat, s.heap.size ≤ q → A q := fun q h => by rw [← hAe]; exact Or.inr h
  have hS : va_S A s.heap s.heap [] := va_S.rf
  have hP : va_P (dC, dI) vwCl [] s.heap := hP
  have hl := lv_entry ([.int (I3 x), .int (I3 y)]) (n := 2) (Nat.le_of_ble_eq_true rfl)
  rw [lg_entry_eq]
  generalize (lg_sl ([.int (I3 x), .int (I3 y)]) ++ List.replicate (2 - (lg_sl ([.int (I3 x), .int (I3 y)])).length) Slot.unset).toArray = ls at hl ⊢
  have hl : lv_has ls 2 [(0, .int (I3 x)), (1, .int (I3 y))] := hl
  refine lv_iload_n hx hb dJ6_compareUnsigned_0 rfl (lv_at hl 0 rfl) ?_
  refine lv_ldc hx hb hown (hts _ q371) dJ6_compareUnsigned_1 ?_
  refine ix_vi (x := (-2147483648)) (by decide) ?_
  refine ix_iadd hx hb dJ6_compareUnsigned_3 ?_
  refine lv_iload_n hx hb dJ6_compareUnsigned_4 rfl (lv_at hl 1 rfl) ?_
  refine lv_ldc hx hb hown (hts _ q371) dJ6_compareUnsigned_5 ?_
  refine ix_vi (x := (-2147483648)) (by decide) ?_
  refine ix_iadd hx hb dJ6_compareUnsigned_7 ?_
  have h_1 : In3 (x + (-2147483648)) := by first | assumption | omega | (constructor <;> omega)
  have h_2 : In3 (y + (-2147483648)) := by first | assumption | omega | (constructor <;> omega)
  have hPc := hP.sub (ws' := []) [] rfl
  have hDc := hD.sub (ws' := []) [] (by decide) rfl
  have hFc := va_free (wc := []) hD hS hA [] rfl
  refine va_calli (va_runS (As := [.int (I3 (x + (-2147483648))), .int (I3 (y + (-2147483648)))]) (rest := []) ⟨hx, hb, hml, hown, hts⟩ (metJ6_compare l dC dI dA s.heap.size (x + (-2147483648)) (y + (-2147483648)) h_1 h_2) (va_cwS 2 hts (lw_S q372 q373 q75 q374) rfl rfl rfl (by decide +kernel) ⟨Nat.le_of_ble_eq_true rfl, Nat.le_of_ble_eq_true rfl⟩) ⟨fun a U g mk q => by obtain ⟨q0, q1, qP, qK, qD⟩ := q; exact ⟨q0, q1, qP, va_K.moved (u := U) (U := U.calling g mk a) (Vm.Alike.refl U.vm) qK, qD⟩, fun U hU hW => ⟨rfl, by rw [hU], by rw [hU]; exact hPc, va_K.moved hW.alike hK, hDc.weaken (fun _ _ _ _ => trivial)⟩⟩ rfl rfl hl.1 rfl (lv_room (Nat.le_of_ble_eq_true rfl)) dJ6_compareUnsigned_8 ⟨Nat.le_of_ble_eq_true rfl, Nat.le_of_ble_eq_true rfl⟩) hS (fun q _ h => hFc q h) hFc (fun r_8 u t H1 locs ht hvm hw hB hz1 hk1 hS => ?_)
  obtain ⟨z_8, rfl⟩ : ∃ z, z = u := ⟨_, rfl⟩
  obtain ⟨rfl, p0_8⟩ : r_8 = I3 z_8 ∧ (((x + (-2147483648)) < (y + (-2147483648)) → z_8 = -1) ∧ ((x + (-2147483648)) = (y + (-2147483648)) → z_8 = 0) ∧ ((y + (-2147483648)) < (x + (-2147483648)) → z_8 = 1)) := hw
  obtain ⟨hP1, hK1, hD1⟩ := hB
  rw [ht] at hP1
  obtain ⟨hP, hD⟩ := va_join (wr := []) (w1 := []) hP hD [] [] rfl rfl (by decide) (by decide) hk1 hFc hP1 hD1
  generalize H1 = H at hP hS ⊢
  have hP : va_P (dC, dI) vwCl [] H := hP
  have hD : va_D A [] := hD
  have o_3 : (x < y → z_8 = -1) ∧ (x = y → z_8 = 0) ∧ (y < x → z_8 = 1) := by first | assumption | omega | (constructor <;> omega)
  exact W.iret (v := I3 z_8) hx hb hr (fun t ht hW => ⟨⟨I3 z_8, z_8, rfl, ⟨rfl, o_3⟩, by rw [ht]; exact hP, va_K.moved hW.alike hK, hD⟩, hS.F ht⟩) hS.2.2 dJ6_compareUnsigned_11
abbrev BmetJ7_max (dC : Nat → ClassId) (dI : Nat → Nat → Nat) (dA : Nat → ClassId) (A : Nat → Prop)  (x : Int) (y : Int) : Int → State → Prop := fun u t => (fun (u : Int) => (fun (z : Int) => va_P (dC, dI) vwCl [] t.heap ∧ va_K (dC, dI) vwCl (tyA dA) t ∧ va_D A []) u) u
abbrev QmetJ7_max (dC : Nat → ClassId) (dI : Nat → Nat → Nat) (dA : Nat → ClassId) (A : Nat → Prop)  (x : Int) (y : Int) := va_Qi (fun (rt_ : Int32) => fun (u : Int) => (fun (z : Int) => rt_ = I3 z ∧ ((x ≤ y → z = y) ∧ (y ≤ x → z = x))) u) (BmetJ7_max dC dI dA A x y) A
set_option maxHeartbeats 1000000 in
set_option maxRecDepth 100000 in
theorem metJ7_max (l : Launch) (dC : Nat → ClassId) (dI : Nat → Nat → Nat) (dA : Nat → ClassId)  (sz : Nat) (x : Int) (y : Int) (hx3 : In3 x) (hy3 : In3 y) : Met l yJ7_max (ws_ yJ7_max cJ7_max 2 (some .int)) ({ frames := 1, cells := 0, slots := 0, locals := 40 }) (va_Pc [.int (I3 x), .int (I3 y)] (fun U => U.heap.size = sz ∧ va_P (dC, dI) vwCl [] U.heap ∧ va_K (dC, dI) vwCl (tyA dA) U ∧ va_D (fun _ => True) [])) (QmetJ7_max dC dI dA (va_A [] sz) x y) 0 0 (va_A [] sz) := by
  refine va_MetF (cc := cJ7_max) (maxL := 2) (ret := (some .int)) (by decide +kernel) rfl ?_
  intro p e s m args below meth c s₁ B hml hv
  obtain ⟨rfl, hsz, hP, hK, hD0⟩ := hv
  have hx := B.exec
  have hb := B.bytes
  have hr := B.returns
  have hts := atoms_spec (ws := (ws_ yJ7_max cJ7_max 2 (some .int))) B.pre
  have hts : ∀ w ∈ lw_all, w.before _ s = true := fun w h => hts w (List.mem_cons_of_mem _ h)
  have hown : s.vm.findClass RJ7 = some m.cls := findClass_of_methodNamed B.named
  have hlocks := B.notSynchronized
  subst hsz
  have hD := hD0.self (sz := s.heap.size)
  generalize hAe : va_A [] s.heap.size = A at hD ⊢
  have hA : ∀ q : Nat, s.heap.size ≤ q → A q := fun q h => by rw [← hAe]; exact Or.inr h
  have hS : va_S A s.heap s.heap [] := va_S.rf
  have hP : va_P (dC, dI) vwCl [] s.heap := hP
  have hl := lv_entry ([.int (I3 x), .int (I3 y)]) (n := 2) (Nat.le_of_ble_eq_true rfl)
  rw [lg_entry_eq]
  generalize (lg_sl ([.int (I3 x), .int (I3 y)]) ++ List.replicate (2 - (lg_sl ([.int (I3 x), .int (I3 y)])).length) Slot.unset).toArray = ls at hl ⊢
  have hl : lv_has ls 2 [(0, .int (I3 x)), (1, .int (I3 y))] := hl
  refine lv_iload_n hx hb dJ7_max_0 rfl (lv_at hl 0 rfl) ?_
  refine lv_iload_n hx hb dJ7_max_1 rfl (lv_at hl 1 rfl) ?_
  refine ix_icmp_lt (tgt := 9) hx hb (by first | assumption | decide | (constructor <;> omega)) (by first | assumption | decide | (constructor <;> omega)) dJ7_max_2 (by decide) (fun c_2 => ?_) (fun c_2 => ?_)
  · skip
    refine lv_iload_n hx hb dJ7_max_9 rfl (lv_at hl 1 rfl) ?_
    have o_1 : (x ≤ y → y = y) ∧ (y ≤ x → y = x) := by first | assumption | omega | (constructor <;> omega)
    exact W.iret (v := I3 y) hx hb hr (fun t ht hW => ⟨⟨I3 y, y, rfl, ⟨rfl, o_1⟩, by rw [ht]; exact hP, va_K.moved hW.alike hK, hD⟩, hS.F ht⟩) hS.2.2 dJ7_max_10
  · skip
    refine lv_iload_n hx hb dJ7_max_5 rfl (lv_at hl 0 rfl) ?_
    refine lv_goto (tgt := 10) hx hb dJ7_max_6 (by decide) ?_
    have o_2 : (x ≤ y → x = y) ∧ (y ≤ x → x = x) := by first | assumption | omega | (constructor <;> omega)
    exact W.iret (v := I3 x) hx hb hr (fun t ht hW => ⟨⟨I3 x, x, rfl, ⟨rfl, o_2⟩, by rw [ht]; exact hP, va_K.moved hW.alike hK, hD⟩, hS.F ht⟩) hS.2.2 dJ7_max_10
abbrev BmetJ7_min (dC : Nat → ClassId) (dI : Nat → Nat → Nat) (dA : Nat → ClassId) (A : Nat → Prop)  (x : Int) (y : Int) : Int → State → Prop := fun u t => (fun (u : Int) => (fun (z : Int) => va_P (dC, dI) vwCl [] t.heap ∧ va_K (dC, dI) vwCl (tyA dA) t ∧ va_D A []) u) u
abbrev QmetJ7_min (dC : Nat → ClassId) (dI : Nat → Nat → Nat) (dA : Nat → ClassId) (A : Nat → Prop)  (x : Int) (y : Int) := va_Qi (fun (rt_ : Int32) => fun (u : Int) => (fun (z : Int) => rt_ = I3 z ∧ ((x ≤ y → z = x) ∧ (y ≤ x → z = y))) u) (BmetJ7_min dC dI dA A x y) A
set_option maxHeartbeats 1000000 in
set_option maxRecDepth 100000 in
theorem metJ7_min (l : Launch) (dC : Nat → ClassId) (dI : Nat → Nat → Nat) (dA : Nat → ClassId)  (sz : Nat) (x : Int) (y : Int) (hx3 : In3 x) (hy3 : In3 y) : Met l yJ7_min (ws_ yJ7_min cJ7_min 2 (some .int)) ({ frames := 1, cells := 0, slots := 0, locals := 40 }) (va_Pc [.int (I3 x), .int (I3 y)] (fun U => U.heap.size = sz ∧ va_P (dC, dI) vwCl [] U.heap ∧ va_K (dC, dI) vwCl (tyA dA) U ∧ va_D (fun _ => True) [])) (QmetJ7_min dC dI dA (va_A [] sz) x y) 0 0 (va_A [] sz) := by
  refine va_MetF (cc := cJ7_min) (maxL := 2) (ret := (some .int)) (by decide +kernel) rfl ?_
  intro p e s m args below meth c s₁ B hml hv
  obtain ⟨rfl, hsz, hP, hK, hD0⟩ := hv
  have hx := B.exec
  have hb := B.bytes
  have hr := B.returns
  have hts := atoms_spec (ws := (ws_ yJ7_min cJ7_min 2 (some .int))) B.pre
  have hts : ∀ w ∈ lw_all, w.before _ s = true := fun w h => hts w (List.mem_cons_of_mem _ h)
  have hown : s.vm.findClass RJ7 = some m.cls := findClass_of_methodNamed B.named
  have hlocks := B.notSynchronized
  subst hsz
  have hD := hD0.self (sz := s.heap.size)
  generalize hAe : va_A [] s.heap.size = A at hD ⊢
  have hA : ∀ q : Nat, s.heap.size ≤ q → A q := fun q h => by rw [← hAe]; exact Or.inr h
  have hS : va_S A s.heap s.heap [] := va_S.rf
  have hP : va_P (dC, dI) vwCl [] s.heap := hP
  have hl := lv_entry ([.int (I3 x), .int (I3 y)]) (n := 2) (Nat.le_of_ble_eq_true rfl)
  rw [lg_entry_eq]
  generalize (lg_sl ([.int (I3 x), .int (I3 y)]) ++ List.replicate (2 - (lg_sl ([.int (I3 x), .int (I3 y)])).length) Slot.unset).toArray = ls at hl ⊢
  have hl : lv_has ls 2 [(0, .int (I3 x)), (1, .int (I3 y))] := hl
  refine lv_iload_n hx hb dJ7_min_0 rfl (lv_at hl 0 rfl) ?_
  refine lv_iload_n hx hb dJ7_min_1 rfl (lv_at hl 1 rfl) ?_
  refine ix_icmp_gt (tgt := 9) hx hb (by first | assumption | decide | (constructor <;> omega)) (by first | assumption | decide | (constructor <;> omega)) dJ7_min_2 (by decide) (fun c_2 => ?_) (fun c_2 => ?_)
  · skip
    refine lv_iload_n hx hb dJ7_min_9 rfl (lv_at hl 1 rfl) ?_
    have o_1 : (x ≤ y → y = x) ∧ (y ≤ x → y = y) := by first | assumption | omega | (constructor <;> omega)
    exact W.iret (v := I3 y) hx hb hr (fun t ht hW => ⟨⟨I3 y, y, rfl, ⟨rfl, o_1⟩, by rw [ht]; exact hP, va_K.moved hW.alike hK, hD⟩, hS.F ht⟩) hS.2.2 dJ7_min_10
  · skip
    refine lv_iload_n hx hb dJ7_min_5 rfl (lv_at hl 0 rfl) ?_
    refine lv_goto (tgt := 10) hx hb dJ7_min_6 (by decide) ?_
    have o_2 : (x ≤ y → x = x) ∧ (y ≤ x → x = y) := by first | assumption | omega | (constructor <;> omega)
    exact W.iret (v := I3 x) hx hb hr (fun t ht hW => ⟨⟨I3 x, x, rfl, ⟨rfl, o_2⟩, by rw [ht]; exact hP, va_K.moved hW.alike hK, hD⟩, hS.F ht⟩) hS.2.2 dJ7_min_10
abbrev BmetJ6_numberOfLeadingZeros (dC : Nat → ClassId) (dI : Nat → Nat → Nat) (dA : Nat → ClassId) (A : Nat → Prop)  (x : Int) : Int → State → Prop := fun u t => (fun (u : Int) => (fun (z : Int) => va_P (dC, dI) vwCl [] t.heap ∧ va_K (dC, dI) vwCl (tyA dA) t ∧ va_D A []) u) u
abbrev QmetJ6_numberOfLeadingZeros (dC : Nat → ClassId) (dI : Nat → Nat → Nat) (dA : Nat → ClassId) (A : Nat → Prop)  (x : Int) := va_Qi (fun (rt_ : Int32) => fun (u : Int) => (fun (z : Int) => rt_ = I3 z ∧ (z = 32 - ((bl (x % 4294967296).toNat : Nat) : Int))) u) (BmetJ6_numberOfLeadingZeros dC dI dA A x) A
set_option maxHeartbeats 1000000 in
set_option maxRecDepth 100000 in
theorem metJ6_numberOfLeadingZeros (l : Launch) (dC : Nat → ClassId) (dI : Nat → Nat → Nat) (dA : Nat → ClassId)  (sz : Nat) (x : Int) (hx3 : In3 x) : Met l yJ6_numberOfLeadingZeros (ws_ yJ6_numberOfLeadingZeros cJ6_numberOfLeadingZeros 2 (some .int)) ({ frames := 1, cells := 0, slots := 0, locals := 40 }) (va_Pc [.int (I3 x)] (fun U => U.heap.size = sz ∧ va_P (dC, dI) vwCl [] U.heap ∧ va_K (dC, dI) vwCl (tyA dA) U ∧ va_D (fun _ => True) [])) (QmetJ6_numberOfLeadingZeros dC dI dA (va_A [] sz) x) 0 0 (va_A [] sz) := by
  refine Met.ofW (cc := cJ6_numberOfLeadingZeros) (maxL := 2) (ret := (some .int)) (by decide) rfl ?_
  intro p e s m args below meth c s₁ B hml hv
  obtain ⟨rfl, hsz, hP, hK, hD0⟩ := hv
  have hx := B.exec
  have hb := B.bytes
  have hr := B.returns
  have hts := atoms_spec (ws := (ws_ yJ6_numberOfLeadingZeros cJ6_numberOfLeadingZeros 2 (some .int))) B.pre
  have hts : ∀ w ∈ lw_all, w.before _ s = true := fun w h => hts w (List.mem_cons_of_mem _ h)
  have hown : s.vm.findClass RJ6 = some m.cls := findClass_of_methodNamed B.named
  have hlocks := B.notSynchronized
  subst hsz
  have hD := hD0.self (sz := s.heap.size)
  generalize hAe : va_A [] s.heap.size = A at hD ⊢
  have hA : ∀ q : Nat, s.heap.size ≤ q → A q := fun q h => by rw [← hAe]; exact Or.inr h
  have hS : va_S A s.heap s.heap [] := va_S.rf
  have hP : va_P (dC, dI) vwCl [] s.heap := hP
  have hl := lv_entry ([.int (I3 x)]) (n := 2) (Nat.le_of_ble_eq_true rfl)
  rw [lg_entry_eq]
  generalize (lg_sl ([.int (I3 x)]) ++ List.replicate (2 - (lg_sl ([.int (I3 x)])).length) Slot.unset).toArray = ls at hl ⊢
  have hl : lv_has ls 2 [(0, .int (I3 x))] := hl
  have cut_73 : ∀ (y : Int) (cc : Int), (1 ≤ y ∧ y < 4) → (1 ≤ cc ∧ cc ≤ 31) → (((bl (x % 4294967296).toNat : Nat) : Int) + cc = 31 + ((bl y.toNat : Nat) : Int)) → ∀ (H : Heap) (locs : List Loc), va_P (dC, dI) vwCl [] H → va_D A [] → va_S A s.heap H locs → ∀ (ls : Array Slot), lv_has ls 2 [(0, .int (I3 y)), (1, .int (I3 cc))] → W p l e (headSpec (ws_ yJ6_numberOfLeadingZeros cJ6_numberOfLeadingZeros 2 (some .int)) ({ frames := 1, cells := 0, slots := 0, locals := 40 })).room s m ([.int (I3 x)] : List Value).toArray below meth c H locs 0 0 (MQ below (QmetJ6_numberOfLeadingZeros dC dI dA A x) ([.int (I3 x)] : List Value).toArray s 0 0 A) (F0 m 73 ls []) := by
    intro y cc hy hcc hBl H locs hP hD hS ls hl
    refine lv_iload_n hx hb dJ6_numberOfLeadingZeros_73 rfl (lv_at hl 1 rfl) ?_
    refine lv_iload_n hx hb dJ6_numberOfLeadingZeros_74 rfl (lv_at hl 0 rfl) ?_
    refine lv_iconst (v := I3 (1)) hx hb dJ6_numberOfLeadingZeros_75 rfl ?_
    refine ix_iushr hx hb (by first | decide | omega) dJ6_numberOfLeadingZeros_76 ?_
    refine ix_ti (y := y % 4294967296 / 2) rfl ?_
    refine ix_isub hx hb dJ6_numberOfLeadingZeros_77 ?_
    have o_1 : (cc - (y % 4294967296 / 2)) = 32 - ((bl (x % 4294967296).toNat : Nat) : Int) := by have h9 := nlz_e hy; omega
    exact W.iret (v := I3 (cc - (y % 4294967296 / 2))) hx hb hr (fun t ht hW => ⟨⟨I3 (cc - (y % 4294967296 / 2)), (cc - (y % 4294967296 / 2)), rfl, ⟨rfl, o_1⟩, by rw [ht]; exact hP, va_K.moved hW.alike hK, hD⟩, hS.F ht⟩) hS.2.2 dJ6_numberOfLeadingZeros_78
  have cut_61 : ∀ (y : Int) (cc : Int), (1 ≤ y ∧ y < 16) → (3 ≤ cc ∧ cc ≤ 31) → (((bl (x % 4294967296).toNat : Nat) : Int) + cc = 31 + ((bl y.toNat : Nat) : Int)) → ∀ (H : Heap) (locs : List Loc), va_P (dC, dI) vwCl [] H → va_D A [] → va_S A s.heap H locs → ∀ (ls : Array Slot), lv_has ls 2 [(0, .int (I3 y)), (1, .int (I3 cc))] → W p l e (headSpec (ws_ yJ6_numberOfLeadingZeros cJ6_numberOfLeadingZeros 2 (some .int)) ({ frames := 1, cells := 0, slots := 0, locals := 40 })).room s m ([.int (I3 x)] : List Value).toArray below meth c H locs 0 0 (MQ below (QmetJ6_numberOfLeadingZeros dC dI dA A x) ([.int (I3 x)] : List Value).toArray s 0 0 A) (F0 m 61 ls []) := by
    intro y cc hy hcc hBl H locs hP hD hS ls hl
    refine lv_iload_n hx hb dJ6_numberOfLeadingZeros_61 rfl (lv_at hl 0 rfl) ?_
    refine lv_iconst (v := I3 (4)) hx hb dJ6_numberOfLeadingZeros_62 rfl ?_
    refine ix_icmp_lt (tgt := 73) hx hb (by first | assumption | decide | (constructor <;> omega)) (by first | assumption | decide | (constructor <;> omega)) dJ6_numberOfLeadingZeros_63 (by decide) (fun c_63 => ?_) (fun c_63 => ?_)
    · skip
      have e_2 : 1 ≤ y ∧ y < 4 := by first | assumption | omega | (constructor <;> omega)
      have e_3 : 1 ≤ cc ∧ cc ≤ 31 := by first | assumption | omega | (constructor <;> omega)
      have e_4 : ((bl (x % 4294967296).toNat : Nat) : Int) + cc = 31 + ((bl y.toNat : Nat) : Int) := by first | assumption | omega | (constructor <;> omega)
      exact cut_73 y cc e_2 e_3 e_4 _ _ hP hD hS ls (lv_sub hl [0, 1] rfl)
    · skip
      refine lv_iinc (v := I3 (cc - 2)) (lv' := [(1, .int (I3 (cc - 2))), (0, .int (I3 y))]) hx hb dJ6_numberOfLeadingZeros_66 hl (k := 1) rfl ((I3_add _ _).trans (congrArg I3 (by omega))) (by decide) rfl (fun ls hl => ?_)
      refine lv_iload_n hx hb dJ6_numberOfLeadingZeros_69 rfl (lv_at hl 1 rfl) ?_
      refine lv_iconst (v := I3 (2)) hx hb dJ6_numberOfLeadingZeros_70 rfl ?_
      refine ix_iushr hx hb (by first | decide | omega) dJ6_numberOfLeadingZeros_71 ?_
      refine ix_ti (y := y % 4294967296 / 4) rfl ?_
      refine ix_ti (y := y / 4) (by omega) ?_
      refine lv_istore_n (lv' := [(0, .int (I3 (y / 4))), (1, .int (I3 (cc - 2)))]) hx hb dJ6_numberOfLeadingZeros_72 rfl hl (by decide) rfl (fun ls hl => ?_)
      have e_5 : 1 ≤ (y / 4) ∧ (y / 4) < 4 := by first | assumption | omega | (constructor <;> omega)
      have e_6 : 1 ≤ (cc - 2) ∧ (cc - 2) ≤ 31 := by first | assumption | omega | (constructor <;> omega)
      have e_7 : ((bl (x % 4294967296).toNat : Nat) : Int) + (cc - 2) = 31 + ((bl (y / 4).toNat : Nat) : Int) := by exact nlz_s (s := 2) (p := 4) (by decide) (by omega) hBl
      exact cut_73 (y / 4) (cc - 2) e_5 e_6 e_7 _ _ hP hD hS ls (lv_sub hl [0, 1] rfl)
  have cut_48 : ∀ (y : Int) (cc : Int), (1 ≤ y ∧ y < 256) → (7 ≤ cc ∧ cc ≤ 31) → (((bl (x % 4294967296).toNat : Nat) : Int) + cc = 31 + ((bl y.toNat : Nat) : Int)) → ∀ (H : Heap) (locs : List Loc), va_P (dC, dI) vwCl [] H → va_D A [] → va_S A s.heap H locs → ∀ (ls : Array Slot), lv_has ls 2 [(0, .int (I3 y)), (1, .int (I3 cc))] → W p l e (headSpec (ws_ yJ6_numberOfLeadingZeros cJ6_numberOfLeadingZeros 2 (some .int)) ({ frames := 1, cells := 0, slots := 0, locals := 40 })).room s m ([.int (I3 x)] : List Value).toArray below meth c H locs 0 0 (MQ below (QmetJ6_numberOfLeadingZeros dC dI dA A x) ([.int (I3 x)] : List Value).toArray s 0 0 A) (F0 m 48 ls []) := by
    intro y cc hy hcc hBl H locs hP hD hS ls hl
    refine lv_iload_n hx hb dJ6_numberOfLeadingZeros_48 rfl (lv_at hl 0 rfl) ?_
    refine lv_bipush (v := I3 (16)) hx hb dJ6_numberOfLeadingZeros_49 (by decide) ?_
    refine ix_icmp_lt (tgt := 61) hx hb (by first | assumption | decide | (constructor <;> omega)) (by first | assumption | decide | (constructor <;> omega)) dJ6_numberOfLeadingZeros_51 (by decide) (fun c_51 => ?_) (fun c_51 => ?_)
    · skip
      have e_8 : 1 ≤ y ∧ y < 16 := by first | assumption | omega | (constructor <;> omega)
      have e_9 : 3 ≤ cc ∧ cc ≤ 31 := by first | assumption | omega | (constructor <;> omega)
      have e_10 : ((bl (x % 4294967296).toNat : Nat) : Int) + cc = 31 + ((bl y.toNat : Nat) : Int) := by first | assumption | omega | (constructor <;> omega)
      exact cut_61 y cc e_8 e_9 e_10 _ _ hP hD hS ls (lv_sub hl [0, 1] rfl)
    · skip
      refine lv_iinc (v := I3 (cc - 4)) (lv' := [(1, .int (I3 (cc - 4))), (0, .int (I3 y))]) hx hb dJ6_numberOfLeadingZeros_54 hl (k := 1) rfl ((I3_add _ _).trans (congrArg I3 (by omega))) (by decide) rfl (fun ls hl => ?_)
      refine lv_iload_n hx hb dJ6_numberOfLeadingZeros_57 rfl (lv_at hl 1 rfl) ?_
      refine lv_iconst (v := I3 (4)) hx hb dJ6_numberOfLeadingZeros_58 rfl ?_
      refine ix_iushr hx hb (by first | decide | omega) dJ6_numberOfLeadingZeros_59 ?_
      refine ix_ti (y := y % 4294967296 / 16) rfl ?_
      refine ix_ti (y := y / 16) (by omega) ?_
      refine lv_istore_n (lv' := [(0, .int (I3 (y / 16))), (1, .int (I3 (cc - 4)))]) hx hb dJ6_numberOfLeadingZeros_60 rfl hl (by decide) rfl (fun ls hl => ?_)
      have e_11 : 1 ≤ (y / 16) ∧ (y / 16) < 16 := by first | assumption | omega | (constructor <;> omega)
      have e_12 : 3 ≤ (cc - 4) ∧ (cc - 4) ≤ 31 := by first | assumption | omega | (constructor <;> omega)
      have e_13 : ((bl (x % 4294967296).toNat : Nat) : Int) + (cc - 4) = 31 + ((bl (y / 16).toNat : Nat) : Int) := by exact nlz_s (s := 4) (p := 16) (by decide) (by omega) hBl
      exact cut_61 (y / 16) (cc - 4) e_11 e_12 e_13 _ _ hP hD hS ls (lv_sub hl [0, 1] rfl)
  have cut_33 : ∀ (y : Int) (cc : Int), (1 ≤ y ∧ y < 65536) → (15 ≤ cc ∧ cc ≤ 31) → (((bl (x % 4294967296).toNat : Nat) : Int) + cc = 31 + ((bl y.toNat : Nat) : Int)) → ∀ (H : Heap) (locs : List Loc), va_P (dC, dI) vwCl [] H → va_D A [] → va_S A s.heap H locs → ∀ (ls : Array Slot), lv_has ls 2 [(0, .int (I3 y)), (1, .int (I3 cc))] → W p l e (headSpec (ws_ yJ6_numberOfLeadingZeros cJ6_numberOfLeadingZeros 2 (some .int)) ({ frames := 1, cells := 0, slots := 0, locals := 40 })).room s m ([.int (I3 x)] : List Value).toArray below meth c H locs 0 0 (MQ below (QmetJ6_numberOfLeadingZeros dC dI dA A x) ([.int (I3 x)] : List Value).toArray s 0 0 A) (F0 m 33 ls []) := by
    intro y cc hy hcc hBl H locs hP hD hS ls hl
    refine lv_iload_n hx hb dJ6_numberOfLeadingZeros_33 rfl (lv_at hl 0 rfl) ?_
    refine lv_sipush (v := I3 (256)) hx hb dJ6_numberOfLeadingZeros_34 (by decide) ?_
    refine ix_icmp_lt (tgt := 48) hx hb (by first | assumption | decide | (constructor <;> omega)) (by first | assumption | decide | (constructor <;> omega)) dJ6_numberOfLeadingZeros_37 (by decide) (fun c_37 => ?_) (fun c_37 => ?_)
    · skip
      have e_14 : 1 ≤ y ∧ y < 256 := by first | assumption | omega | (constructor <;> omega)
      have e_15 : 7 ≤ cc ∧ cc ≤ 31 := by first | assumption | omega | (constructor <;> omega)
      have e_16 : ((bl (x % 4294967296).toNat : Nat) : Int) + cc = 31 + ((bl y.toNat : Nat) : Int) := by first | assumption | omega | (constructor <;> omega)
      exact cut_48 y cc e_14 e_15 e_16 _ _ hP hD hS ls (lv_sub hl [0, 1] rfl)
    · skip
      refine lv_iinc (v := I3 (cc - 8)) (lv' := [(1, .int (I3 (cc - 8))), (0, .int (I3 y))]) hx hb dJ6_numberOfLeadingZeros_40 hl (k := 1) rfl ((I3_add _ _).trans (congrArg I3 (by omega))) (by decide) rfl (fun ls hl => ?_)
      refine lv_iload_n hx hb dJ6_numberOfLeadingZeros_43 rfl (lv_at hl 1 rfl) ?_
      refine lv_bipush (v := I3 (8)) hx hb dJ6_numberOfLeadingZeros_44 (by decide) ?_
      refine ix_iushr hx hb (by first | decide | omega) dJ6_numberOfLeadingZeros_46 ?_
      refine ix_ti (y := y % 4294967296 / 256) rfl ?_
      refine ix_ti (y := y / 256) (by omega) ?_
      refine lv_istore_n (lv' := [(0, .int (I3 (y / 256))), (1, .int (I3 (cc - 8)))]) hx hb dJ6_numberOfLeadingZeros_47 rfl hl (by decide) rfl (fun ls hl => ?_)
      have e_17 : 1 ≤ (y / 256) ∧ (y / 256) < 256 := by first | assumption | omega | (constructor <;> omega)
      have e_18 : 7 ≤ (cc - 8) ∧ (cc - 8) ≤ 31 := by first | assumption | omega | (constructor <;> omega)
      have e_19 : ((bl (x % 4294967296).toNat : Nat) : Int) + (cc - 8) = 31 + ((bl (y / 256).toNat : Nat) : Int) := by exact nlz_s (s := 8) (p := 256) (by decide) (by omega) hBl
      exact cut_48 (y / 256) (cc - 8) e_17 e_18 e_19 _ _ hP hD hS ls (lv_sub hl [0, 1] rfl)
  refine lv_iload_n hx hb dJ6_numberOfLeadingZeros_0 rfl (lv_at hl 0 rfl) ?_
  refine ix_if_gt (tgt := 15) hx hb (by first | assumption | decide | (constructor <;> omega)) dJ6_numberOfLeadingZeros_1 (by decide) (fun c_1 => ?_) (fun c_1 => ?_)
  · skip
    have hBl := nlz_0 hx3 c_1
    refine lv_bipush (v := I3 (31)) hx hb dJ6_numberOfLeadingZeros_15 (by decide) ?_
    refine lv_istore_n (lv' := [(1, .int (I3 31)), (0, .int (I3 x))]) hx hb dJ6_numberOfLeadingZeros_17 rfl hl (by decide) rfl (fun ls hl => ?_)
    refine lv_iload_n hx hb dJ6_numberOfLeadingZeros_18 rfl (lv_at hl 1 rfl) ?_
    refine lv_ldcw hx hb hown (hts _ q348) dJ6_numberOfLeadingZeros_19 ?_
    refine ix_vi (x := (65536)) (by decide) ?_
    refine ix_icmp_lt (tgt := 33) hx hb (by first | assumption | decide | (constructor <;> omega)) (by first | assumption | decide | (constructor <;> omega)) dJ6_numberOfLeadingZeros_22 (by decide) (fun c_22 => ?_) (fun c_22 => ?_)
    · skip
      have e_20 : 1 ≤ x ∧ x < 65536 := by first | assumption | omega | (constructor <;> omega)
      have e_21 : 15 ≤ (31 : Int) ∧ (31 : Int) ≤ 31 := by first | assumption | omega | (constructor <;> omega)
      have e_22 : ((bl (x % 4294967296).toNat : Nat) : Int) + (31 : Int) = 31 + ((bl x.toNat : Nat) : Int) := by first | assumption | omega | (constructor <;> omega)
      exact cut_33 x 31 e_20 e_21 e_22 _ _ hP hD hS ls (lv_sub hl [1, 0] rfl)
    · skip
      refine lv_iinc (v := I3 (31 - 16)) (lv' := [(1, .int (I3 (31 - 16))), (0, .int (I3 x))]) hx hb dJ6_numberOfLeadingZeros_25 hl (k := 0) rfl ((I3_add _ _).trans (congrArg I3 (by omega))) (by decide) rfl (fun ls hl => ?_)
      refine lv_iload_n hx hb dJ6_numberOfLeadingZeros_28 rfl (lv_at hl 1 rfl) ?_
      refine lv_bipush (v := I3 (16)) hx hb dJ6_numberOfLeadingZeros_29 (by decide) ?_
      refine ix_iushr hx hb (by first | decide | omega) dJ6_numberOfLeadingZeros_31 ?_
      refine ix_ti (y := x % 4294967296 / 65536) rfl ?_
      refine ix_ti (y := x / 65536) (by omega) ?_
      refine lv_istore_n (lv' := [(0, .int (I3 (x / 65536))), (1, .int (I3 (31 - 16)))]) hx hb dJ6_numberOfLeadingZeros_32 rfl hl (by decide) rfl (fun ls hl => ?_)
      have e_23 : 1 ≤ (x / 65536) ∧ (x / 65536) < 65536 := by first | assumption | omega | (constructor <;> omega)
      have e_24 : 15 ≤ (31 - 16 : Int) ∧ (31 - 16 : Int) ≤ 31 := by first | assumption | omega | (constructor <;> omega)
      have e_25 : ((bl (x % 4294967296).toNat : Nat) : Int) + (31 - 16 : Int) = 31 + ((bl (x / 65536).toNat : Nat) : Int) := by exact nlz_s (s := 16) (p := 65536) (by decide) (by omega) hBl
      exact cut_33 (x / 65536) (31 - 16) e_23 e_24 e_25 _ _ hP hD hS ls (lv_sub hl [0, 1] rfl)
  · skip
    refine lv_iload_n hx hb dJ6_numberOfLeadingZeros_4 rfl (lv_at hl 0 rfl) ?_
    refine ix_if_ne (tgt := 13) hx hb (by first | assumption | decide | (constructor <;> omega)) dJ6_numberOfLeadingZeros_5 (by decide) (fun c_5 => ?_) (fun c_5 => ?_)
    · skip
      refine lv_iconst (v := I3 (0)) hx hb dJ6_numberOfLeadingZeros_13 rfl ?_
      have o_26 : (0 : Int) = 32 - ((bl (x % 4294967296).toNat : Nat) : Int) := by first | (rw [nlz_n hx3 c_1 (by omega)]; rfl) | (rw [show x = 0 by omega]; decide)
      exact W.iret (v := I3 0) hx hb hr (fun t ht hW => ⟨⟨I3 0, 0, rfl, ⟨rfl, o_26⟩, by rw [ht]; exact hP, va_K.moved hW.alike hK, hD⟩, hS.F ht⟩) hS.2.2 dJ6_numberOfLeadingZeros_14
    · skip
      refine lv_bipush (v := I3 (32)) hx hb dJ6_numberOfLeadingZeros_8 (by decide) ?_
      refine lv_goto (tgt := 14) hx hb dJ6_numberOfLeadingZeros_10 (by decide) ?_
      have o_27 : (32 : Int) = 32 - ((bl (x % 4294967296).toNat : Nat) : Int) := by first | (rw [nlz_n hx3 c_1 (by omega)]; rfl) | (rw [show x = 0 by omega]; decide)
      exact W.iret (v := I3 32) hx hb hr (fun t ht hW => ⟨⟨I3 32, 32, rfl, ⟨rfl, o_27⟩, by rw [ht]; exact hP, va_K.moved hW.alike hK, hD⟩, hS.F ht⟩) hS.2.2 dJ6_numberOfLeadingZeros_14
abbrev BmetJ6_numberOfTrailingZeros (dC : Nat → ClassId) (dI : Nat → Nat → Nat) (dA : Nat → ClassId) (A : Nat → Prop)  (x : Int) : Int → State → Prop := fun u t => (fun (u : Int) => (fun (z : Int) => va_P (dC, dI) vwCl [] t.heap ∧ va_K (dC, dI) vwCl (tyA dA) t ∧ va_D A []) u) u
abbrev QmetJ6_numberOfTrailingZeros (dC : Nat → ClassId) (dI : Nat → Nat → Nat) (dA : Nat → ClassId) (A : Nat → Prop)  (x : Int) := va_Qi (fun (rt_ : Int32) => fun (u : Int) => (fun (z : Int) => rt_ = I3 z ∧ ((0 ≤ z ∧ z < 32) ∧ ∃ w : Int, x = 2 ^ z.toNat * (2 * w + 1))) u) (BmetJ6_numberOfTrailingZeros dC dI dA A x) A
set_option maxHeartbeats 1000000 in
set_option maxRecDepth 100000 in
theorem metJ6_numberOfTrailingZeros (l : Launch) (dC : Nat → ClassId) (dI : Nat → Nat → Nat) (dA : Nat → ClassId)  (sz : Nat) (x : Int) (hx3 : In3 x) (hx0 : ¬ x = 0) : Met l yJ6_numberOfTrailingZeros (ws_ yJ6_numberOfTrailingZeros cJ6_numberOfTrailingZeros 2 (some .int)) ({ frames := 1, cells := 0, slots := 0, locals := 40 }) (va_Pc [.int (I3 x)] (fun U => U.heap.size = sz ∧ va_P (dC, dI) vwCl [] U.heap ∧ va_K (dC, dI) vwCl (tyA dA) U ∧ va_D (fun _ => True) [])) (QmetJ6_numberOfTrailingZeros dC dI dA (va_A [] sz) x) 0 0 (va_A [] sz) := by
  refine Met.ofW (cc := cJ6_numberOfTrailingZeros) (maxL := 2) (ret := (some .int)) (by decide) rfl ?_
  intro p e s m args below meth c s₁ B hml hv
  obtain ⟨rfl, hsz, hP, hK, hD0⟩ := hv
  have hx := B.exec
  have hb := B.bytes
  have hr := B.returns
  have hts := atoms_spec (ws := (ws_ yJ6_numberOfTrailingZeros cJ6_numberOfTrailingZeros 2 (some .int))) B.pre
  have hts : ∀ w ∈ lw_all, w.before _ s = true := fun w h => hts w (List.mem_cons_of_mem _ h)
  have hown : s.vm.findClass RJ6 = some m.cls := findClass_of_methodNamed B.named
  have hlocks := B.notSynchronized
  subst hsz
  have hD := hD0.self (sz := s.heap.size)
  generalize hAe : va_A [] s.heap.size = A at hD ⊢
  have hA : ∀ q : Nat, s.heap.size ≤ q → A q := fun q h => by rw [← hAe]; exact Or.inr h
  have hS : va_S A s.heap s.heap [] := va_S.rf
  have hP : va_P (dC, dI) vwCl [] s.heap := hP
  have hl := lv_entry ([.int (I3 x)]) (n := 2) (Nat.le_of_ble_eq_true rfl)
  rw [lg_entry_eq]
  generalize (lg_sl ([.int (I3 x)]) ++ List.replicate (2 - (lg_sl ([.int (I3 x)])).length) Slot.unset).toArray = ls at hl ⊢
  have hl : lv_has ls 2 [(0, .int (I3 x))] := hl
  have cut_74 : ∀ (tn : Nat) (un : Nat) (y : Int) (cc : Int), (tn < 32) → (∃ w : Int, x = 2 ^ tn * (2 * w + 1)) → (1 ≤ un ∧ un ≤ 2) → ((un : Int) + cc = (tn : Int) + 1) → (y = (2 : Int) ^ un - 1) → ∀ (H : Heap) (locs : List Loc), va_P (dC, dI) vwCl [] H → va_D A [] → va_S A s.heap H locs → ∀ (ls : Array Slot), lv_has ls 2 [(0, .int (I3 y)), (1, .int (I3 cc))] → W p l e (headSpec (ws_ yJ6_numberOfTrailingZeros cJ6_numberOfTrailingZeros 2 (some .int)) ({ frames := 1, cells := 0, slots := 0, locals := 40 })).room s m ([.int (I3 x)] : List Value).toArray below meth c H locs 0 0 (MQ below (QmetJ6_numberOfTrailingZeros dC dI dA A x) ([.int (I3 x)] : List Value).toArray s 0 0 A) (F0 m 74 ls []) := by
    intro tn un y cc htn htw hu hucc hy H locs hP hD hS ls hl
    have i_y : In3 y := by rw [hy]; exact tz_i (by omega)
    have hy3 : y = 1 ∧ un = 1 ∨ y = 3 ∧ un = 2 := by rcases (show un = 1 ∨ un = 2 by omega) with q | q; (left; rw [hy, q]; decide); (right; rw [hy, q]; decide)
    refine lv_iload_n hx hb dJ6_numberOfTrailingZeros_74 rfl (lv_at hl 1 rfl) ?_
    refine lv_iload_n hx hb dJ6_numberOfTrailingZeros_75 rfl (lv_at hl 0 rfl) ?_
    refine lv_iconst (v := I3 (1)) hx hb dJ6_numberOfTrailingZeros_76 rfl ?_
    refine ix_iushr hx hb (by first | decide | omega) dJ6_numberOfTrailingZeros_77 ?_
    refine ix_ti (y := y % 4294967296 / 2) rfl ?_
    refine ix_ti (y := y / 2) (by omega) ?_
    refine ix_iadd hx hb dJ6_numberOfTrailingZeros_78 ?_
    have o_1 : (0 ≤ (cc + (y / 2)) ∧ (cc + (y / 2)) < 32) ∧ ∃ w : Int, x = 2 ^ (cc + (y / 2)).toNat * (2 * w + 1) := by obtain ⟨w, htw⟩ := htw; exact ⟨by omega, w, by rw [show (cc + y / 2).toNat = tn by omega]; exact htw⟩
    exact W.iret (v := I3 (cc + (y / 2))) hx hb hr (fun t ht hW => ⟨⟨I3 (cc + (y / 2)), (cc + (y / 2)), rfl, ⟨rfl, o_1⟩, by rw [ht]; exact hP, va_K.moved hW.alike hK, hD⟩, hS.F ht⟩) hS.2.2 dJ6_numberOfTrailingZeros_79
  have cut_62 : ∀ (tn : Nat) (un : Nat) (y : Int) (cc : Int), (tn < 32) → (∃ w : Int, x = 2 ^ tn * (2 * w + 1)) → (1 ≤ un ∧ un ≤ 4) → ((un : Int) + cc = (tn : Int) + 1) → (y = (2 : Int) ^ un - 1) → ∀ (H : Heap) (locs : List Loc), va_P (dC, dI) vwCl [] H → va_D A [] → va_S A s.heap H locs → ∀ (ls : Array Slot), lv_has ls 2 [(0, .int (I3 y)), (1, .int (I3 cc))] → W p l e (headSpec (ws_ yJ6_numberOfTrailingZeros cJ6_numberOfTrailingZeros 2 (some .int)) ({ frames := 1, cells := 0, slots := 0, locals := 40 })).room s m ([.int (I3 x)] : List Value).toArray below meth c H locs 0 0 (MQ below (QmetJ6_numberOfTrailingZeros dC dI dA A x) ([.int (I3 x)] : List Value).toArray s 0 0 A) (F0 m 62 ls []) := by
    intro tn un y cc htn htw hu hucc hy H locs hP hD hS ls hl
    have i_y : In3 y := by rw [hy]; exact tz_i (by omega)
    refine lv_iload_n hx hb dJ6_numberOfTrailingZeros_62 rfl (lv_at hl 0 rfl) ?_
    refine lv_iconst (v := I3 (4)) hx hb dJ6_numberOfTrailingZeros_63 rfl ?_
    refine ix_icmp_le (tgt := 74) hx hb (by first | assumption | decide | (constructor <;> omega)) (by first | assumption | decide | (constructor <;> omega)) dJ6_numberOfTrailingZeros_64 (by decide) (fun c_64 => ?_) (fun c_64 => ?_)
    · skip
      have h9 := tz_c (u := un) 2 (p := 4) (by decide)
      have e_2 : tn < 32 := by first | assumption | omega | (constructor <;> omega)
      have e_3 : ∃ w : Int, x = 2 ^ tn * (2 * w + 1) := by first | assumption | omega | (constructor <;> omega)
      have e_4 : 1 ≤ un ∧ un ≤ 2 := by omega
      have e_5 : (un : Int) + cc = (tn : Int) + 1 := by first | assumption | omega | (constructor <;> omega)
      have e_6 : y = (2 : Int) ^ un - 1 := by first | exact hy | rfl | exact rfl
      exact cut_74 tn un y cc e_2 e_3 e_4 e_5 e_6 _ _ hP hD hS ls (lv_sub hl [0, 1] rfl)
    · skip
      refine lv_iinc (v := I3 (cc + 2)) (lv' := [(1, .int (I3 (cc + 2))), (0, .int (I3 y))]) hx hb dJ6_numberOfTrailingZeros_67 hl (k := 1) rfl (I3_add _ _) (by decide) rfl (fun ls hl => ?_)
      refine lv_iload_n hx hb dJ6_numberOfTrailingZeros_70 rfl (lv_at hl 1 rfl) ?_
      refine lv_iconst (v := I3 (2)) hx hb dJ6_numberOfTrailingZeros_71 rfl ?_
      refine ix_iushr hx hb (by first | decide | omega) dJ6_numberOfTrailingZeros_72 ?_
      refine ix_ti (y := y % 4294967296 / 4) rfl ?_
      refine lv_istore_n (lv' := [(0, .int (I3 (y % 4294967296 / 4))), (1, .int (I3 (cc + 2)))]) hx hb dJ6_numberOfTrailingZeros_73 rfl hl (by decide) rfl (fun ls hl => ?_)
      have h9 := tz_c (u := un) 2 (p := 4) (by decide)
      have h10 : 2 ≤ un := by omega
      have e_7 : tn < 32 := by first | assumption | omega | (constructor <;> omega)
      have e_8 : ∃ w : Int, x = 2 ^ tn * (2 * w + 1) := by first | assumption | omega | (constructor <;> omega)
      have e_9 : 1 ≤ ((un - 2 : Nat)) ∧ ((un - 2 : Nat)) ≤ 2 := by omega
      have e_10 : (((un - 2 : Nat)) : Int) + (cc + 2) = (tn : Int) + 1 := by first | assumption | omega | (constructor <;> omega)
      have e_11 : (y % 4294967296 / 4) = (2 : Int) ^ ((un - 2 : Nat)) - 1 := by first | (rw [hy]; exact tz_s (p := 4) (by decide) h10 (by omega)) | exact tz_s (p := 4) (by decide) h10 (by omega)
      exact cut_74 tn ((un - 2 : Nat)) (y % 4294967296 / 4) (cc + 2) e_7 e_8 e_9 e_10 e_11 _ _ hP hD hS ls (lv_sub hl [0, 1] rfl)
  have cut_49 : ∀ (tn : Nat) (un : Nat) (y : Int) (cc : Int), (tn < 32) → (∃ w : Int, x = 2 ^ tn * (2 * w + 1)) → (1 ≤ un ∧ un ≤ 8) → ((un : Int) + cc = (tn : Int) + 1) → (y = (2 : Int) ^ un - 1) → ∀ (H : Heap) (locs : List Loc), va_P (dC, dI) vwCl [] H → va_D A [] → va_S A s.heap H locs → ∀ (ls : Array Slot), lv_has ls 2 [(0, .int (I3 y)), (1, .int (I3 cc))] → W p l e (headSpec (ws_ yJ6_numberOfTrailingZeros cJ6_numberOfTrailingZeros 2 (some .int)) ({ frames := 1, cells := 0, slots := 0, locals := 40 })).room s m ([.int (I3 x)] : List Value).toArray below meth c H locs 0 0 (MQ below (QmetJ6_numberOfTrailingZeros dC dI dA A x) ([.int (I3 x)] : List Value).toArray s 0 0 A) (F0 m 49 ls []) := by
    intro tn un y cc htn htw hu hucc hy H locs hP hD hS ls hl
    have i_y : In3 y := by rw [hy]; exact tz_i (by omega)
    refine lv_iload_n hx hb dJ6_numberOfTrailingZeros_49 rfl (lv_at hl 0 rfl) ?_
    refine lv_bipush (v := I3 (16)) hx hb dJ6_numberOfTrailingZeros_50 (by decide) ?_
    refine ix_icmp_le (tgt := 62) hx hb (by first | assumption | decide | (constructor <;> omega)) (by first | assumption | decide | (constructor <;> omega)) dJ6_numberOfTrailingZeros_52 (by decide) (fun c_52 => ?_) (fun c_52 => ?_)
    · skip
      have h9 := tz_c (u := un) 4 (p := 16) (by decide)
      have e_12 : tn < 32 := by first | assumption | omega | (constructor <;> omega)
      have e_13 : ∃ w : Int, x = 2 ^ tn * (2 * w + 1) := by first | assumption | omega | (constructor <;> omega)
      have e_14 : 1 ≤ un ∧ un ≤ 4 := by omega
      have e_15 : (un : Int) + cc = (tn : Int) + 1 := by first | assumption | omega | (constructor <;> omega)
      have e_16 : y = (2 : Int) ^ un - 1 := by first | exact hy | rfl | exact rfl
      exact cut_62 tn un y cc e_12 e_13 e_14 e_15 e_16 _ _ hP hD hS ls (lv_sub hl [0, 1] rfl)
    · skip
      refine lv_iinc (v := I3 (cc + 4)) (lv' := [(1, .int (I3 (cc + 4))), (0, .int (I3 y))]) hx hb dJ6_numberOfTrailingZeros_55 hl (k := 1) rfl (I3_add _ _) (by decide) rfl (fun ls hl => ?_)
      refine lv_iload_n hx hb dJ6_numberOfTrailingZeros_58 rfl (lv_at hl 1 rfl) ?_
      refine lv_iconst (v := I3 (4)) hx hb dJ6_numberOfTrailingZeros_59 rfl ?_
      refine ix_iushr hx hb (by first | decide | omega) dJ6_numberOfTrailingZeros_60 ?_
      refine ix_ti (y := y % 4294967296 / 16) rfl ?_
      refine lv_istore_n (lv' := [(0, .int (I3 (y % 4294967296 / 16))), (1, .int (I3 (cc + 4)))]) hx hb dJ6_numberOfTrailingZeros_61 rfl hl (by decide) rfl (fun ls hl => ?_)
      have h9 := tz_c (u := un) 4 (p := 16) (by decide)
      have h10 : 4 ≤ un := by omega
      have e_17 : tn < 32 := by first | assumption | omega | (constructor <;> omega)
      have e_18 : ∃ w : Int, x = 2 ^ tn * (2 * w + 1) := by first | assumption | omega | (constructor <;> omega)
      have e_19 : 1 ≤ ((un - 4 : Nat)) ∧ ((un - 4 : Nat)) ≤ 4 := by omega
      have e_20 : (((un - 4 : Nat)) : Int) + (cc + 4) = (tn : Int) + 1 := by first | assumption | omega | (constructor <;> omega)
      have e_21 : (y % 4294967296 / 16) = (2 : Int) ^ ((un - 4 : Nat)) - 1 := by first | (rw [hy]; exact tz_s (p := 16) (by decide) h10 (by omega)) | exact tz_s (p := 16) (by decide) h10 (by omega)
      exact cut_62 tn ((un - 4 : Nat)) (y % 4294967296 / 16) (cc + 4) e_17 e_18 e_19 e_20 e_21 _ _ hP hD hS ls (lv_sub hl [0, 1] rfl)
  have cut_34 : ∀ (tn : Nat) (un : Nat) (y : Int) (cc : Int), (tn < 32) → (∃ w : Int, x = 2 ^ tn * (2 * w + 1)) → (1 ≤ un ∧ un ≤ 16) → ((un : Int) + cc = (tn : Int) + 1) → (y = (2 : Int) ^ un - 1) → ∀ (H : Heap) (locs : List Loc), va_P (dC, dI) vwCl [] H → va_D A [] → va_S A s.heap H locs → ∀ (ls : Array Slot), lv_has ls 2 [(0, .int (I3 y)), (1, .int (I3 cc))] → W p l e (headSpec (ws_ yJ6_numberOfTrailingZeros cJ6_numberOfTrailingZeros 2 (some .int)) ({ frames := 1, cells := 0, slots := 0, locals := 40 })).room s m ([.int (I3 x)] : List Value).toArray below meth c H locs 0 0 (MQ below (QmetJ6_numberOfTrailingZeros dC dI dA A x) ([.int (I3 x)] : List Value).toArray s 0 0 A) (F0 m 34 ls []) := by
    intro tn un y cc htn htw hu hucc hy H locs hP hD hS ls hl
    have i_y : In3 y := by rw [hy]; exact tz_i (by omega)
    refine lv_iload_n hx hb dJ6_numberOfTrailingZeros_34 rfl (lv_at hl 0 rfl) ?_
    refine lv_sipush (v := I3 (256)) hx hb dJ6_numberOfTrailingZeros_35 (by decide) ?_
    refine ix_icmp_le (tgt := 49) hx hb (by first | assumption | decide | (constructor <;> omega)) (by first | assumption | decide | (constructor <;> omega)) dJ6_numberOfTrailingZeros_38 (by decide) (fun c_38 => ?_) (fun c_38 => ?_)
    · skip
      have h9 := tz_c (u := un) 8 (p := 256) (by decide)
      have e_22 : tn < 32 := by first | assumption | omega | (constructor <;> omega)
      have e_23 : ∃ w : Int, x = 2 ^ tn * (2 * w + 1) := by first | assumption | omega | (constructor <;> omega)
      have e_24 : 1 ≤ un ∧ un ≤ 8 := by omega
      have e_25 : (un : Int) + cc = (tn : Int) + 1 := by first | assumption | omega | (constructor <;> omega)
      have e_26 : y = (2 : Int) ^ un - 1 := by first | exact hy | rfl | exact rfl
      exact cut_49 tn un y cc e_22 e_23 e_24 e_25 e_26 _ _ hP hD hS ls (lv_sub hl [0, 1] rfl)
    · skip
      refine lv_iinc (v := I3 (cc + 8)) (lv' := [(1, .int (I3 (cc + 8))), (0, .int (I3 y))]) hx hb dJ6_numberOfTrailingZeros_41 hl (k := 1) rfl (I3_add _ _) (by decide) rfl (fun ls hl => ?_)
      refine lv_iload_n hx hb dJ6_numberOfTrailingZeros_44 rfl (lv_at hl 1 rfl) ?_
      refine lv_bipush (v := I3 (8)) hx hb dJ6_numberOfTrailingZeros_45 (by decide) ?_
      refine ix_iushr hx hb (by first | decide | omega) dJ6_numberOfTrailingZeros_47 ?_
      refine ix_ti (y := y % 4294967296 / 256) rfl ?_
      refine lv_istore_n (lv' := [(0, .int (I3 (y % 4294967296 / 256))), (1, .int (I3 (cc + 8)))]) hx hb dJ6_numberOfTrailingZeros_48 rfl hl (by decide) rfl (fun ls hl => ?_)
      have h9 := tz_c (u := un) 8 (p := 256) (by decide)
      have h10 : 8 ≤ un := by omega
      have e_27 : tn < 32 := by first | assumption | omega | (constructor <;> omega)
      have e_28 : ∃ w : Int, x = 2 ^ tn * (2 * w + 1) := by first | assumption | omega | (constructor <;> omega)
      have e_29 : 1 ≤ ((un - 8 : Nat)) ∧ ((un - 8 : Nat)) ≤ 8 := by omega
      have e_30 : (((un - 8 : Nat)) : Int) + (cc + 8) = (tn : Int) + 1 := by first | assumption | omega | (constructor <;> omega)
      have e_31 : (y % 4294967296 / 256) = (2 : Int) ^ ((un - 8 : Nat)) - 1 := by first | (rw [hy]; exact tz_s (p := 256) (by decide) h10 (by omega)) | exact tz_s (p := 256) (by decide) h10 (by omega)
      exact cut_49 tn ((un - 8 : Nat)) (y % 4294967296 / 256) (cc + 8) e_27 e_28 e_29 e_30 e_31 _ _ hP hD hS ls (lv_sub hl [0, 1] rfl)
  obtain ⟨tn, htn, w, htw⟩ := tz_ex hx3 hx0
  have i_t := tz_i htn
  have pp_ := ppos tn
  refine lv_iload_n hx hb dJ6_numberOfTrailingZeros_0 rfl (lv_at hl 0 rfl) ?_
  refine lv_iconst (v := I3 (-1)) hx hb dJ6_numberOfTrailingZeros_1 rfl ?_
  refine ix_ixor hx hb dJ6_numberOfTrailingZeros_2 ?_
  refine lv_iload_n hx hb dJ6_numberOfTrailingZeros_3 rfl (lv_at hl 0 rfl) ?_
  refine lv_iconst (v := I3 (1)) hx hb dJ6_numberOfTrailingZeros_4 rfl ?_
  refine ix_isub hx hb dJ6_numberOfTrailingZeros_5 ?_
  refine ix_iand hx hb dJ6_numberOfTrailingZeros_6 ?_
  refine ix_ti (y := 2 ^ tn - 1) (by exact tz_and htn htw) ?_
  refine lv_istore_n (lv' := [(0, .int (I3 (2 ^ tn - 1)))]) hx hb dJ6_numberOfTrailingZeros_7 rfl hl (by decide) rfl (fun ls hl => ?_)
  refine lv_iload_n hx hb dJ6_numberOfTrailingZeros_8 rfl (lv_at hl 0 rfl) ?_
  refine ix_if_gt (tgt := 17) hx hb (by first | assumption | decide | (constructor <;> omega)) dJ6_numberOfTrailingZeros_9 (by decide) (fun c_9 => ?_) (fun c_9 => ?_)
  · skip
    have ht1 : 1 ≤ tn := by have h9 := tz_c (u := tn) 0 (p := 1) (by decide); omega
    have htw2 : ∃ w : Int, x = 2 ^ tn * (2 * w + 1) := ⟨w, htw⟩
    refine lv_iconst (v := I3 (1)) hx hb dJ6_numberOfTrailingZeros_17 rfl ?_
    refine lv_istore_n (lv' := [(1, .int (I3 1)), (0, .int (I3 (2 ^ tn - 1)))]) hx hb dJ6_numberOfTrailingZeros_18 rfl hl (by decide) rfl (fun ls hl => ?_)
    refine lv_iload_n hx hb dJ6_numberOfTrailingZeros_19 rfl (lv_at hl 1 rfl) ?_
    refine lv_ldcw hx hb hown (hts _ q348) dJ6_numberOfTrailingZeros_20 ?_
    refine ix_vi (x := (65536)) (by decide) ?_
    refine ix_icmp_le (tgt := 34) hx hb (by first | assumption | decide | (constructor <;> omega)) (by first | assumption | decide | (constructor <;> omega)) dJ6_numberOfTrailingZeros_23 (by decide) (fun c_23 => ?_) (fun c_23 => ?_)
    · skip
      have h9 := tz_c (u := tn) 16 (p := 65536) (by decide)
      have e_32 : tn < 32 := by first | assumption | omega | (constructor <;> omega)
      have e_33 : ∃ w : Int, x = 2 ^ tn * (2 * w + 1) := by first | assumption | omega | (constructor <;> omega)
      have e_34 : 1 ≤ tn ∧ tn ≤ 16 := by omega
      have e_35 : (tn : Int) + (1 : Int) = (tn : Int) + 1 := by first | assumption | omega | (constructor <;> omega)
      have e_36 : (2 ^ tn - 1) = (2 : Int) ^ tn - 1 := by first | exact hy | rfl | exact rfl
      exact cut_34 tn tn (2 ^ tn - 1) 1 e_32 e_33 e_34 e_35 e_36 _ _ hP hD hS ls (lv_sub hl [1, 0] rfl)
    · skip
      refine lv_iinc (v := I3 (1 + 16)) (lv' := [(1, .int (I3 (1 + 16))), (0, .int (I3 (2 ^ tn - 1)))]) hx hb dJ6_numberOfTrailingZeros_26 hl (k := 0) rfl (I3_add _ _) (by decide) rfl (fun ls hl => ?_)
      refine lv_iload_n hx hb dJ6_numberOfTrailingZeros_29 rfl (lv_at hl 1 rfl) ?_
      refine lv_bipush (v := I3 (16)) hx hb dJ6_numberOfTrailingZeros_30 (by decide) ?_
      refine ix_iushr hx hb (by first | decide | omega) dJ6_numberOfTrailingZeros_32 ?_
      refine ix_ti (y := (2 ^ tn - 1) % 4294967296 / 65536) rfl ?_
      refine lv_istore_n (lv' := [(0, .int (I3 ((2 ^ tn - 1) % 4294967296 / 65536))), (1, .int (I3 (1 + 16)))]) hx hb dJ6_numberOfTrailingZeros_33 rfl hl (by decide) rfl (fun ls hl => ?_)
      have h9 := tz_c (u := tn) 16 (p := 65536) (by decide)
      have h10 : 16 ≤ tn := by omega
      have e_37 : tn < 32 := by first | assumption | omega | (constructor <;> omega)
      have e_38 : ∃ w : Int, x = 2 ^ tn * (2 * w + 1) := by first | assumption | omega | (constructor <;> omega)
      have e_39 : 1 ≤ ((tn - 16 : Nat)) ∧ ((tn - 16 : Nat)) ≤ 16 := by omega
      have e_40 : (((tn - 16 : Nat)) : Int) + (1 + 16 : Int) = (tn : Int) + 1 := by first | assumption | omega | (constructor <;> omega)
      have e_41 : ((2 ^ tn - 1) % 4294967296 / 65536) = (2 : Int) ^ ((tn - 16 : Nat)) - 1 := by first | (rw [hy]; exact tz_s (p := 65536) (by decide) h10 (by omega)) | exact tz_s (p := 65536) (by decide) h10 (by omega)
      exact cut_34 tn ((tn - 16 : Nat)) ((2 ^ tn - 1) % 4294967296 / 65536) (1 + 16) e_37 e_38 e_39 e_40 e_41 _ _ hP hD hS ls (lv_sub hl [0, 1] rfl)
  · skip
    have ht0 : tn = 0 := by have h9 := tz_c (u := tn) 0 (p := 1) (by decide); omega
    subst ht0
    refine lv_iload_n hx hb dJ6_numberOfTrailingZeros_12 rfl (lv_at hl 0 rfl) ?_
    refine lv_bipush (v := I3 (32)) hx hb dJ6_numberOfTrailingZeros_13 (by decide) ?_
    refine ix_iand hx hb dJ6_numberOfTrailingZeros_15 ?_
    refine ix_ti (y := 0) (by decide) ?_
    have o_42 : (0 ≤ (0 : Int) ∧ (0 : Int) < 32) ∧ ∃ w : Int, x = 2 ^ (0 : Int).toNat * (2 * w + 1) := by exact ⟨by omega, w, htw⟩
    exact W.iret (v := I3 0) hx hb hr (fun t ht hW => ⟨⟨I3 0, 0, rfl, ⟨rfl, o_42⟩, by rw [ht]; exact hP, va_K.moved hW.alike hK, hD⟩, hS.F ht⟩) hS.2.2 dJ6_numberOfTrailingZeros_16
