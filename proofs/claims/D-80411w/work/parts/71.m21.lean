/-! the model: its constructor -/
set_option maxRecDepth 100000
abbrev BmetX8_init (dC : Nat → ClassId) (dI : Nat → Nat → Nat) (dA : Nat → ClassId) (A : Nat → Prop) (am : Nat) : Nat × Nat × Nat → State → Prop := fun u t => (fun (u : Nat × Nat × Nat) => (fun (as_ : Nat) (av : Nat) (aw : Nat) => va_P (dC, dI) vwCl [(am, .inr (0, [.int (I3 0), .int (I3 0), .ref as_, .ref av, .ref aw, .int (I3 0), .int (I3 0), .int (I3 0), .int (I3 0), .int (I3 0)])), (as_, .inl (dA 0, 60, .inl (iA (fun _ => 0)))), (av, .inl (dA 1, 960, .inr (.inl (lA (fun _ => 0))))), (aw, .inl (dA 1, 1024, .inr (.inl (lA (fun _ => 0)))))] t.heap ∧ va_K (dC, dI) vwCl (tyA dA) t ∧ va_D A [(am, .inr (0, [.int (I3 0), .int (I3 0), .ref as_, .ref av, .ref aw, .int (I3 0), .int (I3 0), .int (I3 0), .int (I3 0), .int (I3 0)])), (as_, .inl (dA 0, 60, .inl (iA (fun _ => 0)))), (av, .inl (dA 1, 960, .inr (.inl (lA (fun _ => 0))))), (aw, .inl (dA 1, 1024, .inr (.inl (lA (fun _ => 0)))))]) u.1 u.2.1 u.2.2) u
abbrev QmetX8_init (dC : Nat → ClassId) (dI : Nat → Nat → Nat) (dA : Nat → ClassId) (A : Nat → Prop) (am : Nat) := va_Qv (fun (u : Nat × Nat × Nat) => (fun (as_ : Nat) (av : Nat) (aw : Nat) => True) u.1 u.2.1 u.2.2) (BmetX8_init dC dI dA A am) A
set_option maxHeartbeats 1000000 in
set_option maxRecDepth 100000 in
/-- the reference is made -/
theorem metX8_init (l : Launch) (dC : Nat → ClassId) (dI : Nat → Nat → Nat) (dA : Nat → ClassId) (am : Nat) (sz : Nat) : Met l yX8_init (ws_ yX8_init cX8_init 1 none) ({ frames := 2, cells := 3, slots := 2044, locals := 80 }) (va_Pc [.ref am] (fun U => U.heap.size = sz ∧ va_P (dC, dI) vwCl [(am, .inr (0, [.int (I3 0), .int (I3 0), .null, .null, .null, .int (I3 0), .int (I3 0), .int (I3 0), .int (I3 0), .int (I3 0)]))] U.heap ∧ va_K (dC, dI) vwCl (tyA dA) U ∧ va_D (fun _ => True) [(am, .inr (0, [.int (I3 0), .int (I3 0), .null, .null, .null, .int (I3 0), .int (I3 0), .int (I3 0), .int (I3 0), .int (I3 0)]))])) (QmetX8_init dC dI dA (va_A [(am, .inr (0, [.int (I3 0), .int (I3 0), .null, .null, .null, .int (I3 0), .int (I3 0), .int (I3 0), .int (I3 0), .int (I3 0)]))] sz) am) 3 2044 (va_A [(am, .inr (0, [.int (I3 0), .int (I3 0), .null, .null, .null, .int (I3 0), .int (I3 0), .int (I3 0), .int (I3 0), .int (I3 0)]))] sz) := by
  refine Met.ofW (cc := cX8_init) (maxL := 1) (ret := none) (by decide) rfl ?_
  intro p e s m args below meth c s₁ B hml hv
  obtain ⟨rfl, hsz, hP, hK, hD0⟩ := hv
  have hx := B.exec
  have hb := B.bytes
  have hr := B.returns
  have hts := atoms_spec (ws := (ws_ yX8_init cX8_init 1 none)) B.pre
  have hts : ∀ w ∈ lw_all, w.before _ s = true := fun w h => hts w (List.mem_cons_of_mem _ h)
  have hown : s.vm.findClass RX8 = some m.cls := findClass_of_methodNamed B.named
  have hlocks := B.notSynchronized
  have hin : meth.name = "<init>" := (name_of_methodNamed B.named B.method).1
  subst hsz
  have hD := hD0.self (sz := s.heap.size)
  generalize hAe : va_A [(am, .inr (0, [.int (I3 0), .int (I3 0), .null, .null, .null, .int (I3 0), .int (I3 0), .int (I3 0), .int (I3 0), .int (I3 0)]))] s.heap.size = A at hD ⊢
  have hA : ∀ q : Nat, s.heap.size ≤ q → A q := fun q h => by rw [← hAe]; exact Or.inr h
  have hS : va_S A s.heap s.heap [] := va_S.rf
  have hP : va_P (dC, dI) vwCl [(am, .inr (0, [.int (I3 0), .int (I3 0), .null, .null, .null, .int (I3 0), .int (I3 0), .int (I3 0), .int (I3 0), .int (I3 0)]))] s.heap := hP
  have hl := lv_entry ([.ref am]) (n := 1) (Nat.le_of_ble_eq_true rfl)
  rw [lg_entry_eq]
  generalize (lg_sl ([.ref am]) ++ List.replicate (1 - (lg_sl ([.ref am])).length) Slot.unset).toArray = ls at hl ⊢
  have hl : lv_has ls 1 [(0, .ref am)] := hl
  refine lv_aload_n hx hb dX8_init_0 rfl (lv_at hl 0 rfl) ?_
  refine W.objInit hx hb hown (hts _ q912) (hts _ q92) (hts _ q93) rfl (by rw [hml]; exact hl.1) rfl dX8_init_1 (Nat.le_of_ble_eq_true rfl) (Nat.le_of_ble_eq_true rfl) ?_
  refine W.eq (g2 := F0 m 4 ls []) rfl ?_
  refine lv_aload_n hx hb dX8_init_4 rfl (lv_at hl 0 rfl) ?_
  refine lv_bipush (v := I3 (60)) hx hb dX8_init_5 (by decide) ?_
  refine ix_newai hx hb (hts _ q144) hK hP hD hS hA 60 rfl (by decide) (Nat.le_of_ble_eq_true rfl) (Nat.le_of_ble_eq_true rfl) dX8_init_7 (fun nw_7 H hP hD hS => ?_)
  have hP : va_P (dC, dI) vwCl [(am, .inr (0, [.int (I3 0), .int (I3 0), .null, .null, .null, .int (I3 0), .int (I3 0), .int (I3 0), .int (I3 0), .int (I3 0)])), (nw_7, .inl (dA 0, 60, .inl (iA (fun _ => 0))))] H := hP
  have hD : va_D A [(am, .inr (0, [.int (I3 0), .int (I3 0), .null, .null, .null, .int (I3 0), .int (I3 0), .int (I3 0), .int (I3 0), .int (I3 0)])), (nw_7, .inl (dA 0, 60, .inl (iA (fun _ => 0))))] := hD
  refine W.widen (k := 1) (n := 60) (Nat.le_of_ble_eq_true rfl) (Nat.le_of_ble_eq_true rfl) ?_
  refine va_putF (D := (dC, dI)) (ci := 0) (v := .ref nw_7) (ty := (.array .int)) (C := RX8) (T := TX8) (N := 10) hx hb hts in_X8 tyX8 tyX8_ok nmX8 hown hK hP hD hS 0 rfl rfl 2 (by decide) (hts _ q915) (fun _ h9 => h9) rfl hin rfl (by decide +kernel) rfl rfl (Nat.le_of_ble_eq_true rfl) dX8_init_9 (fun H locs hP hD hS => ?_)
  have hP : va_P (dC, dI) vwCl [(am, .inr (0, [.int (I3 0), .int (I3 0), .ref nw_7, .null, .null, .int (I3 0), .int (I3 0), .int (I3 0), .int (I3 0), .int (I3 0)])), (nw_7, .inl (dA 0, 60, .inl (iA (fun _ => 0))))] H := hP
  have hD : va_D A [(am, .inr (0, [.int (I3 0), .int (I3 0), .ref nw_7, .null, .null, .int (I3 0), .int (I3 0), .int (I3 0), .int (I3 0), .int (I3 0)])), (nw_7, .inl (dA 0, 60, .inl (iA (fun _ => 0))))] := hD
  refine lv_aload_n hx hb dX8_init_12 rfl (lv_at hl 0 rfl) ?_
  refine lv_sipush (v := I3 (960)) hx hb dX8_init_13 (by decide) ?_
  refine ix_newal hx hb (hts _ q424) hK hP hD hS hA 960 rfl (by decide) (Nat.le_of_ble_eq_true rfl) (Nat.le_of_ble_eq_true rfl) dX8_init_16 (fun nw_16 H hP hD hS => ?_)
  have hP : va_P (dC, dI) vwCl [(am, .inr (0, [.int (I3 0), .int (I3 0), .ref nw_7, .null, .null, .int (I3 0), .int (I3 0), .int (I3 0), .int (I3 0), .int (I3 0)])), (nw_7, .inl (dA 0, 60, .inl (iA (fun _ => 0)))), (nw_16, .inl (dA 1, 960, .inr (.inl (lA (fun _ => 0)))))] H := hP
  have hD : va_D A [(am, .inr (0, [.int (I3 0), .int (I3 0), .ref nw_7, .null, .null, .int (I3 0), .int (I3 0), .int (I3 0), .int (I3 0), .int (I3 0)])), (nw_7, .inl (dA 0, 60, .inl (iA (fun _ => 0)))), (nw_16, .inl (dA 1, 960, .inr (.inl (lA (fun _ => 0)))))] := hD
  refine W.widen (k := 2) (n := 1020) (Nat.le_of_ble_eq_true rfl) (Nat.le_of_ble_eq_true rfl) ?_
  refine va_putF (D := (dC, dI)) (ci := 0) (v := .ref nw_16) (ty := (.array .long)) (C := RX8) (T := TX8) (N := 10) hx hb hts in_X8 tyX8 tyX8_ok nmX8 hown hK hP hD hS 0 rfl rfl 3 (by decide) (hts _ q916) (fun _ h9 => h9) rfl hin rfl (by decide +kernel) rfl rfl (Nat.le_of_ble_eq_true rfl) dX8_init_18 (fun H locs hP hD hS => ?_)
  have hP : va_P (dC, dI) vwCl [(am, .inr (0, [.int (I3 0), .int (I3 0), .ref nw_7, .ref nw_16, .null, .int (I3 0), .int (I3 0), .int (I3 0), .int (I3 0), .int (I3 0)])), (nw_7, .inl (dA 0, 60, .inl (iA (fun _ => 0)))), (nw_16, .inl (dA 1, 960, .inr (.inl (lA (fun _ => 0)))))] H := hP
  have hD : va_D A [(am, .inr (0, [.int (I3 0), .int (I3 0), .ref nw_7, .ref nw_16, .null, .int (I3 0), .int (I3 0), .int (I3 0), .int (I3 0), .int (I3 0)])), (nw_7, .inl (dA 0, 60, .inl (iA (fun _ => 0)))), (nw_16, .inl (dA 1, 960, .inr (.inl (lA (fun _ => 0)))))] := hD
  refine lv_aload_n hx hb dX8_init_21 rfl (lv_at hl 0 rfl) ?_
  refine lv_sipush (v := I3 (1024)) hx hb dX8_init_22 (by decide) ?_
  refine ix_newal hx hb (hts _ q424) hK hP hD hS hA 1024 rfl (by decide) (Nat.le_of_ble_eq_true rfl) (Nat.le_of_ble_eq_true rfl) dX8_init_25 (fun nw_25 H hP hD hS => ?_)
  have hP : va_P (dC, dI) vwCl [(am, .inr (0, [.int (I3 0), .int (I3 0), .ref nw_7, .ref nw_16, .null, .int (I3 0), .int (I3 0), .int (I3 0), .int (I3 0), .int (I3 0)])), (nw_7, .inl (dA 0, 60, .inl (iA (fun _ => 0)))), (nw_16, .inl (dA 1, 960, .inr (.inl (lA (fun _ => 0))))), (nw_25, .inl (dA 1, 1024, .inr (.inl (lA (fun _ => 0)))))] H := hP
  have hD : va_D A [(am, .inr (0, [.int (I3 0), .int (I3 0), .ref nw_7, .ref nw_16, .null, .int (I3 0), .int (I3 0), .int (I3 0), .int (I3 0), .int (I3 0)])), (nw_7, .inl (dA 0, 60, .inl (iA (fun _ => 0)))), (nw_16, .inl (dA 1, 960, .inr (.inl (lA (fun _ => 0))))), (nw_25, .inl (dA 1, 1024, .inr (.inl (lA (fun _ => 0)))))] := hD
  refine W.widen (k := 3) (n := 2044) (Nat.le_of_ble_eq_true rfl) (Nat.le_of_ble_eq_true rfl) ?_
  refine va_putF (D := (dC, dI)) (ci := 0) (v := .ref nw_25) (ty := (.array .long)) (C := RX8) (T := TX8) (N := 10) hx hb hts in_X8 tyX8 tyX8_ok nmX8 hown hK hP hD hS 0 rfl rfl 4 (by decide) (hts _ q917) (fun _ h9 => h9) rfl hin rfl (by decide +kernel) rfl rfl (Nat.le_of_ble_eq_true rfl) dX8_init_27 (fun H locs hP hD hS => ?_)
  have hP : va_P (dC, dI) vwCl [(am, .inr (0, [.int (I3 0), .int (I3 0), .ref nw_7, .ref nw_16, .ref nw_25, .int (I3 0), .int (I3 0), .int (I3 0), .int (I3 0), .int (I3 0)])), (nw_7, .inl (dA 0, 60, .inl (iA (fun _ => 0)))), (nw_16, .inl (dA 1, 960, .inr (.inl (lA (fun _ => 0))))), (nw_25, .inl (dA 1, 1024, .inr (.inl (lA (fun _ => 0)))))] H := hP
  have hD : va_D A [(am, .inr (0, [.int (I3 0), .int (I3 0), .ref nw_7, .ref nw_16, .ref nw_25, .int (I3 0), .int (I3 0), .int (I3 0), .int (I3 0), .int (I3 0)])), (nw_7, .inl (dA 0, 60, .inl (iA (fun _ => 0)))), (nw_16, .inl (dA 1, 960, .inr (.inl (lA (fun _ => 0))))), (nw_25, .inl (dA 1, 1024, .inr (.inl (lA (fun _ => 0)))))] := hD
  exact W.vret hx hb hr (fun t ht hW => ⟨⟨(nw_7, nw_16, nw_25), rfl, trivial, by rw [ht]; exact hP, va_K.moved hW.alike hK, hD⟩, hS.F ht⟩) hS.2.2 dX8_init_30
