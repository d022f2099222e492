/-! the model: rows -/
set_option maxRecDepth 100000
abbrev BmetX8_zero (dC : Nat → ClassId) (dI : Nat → Nat → Nat) (dA : Nat → ClassId) (A : Nat → Prop) (am : Nat) (as_ : Nat) (av : Nat) (aw : Nat) (th : Int) (mn : Int) (sm : Int) (wd : Int) (lp : Int) (mp : Int) (re : Int) (SG : Int → Int) (VL : Int → Int) (wf : Int → Int) (r : Int) : (Int → Int) → State → Prop := fun u t => (fun (u : (Int → Int)) => (fun (W1 : Int → Int) => va_P (dC, dI) vwCl [(am, .inr (0, [.int (I3 th), .int (I3 mn), .ref as_, .ref av, .ref aw, .int (I3 sm), .int (I3 wd), .int (I3 lp), .int (I3 mp), .int (I3 re)])), (as_, .inl (dA 0, 60, .inl (iA SG))), (av, .inl (dA 1, 960, .inr (.inl (lA VL)))), (aw, .inl (dA 1, 1024, .inr (.inl (lA W1))))] t.heap ∧ va_K (dC, dI) vwCl (tyA dA) t ∧ va_D A [(am, .inr (0, [.int (I3 th), .int (I3 mn), .ref as_, .ref av, .ref aw, .int (I3 sm), .int (I3 wd), .int (I3 lp), .int (I3 mp), .int (I3 re)])), (as_, .inl (dA 0, 60, .inl (iA SG))), (av, .inl (dA 1, 960, .inr (.inl (lA VL)))), (aw, .inl (dA 1, 1024, .inr (.inl (lA W1))))]) u) u
abbrev QmetX8_zero (dC : Nat → ClassId) (dI : Nat → Nat → Nat) (dA : Nat → ClassId) (A : Nat → Prop) (am : Nat) (as_ : Nat) (av : Nat) (aw : Nat) (th : Int) (mn : Int) (sm : Int) (wd : Int) (lp : Int) (mp : Int) (re : Int) (SG : Int → Int) (VL : Int → Int) (wf : Int → Int) (r : Int) := va_Qv (fun (u : (Int → Int)) => (fun (W1 : Int → Int) => (Dg W1) ∧ (Fr wf W1 r) ∧ (∀ i : Int, 64 * r ≤ i → i < 64 * r + 64 → W1 i = 0)) u) (BmetX8_zero dC dI dA A am as_ av aw th mn sm wd lp mp re SG VL wf r) A
set_option maxHeartbeats 1000000 in
set_option maxRecDepth 100000 in
/-- row r becomes 0 -/
theorem metX8_zero (l : Launch) (dC : Nat → ClassId) (dI : Nat → Nat → Nat) (dA : Nat → ClassId) (am : Nat) (as_ : Nat) (av : Nat) (aw : Nat) (sz : Nat) (th : Int) (mn : Int) (sm : Int) (wd : Int) (lp : Int) (mp : Int) (re : Int) (SG : Int → Int) (VL : Int → Int) (wf : Int → Int) (r : Int) (hr : 0 ≤ r ∧ r < 16) (hW : Dg wf) : Met l yX8_zero (ws_ yX8_zero cX8_zero 3 none) ({ frames := 1, cells := 0, slots := 0, locals := 40 }) (va_Pc [.ref am, .int (I3 r)] (fun U => U.heap.size = sz ∧ va_P (dC, dI) vwCl [(am, .inr (0, [.int (I3 th), .int (I3 mn), .ref as_, .ref av, .ref aw, .int (I3 sm), .int (I3 wd), .int (I3 lp), .int (I3 mp), .int (I3 re)])), (as_, .inl (dA 0, 60, .inl (iA SG))), (av, .inl (dA 1, 960, .inr (.inl (lA VL)))), (aw, .inl (dA 1, 1024, .inr (.inl (lA wf))))] U.heap ∧ va_K (dC, dI) vwCl (tyA dA) U ∧ va_D (fun _ => True) [(am, .inr (0, [.int (I3 th), .int (I3 mn), .ref as_, .ref av, .ref aw, .int (I3 sm), .int (I3 wd), .int (I3 lp), .int (I3 mp), .int (I3 re)])), (as_, .inl (dA 0, 60, .inl (iA SG))), (av, .inl (dA 1, 960, .inr (.inl (lA VL)))), (aw, .inl (dA 1, 1024, .inr (.inl (lA wf))))])) (QmetX8_zero dC dI dA (va_A [(am, .inr (0, [.int (I3 th), .int (I3 mn), .ref as_, .ref av, .ref aw, .int (I3 sm), .int (I3 wd), .int (I3 lp), .int (I3 mp), .int (I3 re)])), (as_, .inl (dA 0, 60, .inl (iA SG))), (av, .inl (dA 1, 960, .inr (.inl (lA VL)))), (aw, .inl (dA 1, 1024, .inr (.inl (lA wf))))] sz) am as_ av aw th mn sm wd lp mp re SG VL wf r) 0 0 (va_A [(am, .inr (0, [.int (I3 th), .int (I3 mn), .ref as_, .ref av, .ref aw, .int (I3 sm), .int (I3 wd), .int (I3 lp), .int (I3 mp), .int (I3 re)])), (as_, .inl (dA 0, 60, .inl (iA SG))), (av, .inl (dA 1, 960, .inr (.inl (lA VL)))), (aw, .inl (dA 1, 1024, .inr (.inl (lA wf))))] sz) := by
  refine Met.ofW (cc := cX8_zero) (maxL := 3) (ret := none) (by decide) rfl ?_
  intro p e s m args below meth c s₁ B hml hv
  obtain ⟨rfl, hsz, hP, hK, hD0⟩ := hv
  have hx := B.exec
  have hb := B.bytes
  have hr := B.returns
  have hts := atoms_spec (ws := (ws_ yX8_zero cX8_zero 3 none)) B.pre
  have hts : ∀ w ∈ lw_all, w.before _ s = true := fun w h => hts w (List.mem_cons_of_mem _ h)
  have hown : s.vm.findClass RX8 = some m.cls := findClass_of_methodNamed B.named
  have hlocks := B.notSynchronized
  subst hsz
  have hD := hD0.self (sz := s.heap.size)
  generalize hAe : va_A [(am, .inr (0, [.int (I3 th), .int (I3 mn), .ref as_, .ref av, .ref aw, .int (I3 sm), .int (I3 wd), .int (I3 lp), .int (I3 mp), .int (I3 re)])), (as_, .inl (dA 0, 60, .inl (iA SG))), (av, .inl (dA 1, 960, .inr (.inl (lA VL)))), (aw, .inl (dA 1, 1024, .inr (.inl (lA wf))))] s.heap.size = A at hD ⊢
  have hA : ∀ q : Nat, s.heap.size ≤ q → A q := fun q h => by rw [← hAe]; exact Or.inr h
  have hS : va_S A s.heap s.heap [] := va_S.rf
  have hP : va_P (dC, dI) vwCl [(am, .inr (0, [.int (I3 th), .int (I3 mn), .ref as_, .ref av, .ref aw, .int (I3 sm), .int (I3 wd), .int (I3 lp), .int (I3 mp), .int (I3 re)])), (as_, .inl (dA 0, 60, .inl (iA SG))), (av, .inl (dA 1, 960, .inr (.inl (lA VL)))), (aw, .inl (dA 1, 1024, .inr (.inl (lA wf))))] s.heap := hP
  have hl := lv_entry ([.ref am, .int (I3 r)]) (n := 3) (Nat.le_of_ble_eq_true rfl)
  rw [lg_entry_eq]
  generalize (lg_sl ([.ref am, .int (I3 r)]) ++ List.replicate (3 - (lg_sl ([.ref am, .int (I3 r)])).length) Slot.unset).toArray = ls at hl ⊢
  have hl : lv_has ls 3 [(0, .ref am), (1, .int (I3 r))] := hl
  have cut_2 : ∀ (fuel_2 : Nat), ∀ (k : Int) (W1 : Int → Int), (0 ≤ k ∧ k ≤ 64) → (Dg W1) → (Fr wf W1 r) → (∀ i : Int, 64 * r ≤ i → i < 64 * r + k → W1 i = 0) → ((64 - k).toNat < fuel_2) → ∀ (H : Heap) (locs : List Loc), va_P (dC, dI) vwCl [(am, .inr (0, [.int (I3 th), .int (I3 mn), .ref as_, .ref av, .ref aw, .int (I3 sm), .int (I3 wd), .int (I3 lp), .int (I3 mp), .int (I3 re)])), (as_, .inl (dA 0, 60, .inl (iA SG))), (av, .inl (dA 1, 960, .inr (.inl (lA VL)))), (aw, .inl (dA 1, 1024, .inr (.inl (lA W1))))] H → va_D A [(am, .inr (0, [.int (I3 th), .int (I3 mn), .ref as_, .ref av, .ref aw, .int (I3 sm), .int (I3 wd), .int (I3 lp), .int (I3 mp), .int (I3 re)])), (as_, .inl (dA 0, 60, .inl (iA SG))), (av, .inl (dA 1, 960, .inr (.inl (lA VL)))), (aw, .inl (dA 1, 1024, .inr (.inl (lA W1))))] → va_S A s.heap H locs → ∀ (ls : Array Slot), lv_has ls 3 [(0, .ref am), (1, .int (I3 r)), (2, .int (I3 k))] → W p l e (headSpec (ws_ yX8_zero cX8_zero 3 none) ({ frames := 1, cells := 0, slots := 0, locals := 40 })).room s m ([.ref am, .int (I3 r)] : List Value).toArray below meth c H locs 0 0 (MQ below (QmetX8_zero dC dI dA A am as_ av aw th mn sm wd lp mp re SG VL wf r) ([.ref am, .int (I3 r)] : List Value).toArray s 0 0 A) (F0 m 2 ls []) := by
    intro fuel_2
    induction fuel_2 with
    | zero =>
      intro k W1 hk hW1 hF hz hm
      exact absurd hm (Nat.not_lt_zero _)
    | succ fuel_2 ih_2 =>
      intro k W1 hk hW1 hF hz hm_2 H locs hP hD hS ls hl
      refine lv_iload_n hx hb dX8_zero_2 rfl (lv_at hl 2 rfl) ?_
      refine lv_bipush (v := I3 (64)) hx hb dX8_zero_3 (by decide) ?_
      refine ix_icmp_ge (tgt := 26) hx hb (by first | decide | assumption | (constructor <;> omega)) (by first | decide | assumption | (constructor <;> omega)) dX8_zero_5 (by decide) (fun c_5 => ?_) (fun c_5 => ?_)
      · skip
        have o_1 : Dg W1 := by first | assumption | omega | (constructor <;> omega)
        have o_2 : Fr wf W1 r := by first | assumption | omega | (constructor <;> omega)
        have o_3 : ∀ i : Int, 64 * r ≤ i → i < 64 * r + 64 → W1 i = 0 := by intro i h1 h2; exact hz i h1 (by omega)
        exact W.vret hx hb hr (fun t ht hW => ⟨⟨W1, rfl, ⟨o_1, o_2, o_3⟩, by rw [ht]; exact hP, va_K.moved hW.alike hK, hD⟩, hS.F ht⟩) hS.2.2 dX8_zero_26
      · skip
        refine lv_aload_n hx hb dX8_zero_8 rfl (lv_at hl 0 rfl) ?_
        refine va_get (D := (dC, dI)) (ci := 0) (v := .ref aw) (C := RX8) (T := TX8) (N := 10) hx hb hts in_X8 hown hK hP 0 rfl rfl 4 (by decide) (hts _ q917) (fun _ h9 => h9) rfl dX8_zero_9 ?_
        refine lv_bipush (v := I3 (64)) hx hb dX8_zero_12 (by decide) ?_
        refine lv_iload_n hx hb dX8_zero_14 rfl (lv_at hl 1 rfl) ?_
        refine ix_imul hx hb dX8_zero_15 ?_
        refine lv_iload_n hx hb dX8_zero_16 rfl (lv_at hl 2 rfl) ?_
        refine ix_iadd hx hb dX8_zero_17 ?_
        refine lv_lconst (v := L6 0) hx hb dX8_zero_18 (by decide) ?_
        refine ix_last hx hb hK hP hD hS 3 1 rfl rfl (Nat.le_of_ble_eq_true rfl) (by omega) dX8_zero_19 (fun H locs hP hD hS => ?_)
        have hP : va_P (dC, dI) vwCl [(am, .inr (0, [.int (I3 th), .int (I3 mn), .ref as_, .ref av, .ref aw, .int (I3 sm), .int (I3 wd), .int (I3 lp), .int (I3 mp), .int (I3 re)])), (as_, .inl (dA 0, 60, .inl (iA SG))), (av, .inl (dA 1, 960, .inr (.inl (lA VL)))), (aw, .inl (dA 1, 1024, .inr (.inl (lA (uZ W1 ((64 * r) + k) 0)))))] H := hP
        have hD : va_D A [(am, .inr (0, [.int (I3 th), .int (I3 mn), .ref as_, .ref av, .ref aw, .int (I3 sm), .int (I3 wd), .int (I3 lp), .int (I3 mp), .int (I3 re)])), (as_, .inl (dA 0, 60, .inl (iA SG))), (av, .inl (dA 1, 960, .inr (.inl (lA VL)))), (aw, .inl (dA 1, 1024, .inr (.inl (lA (uZ W1 ((64 * r) + k) 0)))))] := hD
        refine lv_iinc (v := I3 (k + 1)) (lv' := [(2, .int (I3 (k + 1))), (0, .ref am), (1, .int (I3 r))]) hx hb dX8_zero_20 hl (k := 2) rfl (I3_add _ _) (by decide) rfl (fun ls hl => ?_)
        refine lv_goto (tgt := 2) hx hb dX8_zero_23 (by decide) ?_
        have e_4 : 0 ≤ (k + 1) ∧ (k + 1) ≤ 64 := by first | assumption | omega | (constructor <;> omega)
        have e_5 : Dg (uZ W1 ((64 * r) + k) 0) := by exact Dg_uZ hW1 (by omega) (by omega)
        have e_6 : Fr wf (uZ W1 ((64 * r) + k) 0) r := by exact Fr_uZ hF (by omega)
        have e_7 : ∀ i : Int, 64 * r ≤ i → i < 64 * r + (k + 1) → (uZ W1 ((64 * r) + k) 0) i = 0 := by intro i h1 h2; unfold uZ; split; rfl; exact hz i h1 (by omega)
        have e_8 : (64 - (k + 1)).toNat < fuel_2 := by omega
        exact ih_2 (k + 1) (uZ W1 ((64 * r) + k) 0) e_4 e_5 e_6 e_7 e_8 _ _ hP hD hS ls (lv_sub hl [1, 2, 0] rfl)
  refine lv_iconst (v := I3 (0)) hx hb dX8_zero_0 rfl ?_
  refine lv_istore_n (lv' := [(2, .int (I3 0)), (0, .ref am), (1, .int (I3 r))]) hx hb dX8_zero_1 rfl hl (by decide) rfl (fun ls hl => ?_)
  have e_9 : 0 ≤ (0 : Int) ∧ (0 : Int) ≤ 64 := by first | assumption | omega | (constructor <;> omega)
  have e_10 : Dg wf := by first | assumption | omega | (constructor <;> omega)
  have e_11 : Fr wf wf r := by exact Fr_rf
  have e_12 : ∀ i : Int, 64 * r ≤ i → i < 64 * r + (0 : Int) → wf i = 0 := by intro i h1 h2; omega
  exact cut_2 ((64 - (0 : Int)).toNat + 1) 0 wf e_9 e_10 e_11 e_12 (Nat.lt_succ_self _) _ _ hP hD hS ls (lv_sub hl [1, 2, 0] rfl)
abbrev BmetX8_set (dC : Nat → ClassId) (dI : Nat → Nat → Nat) (dA : Nat → ClassId) (A : Nat → Prop) (am : Nat) (as_ : Nat) (av : Nat) (aw : Nat) (th : Int) (mn : Int) (sm : Int) (wd : Int) (lp : Int) (mp : Int) (re : Int) (SG : Int → Int) (VL : Int → Int) (wf : Int → Int) (r : Int) (v : Int) : (Int → Int) → State → Prop := fun u t => (fun (u : (Int → Int)) => (fun (W1 : Int → Int) => va_P (dC, dI) vwCl [(am, .inr (0, [.int (I3 th), .int (I3 mn), .ref as_, .ref av, .ref aw, .int (I3 sm), .int (I3 wd), .int (I3 lp), .int (I3 mp), .int (I3 re)])), (as_, .inl (dA 0, 60, .inl (iA SG))), (av, .inl (dA 1, 960, .inr (.inl (lA VL)))), (aw, .inl (dA 1, 1024, .inr (.inl (lA W1))))] t.heap ∧ va_K (dC, dI) vwCl (tyA dA) t ∧ va_D A [(am, .inr (0, [.int (I3 th), .int (I3 mn), .ref as_, .ref av, .ref aw, .int (I3 sm), .int (I3 wd), .int (I3 lp), .int (I3 mp), .int (I3 re)])), (as_, .inl (dA 0, 60, .inl (iA SG))), (av, .inl (dA 1, 960, .inr (.inl (lA VL)))), (aw, .inl (dA 1, 1024, .inr (.inl (lA W1))))]) u) u
abbrev QmetX8_set (dC : Nat → ClassId) (dI : Nat → Nat → Nat) (dA : Nat → ClassId) (A : Nat → Prop) (am : Nat) (as_ : Nat) (av : Nat) (aw : Nat) (th : Int) (mn : Int) (sm : Int) (wd : Int) (lp : Int) (mp : Int) (re : Int) (SG : Int → Int) (VL : Int → Int) (wf : Int → Int) (r : Int) (v : Int) := va_Qv (fun (u : (Int → Int)) => (fun (W1 : Int → Int) => (Dg W1) ∧ (Fr wf W1 r) ∧ (rv W1 r = (v % 18446744073709551616).toNat)) u) (BmetX8_set dC dI dA A am as_ av aw th mn sm wd lp mp re SG VL wf r v) A
set_option maxHeartbeats 1000000 in
set_option maxRecDepth 100000 in
/-- row r becomes v -/
theorem metX8_set (l : Launch) (dC : Nat → ClassId) (dI : Nat → Nat → Nat) (dA : Nat → ClassId) (am : Nat) (as_ : Nat) (av : Nat) (aw : Nat) (sz : Nat) (th : Int) (mn : Int) (sm : Int) (wd : Int) (lp : Int) (mp : Int) (re : Int) (SG : Int → Int) (VL : Int → Int) (wf : Int → Int) (r : Int) (v : Int) (hr : 0 ≤ r ∧ r < 16) (hW : Dg wf) : Met l yX8_set (ws_ yX8_set cX8_set 4 none) ({ frames := 2, cells := 0, slots := 0, locals := 80 }) (va_Pc [.ref am, .int (I3 r), .long (L6 v)] (fun U => U.heap.size = sz ∧ va_P (dC, dI) vwCl [(am, .inr (0, [.int (I3 th), .int (I3 mn), .ref as_, .ref av, .ref aw, .int (I3 sm), .int (I3 wd), .int (I3 lp), .int (I3 mp), .int (I3 re)])), (as_, .inl (dA 0, 60, .inl (iA SG))), (av, .inl (dA 1, 960, .inr (.inl (lA VL)))), (aw, .inl (dA 1, 1024, .inr (.inl (lA wf))))] U.heap ∧ va_K (dC, dI) vwCl (tyA dA) U ∧ va_D (fun _ => True) [(am, .inr (0, [.int (I3 th), .int (I3 mn), .ref as_, .ref av, .ref aw, .int (I3 sm), .int (I3 wd), .int (I3 lp), .int (I3 mp), .int (I3 re)])), (as_, .inl (dA 0, 60, .inl (iA SG))), (av, .inl (dA 1, 960, .inr (.inl (lA VL)))), (aw, .inl (dA 1, 1024, .inr (.inl (lA wf))))])) (QmetX8_set dC dI dA (va_A [(am, .inr (0, [.int (I3 th), .int (I3 mn), .ref as_, .ref av, .ref aw, .int (I3 sm), .int (I3 wd), .int (I3 lp), .int (I3 mp), .int (I3 re)])), (as_, .inl (dA 0, 60, .inl (iA SG))), (av, .inl (dA 1, 960, .inr (.inl (lA VL)))), (aw, .inl (dA 1, 1024, .inr (.inl (lA wf))))] sz) am as_ av aw th mn sm wd lp mp re SG VL wf r v) 0 0 (va_A [(am, .inr (0, [.int (I3 th), .int (I3 mn), .ref as_, .ref av, .ref aw, .int (I3 sm), .int (I3 wd), .int (I3 lp), .int (I3 mp), .int (I3 re)])), (as_, .inl (dA 0, 60, .inl (iA SG))), (av, .inl (dA 1, 960, .inr (.inl (lA VL)))), (aw, .inl (dA 1, 1024, .inr (.inl (lA wf))))] sz) := by
  refine Met.ofW (cc := cX8_set) (maxL := 4) (ret := none) (by decide) rfl ?_
  intro p e s m args below meth c s₁ B hml hv
  obtain ⟨rfl, hsz, hP, hK, hD0⟩ := hv
  have hx := B.exec
  have hb := B.bytes
  have hr := B.returns
  have hts := atoms_spec (ws := (ws_ yX8_set cX8_set 4 none)) B.pre
  have hts : ∀ w ∈ lw_all, w.before _ s = true := fun w h => hts w (List.mem_cons_of_mem _ h)
  have hown : s.vm.findClass RX8 = some m.cls := findClass_of_methodNamed B.named
  have hlocks := B.notSynchronized
  subst hsz
  have hD := hD0.self (sz := s.heap.size)
  generalize hAe : va_A [(am, .inr (0, [.int (I3 th), .int (I3 mn), .ref as_, .ref av, .ref aw, .int (I3 sm), .int (I3 wd), .int (I3 lp), .int (I3 mp), .int (I3 re)])), (as_, .inl (dA 0, 60, .inl (iA SG))), (av, .inl (dA 1, 960, .inr (.inl (lA VL)))), (aw, .inl (dA 1, 1024, .inr (.inl (lA wf))))] s.heap.size = A at hD ⊢
  have hA : ∀ q : Nat, s.heap.size ≤ q → A q := fun q h => by rw [← hAe]; exact Or.inr h
  have hS : va_S A s.heap s.heap [] := va_S.rf
  have hP : va_P (dC, dI) vwCl [(am, .inr (0, [.int (I3 th), .int (I3 mn), .ref as_, .ref av, .ref aw, .int (I3 sm), .int (I3 wd), .int (I3 lp), .int (I3 mp), .int (I3 re)])), (as_, .inl (dA 0, 60, .inl (iA SG))), (av, .inl (dA 1, 960, .inr (.inl (lA VL)))), (aw, .inl (dA 1, 1024, .inr (.inl (lA wf))))] s.heap := hP
  have hl := lv_entry ([.ref am, .int (I3 r), .long (L6 v)]) (n := 4) (Nat.le_of_ble_eq_true rfl)
  rw [lg_entry_eq]
  generalize (lg_sl ([.ref am, .int (I3 r), .long (L6 v)]) ++ List.replicate (4 - (lg_sl ([.ref am, .int (I3 r), .long (L6 v)])).length) Slot.unset).toArray = ls at hl ⊢
  have hl : lv_has ls 4 [(0, .ref am), (1, .int (I3 r)), (2, .long (L6 v))] := hl
  refine lv_aload_n hx hb dX8_set_0 rfl (lv_at hl 0 rfl) ?_
  refine lv_iload_n hx hb dX8_set_1 rfl (lv_at hl 1 rfl) ?_
  have h_1 : 0 ≤ r ∧ r < 16 := by first | assumption | omega | (constructor <;> omega)
  have h_2 : Dg wf := by first | assumption | omega | (constructor <;> omega)
  have hPc := hP.sub (ws' := [(am, .inr (0, [.int (I3 th), .int (I3 mn), .ref as_, .ref av, .ref aw, .int (I3 sm), .int (I3 wd), .int (I3 lp), .int (I3 mp), .int (I3 re)])), (as_, .inl (dA 0, 60, .inl (iA SG))), (av, .inl (dA 1, 960, .inr (.inl (lA VL)))), (aw, .inl (dA 1, 1024, .inr (.inl (lA wf))))]) [0, 1, 2, 3] rfl
  have hDc := hD.sub (ws' := [(am, .inr (0, [.int (I3 th), .int (I3 mn), .ref as_, .ref av, .ref aw, .int (I3 sm), .int (I3 wd), .int (I3 lp), .int (I3 mp), .int (I3 re)])), (as_, .inl (dA 0, 60, .inl (iA SG))), (av, .inl (dA 1, 960, .inr (.inl (lA VL)))), (aw, .inl (dA 1, 1024, .inr (.inl (lA wf))))]) [0, 1, 2, 3] (by decide) rfl
  have hFc := va_free (wc := [(am, .inr (0, [.int (I3 th), .int (I3 mn), .ref as_, .ref av, .ref aw, .int (I3 sm), .int (I3 wd), .int (I3 lp), .int (I3 mp), .int (I3 re)])), (as_, .inl (dA 0, 60, .inl (iA SG))), (av, .inl (dA 1, 960, .inr (.inl (lA VL)))), (aw, .inl (dA 1, 1024, .inr (.inl (lA wf))))]) hD hS hA [0, 1, 2, 3] rfl
  refine va_callv (va_runV (As := [.int (I3 r)]) (rest := []) ⟨hx, hb, hml, hown, hts⟩ (metX8_zero l dC dI dA am as_ av aw s.heap.size th mn sm wd lp mp re SG VL wf r h_1 h_2) (cwV 1 hts (lw_V q959 q961 qs20 q66 q962) rfl rfl rfl (by decide +kernel) ⟨Nat.le_of_ble_eq_true rfl, Nat.le_of_ble_eq_true rfl⟩) ⟨fun a U g mk q => by obtain ⟨q0, q1, qP, qK, qD⟩ := q; exact ⟨q0, q1, qP, va_K.moved (u := U) (U := U.calling g mk a) (Vm.Alike.refl U.vm) qK, qD⟩, va_recv hK hPc (ci := 0) (q0 := 0) rfl rfl, fun U hU hW => ⟨rfl, by rw [hU], by rw [hU]; exact hPc, va_K.moved hW.alike hK, hDc.weaken (fun _ _ _ _ => trivial)⟩⟩ rfl rfl hl.1 rfl (lv_room (Nat.le_of_ble_eq_true rfl)) dX8_set_2 ⟨Nat.le_of_ble_eq_true rfl, Nat.le_of_ble_eq_true rfl⟩) hS (fun q _ h => hFc q h) hFc (fun u t H1 locs ht hvm hw hB hz1 hk1 hS => ?_)
  obtain ⟨W1_2, rfl⟩ : ∃ z, z = u := ⟨_, rfl⟩
  obtain ⟨p0_2, p1_2, p2_2⟩ : (Dg W1_2) ∧ (Fr wf W1_2 r) ∧ (∀ i : Int, 64 * r ≤ i → i < 64 * r + 64 → W1_2 i = 0) := hw
  obtain ⟨hP1, hK1, hD1⟩ := hB
  rw [ht] at hP1
  obtain ⟨hP, hD⟩ := va_join (wr := []) (w1 := [(am, .inr (0, [.int (I3 th), .int (I3 mn), .ref as_, .ref av, .ref aw, .int (I3 sm), .int (I3 wd), .int (I3 lp), .int (I3 mp), .int (I3 re)])), (as_, .inl (dA 0, 60, .inl (iA SG))), (av, .inl (dA 1, 960, .inr (.inl (lA VL)))), (aw, .inl (dA 1, 1024, .inr (.inl (lA W1_2))))]) hP hD [0, 1, 2, 3] [] rfl rfl (by decide) (by decide) hk1 hFc hP1 hD1
  generalize H1 = H at hP hS ⊢
  have hP : va_P (dC, dI) vwCl [(am, .inr (0, [.int (I3 th), .int (I3 mn), .ref as_, .ref av, .ref aw, .int (I3 sm), .int (I3 wd), .int (I3 lp), .int (I3 mp), .int (I3 re)])), (as_, .inl (dA 0, 60, .inl (iA SG))), (av, .inl (dA 1, 960, .inr (.inl (lA VL)))), (aw, .inl (dA 1, 1024, .inr (.inl (lA W1_2))))] H := hP
  have hD : va_D A [(am, .inr (0, [.int (I3 th), .int (I3 mn), .ref as_, .ref av, .ref aw, .int (I3 sm), .int (I3 wd), .int (I3 lp), .int (I3 mp), .int (I3 re)])), (as_, .inl (dA 0, 60, .inl (iA SG))), (av, .inl (dA 1, 960, .inr (.inl (lA VL)))), (aw, .inl (dA 1, 1024, .inr (.inl (lA W1_2))))] := hD
  refine lv_aload_n hx hb dX8_set_5 rfl (lv_at hl 0 rfl) ?_
  refine va_get (D := (dC, dI)) (ci := 0) (v := .ref aw) (C := RX8) (T := TX8) (N := 10) hx hb hts in_X8 hown hK hP 0 rfl rfl 4 (by decide) (hts _ q917) (fun _ h9 => h9) rfl dX8_set_6 ?_
  refine lv_bipush (v := I3 (64)) hx hb dX8_set_9 (by decide) ?_
  refine lv_iload_n hx hb dX8_set_11 rfl (lv_at hl 1 rfl) ?_
  refine ix_imul hx hb dX8_set_12 ?_
  refine lv_lload_n hx hb dX8_set_13 rfl (lv_at hl 2 rfl) ?_
  refine lv_ldc2 hx hb hown (hts _ q963) dX8_set_14 ?_
  refine ix_vl (x := (4294967295)) (by decide) ?_
  refine ix_landm hx hb 32 (by decide) (by decide) dX8_set_17 ?_
  refine ix_tl (y := v % 4294967296) rfl ?_
  refine ix_last hx hb hK hP hD hS 3 1 rfl rfl (Nat.le_of_ble_eq_true rfl) (by omega) dX8_set_18 (fun H locs hP hD hS => ?_)
  have hP : va_P (dC, dI) vwCl [(am, .inr (0, [.int (I3 th), .int (I3 mn), .ref as_, .ref av, .ref aw, .int (I3 sm), .int (I3 wd), .int (I3 lp), .int (I3 mp), .int (I3 re)])), (as_, .inl (dA 0, 60, .inl (iA SG))), (av, .inl (dA 1, 960, .inr (.inl (lA VL)))), (aw, .inl (dA 1, 1024, .inr (.inl (lA (uZ W1_2 (64 * r) (v % 4294967296))))))] H := hP
  have hD : va_D A [(am, .inr (0, [.int (I3 th), .int (I3 mn), .ref as_, .ref av, .ref aw, .int (I3 sm), .int (I3 wd), .int (I3 lp), .int (I3 mp), .int (I3 re)])), (as_, .inl (dA 0, 60, .inl (iA SG))), (av, .inl (dA 1, 960, .inr (.inl (lA VL)))), (aw, .inl (dA 1, 1024, .inr (.inl (lA (uZ W1_2 (64 * r) (v % 4294967296))))))] := hD
  refine lv_aload_n hx hb dX8_set_19 rfl (lv_at hl 0 rfl) ?_
  refine va_get (D := (dC, dI)) (ci := 0) (v := .ref aw) (C := RX8) (T := TX8) (N := 10) hx hb hts in_X8 hown hK hP 0 rfl rfl 4 (by decide) (hts _ q917) (fun _ h9 => h9) rfl dX8_set_20 ?_
  refine lv_bipush (v := I3 (64)) hx hb dX8_set_23 (by decide) ?_
  refine lv_iload_n hx hb dX8_set_25 rfl (lv_at hl 1 rfl) ?_
  refine ix_imul hx hb dX8_set_26 ?_
  refine lv_iconst (v := I3 (1)) hx hb dX8_set_27 rfl ?_
  refine ix_iadd hx hb dX8_set_28 ?_
  refine lv_lload_n hx hb dX8_set_29 rfl (lv_at hl 2 rfl) ?_
  refine lv_bipush (v := I3 (32)) hx hb dX8_set_30 (by decide) ?_
  refine ix_lushr hx hb (by first | decide | omega) dX8_set_32 ?_
  refine ix_tl (y := v % 18446744073709551616 / 4294967296) rfl ?_
  refine ix_last hx hb hK hP hD hS 3 1 rfl rfl (Nat.le_of_ble_eq_true rfl) (by omega) dX8_set_33 (fun H locs hP hD hS => ?_)
  have hP : va_P (dC, dI) vwCl [(am, .inr (0, [.int (I3 th), .int (I3 mn), .ref as_, .ref av, .ref aw, .int (I3 sm), .int (I3 wd), .int (I3 lp), .int (I3 mp), .int (I3 re)])), (as_, .inl (dA 0, 60, .inl (iA SG))), (av, .inl (dA 1, 960, .inr (.inl (lA VL)))), (aw, .inl (dA 1, 1024, .inr (.inl (lA (uZ (uZ W1_2 (64 * r) (v % 4294967296)) ((64 * r) + 1) (v % 18446744073709551616 / 4294967296))))))] H := hP
  have hD : va_D A [(am, .inr (0, [.int (I3 th), .int (I3 mn), .ref as_, .ref av, .ref aw, .int (I3 sm), .int (I3 wd), .int (I3 lp), .int (I3 mp), .int (I3 re)])), (as_, .inl (dA 0, 60, .inl (iA SG))), (av, .inl (dA 1, 960, .inr (.inl (lA VL)))), (aw, .inl (dA 1, 1024, .inr (.inl (lA (uZ (uZ W1_2 (64 * r) (v % 4294967296)) ((64 * r) + 1) (v % 18446744073709551616 / 4294967296))))))] := hD
  have o_3 : Dg (uZ (uZ W1_2 (64 * r) (v % 4294967296)) ((64 * r) + 1) (v % 18446744073709551616 / 4294967296)) := by exact Dg_uZ (Dg_uZ p0_2 (by omega) (by omega)) (by omega) (by omega)
  have o_4 : Fr wf (uZ (uZ W1_2 (64 * r) (v % 4294967296)) ((64 * r) + 1) (v % 18446744073709551616 / 4294967296)) r := by exact Fr_uZ (Fr_uZ p1_2 (by omega)) (by omega)
  have o_5 : rv (uZ (uZ W1_2 (64 * r) (v % 4294967296)) ((64 * r) + 1) (v % 18446744073709551616 / 4294967296)) r = (v % 18446744073709551616).toNat := by exact set_rv p2_2
  exact W.vret hx hb hr (fun t ht hW => ⟨⟨(uZ (uZ W1_2 (64 * r) (v % 4294967296)) ((64 * r) + 1) (v % 18446744073709551616 / 4294967296)), rfl, ⟨o_3, o_4, o_5⟩, by rw [ht]; exact hP, va_K.moved hW.alike hK, hD⟩, hS.F ht⟩) hS.2.2 dX8_set_34
abbrev BmetX8_copy (dC : Nat → ClassId) (dI : Nat → Nat → Nat) (dA : Nat → ClassId) (A : Nat → Prop) (am : Nat) (as_ : Nat) (av : Nat) (aw : Nat) (th : Int) (mn : Int) (sm : Int) (wd : Int) (lp : Int) (mp : Int) (re : Int) (SG : Int → Int) (VL : Int → Int) (wf : Int → Int) (f : Int) (t : Int) : (Int → Int) → State → Prop := fun u t => (fun (u : (Int → Int)) => (fun (W1 : Int → Int) => va_P (dC, dI) vwCl [(am, .inr (0, [.int (I3 th), .int (I3 mn), .ref as_, .ref av, .ref aw, .int (I3 sm), .int (I3 wd), .int (I3 lp), .int (I3 mp), .int (I3 re)])), (as_, .inl (dA 0, 60, .inl (iA SG))), (av, .inl (dA 1, 960, .inr (.inl (lA VL)))), (aw, .inl (dA 1, 1024, .inr (.inl (lA W1))))] t.heap ∧ va_K (dC, dI) vwCl (tyA dA) t ∧ va_D A [(am, .inr (0, [.int (I3 th), .int (I3 mn), .ref as_, .ref av, .ref aw, .int (I3 sm), .int (I3 wd), .int (I3 lp), .int (I3 mp), .int (I3 re)])), (as_, .inl (dA 0, 60, .inl (iA SG))), (av, .inl (dA 1, 960, .inr (.inl (lA VL)))), (aw, .inl (dA 1, 1024, .inr (.inl (lA W1))))]) u) u
abbrev QmetX8_copy (dC : Nat → ClassId) (dI : Nat → Nat → Nat) (dA : Nat → ClassId) (A : Nat → Prop) (am : Nat) (as_ : Nat) (av : Nat) (aw : Nat) (th : Int) (mn : Int) (sm : Int) (wd : Int) (lp : Int) (mp : Int) (re : Int) (SG : Int → Int) (VL : Int → Int) (wf : Int → Int) (f : Int) (t : Int) := va_Qv (fun (u : (Int → Int)) => (fun (W1 : Int → Int) => (Dg W1) ∧ (Fr wf W1 t) ∧ (rv W1 t = rv wf f)) u) (BmetX8_copy dC dI dA A am as_ av aw th mn sm wd lp mp re SG VL wf f t) A
set_option maxHeartbeats 1000000 in
set_option maxRecDepth 100000 in
/-- row t becomes row f -/
theorem metX8_copy (l : Launch) (dC : Nat → ClassId) (dI : Nat → Nat → Nat) (dA : Nat → ClassId) (am : Nat) (as_ : Nat) (av : Nat) (aw : Nat) (sz : Nat) (th : Int) (mn : Int) (sm : Int) (wd : Int) (lp : Int) (mp : Int) (re : Int) (SG : Int → Int) (VL : Int → Int) (wf : Int → Int) (f : Int) (t : Int) (hf : 0 ≤ f ∧ f < 16) (ht : 0 ≤ t ∧ t < 16) (hft : f ≠ t) (hW : Dg wf) : Met l yX8_copy (ws_ yX8_copy cX8_copy 4 none) ({ frames := 1, cells := 0, slots := 0, locals := 40 }) (va_Pc [.ref am, .int (I3 f), .int (I3 t)] (fun U => U.heap.size = sz ∧ va_P (dC, dI) vwCl [(am, .inr (0, [.int (I3 th), .int (I3 mn), .ref as_, .ref av, .ref aw, .int (I3 sm), .int (I3 wd), .int (I3 lp), .int (I3 mp), .int (I3 re)])), (as_, .inl (dA 0, 60, .inl (iA SG))), (av, .inl (dA 1, 960, .inr (.inl (lA VL)))), (aw, .inl (dA 1, 1024, .inr (.inl (lA wf))))] U.heap ∧ va_K (dC, dI) vwCl (tyA dA) U ∧ va_D (fun _ => True) [(am, .inr (0, [.int (I3 th), .int (I3 mn), .ref as_, .ref av, .ref aw, .int (I3 sm), .int (I3 wd), .int (I3 lp), .int (I3 mp), .int (I3 re)])), (as_, .inl (dA 0, 60, .inl (iA SG))), (av, .inl (dA 1, 960, .inr (.inl (lA VL)))), (aw, .inl (dA 1, 1024, .inr (.inl (lA wf))))])) (QmetX8_copy dC dI dA (va_A [(am, .inr (0, [.int (I3 th), .int (I3 mn), .ref as_, .ref av, .ref aw, .int (I3 sm), .int (I3 wd), .int (I3 lp), .int (I3 mp), .int (I3 re)])), (as_, .inl (dA 0, 60, .inl (iA SG))), (av, .inl (dA 1, 960, .inr (.inl (lA VL)))), (aw, .inl (dA 1, 1024, .inr (.inl (lA wf))))] sz) am as_ av aw th mn sm wd lp mp re SG VL wf f t) 0 0 (va_A [(am, .inr (0, [.int (I3 th), .int (I3 mn), .ref as_, .ref av, .ref aw, .int (I3 sm), .int (I3 wd), .int (I3 lp), .int (I3 mp), .int (I3 re)])), (as_, .inl (dA 0, 60, .inl (iA SG))), (av, .inl (dA 1, 960, .inr (.inl (lA VL)))), (aw, .inl (dA 1, 1024, .inr (.inl (lA wf))))] sz) := by
  refine Met.ofW (cc := cX8_copy) (maxL := 4) (ret := none) (by decide) rfl ?_
  intro p e s m args below meth c s₁ B hml hv
  obtain ⟨rfl, hsz, hP, hK, hD0⟩ := hv
  have hx := B.exec
  have hb := B.bytes
  have hr := B.returns
  have hts := atoms_spec (ws := (ws_ yX8_copy cX8_copy 4 none)) B.pre
  have hts : ∀ w ∈ lw_all, w.before _ s = true := fun w h => hts w (List.mem_cons_of_mem _ h)
  have hown : s.vm.findClass RX8 = some m.cls := findClass_of_methodNamed B.named
  have hlocks := B.notSynchronized
  subst hsz
  have hD := hD0.self (sz := s.heap.size)
  generalize hAe : va_A [(am, .inr (0, [.int (I3 th), .int (I3 mn), .ref as_, .ref av, .ref aw, .int (I3 sm), .int (I3 wd), .int (I3 lp), .int (I3 mp), .int (I3 re)])), (as_, .inl (dA 0, 60, .inl (iA SG))), (av, .inl (dA 1, 960, .inr (.inl (lA VL)))), (aw, .inl (dA 1, 1024, .inr (.inl (lA wf))))] s.heap.size = A at hD ⊢
  have hA : ∀ q : Nat, s.heap.size ≤ q → A q := fun q h => by rw [← hAe]; exact Or.inr h
  have hS : va_S A s.heap s.heap [] := va_S.rf
  have hP : va_P (dC, dI) vwCl [(am, .inr (0, [.int (I3 th), .int (I3 mn), .ref as_, .ref av, .ref aw, .int (I3 sm), .int (I3 wd), .int (I3 lp), .int (I3 mp), .int (I3 re)])), (as_, .inl (dA 0, 60, .inl (iA SG))), (av, .inl (dA 1, 960, .inr (.inl (lA VL)))), (aw, .inl (dA 1, 1024, .inr (.inl (lA wf))))] s.heap := hP
  have hl := lv_entry ([.ref am, .int (I3 f), .int (I3 t)]) (n := 4) (Nat.le_of_ble_eq_true rfl)
  rw [lg_entry_eq]
  generalize (lg_sl ([.ref am, .int (I3 f), .int (I3 t)]) ++ List.replicate (4 - (lg_sl ([.ref am, .int (I3 f), .int (I3 t)])).length) Slot.unset).toArray = ls at hl ⊢
  have hl : lv_has ls 4 [(0, .ref am), (1, .int (I3 f)), (2, .int (I3 t))] := hl
  have cut_2 : ∀ (fuel_2 : Nat), ∀ (k : Int) (W1 : Int → Int), (0 ≤ k ∧ k ≤ 64) → (Dg W1) → (Fr wf W1 t) → (∀ j : Int, 0 ≤ j → j < k → W1 (64 * t + j) = wf (64 * f + j)) → ((64 - k).toNat < fuel_2) → ∀ (H : Heap) (locs : List Loc), va_P (dC, dI) vwCl [(am, .inr (0, [.int (I3 th), .int (I3 mn), .ref as_, .ref av, .ref aw, .int (I3 sm), .int (I3 wd), .int (I3 lp), .int (I3 mp), .int (I3 re)])), (as_, .inl (dA 0, 60, .inl (iA SG))), (av, .inl (dA 1, 960, .inr (.inl (lA VL)))), (aw, .inl (dA 1, 1024, .inr (.inl (lA W1))))] H → va_D A [(am, .inr (0, [.int (I3 th), .int (I3 mn), .ref as_, .ref av, .ref aw, .int (I3 sm), .int (I3 wd), .int (I3 lp), .int (I3 mp), .int (I3 re)])), (as_, .inl (dA 0, 60, .inl (iA SG))), (av, .inl (dA 1, 960, .inr (.inl (lA VL)))), (aw, .inl (dA 1, 1024, .inr (.inl (lA W1))))] → va_S A s.heap H locs → ∀ (ls : Array Slot), lv_has ls 4 [(0, .ref am), (1, .int (I3 f)), (2, .int (I3 t)), (3, .int (I3 k))] → W p l e (headSpec (ws_ yX8_copy cX8_copy 4 none) ({ frames := 1, cells := 0, slots := 0, locals := 40 })).room s m ([.ref am, .int (I3 f), .int (I3 t)] : List Value).toArray below meth c H locs 0 0 (MQ below (QmetX8_copy dC dI dA A am as_ av aw th mn sm wd lp mp re SG VL wf f t) ([.ref am, .int (I3 f), .int (I3 t)] : List Value).toArray s 0 0 A) (F0 m 2 ls []) := by
    intro fuel_2
    induction fuel_2 with
    | zero =>
      intro k W1 hk hW1 hF hc hm
      exact absurd hm (Nat.not_lt_zero _)
    | succ fuel_2 ih_2 =>
      intro k W1 hk hW1 hF hc hm_2 H locs hP hD hS ls hl
      refine lv_iload_n hx hb dX8_copy_2 rfl (lv_at hl 3 rfl) ?_
      refine lv_bipush (v := I3 (64)) hx hb dX8_copy_3 (by decide) ?_
      refine ix_icmp_ge (tgt := 36) hx hb (by first | decide | assumption | (constructor <;> omega)) (by first | decide | assumption | (constructor <;> omega)) dX8_copy_5 (by decide) (fun c_5 => ?_) (fun c_5 => ?_)
      · skip
        have o_1 : Dg W1 := by first | assumption | omega | (constructor <;> omega)
        have o_2 : Fr wf W1 t := by first | assumption | omega | (constructor <;> omega)
        have o_3 : rv W1 t = rv wf f := by exact copy_rv (fun j h1 h2 => hc j h1 (by omega))
        exact W.vret hx hb hr (fun t ht hW => ⟨⟨W1, rfl, ⟨o_1, o_2, o_3⟩, by rw [ht]; exact hP, va_K.moved hW.alike hK, hD⟩, hS.F ht⟩) hS.2.2 dX8_copy_36
      · skip
        refine lv_aload_n hx hb dX8_copy_8 rfl (lv_at hl 0 rfl) ?_
        refine va_get (D := (dC, dI)) (ci := 0) (v := .ref aw) (C := RX8) (T := TX8) (N := 10) hx hb hts in_X8 hown hK hP 0 rfl rfl 4 (by decide) (hts _ q917) (fun _ h9 => h9) rfl dX8_copy_9 ?_
        refine lv_bipush (v := I3 (64)) hx hb dX8_copy_12 (by decide) ?_
        refine lv_iload_n hx hb dX8_copy_14 rfl (lv_at hl 2 rfl) ?_
        refine ix_imul hx hb dX8_copy_15 ?_
        refine lv_iload_n hx hb dX8_copy_16 rfl (lv_at hl 3 rfl) ?_
        refine ix_iadd hx hb dX8_copy_17 ?_
        refine lv_aload_n hx hb dX8_copy_18 rfl (lv_at hl 0 rfl) ?_
        refine va_get (D := (dC, dI)) (ci := 0) (v := .ref aw) (C := RX8) (T := TX8) (N := 10) hx hb hts in_X8 hown hK hP 0 rfl rfl 4 (by decide) (hts _ q917) (fun _ h9 => h9) rfl dX8_copy_19 ?_
        refine lv_bipush (v := I3 (64)) hx hb dX8_copy_22 (by decide) ?_
        refine lv_iload_n hx hb dX8_copy_24 rfl (lv_at hl 1 rfl) ?_
        refine ix_imul hx hb dX8_copy_25 ?_
        refine lv_iload_n hx hb dX8_copy_26 rfl (lv_at hl 3 rfl) ?_
        refine ix_iadd hx hb dX8_copy_27 ?_
        refine ix_lald hx hb hK hP 3 1 rfl rfl (Nat.le_of_ble_eq_true rfl) (by omega) dX8_copy_28 ?_
        have g_28 := hW1 ((64 * f) + k)
        refine ix_last hx hb hK hP hD hS 3 1 rfl rfl (Nat.le_of_ble_eq_true rfl) (by omega) dX8_copy_29 (fun H locs hP hD hS => ?_)
        have hP : va_P (dC, dI) vwCl [(am, .inr (0, [.int (I3 th), .int (I3 mn), .ref as_, .ref av, .ref aw, .int (I3 sm), .int (I3 wd), .int (I3 lp), .int (I3 mp), .int (I3 re)])), (as_, .inl (dA 0, 60, .inl (iA SG))), (av, .inl (dA 1, 960, .inr (.inl (lA VL)))), (aw, .inl (dA 1, 1024, .inr (.inl (lA (uZ W1 ((64 * t) + k) (W1 ((64 * f) + k)))))))] H := hP
        have hD : va_D A [(am, .inr (0, [.int (I3 th), .int (I3 mn), .ref as_, .ref av, .ref aw, .int (I3 sm), .int (I3 wd), .int (I3 lp), .int (I3 mp), .int (I3 re)])), (as_, .inl (dA 0, 60, .inl (iA SG))), (av, .inl (dA 1, 960, .inr (.inl (lA VL)))), (aw, .inl (dA 1, 1024, .inr (.inl (lA (uZ W1 ((64 * t) + k) (W1 ((64 * f) + k)))))))] := hD
        refine lv_iinc (v := I3 (k + 1)) (lv' := [(3, .int (I3 (k + 1))), (0, .ref am), (1, .int (I3 f)), (2, .int (I3 t))]) hx hb dX8_copy_30 hl (k := 3) rfl (I3_add _ _) (by decide) rfl (fun ls hl => ?_)
        refine lv_goto (tgt := 2) hx hb dX8_copy_33 (by decide) ?_
        have e_4 : 0 ≤ (k + 1) ∧ (k + 1) ≤ 64 := by first | assumption | omega | (constructor <;> omega)
        have e_5 : Dg (uZ W1 ((64 * t) + k) (W1 ((64 * f) + k))) := by exact Dg_uZ hW1 (by omega) (by omega)
        have e_6 : Fr wf (uZ W1 ((64 * t) + k) (W1 ((64 * f) + k))) t := by exact Fr_uZ hF (by omega)
        have e_7 : ∀ j : Int, 0 ≤ j → j < (k + 1) → (uZ W1 ((64 * t) + k) (W1 ((64 * f) + k))) (64 * t + j) = wf (64 * f + j) := by intro j h1 h2; by_cases q : j = k; rw [q, uZ_s]; exact hF _ (by omega); rw [uZ_n (by omega)]; exact hc j h1 (by omega)
        have e_8 : (64 - (k + 1)).toNat < fuel_2 := by omega
        exact ih_2 (k + 1) (uZ W1 ((64 * t) + k) (W1 ((64 * f) + k))) e_4 e_5 e_6 e_7 e_8 _ _ hP hD hS ls (lv_sub hl [1, 2, 3, 0] rfl)
  refine lv_iconst (v := I3 (0)) hx hb dX8_copy_0 rfl ?_
  refine lv_istore_n (lv' := [(3, .int (I3 0)), (0, .ref am), (1, .int (I3 f)), (2, .int (I3 t))]) hx hb dX8_copy_1 rfl hl (by decide) rfl (fun ls hl => ?_)
  have e_9 : 0 ≤ (0 : Int) ∧ (0 : Int) ≤ 64 := by first | assumption | omega | (constructor <;> omega)
  have e_10 : Dg wf := by first | assumption | omega | (constructor <;> omega)
  have e_11 : Fr wf wf t := by exact Fr_rf
  have e_12 : ∀ j : Int, 0 ≤ j → j < (0 : Int) → wf (64 * t + j) = wf (64 * f + j) := by intro i h1 h2; omega
  exact cut_2 ((64 - (0 : Int)).toNat + 1) 0 wf e_9 e_10 e_11 e_12 (Nat.lt_succ_self _) _ _ hP hD hS ls (lv_sub hl [1, 2, 3, 0] rfl)
abbrev BmetX8_isZero (dC : Nat → ClassId) (dI : Nat → Nat → Nat) (dA : Nat → ClassId) (A : Nat → Prop) (am : Nat) (as_ : Nat) (av : Nat) (aw : Nat) (th : Int) (mn : Int) (sm : Int) (wd : Int) (lp : Int) (mp : Int) (re : Int) (SG : Int → Int) (VL : Int → Int) (wf : Int → Int) (r : Int) : Int → State → Prop := fun u t => (fun (u : Int) => (fun (z : Int) => va_P (dC, dI) vwCl [(am, .inr (0, [.int (I3 th), .int (I3 mn), .ref as_, .ref av, .ref aw, .int (I3 sm), .int (I3 wd), .int (I3 lp), .int (I3 mp), .int (I3 re)])), (as_, .inl (dA 0, 60, .inl (iA SG))), (av, .inl (dA 1, 960, .inr (.inl (lA VL)))), (aw, .inl (dA 1, 1024, .inr (.inl (lA wf))))] t.heap ∧ va_K (dC, dI) vwCl (tyA dA) t ∧ va_D A [(am, .inr (0, [.int (I3 th), .int (I3 mn), .ref as_, .ref av, .ref aw, .int (I3 sm), .int (I3 wd), .int (I3 lp), .int (I3 mp), .int (I3 re)])), (as_, .inl (dA 0, 60, .inl (iA SG))), (av, .inl (dA 1, 960, .inr (.inl (lA VL)))), (aw, .inl (dA 1, 1024, .inr (.inl (lA wf))))]) u) u
abbrev QmetX8_isZero (dC : Nat → ClassId) (dI : Nat → Nat → Nat) (dA : Nat → ClassId) (A : Nat → Prop) (am : Nat) (as_ : Nat) (av : Nat) (aw : Nat) (th : Int) (mn : Int) (sm : Int) (wd : Int) (lp : Int) (mp : Int) (re : Int) (SG : Int → Int) (VL : Int → Int) (wf : Int → Int) (r : Int) := va_Qi (fun (rt_ : Int32) => fun (u : Int) => (fun (z : Int) => rt_ = I3 z ∧ (z = if rv wf r = 0 then 1 else 0)) u) (BmetX8_isZero dC dI dA A am as_ av aw th mn sm wd lp mp re SG VL wf r) A
set_option maxHeartbeats 1000000 in
set_option maxRecDepth 100000 in
/-- is row r 0 -/
theorem metX8_isZero (l : Launch) (dC : Nat → ClassId) (dI : Nat → Nat → Nat) (dA : Nat → ClassId) (am : Nat) (as_ : Nat) (av : Nat) (aw : Nat) (sz : Nat) (th : Int) (mn : Int) (sm : Int) (wd : Int) (lp : Int) (mp : Int) (re : Int) (SG : Int → Int) (VL : Int → Int) (wf : Int → Int) (r : Int) (hr : 0 ≤ r ∧ r < 16) (hW : Dg wf) : Met l yX8_isZero (ws_ yX8_isZero cX8_isZero 3 (some .boolean)) ({ frames := 1, cells := 0, slots := 0, locals := 40 }) (va_Pc [.ref am, .int (I3 r)] (fun U => U.heap.size = sz ∧ va_P (dC, dI) vwCl [(am, .inr (0, [.int (I3 th), .int (I3 mn), .ref as_, .ref av, .ref aw, .int (I3 sm), .int (I3 wd), .int (I3 lp), .int (I3 mp), .int (I3 re)])), (as_, .inl (dA 0, 60, .inl (iA SG))), (av, .inl (dA 1, 960, .inr (.inl (lA VL)))), (aw, .inl (dA 1, 1024, .inr (.inl (lA wf))))] U.heap ∧ va_K (dC, dI) vwCl (tyA dA) U ∧ va_D (fun _ => True) [(am, .inr (0, [.int (I3 th), .int (I3 mn), .ref as_, .ref av, .ref aw, .int (I3 sm), .int (I3 wd), .int (I3 lp), .int (I3 mp), .int (I3 re)])), (as_, .inl (dA 0, 60, .inl (iA SG))), (av, .inl (dA 1, 960, .inr (.inl (lA VL)))), (aw, .inl (dA 1, 1024, .inr (.inl (lA wf))))])) (QmetX8_isZero dC dI dA (va_A [(am, .inr (0, [.int (I3 th), .int (I3 mn), .ref as_, .ref av, .ref aw, .int (I3 sm), .int (I3 wd), .int (I3 lp), .int (I3 mp), .int (I3 re)])), (as_, .inl (dA 0, 60, .inl (iA SG))), (av, .inl (dA 1, 960, .inr (.inl (lA VL)))), (aw, .inl (dA 1, 1024, .inr (.inl (lA wf))))] sz) am as_ av aw th mn sm wd lp mp re SG VL wf r) 0 0 (va_A [(am, .inr (0, [.int (I3 th), .int (I3 mn), .ref as_, .ref av, .ref aw, .int (I3 sm), .int (I3 wd), .int (I3 lp), .int (I3 mp), .int (I3 re)])), (as_, .inl (dA 0, 60, .inl (iA SG))), (av, .inl (dA 1, 960, .inr (.inl (lA VL)))), (aw, .inl (dA 1, 1024, .inr (.inl (lA wf))))] sz) := by
  refine Met.ofW (cc := cX8_isZero) (maxL := 3) (ret := (some .boolean)) (by decide) rfl ?_
  intro p e s m args below meth c s₁ B hml hv
  obtain ⟨rfl, hsz, hP, hK, hD0⟩ := hv
  have hx := B.exec
  have hb := B.bytes
  have hr := B.returns
  have hts := atoms_spec (ws := (ws_ yX8_isZero cX8_isZero 3 (some .boolean))) B.pre
  have hts : ∀ w ∈ lw_all, w.before _ s = true := fun w h => hts w (List.mem_cons_of_mem _ h)
  have hown : s.vm.findClass RX8 = some m.cls := findClass_of_methodNamed B.named
  have hlocks := B.notSynchronized
  subst hsz
  have hD := hD0.self (sz := s.heap.size)
  generalize hAe : va_A [(am, .inr (0, [.int (I3 th), .int (I3 mn), .ref as_, .ref av, .ref aw, .int (I3 sm), .int (I3 wd), .int (I3 lp), .int (I3 mp), .int (I3 re)])), (as_, .inl (dA 0, 60, .inl (iA SG))), (av, .inl (dA 1, 960, .inr (.inl (lA VL)))), (aw, .inl (dA 1, 1024, .inr (.inl (lA wf))))] s.heap.size = A at hD ⊢
  have hA : ∀ q : Nat, s.heap.size ≤ q → A q := fun q h => by rw [← hAe]; exact Or.inr h
  have hS : va_S A s.heap s.heap [] := va_S.rf
  have hP : va_P (dC, dI) vwCl [(am, .inr (0, [.int (I3 th), .int (I3 mn), .ref as_, .ref av, .ref aw, .int (I3 sm), .int (I3 wd), .int (I3 lp), .int (I3 mp), .int (I3 re)])), (as_, .inl (dA 0, 60, .inl (iA SG))), (av, .inl (dA 1, 960, .inr (.inl (lA VL)))), (aw, .inl (dA 1, 1024, .inr (.inl (lA wf))))] s.heap := hP
  have hl := lv_entry ([.ref am, .int (I3 r)]) (n := 3) (Nat.le_of_ble_eq_true rfl)
  rw [lg_entry_eq]
  generalize (lg_sl ([.ref am, .int (I3 r)]) ++ List.replicate (3 - (lg_sl ([.ref am, .int (I3 r)])).length) Slot.unset).toArray = ls at hl ⊢
  have hl : lv_has ls 3 [(0, .ref am), (1, .int (I3 r))] := hl
  have cut_2 : ∀ (fuel_2 : Nat), ∀ (k : Int), (0 ≤ k ∧ k ≤ 64) → (∀ i : Int, 0 ≤ i → i < k → wf (64 * r + i) = 0) → ((64 - k).toNat < fuel_2) → ∀ (H : Heap) (locs : List Loc), va_P (dC, dI) vwCl [(am, .inr (0, [.int (I3 th), .int (I3 mn), .ref as_, .ref av, .ref aw, .int (I3 sm), .int (I3 wd), .int (I3 lp), .int (I3 mp), .int (I3 re)])), (as_, .inl (dA 0, 60, .inl (iA SG))), (av, .inl (dA 1, 960, .inr (.inl (lA VL)))), (aw, .inl (dA 1, 1024, .inr (.inl (lA wf))))] H → va_D A [(am, .inr (0, [.int (I3 th), .int (I3 mn), .ref as_, .ref av, .ref aw, .int (I3 sm), .int (I3 wd), .int (I3 lp), .int (I3 mp), .int (I3 re)])), (as_, .inl (dA 0, 60, .inl (iA SG))), (av, .inl (dA 1, 960, .inr (.inl (lA VL)))), (aw, .inl (dA 1, 1024, .inr (.inl (lA wf))))] → va_S A s.heap H locs → ∀ (ls : Array Slot), lv_has ls 3 [(0, .ref am), (1, .int (I3 r)), (2, .int (I3 k))] → W p l e (headSpec (ws_ yX8_isZero cX8_isZero 3 (some .boolean)) ({ frames := 1, cells := 0, slots := 0, locals := 40 })).room s m ([.ref am, .int (I3 r)] : List Value).toArray below meth c H locs 0 0 (MQ below (QmetX8_isZero dC dI dA A am as_ av aw th mn sm wd lp mp re SG VL wf r) ([.ref am, .int (I3 r)] : List Value).toArray s 0 0 A) (F0 m 2 ls []) := by
    intro fuel_2
    induction fuel_2 with
    | zero =>
      intro k hk hz hm
      exact absurd hm (Nat.not_lt_zero _)
    | succ fuel_2 ih_2 =>
      intro k hk hz hm_2 H locs hP hD hS ls hl
      refine lv_iload_n hx hb dX8_isZero_2 rfl (lv_at hl 2 rfl) ?_
      refine lv_bipush (v := I3 (64)) hx hb dX8_isZero_3 (by decide) ?_
      refine ix_icmp_ge (tgt := 32) hx hb (by first | decide | assumption | (constructor <;> omega)) (by first | decide | assumption | (constructor <;> omega)) dX8_isZero_5 (by decide) (fun c_5 => ?_) (fun c_5 => ?_)
      · skip
        refine lv_iconst (v := I3 (1)) hx hb dX8_isZero_32 rfl ?_
        have o_1 : (1 : Int) = if rv wf r = 0 then 1 else 0 := by rw [if_pos (rv_zero (fun i h1 h2 => by have q := hz (i - 64 * r) (by omega) (by omega); rwa [show 64 * r + (i - 64 * r) = i by omega] at q))]
        exact W.zret (v := I3 1) hx hb hr rfl (fun t ht hW => ⟨⟨I3 1, 1, rfl, ⟨rfl, o_1⟩, by rw [ht]; exact hP, va_K.moved hW.alike hK, hD⟩, hS.F ht⟩) hS.2.2 dX8_isZero_33
      · skip
        refine lv_aload_n hx hb dX8_isZero_8 rfl (lv_at hl 0 rfl) ?_
        refine va_get (D := (dC, dI)) (ci := 0) (v := .ref aw) (C := RX8) (T := TX8) (N := 10) hx hb hts in_X8 hown hK hP 0 rfl rfl 4 (by decide) (hts _ q917) (fun _ h9 => h9) rfl dX8_isZero_9 ?_
        refine lv_bipush (v := I3 (64)) hx hb dX8_isZero_12 (by decide) ?_
        refine lv_iload_n hx hb dX8_isZero_14 rfl (lv_at hl 1 rfl) ?_
        refine ix_imul hx hb dX8_isZero_15 ?_
        refine lv_iload_n hx hb dX8_isZero_16 rfl (lv_at hl 2 rfl) ?_
        refine ix_iadd hx hb dX8_isZero_17 ?_
        refine ix_lald hx hb hK hP 3 1 rfl rfl (Nat.le_of_ble_eq_true rfl) (by omega) dX8_isZero_18 ?_
        have g_18 := hW ((64 * r) + k)
        refine lv_lconst (v := L6 0) hx hb dX8_isZero_19 (by decide) ?_
        refine ix_lcmp_eq (tgt := 26) hx hb (by first | decide | assumption | (constructor <;> omega)) (by first | decide | assumption | (constructor <;> omega)) dX8_isZero_20 dX8_isZero_21 (by decide) (fun c_20 => ?_) (fun c_20 => ?_)
        · skip
          refine lv_iinc (v := I3 (k + 1)) (lv' := [(2, .int (I3 (k + 1))), (0, .ref am), (1, .int (I3 r))]) hx hb dX8_isZero_26 hl (k := 2) rfl (I3_add _ _) (by decide) rfl (fun ls hl => ?_)
          refine lv_goto (tgt := 2) hx hb dX8_isZero_29 (by decide) ?_
          have e_2 : 0 ≤ (k + 1) ∧ (k + 1) ≤ 64 := by first | assumption | omega | (constructor <;> omega)
          have e_3 : ∀ i : Int, 0 ≤ i → i < (k + 1) → wf (64 * r + i) = 0 := by intro i h1 h2; by_cases q : i = k; rw [q]; exact c_20; exact hz i h1 (by omega)
          have e_4 : (64 - (k + 1)).toNat < fuel_2 := by omega
          exact ih_2 (k + 1) e_2 e_3 e_4 _ _ hP hD hS ls (lv_sub hl [1, 2, 0] rfl)
        · skip
          refine lv_iconst (v := I3 (0)) hx hb dX8_isZero_24 rfl ?_
          have o_5 : (0 : Int) = if rv wf r = 0 then 1 else 0 := by rw [if_neg (rv_ne0 hW (k := k) (by omega) c_20)]
          exact W.zret (v := I3 0) hx hb hr rfl (fun t ht hW => ⟨⟨I3 0, 0, rfl, ⟨rfl, o_5⟩, by rw [ht]; exact hP, va_K.moved hW.alike hK, hD⟩, hS.F ht⟩) hS.2.2 dX8_isZero_25
  refine lv_iconst (v := I3 (0)) hx hb dX8_isZero_0 rfl ?_
  refine lv_istore_n (lv' := [(2, .int (I3 0)), (0, .ref am), (1, .int (I3 r))]) hx hb dX8_isZero_1 rfl hl (by decide) rfl (fun ls hl => ?_)
  have e_6 : 0 ≤ (0 : Int) ∧ (0 : Int) ≤ 64 := by first | assumption | omega | (constructor <;> omega)
  have e_7 : ∀ i : Int, 0 ≤ i → i < (0 : Int) → wf (64 * r + i) = 0 := by intro i h1 h2; omega
  exact cut_2 ((64 - (0 : Int)).toNat + 1) 0 e_6 e_7 (Nat.lt_succ_self _) _ _ hP hD hS ls (lv_sub hl [1, 2, 0] rfl)
abbrev BmetX8_compare (dC : Nat → ClassId) (dI : Nat → Nat → Nat) (dA : Nat → ClassId) (A : Nat → Prop) (am : Nat) (as_ : Nat) (av : Nat) (aw : Nat) (th : Int) (mn : Int) (sm : Int) (wd : Int) (lp : Int) (mp : Int) (re : Int) (SG : Int → Int) (VL : Int → Int) (wf : Int → Int) (a : Int) (b : Int) : Int → State → Prop := fun u t => (fun (u : Int) => (fun (z : Int) => va_P (dC, dI) vwCl [(am, .inr (0, [.int (I3 th), .int (I3 mn), .ref as_, .ref av, .ref aw, .int (I3 sm), .int (I3 wd), .int (I3 lp), .int (I3 mp), .int (I3 re)])), (as_, .inl (dA 0, 60, .inl (iA SG))), (av, .inl (dA 1, 960, .inr (.inl (lA VL)))), (aw, .inl (dA 1, 1024, .inr (.inl (lA wf))))] t.heap ∧ va_K (dC, dI) vwCl (tyA dA) t ∧ va_D A [(am, .inr (0, [.int (I3 th), .int (I3 mn), .ref as_, .ref av, .ref aw, .int (I3 sm), .int (I3 wd), .int (I3 lp), .int (I3 mp), .int (I3 re)])), (as_, .inl (dA 0, 60, .inl (iA SG))), (av, .inl (dA 1, 960, .inr (.inl (lA VL)))), (aw, .inl (dA 1, 1024, .inr (.inl (lA wf))))]) u) u
abbrev QmetX8_compare (dC : Nat → ClassId) (dI : Nat → Nat → Nat) (dA : Nat → ClassId) (A : Nat → Prop) (am : Nat) (as_ : Nat) (av : Nat) (aw : Nat) (th : Int) (mn : Int) (sm : Int) (wd : Int) (lp : Int) (mp : Int) (re : Int) (SG : Int → Int) (VL : Int → Int) (wf : Int → Int) (a : Int) (b : Int) := va_Qi (fun (rt_ : Int32) => fun (u : Int) => (fun (z : Int) => rt_ = I3 z ∧ (z = cmpN (rv wf a) (rv wf b))) u) (BmetX8_compare dC dI dA A am as_ av aw th mn sm wd lp mp re SG VL wf a b) A
set_option maxHeartbeats 1000000 in
set_option maxRecDepth 100000 in
/-- rows compared -/
theorem metX8_compare (l : Launch) (dC : Nat → ClassId) (dI : Nat → Nat → Nat) (dA : Nat → ClassId) (am : Nat) (as_ : Nat) (av : Nat) (aw : Nat) (sz : Nat) (th : Int) (mn : Int) (sm : Int) (wd : Int) (lp : Int) (mp : Int) (re : Int) (SG : Int → Int) (VL : Int → Int) (wf : Int → Int) (a : Int) (b : Int) (ha : 0 ≤ a ∧ a < 16) (hb_ : 0 ≤ b ∧ b < 16) (hW : Dg wf) : Met l yX8_compare (ws_ yX8_compare cX8_compare 4 (some .int)) ({ frames := 1, cells := 0, slots := 0, locals := 40 }) (va_Pc [.ref am, .int (I3 a), .int (I3 b)] (fun U => U.heap.size = sz ∧ va_P (dC, dI) vwCl [(am, .inr (0, [.int (I3 th), .int (I3 mn), .ref as_, .ref av, .ref aw, .int (I3 sm), .int (I3 wd), .int (I3 lp), .int (I3 mp), .int (I3 re)])), (as_, .inl (dA 0, 60, .inl (iA SG))), (av, .inl (dA 1, 960, .inr (.inl (lA VL)))), (aw, .inl (dA 1, 1024, .inr (.inl (lA wf))))] U.heap ∧ va_K (dC, dI) vwCl (tyA dA) U ∧ va_D (fun _ => True) [(am, .inr (0, [.int (I3 th), .int (I3 mn), .ref as_, .ref av, .ref aw, .int (I3 sm), .int (I3 wd), .int (I3 lp), .int (I3 mp), .int (I3 re)])), (as_, .inl (dA 0, 60, .inl (iA SG))), (av, .inl (dA 1, 960, .inr (.inl (lA VL)))), (aw, .inl (dA 1, 1024, .inr (.inl (lA wf))))])) (QmetX8_compare dC dI dA (va_A [(am, .inr (0, [.int (I3 th), .int (I3 mn), .ref as_, .ref av, .ref aw, .int (I3 sm), .int (I3 wd), .int (I3 lp), .int (I3 mp), .int (I3 re)])), (as_, .inl (dA 0, 60, .inl (iA SG))), (av, .inl (dA 1, 960, .inr (.inl (lA VL)))), (aw, .inl (dA 1, 1024, .inr (.inl (lA wf))))] sz) am as_ av aw th mn sm wd lp mp re SG VL wf a b) 0 0 (va_A [(am, .inr (0, [.int (I3 th), .int (I3 mn), .ref as_, .ref av, .ref aw, .int (I3 sm), .int (I3 wd), .int (I3 lp), .int (I3 mp), .int (I3 re)])), (as_, .inl (dA 0, 60, .inl (iA SG))), (av, .inl (dA 1, 960, .inr (.inl (lA VL)))), (aw, .inl (dA 1, 1024, .inr (.inl (lA wf))))] sz) := by
  refine Met.ofW (cc := cX8_compare) (maxL := 4) (ret := (some .int)) (by decide) rfl ?_
  intro p e s m args below meth c s₁ B hml hv
  obtain ⟨rfl, hsz, hP, hK, hD0⟩ := hv
  have hx := B.exec
  have hb := B.bytes
  have hr := B.returns
  have hts := atoms_spec (ws := (ws_ yX8_compare cX8_compare 4 (some .int))) B.pre
  have hts : ∀ w ∈ lw_all, w.before _ s = true := fun w h => hts w (List.mem_cons_of_mem _ h)
  have hown : s.vm.findClass RX8 = some m.cls := findClass_of_methodNamed B.named
  have hlocks := B.notSynchronized
  subst hsz
  have hD := hD0.self (sz := s.heap.size)
  generalize hAe : va_A [(am, .inr (0, [.int (I3 th), .int (I3 mn), .ref as_, .ref av, .ref aw, .int (I3 sm), .int (I3 wd), .int (I3 lp), .int (I3 mp), .int (I3 re)])), (as_, .inl (dA 0, 60, .inl (iA SG))), (av, .inl (dA 1, 960, .inr (.inl (lA VL)))), (aw, .inl (dA 1, 1024, .inr (.inl (lA wf))))] s.heap.size = A at hD ⊢
  have hA : ∀ q : Nat, s.heap.size ≤ q → A q := fun q h => by rw [← hAe]; exact Or.inr h
  have hS : va_S A s.heap s.heap [] := va_S.rf
  have hP : va_P (dC, dI) vwCl [(am, .inr (0, [.int (I3 th), .int (I3 mn), .ref as_, .ref av, .ref aw, .int (I3 sm), .int (I3 wd), .int (I3 lp), .int (I3 mp), .int (I3 re)])), (as_, .inl (dA 0, 60, .inl (iA SG))), (av, .inl (dA 1, 960, .inr (.inl (lA VL)))), (aw, .inl (dA 1, 1024, .inr (.inl (lA wf))))] s.heap := hP
  have hl := lv_entry ([.ref am, .int (I3 a), .int (I3 b)]) (n := 4) (Nat.le_of_ble_eq_true rfl)
  rw [lg_entry_eq]
  generalize (lg_sl ([.ref am, .int (I3 a), .int (I3 b)]) ++ List.replicate (4 - (lg_sl ([.ref am, .int (I3 a), .int (I3 b)])).length) Slot.unset).toArray = ls at hl ⊢
  have hl : lv_has ls 4 [(0, .ref am), (1, .int (I3 a)), (2, .int (I3 b))] := hl
  have cut_3 : ∀ (fuel_3 : Nat), ∀ (k : Int), (-1 ≤ k ∧ k < 64) → (∀ j : Int, k < j → j < 64 → wf (64 * a + j) = wf (64 * b + j)) → ((k + 1).toNat < fuel_3) → ∀ (H : Heap) (locs : List Loc), va_P (dC, dI) vwCl [(am, .inr (0, [.int (I3 th), .int (I3 mn), .ref as_, .ref av, .ref aw, .int (I3 sm), .int (I3 wd), .int (I3 lp), .int (I3 mp), .int (I3 re)])), (as_, .inl (dA 0, 60, .inl (iA SG))), (av, .inl (dA 1, 960, .inr (.inl (lA VL)))), (aw, .inl (dA 1, 1024, .inr (.inl (lA wf))))] H → va_D A [(am, .inr (0, [.int (I3 th), .int (I3 mn), .ref as_, .ref av, .ref aw, .int (I3 sm), .int (I3 wd), .int (I3 lp), .int (I3 mp), .int (I3 re)])), (as_, .inl (dA 0, 60, .inl (iA SG))), (av, .inl (dA 1, 960, .inr (.inl (lA VL)))), (aw, .inl (dA 1, 1024, .inr (.inl (lA wf))))] → va_S A s.heap H locs → ∀ (ls : Array Slot), lv_has ls 4 [(0, .ref am), (1, .int (I3 a)), (2, .int (I3 b)), (3, .int (I3 k))] → W p l e (headSpec (ws_ yX8_compare cX8_compare 4 (some .int)) ({ frames := 1, cells := 0, slots := 0, locals := 40 })).room s m ([.ref am, .int (I3 a), .int (I3 b)] : List Value).toArray below meth c H locs 0 0 (MQ below (QmetX8_compare dC dI dA A am as_ av aw th mn sm wd lp mp re SG VL wf a b) ([.ref am, .int (I3 a), .int (I3 b)] : List Value).toArray s 0 0 A) (F0 m 3 ls []) := by
    intro fuel_3
    induction fuel_3 with
    | zero =>
      intro k hk he hm
      exact absurd hm (Nat.not_lt_zero _)
    | succ fuel_3 ih_3 =>
      intro k hk he hm_3 H locs hP hD hS ls hl
      refine lv_iload_n hx hb dX8_compare_3 rfl (lv_at hl 3 rfl) ?_
      refine ix_if_lt (tgt := 71) hx hb (by first | decide | assumption | (constructor <;> omega)) dX8_compare_4 (by decide) (fun c_4 => ?_) (fun c_4 => ?_)
      · skip
        refine lv_iconst (v := I3 (0)) hx hb dX8_compare_71 rfl ?_
        have o_1 : (0 : Int) = cmpN (rv wf a) (rv wf b) := by exact cmp_eq (fun j h1 h2 => he j (by omega) h2)
        exact W.iret (v := I3 0) hx hb hr (fun t ht hW => ⟨⟨I3 0, 0, rfl, ⟨rfl, o_1⟩, by rw [ht]; exact hP, va_K.moved hW.alike hK, hD⟩, hS.F ht⟩) hS.2.2 dX8_compare_72
      · skip
        refine lv_aload_n hx hb dX8_compare_7 rfl (lv_at hl 0 rfl) ?_
        refine va_get (D := (dC, dI)) (ci := 0) (v := .ref aw) (C := RX8) (T := TX8) (N := 10) hx hb hts in_X8 hown hK hP 0 rfl rfl 4 (by decide) (hts _ q917) (fun _ h9 => h9) rfl dX8_compare_8 ?_
        refine lv_bipush (v := I3 (64)) hx hb dX8_compare_11 (by decide) ?_
        refine lv_iload_n hx hb dX8_compare_13 rfl (lv_at hl 1 rfl) ?_
        refine ix_imul hx hb dX8_compare_14 ?_
        refine lv_iload_n hx hb dX8_compare_15 rfl (lv_at hl 3 rfl) ?_
        refine ix_iadd hx hb dX8_compare_16 ?_
        refine ix_lald hx hb hK hP 3 1 rfl rfl (Nat.le_of_ble_eq_true rfl) (by omega) dX8_compare_17 ?_
        have g_17 := hW ((64 * a) + k)
        refine lv_aload_n hx hb dX8_compare_18 rfl (lv_at hl 0 rfl) ?_
        refine va_get (D := (dC, dI)) (ci := 0) (v := .ref aw) (C := RX8) (T := TX8) (N := 10) hx hb hts in_X8 hown hK hP 0 rfl rfl 4 (by decide) (hts _ q917) (fun _ h9 => h9) rfl dX8_compare_19 ?_
        refine lv_bipush (v := I3 (64)) hx hb dX8_compare_22 (by decide) ?_
        refine lv_iload_n hx hb dX8_compare_24 rfl (lv_at hl 2 rfl) ?_
        refine ix_imul hx hb dX8_compare_25 ?_
        refine lv_iload_n hx hb dX8_compare_26 rfl (lv_at hl 3 rfl) ?_
        refine ix_iadd hx hb dX8_compare_27 ?_
        refine ix_lald hx hb hK hP 3 1 rfl rfl (Nat.le_of_ble_eq_true rfl) (by omega) dX8_compare_28 ?_
        have g_28 := hW ((64 * b) + k)
        refine ix_lcmp_eq (tgt := 65) hx hb (by first | decide | assumption | (constructor <;> omega)) (by first | decide | assumption | (constructor <;> omega)) dX8_compare_29 dX8_compare_30 (by decide) (fun c_29 => ?_) (fun c_29 => ?_)
        · skip
          refine lv_iinc (v := I3 (k - 1)) (lv' := [(3, .int (I3 (k - 1))), (0, .ref am), (1, .int (I3 a)), (2, .int (I3 b))]) hx hb dX8_compare_65 hl (k := 3) rfl ((I3_add _ _).trans (congrArg I3 (by omega))) (by decide) rfl (fun ls hl => ?_)
          refine lv_goto (tgt := 3) hx hb dX8_compare_68 (by decide) ?_
          have e_2 : -1 ≤ (k - 1) ∧ (k - 1) < 64 := by first | assumption | omega | (constructor <;> omega)
          have e_3 : ∀ j : Int, (k - 1) < j → j < 64 → wf (64 * a + j) = wf (64 * b + j) := by intro i h1 h2; by_cases q : i = k; rw [q]; exact c_29; exact he i (by omega) h2
          have e_4 : ((k - 1) + 1).toNat < fuel_3 := by omega
          exact ih_3 (k - 1) e_2 e_3 e_4 _ _ hP hD hS ls (lv_sub hl [1, 2, 3, 0] rfl)
        · skip
          refine lv_aload_n hx hb dX8_compare_33 rfl (lv_at hl 0 rfl) ?_
          refine va_get (D := (dC, dI)) (ci := 0) (v := .ref aw) (C := RX8) (T := TX8) (N := 10) hx hb hts in_X8 hown hK hP 0 rfl rfl 4 (by decide) (hts _ q917) (fun _ h9 => h9) rfl dX8_compare_34 ?_
          refine lv_bipush (v := I3 (64)) hx hb dX8_compare_37 (by decide) ?_
          refine lv_iload_n hx hb dX8_compare_39 rfl (lv_at hl 1 rfl) ?_
          refine ix_imul hx hb dX8_compare_40 ?_
          refine lv_iload_n hx hb dX8_compare_41 rfl (lv_at hl 3 rfl) ?_
          refine ix_iadd hx hb dX8_compare_42 ?_
          refine ix_lald hx hb hK hP 3 1 rfl rfl (Nat.le_of_ble_eq_true rfl) (by omega) dX8_compare_43 ?_
          have g_43 := hW ((64 * a) + k)
          refine lv_aload_n hx hb dX8_compare_44 rfl (lv_at hl 0 rfl) ?_
          refine va_get (D := (dC, dI)) (ci := 0) (v := .ref aw) (C := RX8) (T := TX8) (N := 10) hx hb hts in_X8 hown hK hP 0 rfl rfl 4 (by decide) (hts _ q917) (fun _ h9 => h9) rfl dX8_compare_45 ?_
          refine lv_bipush (v := I3 (64)) hx hb dX8_compare_48 (by decide) ?_
          refine lv_iload_n hx hb dX8_compare_50 rfl (lv_at hl 2 rfl) ?_
          refine ix_imul hx hb dX8_compare_51 ?_
          refine lv_iload_n hx hb dX8_compare_52 rfl (lv_at hl 3 rfl) ?_
          refine ix_iadd hx hb dX8_compare_53 ?_
          refine ix_lald hx hb hK hP 3 1 rfl rfl (Nat.le_of_ble_eq_true rfl) (by omega) dX8_compare_54 ?_
          have g_54 := hW ((64 * b) + k)
          refine ix_lcmp_ge (tgt := 63) hx hb (by first | decide | assumption | (constructor <;> omega)) (by first | decide | assumption | (constructor <;> omega)) dX8_compare_55 dX8_compare_56 (by decide) (fun c_55 => ?_) (fun c_55 => ?_)
          · skip
            refine lv_iconst (v := I3 (1)) hx hb dX8_compare_63 rfl ?_
            have o_5 : (1 : Int) = cmpN (rv wf a) (rv wf b) := by exact cmp_gt hW (k := k) (by omega) he (by omega)
            exact W.iret (v := I3 1) hx hb hr (fun t ht hW => ⟨⟨I3 1, 1, rfl, ⟨rfl, o_5⟩, by rw [ht]; exact hP, va_K.moved hW.alike hK, hD⟩, hS.F ht⟩) hS.2.2 dX8_compare_64
          · skip
            refine lv_iconst (v := I3 (-1)) hx hb dX8_compare_59 rfl ?_
            refine lv_goto (tgt := 64) hx hb dX8_compare_60 (by decide) ?_
            have o_6 : (-1 : Int) = cmpN (rv wf a) (rv wf b) := by exact cmp_lt hW (k := k) (by omega) he c_55
            exact W.iret (v := I3 (-1)) hx hb hr (fun t ht hW => ⟨⟨I3 (-1), (-1), rfl, ⟨rfl, o_6⟩, by rw [ht]; exact hP, va_K.moved hW.alike hK, hD⟩, hS.F ht⟩) hS.2.2 dX8_compare_64
  refine lv_bipush (v := I3 (63)) hx hb dX8_compare_0 (by decide) ?_
  refine lv_istore_n (lv' := [(3, .int (I3 63)), (0, .ref am), (1, .int (I3 a)), (2, .int (I3 b))]) hx hb dX8_compare_2 rfl hl (by decide) rfl (fun ls hl => ?_)
  have e_7 : -1 ≤ (63 : Int) ∧ (63 : Int) < 64 := by first | assumption | omega | (constructor <;> omega)
  have e_8 : ∀ j : Int, (63 : Int) < j → j < 64 → wf (64 * a + j) = wf (64 * b + j) := by intro i h1 h2; omega
  exact cut_3 (((63 : Int) + 1).toNat + 1) 63 e_7 e_8 (Nat.lt_succ_self _) _ _ hP hD hS ls (lv_sub hl [1, 2, 3, 0] rfl)
abbrev BmetX8_add (dC : Nat → ClassId) (dI : Nat → Nat → Nat) (dA : Nat → ClassId) (A : Nat → Prop) (am : Nat) (as_ : Nat) (av : Nat) (aw : Nat) (th : Int) (mn : Int) (sm : Int) (wd : Int) (lp : Int) (mp : Int) (re : Int) (SG : Int → Int) (VL : Int → Int) (wf : Int → Int) (a : Int) (b : Int) : (Int → Int) → State → Prop := fun u t => (fun (u : (Int → Int)) => (fun (W1 : Int → Int) => va_P (dC, dI) vwCl [(am, .inr (0, [.int (I3 th), .int (I3 mn), .ref as_, .ref av, .ref aw, .int (I3 sm), .int (I3 wd), .int (I3 lp), .int (I3 mp), .int (I3 re)])), (as_, .inl (dA 0, 60, .inl (iA SG))), (av, .inl (dA 1, 960, .inr (.inl (lA VL)))), (aw, .inl (dA 1, 1024, .inr (.inl (lA W1))))] t.heap ∧ va_K (dC, dI) vwCl (tyA dA) t ∧ va_D A [(am, .inr (0, [.int (I3 th), .int (I3 mn), .ref as_, .ref av, .ref aw, .int (I3 sm), .int (I3 wd), .int (I3 lp), .int (I3 mp), .int (I3 re)])), (as_, .inl (dA 0, 60, .inl (iA SG))), (av, .inl (dA 1, 960, .inr (.inl (lA VL)))), (aw, .inl (dA 1, 1024, .inr (.inl (lA W1))))]) u) u
abbrev QmetX8_add (dC : Nat → ClassId) (dI : Nat → Nat → Nat) (dA : Nat → ClassId) (A : Nat → Prop) (am : Nat) (as_ : Nat) (av : Nat) (aw : Nat) (th : Int) (mn : Int) (sm : Int) (wd : Int) (lp : Int) (mp : Int) (re : Int) (SG : Int → Int) (VL : Int → Int) (wf : Int → Int) (a : Int) (b : Int) := va_Qv (fun (u : (Int → Int)) => (fun (W1 : Int → Int) => (Dg W1) ∧ (Fr wf W1 a) ∧ (rv W1 a = (rv wf a + rv wf b) % BN)) u) (BmetX8_add dC dI dA A am as_ av aw th mn sm wd lp mp re SG VL wf a b) A
set_option maxHeartbeats 1000000 in
set_option maxRecDepth 100000 in
/-- row a becomes a + b -/
theorem metX8_add (l : Launch) (dC : Nat → ClassId) (dI : Nat → Nat → Nat) (dA : Nat → ClassId) (am : Nat) (as_ : Nat) (av : Nat) (aw : Nat) (sz : Nat) (th : Int) (mn : Int) (sm : Int) (wd : Int) (lp : Int) (mp : Int) (re : Int) (SG : Int → Int) (VL : Int → Int) (wf : Int → Int) (a : Int) (b : Int) (ha : 0 ≤ a ∧ a < 16) (hb_ : 0 ≤ b ∧ b < 16) (hab : a ≠ b) (hW : Dg wf) : Met l yX8_add (ws_ yX8_add cX8_add 8 none) ({ frames := 1, cells := 0, slots := 0, locals := 40 }) (va_Pc [.ref am, .int (I3 a), .int (I3 b)] (fun U => U.heap.size = sz ∧ va_P (dC, dI) vwCl [(am, .inr (0, [.int (I3 th), .int (I3 mn), .ref as_, .ref av, .ref aw, .int (I3 sm), .int (I3 wd), .int (I3 lp), .int (I3 mp), .int (I3 re)])), (as_, .inl (dA 0, 60, .inl (iA SG))), (av, .inl (dA 1, 960, .inr (.inl (lA VL)))), (aw, .inl (dA 1, 1024, .inr (.inl (lA wf))))] U.heap ∧ va_K (dC, dI) vwCl (tyA dA) U ∧ va_D (fun _ => True) [(am, .inr (0, [.int (I3 th), .int (I3 mn), .ref as_, .ref av, .ref aw, .int (I3 sm), .int (I3 wd), .int (I3 lp), .int (I3 mp), .int (I3 re)])), (as_, .inl (dA 0, 60, .inl (iA SG))), (av, .inl (dA 1, 960, .inr (.inl (lA VL)))), (aw, .inl (dA 1, 1024, .inr (.inl (lA wf))))])) (QmetX8_add dC dI dA (va_A [(am, .inr (0, [.int (I3 th), .int (I3 mn), .ref as_, .ref av, .ref aw, .int (I3 sm), .int (I3 wd), .int (I3 lp), .int (I3 mp), .int (I3 re)])), (as_, .inl (dA 0, 60, .inl (iA SG))), (av, .inl (dA 1, 960, .inr (.inl (lA VL)))), (aw, .inl (dA 1, 1024, .inr (.inl (lA wf))))] sz) am as_ av aw th mn sm wd lp mp re SG VL wf a b) 0 0 (va_A [(am, .inr (0, [.int (I3 th), .int (I3 mn), .ref as_, .ref av, .ref aw, .int (I3 sm), .int (I3 wd), .int (I3 lp), .int (I3 mp), .int (I3 re)])), (as_, .inl (dA 0, 60, .inl (iA SG))), (av, .inl (dA 1, 960, .inr (.inl (lA VL)))), (aw, .inl (dA 1, 1024, .inr (.inl (lA wf))))] sz) := by
  refine Met.ofW (cc := cX8_add) (maxL := 8) (ret := none) (by decide) rfl ?_
  intro p e s m args below meth c s₁ B hml hv
  obtain ⟨rfl, hsz, hP, hK, hD0⟩ := hv
  have hx := B.exec
  have hb := B.bytes
  have hr := B.returns
  have hts := atoms_spec (ws := (ws_ yX8_add cX8_add 8 none)) B.pre
  have hts : ∀ w ∈ lw_all, w.before _ s = true := fun w h => hts w (List.mem_cons_of_mem _ h)
  have hown : s.vm.findClass RX8 = some m.cls := findClass_of_methodNamed B.named
  have hlocks := B.notSynchronized
  subst hsz
  have hD := hD0.self (sz := s.heap.size)
  generalize hAe : va_A [(am, .inr (0, [.int (I3 th), .int (I3 mn), .ref as_, .ref av, .ref aw, .int (I3 sm), .int (I3 wd), .int (I3 lp), .int (I3 mp), .int (I3 re)])), (as_, .inl (dA 0, 60, .inl (iA SG))), (av, .inl (dA 1, 960, .inr (.inl (lA VL)))), (aw, .inl (dA 1, 1024, .inr (.inl (lA wf))))] s.heap.size = A at hD ⊢
  have hA : ∀ q : Nat, s.heap.size ≤ q → A q := fun q h => by rw [← hAe]; exact Or.inr h
  have hS : va_S A s.heap s.heap [] := va_S.rf
  have hP : va_P (dC, dI) vwCl [(am, .inr (0, [.int (I3 th), .int (I3 mn), .ref as_, .ref av, .ref aw, .int (I3 sm), .int (I3 wd), .int (I3 lp), .int (I3 mp), .int (I3 re)])), (as_, .inl (dA 0, 60, .inl (iA SG))), (av, .inl (dA 1, 960, .inr (.inl (lA VL)))), (aw, .inl (dA 1, 1024, .inr (.inl (lA wf))))] s.heap := hP
  have hl := lv_entry ([.ref am, .int (I3 a), .int (I3 b)]) (n := 8) (Nat.le_of_ble_eq_true rfl)
  rw [lg_entry_eq]
  generalize (lg_sl ([.ref am, .int (I3 a), .int (I3 b)]) ++ List.replicate (8 - (lg_sl ([.ref am, .int (I3 a), .int (I3 b)])).length) Slot.unset).toArray = ls at hl ⊢
  have hl : lv_has ls 8 [(0, .ref am), (1, .int (I3 a)), (2, .int (I3 b))] := hl
  have cut_5 : ∀ (fuel_5 : Nat), ∀ (k : Int) (cr : Int) (W1 : Int → Int), (0 ≤ k ∧ k ≤ 64) → (0 ≤ cr ∧ cr ≤ 1) → (Dg W1) → (Fr wf W1 a) → (∀ j : Int, k ≤ j → j < 64 → W1 (64 * a + j) = wf (64 * a + j)) → (vz W1 (64 * a) k.toNat + cr * 2 ^ (32 * k.toNat) = vz wf (64 * a) k.toNat + vz wf (64 * b) k.toNat) → ((64 - k).toNat < fuel_5) → ∀ (H : Heap) (locs : List Loc), va_P (dC, dI) vwCl [(am, .inr (0, [.int (I3 th), .int (I3 mn), .ref as_, .ref av, .ref aw, .int (I3 sm), .int (I3 wd), .int (I3 lp), .int (I3 mp), .int (I3 re)])), (as_, .inl (dA 0, 60, .inl (iA SG))), (av, .inl (dA 1, 960, .inr (.inl (lA VL)))), (aw, .inl (dA 1, 1024, .inr (.inl (lA W1))))] H → va_D A [(am, .inr (0, [.int (I3 th), .int (I3 mn), .ref as_, .ref av, .ref aw, .int (I3 sm), .int (I3 wd), .int (I3 lp), .int (I3 mp), .int (I3 re)])), (as_, .inl (dA 0, 60, .inl (iA SG))), (av, .inl (dA 1, 960, .inr (.inl (lA VL)))), (aw, .inl (dA 1, 1024, .inr (.inl (lA W1))))] → va_S A s.heap H locs → ∀ (ls : Array Slot), lv_has ls 8 [(0, .ref am), (1, .int (I3 a)), (2, .int (I3 b)), (3, .long (L6 cr)), (5, .int (I3 k))] → W p l e (headSpec (ws_ yX8_add cX8_add 8 none) ({ frames := 1, cells := 0, slots := 0, locals := 40 })).room s m ([.ref am, .int (I3 a), .int (I3 b)] : List Value).toArray below meth c H locs 0 0 (MQ below (QmetX8_add dC dI dA A am as_ av aw th mn sm wd lp mp re SG VL wf a b) ([.ref am, .int (I3 a), .int (I3 b)] : List Value).toArray s 0 0 A) (F0 m 5 ls []) := by
    intro fuel_5
    induction fuel_5 with
    | zero =>
      intro k cr W1 hk hc hW1 hF hs hI hm
      exact absurd hm (Nat.not_lt_zero _)
    | succ fuel_5 ih_5 =>
      intro k cr W1 hk hc hW1 hF hs hI hm_5 H locs hP hD hS ls hl
      refine lv_iload hx hb dX8_add_5 (lv_at hl 4 rfl) ?_
      refine lv_bipush (v := I3 (64)) hx hb dX8_add_7 (by decide) ?_
      refine ix_icmp_ge (tgt := 71) hx hb (by first | decide | assumption | (constructor <;> omega)) (by first | decide | assumption | (constructor <;> omega)) dX8_add_9 (by decide) (fun c_9 => ?_) (fun c_9 => ?_)
      · skip
        have hk64 : k = 64 := by omega
        subst hk64
        have o_1 : Dg W1 := by first | assumption | omega | (constructor <;> omega)
        have o_2 : Fr wf W1 a := by first | assumption | omega | (constructor <;> omega)
        have o_3 : rv W1 a = (rv wf a + rv wf b) % BN := by exact add_end hW hW1 hI
        exact W.vret hx hb hr (fun t ht hW => ⟨⟨W1, rfl, ⟨o_1, o_2, o_3⟩, by rw [ht]; exact hP, va_K.moved hW.alike hK, hD⟩, hS.F ht⟩) hS.2.2 dX8_add_71
      · skip
        refine lv_aload_n hx hb dX8_add_12 rfl (lv_at hl 0 rfl) ?_
        refine va_get (D := (dC, dI)) (ci := 0) (v := .ref aw) (C := RX8) (T := TX8) (N := 10) hx hb hts in_X8 hown hK hP 0 rfl rfl 4 (by decide) (hts _ q917) (fun _ h9 => h9) rfl dX8_add_13 ?_
        refine lv_bipush (v := I3 (64)) hx hb dX8_add_16 (by decide) ?_
        refine lv_iload_n hx hb dX8_add_18 rfl (lv_at hl 1 rfl) ?_
        refine ix_imul hx hb dX8_add_19 ?_
        refine lv_iload hx hb dX8_add_20 (lv_at hl 4 rfl) ?_
        refine ix_iadd hx hb dX8_add_22 ?_
        refine ix_lald hx hb hK hP 3 1 rfl rfl (Nat.le_of_ble_eq_true rfl) (by omega) dX8_add_23 ?_
        have g_23 := hW1 ((64 * a) + k)
        refine lv_aload_n hx hb dX8_add_24 rfl (lv_at hl 0 rfl) ?_
        refine va_get (D := (dC, dI)) (ci := 0) (v := .ref aw) (C := RX8) (T := TX8) (N := 10) hx hb hts in_X8 hown hK hP 0 rfl rfl 4 (by decide) (hts _ q917) (fun _ h9 => h9) rfl dX8_add_25 ?_
        refine lv_bipush (v := I3 (64)) hx hb dX8_add_28 (by decide) ?_
        refine lv_iload_n hx hb dX8_add_30 rfl (lv_at hl 2 rfl) ?_
        refine ix_imul hx hb dX8_add_31 ?_
        refine lv_iload hx hb dX8_add_32 (lv_at hl 4 rfl) ?_
        refine ix_iadd hx hb dX8_add_34 ?_
        refine ix_lald hx hb hK hP 3 1 rfl rfl (Nat.le_of_ble_eq_true rfl) (by omega) dX8_add_35 ?_
        have g_35 := hW1 ((64 * b) + k)
        refine ix_ladd hx hb dX8_add_36 ?_
        refine lv_lload_n hx hb dX8_add_37 rfl (lv_at hl 3 rfl) ?_
        refine ix_ladd hx hb dX8_add_38 ?_
        refine lv_lstore (lv' := [(6, .long (L6 (((W1 ((64 * a) + k)) + (W1 ((64 * b) + k))) + cr))), (0, .ref am), (1, .int (I3 a)), (2, .int (I3 b)), (3, .long (L6 cr)), (5, .int (I3 k))]) hx hb dX8_add_39 hl (by decide) rfl (fun ls hl => ?_)
        refine lv_aload_n hx hb dX8_add_41 rfl (lv_at hl 1 rfl) ?_
        refine va_get (D := (dC, dI)) (ci := 0) (v := .ref aw) (C := RX8) (T := TX8) (N := 10) hx hb hts in_X8 hown hK hP 0 rfl rfl 4 (by decide) (hts _ q917) (fun _ h9 => h9) rfl dX8_add_42 ?_
        refine lv_bipush (v := I3 (64)) hx hb dX8_add_45 (by decide) ?_
        refine lv_iload_n hx hb dX8_add_47 rfl (lv_at hl 2 rfl) ?_
        refine ix_imul hx hb dX8_add_48 ?_
        refine lv_iload hx hb dX8_add_49 (lv_at hl 5 rfl) ?_
        refine ix_iadd hx hb dX8_add_51 ?_
        refine lv_lload hx hb dX8_add_52 (lv_at hl 0 rfl) ?_
        refine lv_ldc2 hx hb hown (hts _ q963) dX8_add_54 ?_
        refine ix_vl (x := (4294967295)) (by decide) ?_
        refine ix_landm hx hb 32 (by decide) (by decide) dX8_add_57 ?_
        refine ix_tl (y := (((W1 ((64 * a) + k)) + (W1 ((64 * b) + k))) + cr) % 4294967296) rfl ?_
        refine ix_last hx hb hK hP hD hS 3 1 rfl rfl (Nat.le_of_ble_eq_true rfl) (by omega) dX8_add_58 (fun H locs hP hD hS => ?_)
        have hP : va_P (dC, dI) vwCl [(am, .inr (0, [.int (I3 th), .int (I3 mn), .ref as_, .ref av, .ref aw, .int (I3 sm), .int (I3 wd), .int (I3 lp), .int (I3 mp), .int (I3 re)])), (as_, .inl (dA 0, 60, .inl (iA SG))), (av, .inl (dA 1, 960, .inr (.inl (lA VL)))), (aw, .inl (dA 1, 1024, .inr (.inl (lA (uZ W1 ((64 * a) + k) ((((W1 ((64 * a) + k)) + (W1 ((64 * b) + k))) + cr) % 4294967296))))))] H := hP
        have hD : va_D A [(am, .inr (0, [.int (I3 th), .int (I3 mn), .ref as_, .ref av, .ref aw, .int (I3 sm), .int (I3 wd), .int (I3 lp), .int (I3 mp), .int (I3 re)])), (as_, .inl (dA 0, 60, .inl (iA SG))), (av, .inl (dA 1, 960, .inr (.inl (lA VL)))), (aw, .inl (dA 1, 1024, .inr (.inl (lA (uZ W1 ((64 * a) + k) ((((W1 ((64 * a) + k)) + (W1 ((64 * b) + k))) + cr) % 4294967296))))))] := hD
        refine lv_lload hx hb dX8_add_59 (lv_at hl 0 rfl) ?_
        refine lv_bipush (v := I3 (32)) hx hb dX8_add_61 (by decide) ?_
        refine ix_lshr hx hb (by first | assumption | (constructor <;> omega)) (by first | decide | omega) dX8_add_63 ?_
        refine ix_tl (y := (((W1 ((64 * a) + k)) + (W1 ((64 * b) + k))) + cr) / 4294967296) rfl ?_
        refine lv_lstore_n (lv' := [(3, .long (L6 ((((W1 ((64 * a) + k)) + (W1 ((64 * b) + k))) + cr) / 4294967296))), (6, .long (L6 (((W1 ((64 * a) + k)) + (W1 ((64 * b) + k))) + cr))), (0, .ref am), (1, .int (I3 a)), (2, .int (I3 b)), (5, .int (I3 k))]) hx hb dX8_add_64 rfl hl (by decide) rfl (fun ls hl => ?_)
        refine lv_iinc (v := I3 (k + 1)) (lv' := [(5, .int (I3 (k + 1))), (3, .long (L6 ((((W1 ((64 * a) + k)) + (W1 ((64 * b) + k))) + cr) / 4294967296))), (6, .long (L6 (((W1 ((64 * a) + k)) + (W1 ((64 * b) + k))) + cr))), (0, .ref am), (1, .int (I3 a)), (2, .int (I3 b))]) hx hb dX8_add_65 hl (k := 5) rfl (I3_add _ _) (by decide) rfl (fun ls hl => ?_)
        refine lv_goto (tgt := 5) hx hb dX8_add_68 (by decide) ?_
        have e_4 : 0 ≤ (k + 1) ∧ (k + 1) ≤ 64 := by first | assumption | omega | (constructor <;> omega)
        have e_5 : 0 ≤ ((((W1 ((64 * a) + k)) + (W1 ((64 * b) + k))) + cr) / 4294967296) ∧ ((((W1 ((64 * a) + k)) + (W1 ((64 * b) + k))) + cr) / 4294967296) ≤ 1 := by first | assumption | omega | (constructor <;> omega)
        have e_6 : Dg (uZ W1 ((64 * a) + k) ((((W1 ((64 * a) + k)) + (W1 ((64 * b) + k))) + cr) % 4294967296)) := by exact Dg_uZ hW1 (by omega) (by omega)
        have e_7 : Fr wf (uZ W1 ((64 * a) + k) ((((W1 ((64 * a) + k)) + (W1 ((64 * b) + k))) + cr) % 4294967296)) a := by exact Fr_uZ hF (by omega)
        have e_8 : ∀ j : Int, (k + 1) ≤ j → j < 64 → (uZ W1 ((64 * a) + k) ((((W1 ((64 * a) + k)) + (W1 ((64 * b) + k))) + cr) % 4294967296)) (64 * a + j) = wf (64 * a + j) := by intro j h1 h2; rw [uZ_n (by omega)]; exact hs j (by omega) h2
        have e_9 : vz (uZ W1 ((64 * a) + k) ((((W1 ((64 * a) + k)) + (W1 ((64 * b) + k))) + cr) % 4294967296)) (64 * a) (k + 1).toNat + ((((W1 ((64 * a) + k)) + (W1 ((64 * b) + k))) + cr) / 4294967296) * 2 ^ (32 * (k + 1).toNat) = vz wf (64 * a) (k + 1).toNat + vz wf (64 * b) (k + 1).toNat := by exact add_step (by omega) hab (hs k (by omega) (by omega)) (hF _ (by omega)) hI
        have e_10 : (64 - (k + 1)).toNat < fuel_5 := by omega
        exact ih_5 (k + 1) ((((W1 ((64 * a) + k)) + (W1 ((64 * b) + k))) + cr) / 4294967296) (uZ W1 ((64 * a) + k) ((((W1 ((64 * a) + k)) + (W1 ((64 * b) + k))) + cr) % 4294967296)) e_4 e_5 e_6 e_7 e_8 e_9 e_10 _ _ hP hD hS ls (lv_sub hl [3, 4, 5, 1, 0] rfl)
  refine lv_lconst (v := L6 0) hx hb dX8_add_0 (by decide) ?_
  refine lv_lstore_n (lv' := [(3, .long (L6 0)), (0, .ref am), (1, .int (I3 a)), (2, .int (I3 b))]) hx hb dX8_add_1 rfl hl (by decide) rfl (fun ls hl => ?_)
  refine lv_iconst (v := I3 (0)) hx hb dX8_add_2 rfl ?_
  refine lv_istore (lv' := [(5, .int (I3 0)), (3, .long (L6 0)), (0, .ref am), (1, .int (I3 a)), (2, .int (I3 b))]) hx hb dX8_add_3 hl (by decide) rfl (fun ls hl => ?_)
  have e_11 : 0 ≤ (0 : Int) ∧ (0 : Int) ≤ 64 := by first | assumption | omega | (constructor <;> omega)
  have e_12 : 0 ≤ (0 : Int) ∧ (0 : Int) ≤ 1 := by first | assumption | omega | (constructor <;> omega)
  have e_13 : Dg wf := by first | assumption | omega | (constructor <;> omega)
  have e_14 : Fr wf wf a := by exact Fr_rf
  have e_15 : ∀ j : Int, (0 : Int) ≤ j → j < 64 → wf (64 * a + j) = wf (64 * a + j) := by intro i h1 h2; rfl
  have e_16 : vz wf (64 * a) (0 : Int).toNat + (0 : Int) * 2 ^ (32 * (0 : Int).toNat) = vz wf (64 * a) (0 : Int).toNat + vz wf (64 * b) (0 : Int).toNat := by simp [vz]
  exact cut_5 ((64 - (0 : Int)).toNat + 1) 0 0 wf e_11 e_12 e_13 e_14 e_15 e_16 (Nat.lt_succ_self _) _ _ hP hD hS ls (lv_sub hl [2, 3, 4, 1, 0] rfl)
abbrev BmetX8_take (dC : Nat → ClassId) (dI : Nat → Nat → Nat) (dA : Nat → ClassId) (A : Nat → Prop) (am : Nat) (as_ : Nat) (av : Nat) (aw : Nat) (th : Int) (mn : Int) (sm : Int) (wd : Int) (lp : Int) (mp : Int) (re : Int) (SG : Int → Int) (VL : Int → Int) (wf : Int → Int) (a : Int) (b : Int) : (Int → Int) → State → Prop := fun u t => (fun (u : (Int → Int)) => (fun (W1 : Int → Int) => va_P (dC, dI) vwCl [(am, .inr (0, [.int (I3 th), .int (I3 mn), .ref as_, .ref av, .ref aw, .int (I3 sm), .int (I3 wd), .int (I3 lp), .int (I3 mp), .int (I3 re)])), (as_, .inl (dA 0, 60, .inl (iA SG))), (av, .inl (dA 1, 960, .inr (.inl (lA VL)))), (aw, .inl (dA 1, 1024, .inr (.inl (lA W1))))] t.heap ∧ va_K (dC, dI) vwCl (tyA dA) t ∧ va_D A [(am, .inr (0, [.int (I3 th), .int (I3 mn), .ref as_, .ref av, .ref aw, .int (I3 sm), .int (I3 wd), .int (I3 lp), .int (I3 mp), .int (I3 re)])), (as_, .inl (dA 0, 60, .inl (iA SG))), (av, .inl (dA 1, 960, .inr (.inl (lA VL)))), (aw, .inl (dA 1, 1024, .inr (.inl (lA W1))))]) u) u
abbrev QmetX8_take (dC : Nat → ClassId) (dI : Nat → Nat → Nat) (dA : Nat → ClassId) (A : Nat → Prop) (am : Nat) (as_ : Nat) (av : Nat) (aw : Nat) (th : Int) (mn : Int) (sm : Int) (wd : Int) (lp : Int) (mp : Int) (re : Int) (SG : Int → Int) (VL : Int → Int) (wf : Int → Int) (a : Int) (b : Int) := va_Qv (fun (u : (Int → Int)) => (fun (W1 : Int → Int) => (Dg W1) ∧ (Fr wf W1 a) ∧ (rv W1 a = rv wf a - rv wf b)) u) (BmetX8_take dC dI dA A am as_ av aw th mn sm wd lp mp re SG VL wf a b) A
set_option maxHeartbeats 1000000 in
set_option maxRecDepth 100000 in
/-- row a becomes a - b -/
theorem metX8_take (l : Launch) (dC : Nat → ClassId) (dI : Nat → Nat → Nat) (dA : Nat → ClassId) (am : Nat) (as_ : Nat) (av : Nat) (aw : Nat) (sz : Nat) (th : Int) (mn : Int) (sm : Int) (wd : Int) (lp : Int) (mp : Int) (re : Int) (SG : Int → Int) (VL : Int → Int) (wf : Int → Int) (a : Int) (b : Int) (ha : 0 ≤ a ∧ a < 16) (hb_ : 0 ≤ b ∧ b < 16) (hab : a ≠ b) (hle : rv wf b ≤ rv wf a) (hW : Dg wf) : Met l yX8_take (ws_ yX8_take cX8_take 8 none) ({ frames := 1, cells := 0, slots := 0, locals := 40 }) (va_Pc [.ref am, .int (I3 a), .int (I3 b)] (fun U => U.heap.size = sz ∧ va_P (dC, dI) vwCl [(am, .inr (0, [.int (I3 th), .int (I3 mn), .ref as_, .ref av, .ref aw, .int (I3 sm), .int (I3 wd), .int (I3 lp), .int (I3 mp), .int (I3 re)])), (as_, .inl (dA 0, 60, .inl (iA SG))), (av, .inl (dA 1, 960, .inr (.inl (lA VL)))), (aw, .inl (dA 1, 1024, .inr (.inl (lA wf))))] U.heap ∧ va_K (dC, dI) vwCl (tyA dA) U ∧ va_D (fun _ => True) [(am, .inr (0, [.int (I3 th), .int (I3 mn), .ref as_, .ref av, .ref aw, .int (I3 sm), .int (I3 wd), .int (I3 lp), .int (I3 mp), .int (I3 re)])), (as_, .inl (dA 0, 60, .inl (iA SG))), (av, .inl (dA 1, 960, .inr (.inl (lA VL)))), (aw, .inl (dA 1, 1024, .inr (.inl (lA wf))))])) (QmetX8_take dC dI dA (va_A [(am, .inr (0, [.int (I3 th), .int (I3 mn), .ref as_, .ref av, .ref aw, .int (I3 sm), .int (I3 wd), .int (I3 lp), .int (I3 mp), .int (I3 re)])), (as_, .inl (dA 0, 60, .inl (iA SG))), (av, .inl (dA 1, 960, .inr (.inl (lA VL)))), (aw, .inl (dA 1, 1024, .inr (.inl (lA wf))))] sz) am as_ av aw th mn sm wd lp mp re SG VL wf a b) 0 0 (va_A [(am, .inr (0, [.int (I3 th), .int (I3 mn), .ref as_, .ref av, .ref aw, .int (I3 sm), .int (I3 wd), .int (I3 lp), .int (I3 mp), .int (I3 re)])), (as_, .inl (dA 0, 60, .inl (iA SG))), (av, .inl (dA 1, 960, .inr (.inl (lA VL)))), (aw, .inl (dA 1, 1024, .inr (.inl (lA wf))))] sz) := by
  refine Met.ofW (cc := cX8_take) (maxL := 8) (ret := none) (by decide) rfl ?_
  intro p e s m args below meth c s₁ B hml hv
  obtain ⟨rfl, hsz, hP, hK, hD0⟩ := hv
  have hx := B.exec
  have hb := B.bytes
  have hr := B.returns
  have hts := atoms_spec (ws := (ws_ yX8_take cX8_take 8 none)) B.pre
  have hts : ∀ w ∈ lw_all, w.before _ s = true := fun w h => hts w (List.mem_cons_of_mem _ h)
  have hown : s.vm.findClass RX8 = some m.cls := findClass_of_methodNamed B.named
  have hlocks := B.notSynchronized
  subst hsz
  have hD := hD0.self (sz := s.heap.size)
  generalize hAe : va_A [(am, .inr (0, [.int (I3 th), .int (I3 mn), .ref as_, .ref av, .ref aw, .int (I3 sm), .int (I3 wd), .int (I3 lp), .int (I3 mp), .int (I3 re)])), (as_, .inl (dA 0, 60, .inl (iA SG))), (av, .inl (dA 1, 960, .inr (.inl (lA VL)))), (aw, .inl (dA 1, 1024, .inr (.inl (lA wf))))] s.heap.size = A at hD ⊢
  have hA : ∀ q : Nat, s.heap.size ≤ q → A q := fun q h => by rw [← hAe]; exact Or.inr h
  have hS : va_S A s.heap s.heap [] := va_S.rf
  have hP : va_P (dC, dI) vwCl [(am, .inr (0, [.int (I3 th), .int (I3 mn), .ref as_, .ref av, .ref aw, .int (I3 sm), .int (I3 wd), .int (I3 lp), .int (I3 mp), .int (I3 re)])), (as_, .inl (dA 0, 60, .inl (iA SG))), (av, .inl (dA 1, 960, .inr (.inl (lA VL)))), (aw, .inl (dA 1, 1024, .inr (.inl (lA wf))))] s.heap := hP
  have hl := lv_entry ([.ref am, .int (I3 a), .int (I3 b)]) (n := 8) (Nat.le_of_ble_eq_true rfl)
  rw [lg_entry_eq]
  generalize (lg_sl ([.ref am, .int (I3 a), .int (I3 b)]) ++ List.replicate (8 - (lg_sl ([.ref am, .int (I3 a), .int (I3 b)])).length) Slot.unset).toArray = ls at hl ⊢
  have hl : lv_has ls 8 [(0, .ref am), (1, .int (I3 a)), (2, .int (I3 b))] := hl
  have cut_5 : ∀ (fuel_5 : Nat), ∀ (k : Int) (cr : Int) (W1 : Int → Int), (0 ≤ k ∧ k ≤ 64) → (0 ≤ cr ∧ cr ≤ 1) → (Dg W1) → (Fr wf W1 a) → (∀ j : Int, k ≤ j → j < 64 → W1 (64 * a + j) = wf (64 * a + j)) → (vz W1 (64 * a) k.toNat + vz wf (64 * b) k.toNat = vz wf (64 * a) k.toNat + cr * 2 ^ (32 * k.toNat)) → ((64 - k).toNat < fuel_5) → ∀ (H : Heap) (locs : List Loc), va_P (dC, dI) vwCl [(am, .inr (0, [.int (I3 th), .int (I3 mn), .ref as_, .ref av, .ref aw, .int (I3 sm), .int (I3 wd), .int (I3 lp), .int (I3 mp), .int (I3 re)])), (as_, .inl (dA 0, 60, .inl (iA SG))), (av, .inl (dA 1, 960, .inr (.inl (lA VL)))), (aw, .inl (dA 1, 1024, .inr (.inl (lA W1))))] H → va_D A [(am, .inr (0, [.int (I3 th), .int (I3 mn), .ref as_, .ref av, .ref aw, .int (I3 sm), .int (I3 wd), .int (I3 lp), .int (I3 mp), .int (I3 re)])), (as_, .inl (dA 0, 60, .inl (iA SG))), (av, .inl (dA 1, 960, .inr (.inl (lA VL)))), (aw, .inl (dA 1, 1024, .inr (.inl (lA W1))))] → va_S A s.heap H locs → ∀ (ls : Array Slot), lv_has ls 8 [(0, .ref am), (1, .int (I3 a)), (2, .int (I3 b)), (3, .long (L6 cr)), (5, .int (I3 k))] → W p l e (headSpec (ws_ yX8_take cX8_take 8 none) ({ frames := 1, cells := 0, slots := 0, locals := 40 })).room s m ([.ref am, .int (I3 a), .int (I3 b)] : List Value).toArray below meth c H locs 0 0 (MQ below (QmetX8_take dC dI dA A am as_ av aw th mn sm wd lp mp re SG VL wf a b) ([.ref am, .int (I3 a), .int (I3 b)] : List Value).toArray s 0 0 A) (F0 m 5 ls []) := by
    intro fuel_5
    induction fuel_5 with
    | zero =>
      intro k cr W1 hk hc hW1 hF hs hI hm
      exact absurd hm (Nat.not_lt_zero _)
    | succ fuel_5 ih_5 =>
      intro k cr W1 hk hc hW1 hF hs hI hm_5 H locs hP hD hS ls hl
      refine lv_iload hx hb dX8_take_5 (lv_at hl 4 rfl) ?_
      refine lv_bipush (v := I3 (64)) hx hb dX8_take_7 (by decide) ?_
      refine ix_icmp_ge (tgt := 78) hx hb (by first | decide | assumption | (constructor <;> omega)) (by first | decide | assumption | (constructor <;> omega)) dX8_take_9 (by decide) (fun c_9 => ?_) (fun c_9 => ?_)
      · skip
        have hk64 : k = 64 := by omega
        subst hk64
        have o_1 : Dg W1 := by first | assumption | omega | (constructor <;> omega)
        have o_2 : Fr wf W1 a := by first | assumption | omega | (constructor <;> omega)
        have o_3 : rv W1 a = rv wf a - rv wf b := by exact take_end hW hW1 hle hc hI
        exact W.vret hx hb hr (fun t ht hW => ⟨⟨W1, rfl, ⟨o_1, o_2, o_3⟩, by rw [ht]; exact hP, va_K.moved hW.alike hK, hD⟩, hS.F ht⟩) hS.2.2 dX8_take_78
      · skip
        refine lv_aload_n hx hb dX8_take_12 rfl (lv_at hl 0 rfl) ?_
        refine va_get (D := (dC, dI)) (ci := 0) (v := .ref aw) (C := RX8) (T := TX8) (N := 10) hx hb hts in_X8 hown hK hP 0 rfl rfl 4 (by decide) (hts _ q917) (fun _ h9 => h9) rfl dX8_take_13 ?_
        refine lv_bipush (v := I3 (64)) hx hb dX8_take_16 (by decide) ?_
        refine lv_iload_n hx hb dX8_take_18 rfl (lv_at hl 1 rfl) ?_
        refine ix_imul hx hb dX8_take_19 ?_
        refine lv_iload hx hb dX8_take_20 (lv_at hl 4 rfl) ?_
        refine ix_iadd hx hb dX8_take_22 ?_
        refine ix_lald hx hb hK hP 3 1 rfl rfl (Nat.le_of_ble_eq_true rfl) (by omega) dX8_take_23 ?_
        have g_23 := hW1 ((64 * a) + k)
        refine lv_aload_n hx hb dX8_take_24 rfl (lv_at hl 0 rfl) ?_
        refine va_get (D := (dC, dI)) (ci := 0) (v := .ref aw) (C := RX8) (T := TX8) (N := 10) hx hb hts in_X8 hown hK hP 0 rfl rfl 4 (by decide) (hts _ q917) (fun _ h9 => h9) rfl dX8_take_25 ?_
        refine lv_bipush (v := I3 (64)) hx hb dX8_take_28 (by decide) ?_
        refine lv_iload_n hx hb dX8_take_30 rfl (lv_at hl 2 rfl) ?_
        refine ix_imul hx hb dX8_take_31 ?_
        refine lv_iload hx hb dX8_take_32 (lv_at hl 4 rfl) ?_
        refine ix_iadd hx hb dX8_take_34 ?_
        refine ix_lald hx hb hK hP 3 1 rfl rfl (Nat.le_of_ble_eq_true rfl) (by omega) dX8_take_35 ?_
        have g_35 := hW1 ((64 * b) + k)
        refine ix_lsub hx hb dX8_take_36 ?_
        refine lv_lload_n hx hb dX8_take_37 rfl (lv_at hl 3 rfl) ?_
        refine ix_lsub hx hb dX8_take_38 ?_
        refine lv_lstore (lv' := [(6, .long (L6 (((W1 ((64 * a) + k)) - (W1 ((64 * b) + k))) - cr))), (0, .ref am), (1, .int (I3 a)), (2, .int (I3 b)), (3, .long (L6 cr)), (5, .int (I3 k))]) hx hb dX8_take_39 hl (by decide) rfl (fun ls hl => ?_)
        refine lv_aload_n hx hb dX8_take_41 rfl (lv_at hl 1 rfl) ?_
        refine va_get (D := (dC, dI)) (ci := 0) (v := .ref aw) (C := RX8) (T := TX8) (N := 10) hx hb hts in_X8 hown hK hP 0 rfl rfl 4 (by decide) (hts _ q917) (fun _ h9 => h9) rfl dX8_take_42 ?_
        refine lv_bipush (v := I3 (64)) hx hb dX8_take_45 (by decide) ?_
        refine lv_iload_n hx hb dX8_take_47 rfl (lv_at hl 2 rfl) ?_
        refine ix_imul hx hb dX8_take_48 ?_
        refine lv_iload hx hb dX8_take_49 (lv_at hl 5 rfl) ?_
        refine ix_iadd hx hb dX8_take_51 ?_
        refine lv_lload hx hb dX8_take_52 (lv_at hl 0 rfl) ?_
        refine lv_ldc2 hx hb hown (hts _ q963) dX8_take_54 ?_
        refine ix_vl (x := (4294967295)) (by decide) ?_
        refine ix_landm hx hb 32 (by decide) (by decide) dX8_take_57 ?_
        refine ix_tl (y := (((W1 ((64 * a) + k)) - (W1 ((64 * b) + k))) - cr) % 4294967296) rfl ?_
        refine ix_last hx hb hK hP hD hS 3 1 rfl rfl (Nat.le_of_ble_eq_true rfl) (by omega) dX8_take_58 (fun H locs hP hD hS => ?_)
        have hP : va_P (dC, dI) vwCl [(am, .inr (0, [.int (I3 th), .int (I3 mn), .ref as_, .ref av, .ref aw, .int (I3 sm), .int (I3 wd), .int (I3 lp), .int (I3 mp), .int (I3 re)])), (as_, .inl (dA 0, 60, .inl (iA SG))), (av, .inl (dA 1, 960, .inr (.inl (lA VL)))), (aw, .inl (dA 1, 1024, .inr (.inl (lA (uZ W1 ((64 * a) + k) ((((W1 ((64 * a) + k)) - (W1 ((64 * b) + k))) - cr) % 4294967296))))))] H := hP
        have hD : va_D A [(am, .inr (0, [.int (I3 th), .int (I3 mn), .ref as_, .ref av, .ref aw, .int (I3 sm), .int (I3 wd), .int (I3 lp), .int (I3 mp), .int (I3 re)])), (as_, .inl (dA 0, 60, .inl (iA SG))), (av, .inl (dA 1, 960, .inr (.inl (lA VL)))), (aw, .inl (dA 1, 1024, .inr (.inl (lA (uZ W1 ((64 * a) + k) ((((W1 ((64 * a) + k)) - (W1 ((64 * b) + k))) - cr) % 4294967296))))))] := hD
        refine lv_lload hx hb dX8_take_59 (lv_at hl 0 rfl) ?_
        refine lv_lconst (v := L6 0) hx hb dX8_take_61 (by decide) ?_
        refine ix_lcmp_ge (tgt := 70) hx hb (by first | decide | assumption | (constructor <;> omega)) (by first | decide | assumption | (constructor <;> omega)) dX8_take_62 dX8_take_63 (by decide) (fun c_62 => ?_) (fun c_62 => ?_)
        · skip
          refine lv_lconst (v := L6 0) hx hb dX8_take_70 (by decide) ?_
          refine lv_lstore_n (lv' := [(3, .long (L6 0)), (6, .long (L6 (((W1 ((64 * a) + k)) - (W1 ((64 * b) + k))) - cr))), (0, .ref am), (1, .int (I3 a)), (2, .int (I3 b)), (5, .int (I3 k))]) hx hb dX8_take_71 rfl hl (by decide) rfl (fun ls hl => ?_)
          refine lv_iinc (v := I3 (k + 1)) (lv' := [(5, .int (I3 (k + 1))), (3, .long (L6 0)), (6, .long (L6 (((W1 ((64 * a) + k)) - (W1 ((64 * b) + k))) - cr))), (0, .ref am), (1, .int (I3 a)), (2, .int (I3 b))]) hx hb dX8_take_72 hl (k := 5) rfl (I3_add _ _) (by decide) rfl (fun ls hl => ?_)
          refine lv_goto (tgt := 5) hx hb dX8_take_75 (by decide) ?_
          have e_4 : 0 ≤ (k + 1) ∧ (k + 1) ≤ 64 := by first | assumption | omega | (constructor <;> omega)
          have e_5 : 0 ≤ (0 : Int) ∧ (0 : Int) ≤ 1 := by first | assumption | omega | (constructor <;> omega)
          have e_6 : Dg (uZ W1 ((64 * a) + k) ((((W1 ((64 * a) + k)) - (W1 ((64 * b) + k))) - cr) % 4294967296)) := by exact Dg_uZ hW1 (by omega) (by omega)
          have e_7 : Fr wf (uZ W1 ((64 * a) + k) ((((W1 ((64 * a) + k)) - (W1 ((64 * b) + k))) - cr) % 4294967296)) a := by exact Fr_uZ hF (by omega)
          have e_8 : ∀ j : Int, (k + 1) ≤ j → j < 64 → (uZ W1 ((64 * a) + k) ((((W1 ((64 * a) + k)) - (W1 ((64 * b) + k))) - cr) % 4294967296)) (64 * a + j) = wf (64 * a + j) := by intro j h1 h2; rw [uZ_n (by omega)]; exact hs j (by omega) h2
          have e_9 : vz (uZ W1 ((64 * a) + k) ((((W1 ((64 * a) + k)) - (W1 ((64 * b) + k))) - cr) % 4294967296)) (64 * a) (k + 1).toNat + vz wf (64 * b) (k + 1).toNat = vz wf (64 * a) (k + 1).toNat + (0 : Int) * 2 ^ (32 * (k + 1).toNat) := by exact take_step (c := cr) (by omega) (hs k (by omega) (by omega)) (hF _ (by omega)) hI rfl (by omega)
          have e_10 : (64 - (k + 1)).toNat < fuel_5 := by omega
          exact ih_5 (k + 1) 0 (uZ W1 ((64 * a) + k) ((((W1 ((64 * a) + k)) - (W1 ((64 * b) + k))) - cr) % 4294967296)) e_4 e_5 e_6 e_7 e_8 e_9 e_10 _ _ hP hD hS ls (lv_sub hl [3, 4, 5, 1, 0] rfl)
        · skip
          refine lv_lconst (v := L6 1) hx hb dX8_take_66 (by decide) ?_
          refine lv_goto (tgt := 71) hx hb dX8_take_67 (by decide) ?_
          refine lv_lstore_n (lv' := [(3, .long (L6 1)), (6, .long (L6 (((W1 ((64 * a) + k)) - (W1 ((64 * b) + k))) - cr))), (0, .ref am), (1, .int (I3 a)), (2, .int (I3 b)), (5, .int (I3 k))]) hx hb dX8_take_71 rfl hl (by decide) rfl (fun ls hl => ?_)
          refine lv_iinc (v := I3 (k + 1)) (lv' := [(5, .int (I3 (k + 1))), (3, .long (L6 1)), (6, .long (L6 (((W1 ((64 * a) + k)) - (W1 ((64 * b) + k))) - cr))), (0, .ref am), (1, .int (I3 a)), (2, .int (I3 b))]) hx hb dX8_take_72 hl (k := 5) rfl (I3_add _ _) (by decide) rfl (fun ls hl => ?_)
          refine lv_goto (tgt := 5) hx hb dX8_take_75 (by decide) ?_
          have e_11 : 0 ≤ (k + 1) ∧ (k + 1) ≤ 64 := by first | assumption | omega | (constructor <;> omega)
          have e_12 : 0 ≤ (1 : Int) ∧ (1 : Int) ≤ 1 := by first | assumption | omega | (constructor <;> omega)
          have e_13 : Dg (uZ W1 ((64 * a) + k) ((((W1 ((64 * a) + k)) - (W1 ((64 * b) + k))) - cr) % 4294967296)) := by exact Dg_uZ hW1 (by omega) (by omega)
          have e_14 : Fr wf (uZ W1 ((64 * a) + k) ((((W1 ((64 * a) + k)) - (W1 ((64 * b) + k))) - cr) % 4294967296)) a := by exact Fr_uZ hF (by omega)
          have e_15 : ∀ j : Int, (k + 1) ≤ j → j < 64 → (uZ W1 ((64 * a) + k) ((((W1 ((64 * a) + k)) - (W1 ((64 * b) + k))) - cr) % 4294967296)) (64 * a + j) = wf (64 * a + j) := by intro j h1 h2; rw [uZ_n (by omega)]; exact hs j (by omega) h2
          have e_16 : vz (uZ W1 ((64 * a) + k) ((((W1 ((64 * a) + k)) - (W1 ((64 * b) + k))) - cr) % 4294967296)) (64 * a) (k + 1).toNat + vz wf (64 * b) (k + 1).toNat = vz wf (64 * a) (k + 1).toNat + (1 : Int) * 2 ^ (32 * (k + 1).toNat) := by exact take_step (c := cr) (by omega) (hs k (by omega) (by omega)) (hF _ (by omega)) hI rfl (by omega)
          have e_17 : (64 - (k + 1)).toNat < fuel_5 := by omega
          exact ih_5 (k + 1) 1 (uZ W1 ((64 * a) + k) ((((W1 ((64 * a) + k)) - (W1 ((64 * b) + k))) - cr) % 4294967296)) e_11 e_12 e_13 e_14 e_15 e_16 e_17 _ _ hP hD hS ls (lv_sub hl [3, 4, 5, 1, 0] rfl)
  refine lv_lconst (v := L6 0) hx hb dX8_take_0 (by decide) ?_
  refine lv_lstore_n (lv' := [(3, .long (L6 0)), (0, .ref am), (1, .int (I3 a)), (2, .int (I3 b))]) hx hb dX8_take_1 rfl hl (by decide) rfl (fun ls hl => ?_)
  refine lv_iconst (v := I3 (0)) hx hb dX8_take_2 rfl ?_
  refine lv_istore (lv' := [(5, .int (I3 0)), (3, .long (L6 0)), (0, .ref am), (1, .int (I3 a)), (2, .int (I3 b))]) hx hb dX8_take_3 hl (by decide) rfl (fun ls hl => ?_)
  have e_18 : 0 ≤ (0 : Int) ∧ (0 : Int) ≤ 64 := by first | assumption | omega | (constructor <;> omega)
  have e_19 : 0 ≤ (0 : Int) ∧ (0 : Int) ≤ 1 := by first | assumption | omega | (constructor <;> omega)
  have e_20 : Dg wf := by first | assumption | omega | (constructor <;> omega)
  have e_21 : Fr wf wf a := by exact Fr_rf
  have e_22 : ∀ j : Int, (0 : Int) ≤ j → j < 64 → wf (64 * a + j) = wf (64 * a + j) := by intro i h1 h2; rfl
  have e_23 : vz wf (64 * a) (0 : Int).toNat + vz wf (64 * b) (0 : Int).toNat = vz wf (64 * a) (0 : Int).toNat + (0 : Int) * 2 ^ (32 * (0 : Int).toNat) := by simp [vz]
  exact cut_5 ((64 - (0 : Int)).toNat + 1) 0 0 wf e_18 e_19 e_20 e_21 e_22 e_23 (Nat.lt_succ_self _) _ _ hP hD hS ls (lv_sub hl [2, 3, 4, 1, 0] rfl)
