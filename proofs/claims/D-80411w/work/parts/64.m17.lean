/-! the model: nearest, single -/
set_option maxRecDepth 100000
abbrev BmetX8_nearest (dC : Nat → ClassId) (dI : Nat → Nat → Nat) (dA : Nat → ClassId) (A : Nat → Prop) (am : Nat) (as_ : Nat) (av : Nat) (aw : Nat) (th : Int) (mn : Int) (sm : Int) (wd : Int) (lp : Int) (mp : Int) (re : Int) (SG : Int → Int) (VL : Int → Int) (wf : Int → Int) (a : Int) (dr : Int) : Int × Int × (Int → Int) × Int × Int × Int → State → Prop := fun u t => (fun (u : Int × Int × (Int → Int) × Int × Int × Int) => (fun (z : Int) (th1 : Int) (W1 : Int → Int) (wd1 : Int) (lp1 : Int) (mp1 : Int) => va_P (dC, dI) vwCl [(am, .inr (0, [.int (I3 th1), .int (I3 mn), .ref as_, .ref av, .ref aw, .int (I3 sm), .int (I3 wd1), .int (I3 lp1), .int (I3 mp1), .int (I3 re)])), (as_, .inl (dA 0, 60, .inl (iA SG))), (av, .inl (dA 1, 960, .inr (.inl (lA VL)))), (aw, .inl (dA 1, 1024, .inr (.inl (lA W1))))] t.heap ∧ va_K (dC, dI) vwCl (tyA dA) t ∧ va_D A [(am, .inr (0, [.int (I3 th1), .int (I3 mn), .ref as_, .ref av, .ref aw, .int (I3 sm), .int (I3 wd1), .int (I3 lp1), .int (I3 mp1), .int (I3 re)])), (as_, .inl (dA 0, 60, .inl (iA SG))), (av, .inl (dA 1, 960, .inr (.inl (lA VL)))), (aw, .inl (dA 1, 1024, .inr (.inl (lA W1))))]) u.1 u.2.1 u.2.2.1 u.2.2.2.1 u.2.2.2.2.1 u.2.2.2.2.2) u
abbrev QmetX8_nearest (dC : Nat → ClassId) (dI : Nat → Nat → Nat) (dA : Nat → ClassId) (A : Nat → Prop) (am : Nat) (as_ : Nat) (av : Nat) (aw : Nat) (th : Int) (mn : Int) (sm : Int) (wd : Int) (lp : Int) (mp : Int) (re : Int) (SG : Int → Int) (VL : Int → Int) (wf : Int → Int) (a : Int) (dr : Int) := va_Ql (fun (rt_ : Int64) => fun (u : Int × Int × (Int → Int) × Int × Int × Int) => (fun (z : Int) (th1 : Int) (W1 : Int → Int) (wd1 : Int) (lp1 : Int) (mp1 : Int) => rt_ = L6 z ∧ (Dg W1) ∧ (th1 = if 0 ≤ a ∧ a < mn then (if 0 ≤ dr ∧ dr ≤ 3 then 0 else 2) else 1) ∧ (((0 ≤ a ∧ a < mn) ∧ 0 ≤ dr ∧ dr ≤ 3) → SG a ≠ 0 → ∃ e : Int, rnB 64 (pv VL a) (qv VL a) dr (SG a) e ∧ z = if SG a < 0 then e - 9223372036854775808 else e) ∧ (¬ ((0 ≤ a ∧ a < mn) ∧ 0 ≤ dr ∧ dr ≤ 3) → z = 0) ∧ (SG a = 0 → z = 0)) u.1 u.2.1 u.2.2.1 u.2.2.2.1 u.2.2.2.2.1 u.2.2.2.2.2) (BmetX8_nearest dC dI dA A am as_ av aw th mn sm wd lp mp re SG VL wf a dr) A
set_option maxHeartbeats 1000000 in
set_option maxRecDepth 100000 in
theorem metX8_nearest (l : Launch) (dC : Nat → ClassId) (dI : Nat → Nat → Nat) (dA : Nat → ClassId) (am : Nat) (as_ : Nat) (av : Nat) (aw : Nat) (sz : Nat) (th : Int) (mn : Int) (sm : Int) (wd : Int) (lp : Int) (mp : Int) (re : Int) (SG : Int → Int) (VL : Int → Int) (wf : Int → Int) (a : Int) (dr : Int) (hW : Dg wf) (hI : MI mn SG VL) (ha : In3 a) (hd : In3 dr) : Met l yX8_nearest (ws_ yX8_nearest cX8_nearest 3 (some .long)) ({ frames := 4, cells := 0, slots := 0, locals := 160 }) (va_Pc [.ref am, .int (I3 a), .int (I3 dr)] (fun U => U.heap.size = sz ∧ va_P (dC, dI) vwCl [(am, .inr (0, [.int (I3 th), .int (I3 mn), .ref as_, .ref av, .ref aw, .int (I3 sm), .int (I3 wd), .int (I3 lp), .int (I3 mp), .int (I3 re)])), (as_, .inl (dA 0, 60, .inl (iA SG))), (av, .inl (dA 1, 960, .inr (.inl (lA VL)))), (aw, .inl (dA 1, 1024, .inr (.inl (lA wf))))] U.heap ∧ va_K (dC, dI) vwCl (tyA dA) U ∧ va_D (fun _ => True) [(am, .inr (0, [.int (I3 th), .int (I3 mn), .ref as_, .ref av, .ref aw, .int (I3 sm), .int (I3 wd), .int (I3 lp), .int (I3 mp), .int (I3 re)])), (as_, .inl (dA 0, 60, .inl (iA SG))), (av, .inl (dA 1, 960, .inr (.inl (lA VL)))), (aw, .inl (dA 1, 1024, .inr (.inl (lA wf))))])) (QmetX8_nearest dC dI dA (va_A [(am, .inr (0, [.int (I3 th), .int (I3 mn), .ref as_, .ref av, .ref aw, .int (I3 sm), .int (I3 wd), .int (I3 lp), .int (I3 mp), .int (I3 re)])), (as_, .inl (dA 0, 60, .inl (iA SG))), (av, .inl (dA 1, 960, .inr (.inl (lA VL)))), (aw, .inl (dA 1, 1024, .inr (.inl (lA wf))))] sz) am as_ av aw th mn sm wd lp mp re SG VL wf a dr) 0 0 (va_A [(am, .inr (0, [.int (I3 th), .int (I3 mn), .ref as_, .ref av, .ref aw, .int (I3 sm), .int (I3 wd), .int (I3 lp), .int (I3 mp), .int (I3 re)])), (as_, .inl (dA 0, 60, .inl (iA SG))), (av, .inl (dA 1, 960, .inr (.inl (lA VL)))), (aw, .inl (dA 1, 1024, .inr (.inl (lA wf))))] sz) := by
  refine Met.ofW (cc := cX8_nearest) (maxL := 3) (ret := (some .long)) (by decide) rfl ?_
  intro p e s m args below meth c s₁ B hml hv
  obtain ⟨rfl, hsz, hP, hK, hD0⟩ := hv
  have hx := B.exec
  have hb := B.bytes
  have hr := B.returns
  have hts := atoms_spec (ws := (ws_ yX8_nearest cX8_nearest 3 (some .long))) B.pre
  have hts : ∀ w ∈ lw_all, w.before _ s = true := fun w h => hts w (List.mem_cons_of_mem _ h)
  have hown : s.vm.findClass RX8 = some m.cls := findClass_of_methodNamed B.named
  have hlocks := B.notSynchronized
  subst hsz
  have hD := hD0.self (sz := s.heap.size)
  generalize hAe : va_A [(am, .inr (0, [.int (I3 th), .int (I3 mn), .ref as_, .ref av, .ref aw, .int (I3 sm), .int (I3 wd), .int (I3 lp), .int (I3 mp), .int (I3 re)])), (as_, .inl (dA 0, 60, .inl (iA SG))), (av, .inl (dA 1, 960, .inr (.inl (lA VL)))), (aw, .inl (dA 1, 1024, .inr (.inl (lA wf))))] s.heap.size = A at hD ⊢
  have hA : ∀ q : Nat, s.heap.size ≤ q → A q := fun q h => by rw [← hAe]; exact Or.inr h
  have hS : va_S A s.heap s.heap [] := va_S.rf
  have hP : va_P (dC, dI) vwCl [(am, .inr (0, [.int (I3 th), .int (I3 mn), .ref as_, .ref av, .ref aw, .int (I3 sm), .int (I3 wd), .int (I3 lp), .int (I3 mp), .int (I3 re)])), (as_, .inl (dA 0, 60, .inl (iA SG))), (av, .inl (dA 1, 960, .inr (.inl (lA VL)))), (aw, .inl (dA 1, 1024, .inr (.inl (lA wf))))] s.heap := hP
  have hl := lv_entry ([.ref am, .int (I3 a), .int (I3 dr)]) (n := 3) (Nat.le_of_ble_eq_true rfl)
  rw [lg_entry_eq]
  generalize (lg_sl ([.ref am, .int (I3 a), .int (I3 dr)]) ++ List.replicate (3 - (lg_sl ([.ref am, .int (I3 a), .int (I3 dr)])).length) Slot.unset).toArray = ls at hl ⊢
  have hl : lv_has ls 3 [(0, .ref am), (1, .int (I3 a)), (2, .int (I3 dr))] := hl
  obtain ⟨hmn, hV, hAll⟩ := id hI
  refine lv_aload_n hx hb dX8_nearest_0 rfl (lv_at hl 0 rfl) ?_
  refine lv_iload_n hx hb dX8_nearest_1 rfl (lv_at hl 1 rfl) ?_
  refine lv_iload_n hx hb dX8_nearest_2 rfl (lv_at hl 2 rfl) ?_
  have h_1 : In3 a := by first | assumption | omega | (constructor <;> omega)
  have h_2 : In3 dr := by first | assumption | omega | (constructor <;> omega)
  have h_3 : 0 ≤ mn ∧ mn ≤ 60 := by first | assumption | omega | (constructor <;> omega)
  have hPc := hP.sub (ws' := [(am, .inr (0, [.int (I3 th), .int (I3 mn), .ref as_, .ref av, .ref aw, .int (I3 sm), .int (I3 wd), .int (I3 lp), .int (I3 mp), .int (I3 re)])), (as_, .inl (dA 0, 60, .inl (iA SG))), (av, .inl (dA 1, 960, .inr (.inl (lA VL)))), (aw, .inl (dA 1, 1024, .inr (.inl (lA wf))))]) [0, 1, 2, 3] rfl
  have hDc := hD.sub (ws' := [(am, .inr (0, [.int (I3 th), .int (I3 mn), .ref as_, .ref av, .ref aw, .int (I3 sm), .int (I3 wd), .int (I3 lp), .int (I3 mp), .int (I3 re)])), (as_, .inl (dA 0, 60, .inl (iA SG))), (av, .inl (dA 1, 960, .inr (.inl (lA VL)))), (aw, .inl (dA 1, 1024, .inr (.inl (lA wf))))]) [0, 1, 2, 3] (by decide) rfl
  have hFc := va_free (wc := [(am, .inr (0, [.int (I3 th), .int (I3 mn), .ref as_, .ref av, .ref aw, .int (I3 sm), .int (I3 wd), .int (I3 lp), .int (I3 mp), .int (I3 re)])), (as_, .inl (dA 0, 60, .inl (iA SG))), (av, .inl (dA 1, 960, .inr (.inl (lA VL)))), (aw, .inl (dA 1, 1024, .inr (.inl (lA wf))))]) hD hS hA [0, 1, 2, 3] rfl
  refine va_calli (va_runV (As := [.int (I3 a), .int (I3 dr)]) (rest := []) ⟨hx, hb, hml, hown, hts⟩ (metX8_isDirection l dC dI dA am as_ av aw s.heap.size th mn sm wd lp mp re SG VL wf a dr h_1 h_2 h_3) (cwV 2 hts (lw_V q1137 q1139 qs46 q66 q1140) rfl rfl rfl (by decide +kernel) ⟨Nat.le_of_ble_eq_true rfl, Nat.le_of_ble_eq_true rfl⟩) ⟨fun a U g mk q => by obtain ⟨q0, q1, qP, qK, qD⟩ := q; exact ⟨q0, q1, qP, va_K.moved (u := U) (U := U.calling g mk a) (Vm.Alike.refl U.vm) qK, qD⟩, va_recv hK hPc (ci := 0) (q0 := 0) rfl rfl, fun U hU hW => ⟨rfl, by rw [hU], by rw [hU]; exact hPc, va_K.moved hW.alike hK, hDc.weaken (fun _ _ _ _ => trivial)⟩⟩ rfl rfl hl.1 rfl (lv_room (Nat.le_of_ble_eq_true rfl)) dX8_nearest_3 ⟨Nat.le_of_ble_eq_true rfl, Nat.le_of_ble_eq_true rfl⟩) hS (fun q _ h => hFc q h) hFc (fun r_3 u t H1 locs ht hvm hw hB hz1 hk1 hS => ?_)
  obtain ⟨z_3, th1_3⟩ := u
  obtain ⟨rfl, p0_3, p1_3⟩ : r_3 = I3 z_3 ∧ (th1_3 = if 0 ≤ a ∧ a < mn then (if 0 ≤ dr ∧ dr ≤ 3 then 0 else 2) else 1) ∧ (z_3 = if th1_3 = 0 then 1 else 0) := hw
  obtain ⟨hP1, hK1, hD1⟩ := hB
  rw [ht] at hP1
  obtain ⟨hP, hD⟩ := va_join (wr := []) (w1 := [(am, .inr (0, [.int (I3 th1_3), .int (I3 mn), .ref as_, .ref av, .ref aw, .int (I3 sm), .int (I3 wd), .int (I3 lp), .int (I3 mp), .int (I3 re)])), (as_, .inl (dA 0, 60, .inl (iA SG))), (av, .inl (dA 1, 960, .inr (.inl (lA VL)))), (aw, .inl (dA 1, 1024, .inr (.inl (lA wf))))]) hP hD [0, 1, 2, 3] [] rfl rfl (by decide) (by decide) hk1 hFc hP1 hD1
  generalize H1 = H at hP hS ⊢
  have hP : va_P (dC, dI) vwCl [(am, .inr (0, [.int (I3 th1_3), .int (I3 mn), .ref as_, .ref av, .ref aw, .int (I3 sm), .int (I3 wd), .int (I3 lp), .int (I3 mp), .int (I3 re)])), (as_, .inl (dA 0, 60, .inl (iA SG))), (av, .inl (dA 1, 960, .inr (.inl (lA VL)))), (aw, .inl (dA 1, 1024, .inr (.inl (lA wf))))] H := hP
  have hD : va_D A [(am, .inr (0, [.int (I3 th1_3), .int (I3 mn), .ref as_, .ref av, .ref aw, .int (I3 sm), .int (I3 wd), .int (I3 lp), .int (I3 mp), .int (I3 re)])), (as_, .inl (dA 0, 60, .inl (iA SG))), (av, .inl (dA 1, 960, .inr (.inl (lA VL)))), (aw, .inl (dA 1, 1024, .inr (.inl (lA wf))))] := hD
  refine ix_if_ne (tgt := 11) hx hb (by first | assumption | decide | (constructor <;> omega)) dX8_nearest_6 (by decide) (fun c_6 => ?_) (fun c_6 => ?_)
  · skip
    refine lv_aload_n hx hb dX8_nearest_11 rfl (lv_at hl 0 rfl) ?_
    refine va_get (D := (dC, dI)) (ci := 0) (v := .ref as_) (C := RX8) (T := TX8) (N := 10) hx hb hts in_X8 hown hK hP 0 rfl rfl 2 (by decide) (hts _ q915) (fun _ h9 => h9) rfl dX8_nearest_12 ?_
    refine lv_iload_n hx hb dX8_nearest_15 rfl (lv_at hl 1 rfl) ?_
    refine ix_iald hx hb hK hP 1 0 rfl rfl (Nat.le_of_ble_eq_true rfl) (by omega) dX8_nearest_16 ?_
    refine ix_if_ne (tgt := 22) hx hb (by have sa := (hAll a (by omega) (by omega)).1; constructor <;> omega) dX8_nearest_17 (by decide) (fun c_17 => ?_) (fun c_17 => ?_)
    · skip
      have hnum : (0 ≤ a ∧ a < mn) ∧ 0 ≤ dr ∧ dr ≤ 3 := by (split at p0_3; split at p0_3 <;> omega; omega)
      have ha2 := hAll a hnum.1.1 hnum.1.2
      have i_s : In3 (SG a) := ⟨by omega, by omega⟩
      have bP : bl (pv VL a) ≤ 256 := bl_B8.mpr (pv_lt hV a)
      have bQ : bl (qv VL a) ≤ 256 := bl_B8.mpr (qv_lt hV a)
      refine lv_aload_n hx hb dX8_nearest_22 rfl (lv_at hl 0 rfl) ?_
      refine lv_iconst (v := I3 (1)) hx hb dX8_nearest_23 rfl ?_
      have h_4 : (1 : Int) = 0 ∨ (1 : Int) = 1 := by first | assumption | omega | (constructor <;> omega)
      have hPc := hP.sub (ws' := [(am, .inr (0, [.int (I3 th1_3), .int (I3 mn), .ref as_, .ref av, .ref aw, .int (I3 sm), .int (I3 wd), .int (I3 lp), .int (I3 mp), .int (I3 re)])), (as_, .inl (dA 0, 60, .inl (iA SG))), (av, .inl (dA 1, 960, .inr (.inl (lA VL)))), (aw, .inl (dA 1, 1024, .inr (.inl (lA wf))))]) [0, 1, 2, 3] rfl
      have hDc := hD.sub (ws' := [(am, .inr (0, [.int (I3 th1_3), .int (I3 mn), .ref as_, .ref av, .ref aw, .int (I3 sm), .int (I3 wd), .int (I3 lp), .int (I3 mp), .int (I3 re)])), (as_, .inl (dA 0, 60, .inl (iA SG))), (av, .inl (dA 1, 960, .inr (.inl (lA VL)))), (aw, .inl (dA 1, 1024, .inr (.inl (lA wf))))]) [0, 1, 2, 3] (by decide) rfl
      have hFc := va_free (wc := [(am, .inr (0, [.int (I3 th1_3), .int (I3 mn), .ref as_, .ref av, .ref aw, .int (I3 sm), .int (I3 wd), .int (I3 lp), .int (I3 mp), .int (I3 re)])), (as_, .inl (dA 0, 60, .inl (iA SG))), (av, .inl (dA 1, 960, .inr (.inl (lA VL)))), (aw, .inl (dA 1, 1024, .inr (.inl (lA wf))))]) hD hS hA [0, 1, 2, 3] rfl
      refine va_callv (va_runV (As := [.int (I3 1)]) (rest := []) ⟨hx, hb, hml, hown, hts⟩ (metX8_form l dC dI dA am as_ av aw H.size th1_3 mn sm wd lp mp re SG VL wf 1 h_4) (cwV 1 hts (lw_V q1141 q1143 qs47 q66 q1144) rfl rfl rfl (by decide +kernel) ⟨Nat.le_of_ble_eq_true rfl, Nat.le_of_ble_eq_true rfl⟩) ⟨fun a U g mk q => by obtain ⟨q0, q1, qP, qK, qD⟩ := q; exact ⟨q0, q1, qP, va_K.moved (u := U) (U := U.calling g mk a) (Vm.Alike.refl U.vm) qK, qD⟩, va_recv hK hPc (ci := 0) (q0 := 0) rfl rfl, fun U hU hW => ⟨rfl, by rw [hU], by rw [hU]; exact hPc, va_K.moved hW.alike hK, hDc.weaken (fun _ _ _ _ => trivial)⟩⟩ rfl rfl hl.1 rfl (lv_room (Nat.le_of_ble_eq_true rfl)) dX8_nearest_24 ⟨Nat.le_of_ble_eq_true rfl, Nat.le_of_ble_eq_true rfl⟩) hS (fun q _ h => hFc q h) hFc (fun u t H1 locs ht hvm hw hB hz1 hk1 hS => ?_)
      obtain ⟨wd1_24, lp1_24, mp1_24⟩ := u
      have p0_24 : ((1 : Int) = 1 ∧ wd1_24 = 53 ∧ lp1_24 = -1074 ∧ mp1_24 = 971) ∨ ((1 : Int) = 0 ∧ wd1_24 = 24 ∧ lp1_24 = -149 ∧ mp1_24 = 104) := hw
      obtain ⟨hP1, hK1, hD1⟩ := hB
      rw [ht] at hP1
      obtain ⟨hP, hD⟩ := va_join (wr := []) (w1 := [(am, .inr (0, [.int (I3 th1_3), .int (I3 mn), .ref as_, .ref av, .ref aw, .int (I3 sm), .int (I3 wd1_24), .int (I3 lp1_24), .int (I3 mp1_24), .int (I3 re)])), (as_, .inl (dA 0, 60, .inl (iA SG))), (av, .inl (dA 1, 960, .inr (.inl (lA VL)))), (aw, .inl (dA 1, 1024, .inr (.inl (lA wf))))]) hP hD [0, 1, 2, 3] [] rfl rfl (by decide) (by decide) hk1 hFc hP1 hD1
      generalize H1 = H at hP hS ⊢
      have hP : va_P (dC, dI) vwCl [(am, .inr (0, [.int (I3 th1_3), .int (I3 mn), .ref as_, .ref av, .ref aw, .int (I3 sm), .int (I3 wd1_24), .int (I3 lp1_24), .int (I3 mp1_24), .int (I3 re)])), (as_, .inl (dA 0, 60, .inl (iA SG))), (av, .inl (dA 1, 960, .inr (.inl (lA VL)))), (aw, .inl (dA 1, 1024, .inr (.inl (lA wf))))] H := hP
      have hD : va_D A [(am, .inr (0, [.int (I3 th1_3), .int (I3 mn), .ref as_, .ref av, .ref aw, .int (I3 sm), .int (I3 wd1_24), .int (I3 lp1_24), .int (I3 mp1_24), .int (I3 re)])), (as_, .inl (dA 0, 60, .inl (iA SG))), (av, .inl (dA 1, 960, .inr (.inl (lA VL)))), (aw, .inl (dA 1, 1024, .inr (.inl (lA wf))))] := hD
      refine lv_aload_n hx hb dX8_nearest_27 rfl (lv_at hl 0 rfl) ?_
      refine lv_iload_n hx hb dX8_nearest_28 rfl (lv_at hl 1 rfl) ?_
      refine lv_iconst (v := I3 (2)) hx hb dX8_nearest_29 rfl ?_
      have h_5 : 0 ≤ a ∧ a < 60 := by first | assumption | omega | (constructor <;> omega)
      have h_6 : 0 ≤ (2 : Int) ∧ (2 : Int) < 16 := by decide
      have h_7 : Dg wf := by first | assumption | omega | (constructor <;> omega)
      have h_8 : Dg VL := by first | assumption | omega | (constructor <;> omega)
      have hPc := hP.sub (ws' := [(am, .inr (0, [.int (I3 th1_3), .int (I3 mn), .ref as_, .ref av, .ref aw, .int (I3 sm), .int (I3 wd1_24), .int (I3 lp1_24), .int (I3 mp1_24), .int (I3 re)])), (as_, .inl (dA 0, 60, .inl (iA SG))), (av, .inl (dA 1, 960, .inr (.inl (lA VL)))), (aw, .inl (dA 1, 1024, .inr (.inl (lA wf))))]) [0, 1, 2, 3] rfl
      have hDc := hD.sub (ws' := [(am, .inr (0, [.int (I3 th1_3), .int (I3 mn), .ref as_, .ref av, .ref aw, .int (I3 sm), .int (I3 wd1_24), .int (I3 lp1_24), .int (I3 mp1_24), .int (I3 re)])), (as_, .inl (dA 0, 60, .inl (iA SG))), (av, .inl (dA 1, 960, .inr (.inl (lA VL)))), (aw, .inl (dA 1, 1024, .inr (.inl (lA wf))))]) [0, 1, 2, 3] (by decide) rfl
      have hFc := va_free (wc := [(am, .inr (0, [.int (I3 th1_3), .int (I3 mn), .ref as_, .ref av, .ref aw, .int (I3 sm), .int (I3 wd1_24), .int (I3 lp1_24), .int (I3 mp1_24), .int (I3 re)])), (as_, .inl (dA 0, 60, .inl (iA SG))), (av, .inl (dA 1, 960, .inr (.inl (lA VL)))), (aw, .inl (dA 1, 1024, .inr (.inl (lA wf))))]) hD hS hA [0, 1, 2, 3] rfl
      refine va_callv (va_runV (As := [.int (I3 a), .int (I3 2)]) (rest := []) ⟨hx, hb, hml, hown, hts⟩ (metX8_loadP l dC dI dA am as_ av aw H.size th1_3 mn sm wd1_24 lp1_24 mp1_24 re SG VL wf a 2 h_5 h_6 h_7 h_8) (cwV 2 hts (lw_V q1066 q1068 qs39 q66 q1069) rfl rfl rfl (by decide +kernel) ⟨Nat.le_of_ble_eq_true rfl, Nat.le_of_ble_eq_true rfl⟩) ⟨fun a U g mk q => by obtain ⟨q0, q1, qP, qK, qD⟩ := q; exact ⟨q0, q1, qP, va_K.moved (u := U) (U := U.calling g mk a) (Vm.Alike.refl U.vm) qK, qD⟩, va_recv hK hPc (ci := 0) (q0 := 0) rfl rfl, fun U hU hW => ⟨rfl, by rw [hU], by rw [hU]; exact hPc, va_K.moved hW.alike hK, hDc.weaken (fun _ _ _ _ => trivial)⟩⟩ rfl rfl hl.1 rfl (lv_room (Nat.le_of_ble_eq_true rfl)) dX8_nearest_30 ⟨Nat.le_of_ble_eq_true rfl, Nat.le_of_ble_eq_true rfl⟩) hS (fun q _ h => hFc q h) hFc (fun u t H1 locs ht hvm hw hB hz1 hk1 hS => ?_)
      obtain ⟨W1_30, rfl⟩ : ∃ z, z = u := ⟨_, rfl⟩
      obtain ⟨p0_30, p1_30, p2_30⟩ : (Dg W1_30) ∧ (Fr wf W1_30 (2 : Int)) ∧ (rv W1_30 (2 : Int) = pv VL a) := hw
      obtain ⟨hP1, hK1, hD1⟩ := hB
      rw [ht] at hP1
      obtain ⟨hP, hD⟩ := va_join (wr := []) (w1 := [(am, .inr (0, [.int (I3 th1_3), .int (I3 mn), .ref as_, .ref av, .ref aw, .int (I3 sm), .int (I3 wd1_24), .int (I3 lp1_24), .int (I3 mp1_24), .int (I3 re)])), (as_, .inl (dA 0, 60, .inl (iA SG))), (av, .inl (dA 1, 960, .inr (.inl (lA VL)))), (aw, .inl (dA 1, 1024, .inr (.inl (lA W1_30))))]) hP hD [0, 1, 2, 3] [] rfl rfl (by decide) (by decide) hk1 hFc hP1 hD1
      generalize H1 = H at hP hS ⊢
      have hP : va_P (dC, dI) vwCl [(am, .inr (0, [.int (I3 th1_3), .int (I3 mn), .ref as_, .ref av, .ref aw, .int (I3 sm), .int (I3 wd1_24), .int (I3 lp1_24), .int (I3 mp1_24), .int (I3 re)])), (as_, .inl (dA 0, 60, .inl (iA SG))), (av, .inl (dA 1, 960, .inr (.inl (lA VL)))), (aw, .inl (dA 1, 1024, .inr (.inl (lA W1_30))))] H := hP
      have hD : va_D A [(am, .inr (0, [.int (I3 th1_3), .int (I3 mn), .ref as_, .ref av, .ref aw, .int (I3 sm), .int (I3 wd1_24), .int (I3 lp1_24), .int (I3 mp1_24), .int (I3 re)])), (as_, .inl (dA 0, 60, .inl (iA SG))), (av, .inl (dA 1, 960, .inr (.inl (lA VL)))), (aw, .inl (dA 1, 1024, .inr (.inl (lA W1_30))))] := hD
      refine lv_aload_n hx hb dX8_nearest_33 rfl (lv_at hl 0 rfl) ?_
      refine lv_iload_n hx hb dX8_nearest_34 rfl (lv_at hl 1 rfl) ?_
      refine lv_iconst (v := I3 (3)) hx hb dX8_nearest_35 rfl ?_
      have h_9 : 0 ≤ a ∧ a < 60 := by first | assumption | omega | (constructor <;> omega)
      have h_10 : 0 ≤ (3 : Int) ∧ (3 : Int) < 16 := by decide
      have h_11 : Dg W1_30 := by first | assumption | omega | (constructor <;> omega)
      have h_12 : Dg VL := by first | assumption | omega | (constructor <;> omega)
      have hPc := hP.sub (ws' := [(am, .inr (0, [.int (I3 th1_3), .int (I3 mn), .ref as_, .ref av, .ref aw, .int (I3 sm), .int (I3 wd1_24), .int (I3 lp1_24), .int (I3 mp1_24), .int (I3 re)])), (as_, .inl (dA 0, 60, .inl (iA SG))), (av, .inl (dA 1, 960, .inr (.inl (lA VL)))), (aw, .inl (dA 1, 1024, .inr (.inl (lA W1_30))))]) [0, 1, 2, 3] rfl
      have hDc := hD.sub (ws' := [(am, .inr (0, [.int (I3 th1_3), .int (I3 mn), .ref as_, .ref av, .ref aw, .int (I3 sm), .int (I3 wd1_24), .int (I3 lp1_24), .int (I3 mp1_24), .int (I3 re)])), (as_, .inl (dA 0, 60, .inl (iA SG))), (av, .inl (dA 1, 960, .inr (.inl (lA VL)))), (aw, .inl (dA 1, 1024, .inr (.inl (lA W1_30))))]) [0, 1, 2, 3] (by decide) rfl
      have hFc := va_free (wc := [(am, .inr (0, [.int (I3 th1_3), .int (I3 mn), .ref as_, .ref av, .ref aw, .int (I3 sm), .int (I3 wd1_24), .int (I3 lp1_24), .int (I3 mp1_24), .int (I3 re)])), (as_, .inl (dA 0, 60, .inl (iA SG))), (av, .inl (dA 1, 960, .inr (.inl (lA VL)))), (aw, .inl (dA 1, 1024, .inr (.inl (lA W1_30))))]) hD hS hA [0, 1, 2, 3] rfl
      refine va_callv (va_runV (As := [.int (I3 a), .int (I3 3)]) (rest := []) ⟨hx, hb, hml, hown, hts⟩ (metX8_loadQ l dC dI dA am as_ av aw H.size th1_3 mn sm wd1_24 lp1_24 mp1_24 re SG VL W1_30 a 3 h_9 h_10 h_11 h_12) (cwV 2 hts (lw_V q1070 q1072 qs40 q66 q1073) rfl rfl rfl (by decide +kernel) ⟨Nat.le_of_ble_eq_true rfl, Nat.le_of_ble_eq_true rfl⟩) ⟨fun a U g mk q => by obtain ⟨q0, q1, qP, qK, qD⟩ := q; exact ⟨q0, q1, qP, va_K.moved (u := U) (U := U.calling g mk a) (Vm.Alike.refl U.vm) qK, qD⟩, va_recv hK hPc (ci := 0) (q0 := 0) rfl rfl, fun U hU hW => ⟨rfl, by rw [hU], by rw [hU]; exact hPc, va_K.moved hW.alike hK, hDc.weaken (fun _ _ _ _ => trivial)⟩⟩ rfl rfl hl.1 rfl (lv_room (Nat.le_of_ble_eq_true rfl)) dX8_nearest_36 ⟨Nat.le_of_ble_eq_true rfl, Nat.le_of_ble_eq_true rfl⟩) hS (fun q _ h => hFc q h) hFc (fun u t H1 locs ht hvm hw hB hz1 hk1 hS => ?_)
      obtain ⟨W1_36, rfl⟩ : ∃ z, z = u := ⟨_, rfl⟩
      obtain ⟨p0_36, p1_36, p2_36⟩ : (Dg W1_36) ∧ (Fr W1_30 W1_36 (3 : Int)) ∧ (rv W1_36 (3 : Int) = qv VL a) := hw
      obtain ⟨hP1, hK1, hD1⟩ := hB
      rw [ht] at hP1
      obtain ⟨hP, hD⟩ := va_join (wr := []) (w1 := [(am, .inr (0, [.int (I3 th1_3), .int (I3 mn), .ref as_, .ref av, .ref aw, .int (I3 sm), .int (I3 wd1_24), .int (I3 lp1_24), .int (I3 mp1_24), .int (I3 re)])), (as_, .inl (dA 0, 60, .inl (iA SG))), (av, .inl (dA 1, 960, .inr (.inl (lA VL)))), (aw, .inl (dA 1, 1024, .inr (.inl (lA W1_36))))]) hP hD [0, 1, 2, 3] [] rfl rfl (by decide) (by decide) hk1 hFc hP1 hD1
      generalize H1 = H at hP hS ⊢
      have hP : va_P (dC, dI) vwCl [(am, .inr (0, [.int (I3 th1_3), .int (I3 mn), .ref as_, .ref av, .ref aw, .int (I3 sm), .int (I3 wd1_24), .int (I3 lp1_24), .int (I3 mp1_24), .int (I3 re)])), (as_, .inl (dA 0, 60, .inl (iA SG))), (av, .inl (dA 1, 960, .inr (.inl (lA VL)))), (aw, .inl (dA 1, 1024, .inr (.inl (lA W1_36))))] H := hP
      have hD : va_D A [(am, .inr (0, [.int (I3 th1_3), .int (I3 mn), .ref as_, .ref av, .ref aw, .int (I3 sm), .int (I3 wd1_24), .int (I3 lp1_24), .int (I3 mp1_24), .int (I3 re)])), (as_, .inl (dA 0, 60, .inl (iA SG))), (av, .inl (dA 1, 960, .inr (.inl (lA VL)))), (aw, .inl (dA 1, 1024, .inr (.inl (lA W1_36))))] := hD
      have f3 : rv W1_36 3 = qv VL a := p2_36
      have f2 : rv W1_36 2 = pv VL a := (Fr_rv p1_36 (by decide)).trans p2_30
      refine lv_aload_n hx hb dX8_nearest_39 rfl (lv_at hl 0 rfl) ?_
      refine lv_aload_n hx hb dX8_nearest_40 rfl (lv_at hl 0 rfl) ?_
      refine va_get (D := (dC, dI)) (ci := 0) (v := .ref as_) (C := RX8) (T := TX8) (N := 10) hx hb hts in_X8 hown hK hP 0 rfl rfl 2 (by decide) (hts _ q915) (fun _ h9 => h9) rfl dX8_nearest_41 ?_
      refine lv_iload_n hx hb dX8_nearest_44 rfl (lv_at hl 1 rfl) ?_
      refine ix_iald hx hb hK hP 1 0 rfl rfl (Nat.le_of_ble_eq_true rfl) (by omega) dX8_nearest_45 ?_
      refine lv_iload_n hx hb dX8_nearest_46 rfl (lv_at hl 2 rfl) ?_
      have h_13 : Dg W1_36 := by first | assumption | omega | (constructor <;> omega)
      have h_14 : FM wd1_24 lp1_24 mp1_24 := by unfold FM; omega
      have h_15 : rv W1_36 2 ≠ 0 := by rw [f2]; intro q; have := ha2.2.1.mpr q; omega
      have h_16 : rv W1_36 3 ≠ 0 := by rw [f3]; exact ha2.2.2.1
      have h_17 : bl (rv W1_36 2) ≤ 1900 := by rw [f2]; omega
      have h_18 : bl (rv W1_36 3) ≤ 1900 := by rw [f3]; omega
      have h_19 : In3 (SG a) := by first | assumption | omega | (constructor <;> omega)
      have h_20 : 0 ≤ dr ∧ dr ≤ 3 := by first | assumption | omega | (constructor <;> omega)
      have hPc := hP.sub (ws' := [(am, .inr (0, [.int (I3 th1_3), .int (I3 mn), .ref as_, .ref av, .ref aw, .int (I3 sm), .int (I3 wd1_24), .int (I3 lp1_24), .int (I3 mp1_24), .int (I3 re)])), (as_, .inl (dA 0, 60, .inl (iA SG))), (av, .inl (dA 1, 960, .inr (.inl (lA VL)))), (aw, .inl (dA 1, 1024, .inr (.inl (lA W1_36))))]) [0, 1, 2, 3] rfl
      have hDc := hD.sub (ws' := [(am, .inr (0, [.int (I3 th1_3), .int (I3 mn), .ref as_, .ref av, .ref aw, .int (I3 sm), .int (I3 wd1_24), .int (I3 lp1_24), .int (I3 mp1_24), .int (I3 re)])), (as_, .inl (dA 0, 60, .inl (iA SG))), (av, .inl (dA 1, 960, .inr (.inl (lA VL)))), (aw, .inl (dA 1, 1024, .inr (.inl (lA W1_36))))]) [0, 1, 2, 3] (by decide) rfl
      have hFc := va_free (wc := [(am, .inr (0, [.int (I3 th1_3), .int (I3 mn), .ref as_, .ref av, .ref aw, .int (I3 sm), .int (I3 wd1_24), .int (I3 lp1_24), .int (I3 mp1_24), .int (I3 re)])), (as_, .inl (dA 0, 60, .inl (iA SG))), (av, .inl (dA 1, 960, .inr (.inl (lA VL)))), (aw, .inl (dA 1, 1024, .inr (.inl (lA W1_36))))]) hD hS hA [0, 1, 2, 3] rfl
      refine va_calll (va_runV (As := [.int (I3 (SG a)), .int (I3 dr)]) (rest := []) ⟨hx, hb, hml, hown, hts⟩ (metX8_round l dC dI dA am as_ av aw H.size th1_3 mn sm wd1_24 lp1_24 mp1_24 re SG VL W1_36 (SG a) dr h_13 h_14 h_15 h_16 h_17 h_18 h_19 h_20) (cwV 2 hts (lw_V q1145 q1147 qs48 q66 q1148) rfl rfl rfl (by decide +kernel) ⟨Nat.le_of_ble_eq_true rfl, Nat.le_of_ble_eq_true rfl⟩) ⟨fun a U g mk q => by obtain ⟨q0, q1, qP, qK, qD⟩ := q; exact ⟨q0, q1, qP, va_K.moved (u := U) (U := U.calling g mk a) (Vm.Alike.refl U.vm) qK, qD⟩, va_recv hK hPc (ci := 0) (q0 := 0) rfl rfl, fun U hU hW => ⟨rfl, by rw [hU], by rw [hU]; exact hPc, va_K.moved hW.alike hK, hDc.weaken (fun _ _ _ _ => trivial)⟩⟩ rfl rfl hl.1 rfl (lv_room (Nat.le_of_ble_eq_true rfl)) dX8_nearest_47 ⟨Nat.le_of_ble_eq_true rfl, Nat.le_of_ble_eq_true rfl⟩) hS (fun q _ h => hFc q h) hFc (fun r_47 u t H1 locs ht hvm hw hB hz1 hk1 hS => ?_)
      obtain ⟨z_47, W1_47⟩ := u
      obtain ⟨rfl, p0_47, p1_47⟩ : r_47 = L6 z_47 ∧ (Dg W1_47) ∧ (∃ q : Int, RQ wd1_24 lp1_24 (rv W1_36 2) (rv W1_36 3) q ∧ z_47 = encS (2 ^ (wd1_24 - 1).toNat) lp1_24 mp1_24 (upS dr (SG a) (nS (rv W1_36 2) q) (dS (rv W1_36 3) q)) q (infS dr (SG a))) := hw
      obtain ⟨hP1, hK1, hD1⟩ := hB
      rw [ht] at hP1
      obtain ⟨hP, hD⟩ := va_join (wr := []) (w1 := [(am, .inr (0, [.int (I3 th1_3), .int (I3 mn), .ref as_, .ref av, .ref aw, .int (I3 sm), .int (I3 wd1_24), .int (I3 lp1_24), .int (I3 mp1_24), .int (I3 re)])), (as_, .inl (dA 0, 60, .inl (iA SG))), (av, .inl (dA 1, 960, .inr (.inl (lA VL)))), (aw, .inl (dA 1, 1024, .inr (.inl (lA W1_47))))]) hP hD [0, 1, 2, 3] [] rfl rfl (by decide) (by decide) hk1 hFc hP1 hD1
      generalize H1 = H at hP hS ⊢
      have hP : va_P (dC, dI) vwCl [(am, .inr (0, [.int (I3 th1_3), .int (I3 mn), .ref as_, .ref av, .ref aw, .int (I3 sm), .int (I3 wd1_24), .int (I3 lp1_24), .int (I3 mp1_24), .int (I3 re)])), (as_, .inl (dA 0, 60, .inl (iA SG))), (av, .inl (dA 1, 960, .inr (.inl (lA VL)))), (aw, .inl (dA 1, 1024, .inr (.inl (lA W1_47))))] H := hP
      have hD : va_D A [(am, .inr (0, [.int (I3 th1_3), .int (I3 mn), .ref as_, .ref av, .ref aw, .int (I3 sm), .int (I3 wd1_24), .int (I3 lp1_24), .int (I3 mp1_24), .int (I3 re)])), (as_, .inl (dA 0, 60, .inl (iA SG))), (av, .inl (dA 1, 960, .inr (.inl (lA VL)))), (aw, .inl (dA 1, 1024, .inr (.inl (lA W1_47))))] := hD
      rw [f2, f3] at p1_47
      have hr_ := rnB_64 (by omega) p1_47
      refine lv_aload_n hx hb dX8_nearest_50 rfl (lv_at hl 0 rfl) ?_
      refine va_get (D := (dC, dI)) (ci := 0) (v := .ref as_) (C := RX8) (T := TX8) (N := 10) hx hb hts in_X8 hown hK hP 0 rfl rfl 2 (by decide) (hts _ q915) (fun _ h9 => h9) rfl dX8_nearest_51 ?_
      refine lv_iload_n hx hb dX8_nearest_54 rfl (lv_at hl 1 rfl) ?_
      refine ix_iald hx hb hK hP 1 0 rfl rfl (Nat.le_of_ble_eq_true rfl) (by omega) dX8_nearest_55 ?_
      refine ix_if_ge (tgt := 65) hx hb (by have sa := (hAll a (by omega) (by omega)).1; constructor <;> omega) dX8_nearest_56 (by decide) (fun c_56 => ?_) (fun c_56 => ?_)
      · skip
        refine lv_lconst (v := L6 0) hx hb dX8_nearest_65 (by decide) ?_
        refine ix_lor hx hb dX8_nearest_66 ?_
        refine ix_tl (y := (if SG a < 0 then z_47 - 9223372036854775808 else z_47)) (by first | (rw [if_pos (by omega)]; exact zor6_sg (by omega)) | (rw [if_neg (by omega)]; exact zor6_0 (by constructor <;> omega))) ?_
        have o_21 : Dg W1_47 := by first | assumption | omega | (constructor <;> omega)
        have o_22 : th1_3 = if 0 ≤ a ∧ a < mn then (if 0 ≤ dr ∧ dr ≤ 3 then 0 else 2) else 1 := by exact p0_3
        have o_23 : ((0 ≤ a ∧ a < mn) ∧ 0 ≤ dr ∧ dr ≤ 3) → SG a ≠ 0 → ∃ e : Int, rnB 64 (pv VL a) (qv VL a) dr (SG a) e ∧ ((if SG a < 0 then z_47 - 9223372036854775808 else z_47)) = if SG a < 0 then e - 9223372036854775808 else e := by intro q1 q2; exact ⟨z_47, hr_.1, rfl⟩
        have o_24 : ¬ ((0 ≤ a ∧ a < mn) ∧ 0 ≤ dr ∧ dr ≤ 3) → ((if SG a < 0 then z_47 - 9223372036854775808 else z_47)) = 0 := by intro q; exact absurd hnum q
        have o_25 : SG a = 0 → ((if SG a < 0 then z_47 - 9223372036854775808 else z_47)) = 0 := by intro q; omega
        exact W.lret (v := L6 ((if SG a < 0 then z_47 - 9223372036854775808 else z_47))) hx hb hr (fun t ht hW => ⟨⟨L6 ((if SG a < 0 then z_47 - 9223372036854775808 else z_47)), (((if SG a < 0 then z_47 - 9223372036854775808 else z_47)), th1_3, W1_47, wd1_24, lp1_24, mp1_24), rfl, ⟨rfl, ⟨o_21, o_22, o_23, o_24, o_25⟩⟩, by rw [ht]; exact hP, va_K.moved hW.alike hK, hD⟩, hS.F ht⟩) hS.2.2 dX8_nearest_67
      · skip
        refine lv_ldc2 hx hb hown (hts _ q1153) dX8_nearest_59 ?_
        refine ix_vl (x := (-9223372036854775808)) (by decide) ?_
        refine lv_goto (tgt := 66) hx hb dX8_nearest_62 (by decide) ?_
        refine ix_lor hx hb dX8_nearest_66 ?_
        refine ix_tl (y := (if SG a < 0 then z_47 - 9223372036854775808 else z_47)) (by first | (rw [if_pos (by omega)]; exact zor6_sg (by omega)) | (rw [if_neg (by omega)]; exact zor6_0 (by constructor <;> omega))) ?_
        have o_26 : Dg W1_47 := by first | assumption | omega | (constructor <;> omega)
        have o_27 : th1_3 = if 0 ≤ a ∧ a < mn then (if 0 ≤ dr ∧ dr ≤ 3 then 0 else 2) else 1 := by exact p0_3
        have o_28 : ((0 ≤ a ∧ a < mn) ∧ 0 ≤ dr ∧ dr ≤ 3) → SG a ≠ 0 → ∃ e : Int, rnB 64 (pv VL a) (qv VL a) dr (SG a) e ∧ ((if SG a < 0 then z_47 - 9223372036854775808 else z_47)) = if SG a < 0 then e - 9223372036854775808 else e := by intro q1 q2; exact ⟨z_47, hr_.1, rfl⟩
        have o_29 : ¬ ((0 ≤ a ∧ a < mn) ∧ 0 ≤ dr ∧ dr ≤ 3) → ((if SG a < 0 then z_47 - 9223372036854775808 else z_47)) = 0 := by intro q; exact absurd hnum q
        have o_30 : SG a = 0 → ((if SG a < 0 then z_47 - 9223372036854775808 else z_47)) = 0 := by intro q; omega
        exact W.lret (v := L6 ((if SG a < 0 then z_47 - 9223372036854775808 else z_47))) hx hb hr (fun t ht hW => ⟨⟨L6 ((if SG a < 0 then z_47 - 9223372036854775808 else z_47)), (((if SG a < 0 then z_47 - 9223372036854775808 else z_47)), th1_3, W1_47, wd1_24, lp1_24, mp1_24), rfl, ⟨rfl, ⟨o_26, o_27, o_28, o_29, o_30⟩⟩, by rw [ht]; exact hP, va_K.moved hW.alike hK, hD⟩, hS.F ht⟩) hS.2.2 dX8_nearest_67
    · skip
      refine lv_lconst (v := L6 0) hx hb dX8_nearest_20 (by decide) ?_
      have o_31 : Dg wf := by first | assumption | omega | (constructor <;> omega)
      have o_32 : th1_3 = if 0 ≤ a ∧ a < mn then (if 0 ≤ dr ∧ dr ≤ 3 then 0 else 2) else 1 := by exact p0_3
      have o_33 : ((0 ≤ a ∧ a < mn) ∧ 0 ≤ dr ∧ dr ≤ 3) → SG a ≠ 0 → ∃ e : Int, rnB 64 (pv VL a) (qv VL a) dr (SG a) e ∧ (0 : Int) = if SG a < 0 then e - 9223372036854775808 else e := by intro q1 q2; exact absurd (by assumption) q2
      have o_34 : ¬ ((0 ≤ a ∧ a < mn) ∧ 0 ≤ dr ∧ dr ≤ 3) → (0 : Int) = 0 := by intro q; rfl
      have o_35 : SG a = 0 → (0 : Int) = 0 := by intro q; rfl
      exact W.lret (v := L6 0) hx hb hr (fun t ht hW => ⟨⟨L6 0, (0, th1_3, wf, wd, lp, mp), rfl, ⟨rfl, ⟨o_31, o_32, o_33, o_34, o_35⟩⟩, by rw [ht]; exact hP, va_K.moved hW.alike hK, hD⟩, hS.F ht⟩) hS.2.2 dX8_nearest_21
  · skip
    refine lv_lconst (v := L6 0) hx hb dX8_nearest_9 (by decide) ?_
    have o_36 : Dg wf := by first | assumption | omega | (constructor <;> omega)
    have o_37 : th1_3 = if 0 ≤ a ∧ a < mn then (if 0 ≤ dr ∧ dr ≤ 3 then 0 else 2) else 1 := by exact p0_3
    have o_38 : ((0 ≤ a ∧ a < mn) ∧ 0 ≤ dr ∧ dr ≤ 3) → SG a ≠ 0 → ∃ e : Int, rnB 64 (pv VL a) (qv VL a) dr (SG a) e ∧ (0 : Int) = if SG a < 0 then e - 9223372036854775808 else e := by intro q1 q2; exfalso; rw [if_pos q1.1, if_pos q1.2] at p0_3; rw [p0_3, if_pos rfl] at p1_3; omega
    have o_39 : ¬ ((0 ≤ a ∧ a < mn) ∧ 0 ≤ dr ∧ dr ≤ 3) → (0 : Int) = 0 := by intro q; rfl
    have o_40 : SG a = 0 → (0 : Int) = 0 := by intro q; rfl
    exact W.lret (v := L6 0) hx hb hr (fun t ht hW => ⟨⟨L6 0, (0, th1_3, wf, wd, lp, mp), rfl, ⟨rfl, ⟨o_36, o_37, o_38, o_39, o_40⟩⟩, by rw [ht]; exact hP, va_K.moved hW.alike hK, hD⟩, hS.F ht⟩) hS.2.2 dX8_nearest_10
abbrev BmetX8_single (dC : Nat → ClassId) (dI : Nat → Nat → Nat) (dA : Nat → ClassId) (A : Nat → Prop) (am : Nat) (as_ : Nat) (av : Nat) (aw : Nat) (th : Int) (mn : Int) (sm : Int) (wd : Int) (lp : Int) (mp : Int) (re : Int) (SG : Int → Int) (VL : Int → Int) (wf : Int → Int) (a : Int) (dr : Int) : Int × Int × (Int → Int) × Int × Int × Int → State → Prop := fun u t => (fun (u : Int × Int × (Int → Int) × Int × Int × Int) => (fun (z : Int) (th1 : Int) (W1 : Int → Int) (wd1 : Int) (lp1 : Int) (mp1 : Int) => va_P (dC, dI) vwCl [(am, .inr (0, [.int (I3 th1), .int (I3 mn), .ref as_, .ref av, .ref aw, .int (I3 sm), .int (I3 wd1), .int (I3 lp1), .int (I3 mp1), .int (I3 re)])), (as_, .inl (dA 0, 60, .inl (iA SG))), (av, .inl (dA 1, 960, .inr (.inl (lA VL)))), (aw, .inl (dA 1, 1024, .inr (.inl (lA W1))))] t.heap ∧ va_K (dC, dI) vwCl (tyA dA) t ∧ va_D A [(am, .inr (0, [.int (I3 th1), .int (I3 mn), .ref as_, .ref av, .ref aw, .int (I3 sm), .int (I3 wd1), .int (I3 lp1), .int (I3 mp1), .int (I3 re)])), (as_, .inl (dA 0, 60, .inl (iA SG))), (av, .inl (dA 1, 960, .inr (.inl (lA VL)))), (aw, .inl (dA 1, 1024, .inr (.inl (lA W1))))]) u.1 u.2.1 u.2.2.1 u.2.2.2.1 u.2.2.2.2.1 u.2.2.2.2.2) u
abbrev QmetX8_single (dC : Nat → ClassId) (dI : Nat → Nat → Nat) (dA : Nat → ClassId) (A : Nat → Prop) (am : Nat) (as_ : Nat) (av : Nat) (aw : Nat) (th : Int) (mn : Int) (sm : Int) (wd : Int) (lp : Int) (mp : Int) (re : Int) (SG : Int → Int) (VL : Int → Int) (wf : Int → Int) (a : Int) (dr : Int) := va_Qi (fun (rt_ : Int32) => fun (u : Int × Int × (Int → Int) × Int × Int × Int) => (fun (z : Int) (th1 : Int) (W1 : Int → Int) (wd1 : Int) (lp1 : Int) (mp1 : Int) => rt_ = I3 z ∧ (Dg W1) ∧ (th1 = if 0 ≤ a ∧ a < mn then (if 0 ≤ dr ∧ dr ≤ 3 then 0 else 2) else 1) ∧ (((0 ≤ a ∧ a < mn) ∧ 0 ≤ dr ∧ dr ≤ 3) → SG a ≠ 0 → ∃ e : Int, rnB 32 (pv VL a) (qv VL a) dr (SG a) e ∧ z = if SG a < 0 then e - 2147483648 else e) ∧ (¬ ((0 ≤ a ∧ a < mn) ∧ 0 ≤ dr ∧ dr ≤ 3) → z = 0) ∧ (SG a = 0 → z = 0)) u.1 u.2.1 u.2.2.1 u.2.2.2.1 u.2.2.2.2.1 u.2.2.2.2.2) (BmetX8_single dC dI dA A am as_ av aw th mn sm wd lp mp re SG VL wf a dr) A
set_option maxHeartbeats 1000000 in
set_option maxRecDepth 100000 in
theorem metX8_single (l : Launch) (dC : Nat → ClassId) (dI : Nat → Nat → Nat) (dA : Nat → ClassId) (am : Nat) (as_ : Nat) (av : Nat) (aw : Nat) (sz : Nat) (th : Int) (mn : Int) (sm : Int) (wd : Int) (lp : Int) (mp : Int) (re : Int) (SG : Int → Int) (VL : Int → Int) (wf : Int → Int) (a : Int) (dr : Int) (hW : Dg wf) (hI : MI mn SG VL) (ha : In3 a) (hd : In3 dr) : Met l yX8_single (ws_ yX8_single cX8_single 3 (some .int)) ({ frames := 4, cells := 0, slots := 0, locals := 160 }) (va_Pc [.ref am, .int (I3 a), .int (I3 dr)] (fun U => U.heap.size = sz ∧ va_P (dC, dI) vwCl [(am, .inr (0, [.int (I3 th), .int (I3 mn), .ref as_, .ref av, .ref aw, .int (I3 sm), .int (I3 wd), .int (I3 lp), .int (I3 mp), .int (I3 re)])), (as_, .inl (dA 0, 60, .inl (iA SG))), (av, .inl (dA 1, 960, .inr (.inl (lA VL)))), (aw, .inl (dA 1, 1024, .inr (.inl (lA wf))))] U.heap ∧ va_K (dC, dI) vwCl (tyA dA) U ∧ va_D (fun _ => True) [(am, .inr (0, [.int (I3 th), .int (I3 mn), .ref as_, .ref av, .ref aw, .int (I3 sm), .int (I3 wd), .int (I3 lp), .int (I3 mp), .int (I3 re)])), (as_, .inl (dA 0, 60, .inl (iA SG))), (av, .inl (dA 1, 960, .inr (.inl (lA VL)))), (aw, .inl (dA 1, 1024, .inr (.inl (lA wf))))])) (QmetX8_single dC dI dA (va_A [(am, .inr (0, [.int (I3 th), .int (I3 mn), .ref as_, .ref av, .ref aw, .int (I3 sm), .int (I3 wd), .int (I3 lp), .int (I3 mp), .int (I3 re)])), (as_, .inl (dA 0, 60, .inl (iA SG))), (av, .inl (dA 1, 960, .inr (.inl (lA VL)))), (aw, .inl (dA 1, 1024, .inr (.inl (lA wf))))] sz) am as_ av aw th mn sm wd lp mp re SG VL wf a dr) 0 0 (va_A [(am, .inr (0, [.int (I3 th), .int (I3 mn), .ref as_, .ref av, .ref aw, .int (I3 sm), .int (I3 wd), .int (I3 lp), .int (I3 mp), .int (I3 re)])), (as_, .inl (dA 0, 60, .inl (iA SG))), (av, .inl (dA 1, 960, .inr (.inl (lA VL)))), (aw, .inl (dA 1, 1024, .inr (.inl (lA wf))))] sz) := by
  refine Met.ofW (cc := cX8_single) (maxL := 3) (ret := (some .int)) (by decide) rfl ?_
  intro p e s m args below meth c s₁ B hml hv
  obtain ⟨rfl, hsz, hP, hK, hD0⟩ := hv
  have hx := B.exec
  have hb := B.bytes
  have hr := B.returns
  have hts := atoms_spec (ws := (ws_ yX8_single cX8_single 3 (some .int))) B.pre
  have hts : ∀ w ∈ lw_all, w.before _ s = true := fun w h => hts w (List.mem_cons_of_mem _ h)
  have hown : s.vm.findClass RX8 = some m.cls := findClass_of_methodNamed B.named
  have hlocks := B.notSynchronized
  subst hsz
  have hD := hD0.self (sz := s.heap.size)
  generalize hAe : va_A [(am, .inr (0, [.int (I3 th), .int (I3 mn), .ref as_, .ref av, .ref aw, .int (I3 sm), .int (I3 wd), .int (I3 lp), .int (I3 mp), .int (I3 re)])), (as_, .inl (dA 0, 60, .inl (iA SG))), (av, .inl (dA 1, 960, .inr (.inl (lA VL)))), (aw, .inl (dA 1, 1024, .inr (.inl (lA wf))))] s.heap.size = A at hD ⊢
  have hA : ∀ q : Nat, s.heap.size ≤ q → A q := fun q h => by rw [← hAe]; exact Or.inr h
  have hS : va_S A s.heap s.heap [] := va_S.rf
  have hP : va_P (dC, dI) vwCl [(am, .inr (0, [.int (I3 th), .int (I3 mn), .ref as_, .ref av, .ref aw, .int (I3 sm), .int (I3 wd), .int (I3 lp), .int (I3 mp), .int (I3 re)])), (as_, .inl (dA 0, 60, .inl (iA SG))), (av, .inl (dA 1, 960, .inr (.inl (lA VL)))), (aw, .inl (dA 1, 1024, .inr (.inl (lA wf))))] s.heap := hP
  have hl := lv_entry ([.ref am, .int (I3 a), .int (I3 dr)]) (n := 3) (Nat.le_of_ble_eq_true rfl)
  rw [lg_entry_eq]
  generalize (lg_sl ([.ref am, .int (I3 a), .int (I3 dr)]) ++ List.replicate (3 - (lg_sl ([.ref am, .int (I3 a), .int (I3 dr)])).length) Slot.unset).toArray = ls at hl ⊢
  have hl : lv_has ls 3 [(0, .ref am), (1, .int (I3 a)), (2, .int (I3 dr))] := hl
  obtain ⟨hmn, hV, hAll⟩ := id hI
  refine lv_aload_n hx hb dX8_single_0 rfl (lv_at hl 0 rfl) ?_
  refine lv_iload_n hx hb dX8_single_1 rfl (lv_at hl 1 rfl) ?_
  refine lv_iload_n hx hb dX8_single_2 rfl (lv_at hl 2 rfl) ?_
  have h_1 : In3 a := by first | assumption | omega | (constructor <;> omega)
  have h_2 : In3 dr := by first | assumption | omega | (constructor <;> omega)
  have h_3 : 0 ≤ mn ∧ mn ≤ 60 := by first | assumption | omega | (constructor <;> omega)
  have hPc := hP.sub (ws' := [(am, .inr (0, [.int (I3 th), .int (I3 mn), .ref as_, .ref av, .ref aw, .int (I3 sm), .int (I3 wd), .int (I3 lp), .int (I3 mp), .int (I3 re)])), (as_, .inl (dA 0, 60, .inl (iA SG))), (av, .inl (dA 1, 960, .inr (.inl (lA VL)))), (aw, .inl (dA 1, 1024, .inr (.inl (lA wf))))]) [0, 1, 2, 3] rfl
  have hDc := hD.sub (ws' := [(am, .inr (0, [.int (I3 th), .int (I3 mn), .ref as_, .ref av, .ref aw, .int (I3 sm), .int (I3 wd), .int (I3 lp), .int (I3 mp), .int (I3 re)])), (as_, .inl (dA 0, 60, .inl (iA SG))), (av, .inl (dA 1, 960, .inr (.inl (lA VL)))), (aw, .inl (dA 1, 1024, .inr (.inl (lA wf))))]) [0, 1, 2, 3] (by decide) rfl
  have hFc := va_free (wc := [(am, .inr (0, [.int (I3 th), .int (I3 mn), .ref as_, .ref av, .ref aw, .int (I3 sm), .int (I3 wd), .int (I3 lp), .int (I3 mp), .int (I3 re)])), (as_, .inl (dA 0, 60, .inl (iA SG))), (av, .inl (dA 1, 960, .inr (.inl (lA VL)))), (aw, .inl (dA 1, 1024, .inr (.inl (lA wf))))]) hD hS hA [0, 1, 2, 3] rfl
  refine va_calli (va_runV (As := [.int (I3 a), .int (I3 dr)]) (rest := []) ⟨hx, hb, hml, hown, hts⟩ (metX8_isDirection l dC dI dA am as_ av aw s.heap.size th mn sm wd lp mp re SG VL wf a dr h_1 h_2 h_3) (cwV 2 hts (lw_V q1137 q1139 qs46 q66 q1140) rfl rfl rfl (by decide +kernel) ⟨Nat.le_of_ble_eq_true rfl, Nat.le_of_ble_eq_true rfl⟩) ⟨fun a U g mk q => by obtain ⟨q0, q1, qP, qK, qD⟩ := q; exact ⟨q0, q1, qP, va_K.moved (u := U) (U := U.calling g mk a) (Vm.Alike.refl U.vm) qK, qD⟩, va_recv hK hPc (ci := 0) (q0 := 0) rfl rfl, fun U hU hW => ⟨rfl, by rw [hU], by rw [hU]; exact hPc, va_K.moved hW.alike hK, hDc.weaken (fun _ _ _ _ => trivial)⟩⟩ rfl rfl hl.1 rfl (lv_room (Nat.le_of_ble_eq_true rfl)) dX8_single_3 ⟨Nat.le_of_ble_eq_true rfl, Nat.le_of_ble_eq_true rfl⟩) hS (fun q _ h => hFc q h) hFc (fun r_3 u t H1 locs ht hvm hw hB hz1 hk1 hS => ?_)
  obtain ⟨z_3, th1_3⟩ := u
  obtain ⟨rfl, p0_3, p1_3⟩ : r_3 = I3 z_3 ∧ (th1_3 = if 0 ≤ a ∧ a < mn then (if 0 ≤ dr ∧ dr ≤ 3 then 0 else 2) else 1) ∧ (z_3 = if th1_3 = 0 then 1 else 0) := hw
  obtain ⟨hP1, hK1, hD1⟩ := hB
  rw [ht] at hP1
  obtain ⟨hP, hD⟩ := va_join (wr := []) (w1 := [(am, .inr (0, [.int (I3 th1_3), .int (I3 mn), .ref as_, .ref av, .ref aw, .int (I3 sm), .int (I3 wd), .int (I3 lp), .int (I3 mp), .int (I3 re)])), (as_, .inl (dA 0, 60, .inl (iA SG))), (av, .inl (dA 1, 960, .inr (.inl (lA VL)))), (aw, .inl (dA 1, 1024, .inr (.inl (lA wf))))]) hP hD [0, 1, 2, 3] [] rfl rfl (by decide) (by decide) hk1 hFc hP1 hD1
  generalize H1 = H at hP hS ⊢
  have hP : va_P (dC, dI) vwCl [(am, .inr (0, [.int (I3 th1_3), .int (I3 mn), .ref as_, .ref av, .ref aw, .int (I3 sm), .int (I3 wd), .int (I3 lp), .int (I3 mp), .int (I3 re)])), (as_, .inl (dA 0, 60, .inl (iA SG))), (av, .inl (dA 1, 960, .inr (.inl (lA VL)))), (aw, .inl (dA 1, 1024, .inr (.inl (lA wf))))] H := hP
  have hD : va_D A [(am, .inr (0, [.int (I3 th1_3), .int (I3 mn), .ref as_, .ref av, .ref aw, .int (I3 sm), .int (I3 wd), .int (I3 lp), .int (I3 mp), .int (I3 re)])), (as_, .inl (dA 0, 60, .inl (iA SG))), (av, .inl (dA 1, 960, .inr (.inl (lA VL)))), (aw, .inl (dA 1, 1024, .inr (.inl (lA wf))))] := hD
  refine ix_if_ne (tgt := 11) hx hb (by first | assumption | decide | (constructor <;> omega)) dX8_single_6 (by decide) (fun c_6 => ?_) (fun c_6 => ?_)
  · skip
    refine lv_aload_n hx hb dX8_single_11 rfl (lv_at hl 0 rfl) ?_
    refine va_get (D := (dC, dI)) (ci := 0) (v := .ref as_) (C := RX8) (T := TX8) (N := 10) hx hb hts in_X8 hown hK hP 0 rfl rfl 2 (by decide) (hts _ q915) (fun _ h9 => h9) rfl dX8_single_12 ?_
    refine lv_iload_n hx hb dX8_single_15 rfl (lv_at hl 1 rfl) ?_
    refine ix_iald hx hb hK hP 1 0 rfl rfl (Nat.le_of_ble_eq_true rfl) (by omega) dX8_single_16 ?_
    refine ix_if_ne (tgt := 22) hx hb (by have sa := (hAll a (by omega) (by omega)).1; constructor <;> omega) dX8_single_17 (by decide) (fun c_17 => ?_) (fun c_17 => ?_)
    · skip
      have hnum : (0 ≤ a ∧ a < mn) ∧ 0 ≤ dr ∧ dr ≤ 3 := by (split at p0_3; split at p0_3 <;> omega; omega)
      have ha2 := hAll a hnum.1.1 hnum.1.2
      have i_s : In3 (SG a) := ⟨by omega, by omega⟩
      have bP : bl (pv VL a) ≤ 256 := bl_B8.mpr (pv_lt hV a)
      have bQ : bl (qv VL a) ≤ 256 := bl_B8.mpr (qv_lt hV a)
      refine lv_aload_n hx hb dX8_single_22 rfl (lv_at hl 0 rfl) ?_
      refine lv_iconst (v := I3 (0)) hx hb dX8_single_23 rfl ?_
      have h_4 : (0 : Int) = 0 ∨ (0 : Int) = 1 := by first | assumption | omega | (constructor <;> omega)
      have hPc := hP.sub (ws' := [(am, .inr (0, [.int (I3 th1_3), .int (I3 mn), .ref as_, .ref av, .ref aw, .int (I3 sm), .int (I3 wd), .int (I3 lp), .int (I3 mp), .int (I3 re)])), (as_, .inl (dA 0, 60, .inl (iA SG))), (av, .inl (dA 1, 960, .inr (.inl (lA VL)))), (aw, .inl (dA 1, 1024, .inr (.inl (lA wf))))]) [0, 1, 2, 3] rfl
      have hDc := hD.sub (ws' := [(am, .inr (0, [.int (I3 th1_3), .int (I3 mn), .ref as_, .ref av, .ref aw, .int (I3 sm), .int (I3 wd), .int (I3 lp), .int (I3 mp), .int (I3 re)])), (as_, .inl (dA 0, 60, .inl (iA SG))), (av, .inl (dA 1, 960, .inr (.inl (lA VL)))), (aw, .inl (dA 1, 1024, .inr (.inl (lA wf))))]) [0, 1, 2, 3] (by decide) rfl
      have hFc := va_free (wc := [(am, .inr (0, [.int (I3 th1_3), .int (I3 mn), .ref as_, .ref av, .ref aw, .int (I3 sm), .int (I3 wd), .int (I3 lp), .int (I3 mp), .int (I3 re)])), (as_, .inl (dA 0, 60, .inl (iA SG))), (av, .inl (dA 1, 960, .inr (.inl (lA VL)))), (aw, .inl (dA 1, 1024, .inr (.inl (lA wf))))]) hD hS hA [0, 1, 2, 3] rfl
      refine va_callv (va_runV (As := [.int (I3 0)]) (rest := []) ⟨hx, hb, hml, hown, hts⟩ (metX8_form l dC dI dA am as_ av aw H.size th1_3 mn sm wd lp mp re SG VL wf 0 h_4) (cwV 1 hts (lw_V q1141 q1143 qs47 q66 q1144) rfl rfl rfl (by decide +kernel) ⟨Nat.le_of_ble_eq_true rfl, Nat.le_of_ble_eq_true rfl⟩) ⟨fun a U g mk q => by obtain ⟨q0, q1, qP, qK, qD⟩ := q; exact ⟨q0, q1, qP, va_K.moved (u := U) (U := U.calling g mk a) (Vm.Alike.refl U.vm) qK, qD⟩, va_recv hK hPc (ci := 0) (q0 := 0) rfl rfl, fun U hU hW => ⟨rfl, by rw [hU], by rw [hU]; exact hPc, va_K.moved hW.alike hK, hDc.weaken (fun _ _ _ _ => trivial)⟩⟩ rfl rfl hl.1 rfl (lv_room (Nat.le_of_ble_eq_true rfl)) dX8_single_24 ⟨Nat.le_of_ble_eq_true rfl, Nat.le_of_ble_eq_true rfl⟩) hS (fun q _ h => hFc q h) hFc (fun u t H1 locs ht hvm hw hB hz1 hk1 hS => ?_)
      obtain ⟨wd1_24, lp1_24, mp1_24⟩ := u
      have p0_24 : ((0 : Int) = 1 ∧ wd1_24 = 53 ∧ lp1_24 = -1074 ∧ mp1_24 = 971) ∨ ((0 : Int) = 0 ∧ wd1_24 = 24 ∧ lp1_24 = -149 ∧ mp1_24 = 104) := hw
      obtain ⟨hP1, hK1, hD1⟩ := hB
      rw [ht] at hP1
      obtain ⟨hP, hD⟩ := va_join (wr := []) (w1 := [(am, .inr (0, [.int (I3 th1_3), .int (I3 mn), .ref as_, .ref av, .ref aw, .int (I3 sm), .int (I3 wd1_24), .int (I3 lp1_24), .int (I3 mp1_24), .int (I3 re)])), (as_, .inl (dA 0, 60, .inl (iA SG))), (av, .inl (dA 1, 960, .inr (.inl (lA VL)))), (aw, .inl (dA 1, 1024, .inr (.inl (lA wf))))]) hP hD [0, 1, 2, 3] [] rfl rfl (by decide) (by decide) hk1 hFc hP1 hD1
      generalize H1 = H at hP hS ⊢
      have hP : va_P (dC, dI) vwCl [(am, .inr (0, [.int (I3 th1_3), .int (I3 mn), .ref as_, .ref av, .ref aw, .int (I3 sm), .int (I3 wd1_24), .int (I3 lp1_24), .int (I3 mp1_24), .int (I3 re)])), (as_, .inl (dA 0, 60, .inl (iA SG))), (av, .inl (dA 1, 960, .inr (.inl (lA VL)))), (aw, .inl (dA 1, 1024, .inr (.inl (lA wf))))] H := hP
      have hD : va_D A [(am, .inr (0, [.int (I3 th1_3), .int (I3 mn), .ref as_, .ref av, .ref aw, .int (I3 sm), .int (I3 wd1_24), .int (I3 lp1_24), .int (I3 mp1_24), .int (I3 re)])), (as_, .inl (dA 0, 60, .inl (iA SG))), (av, .inl (dA 1, 960, .inr (.inl (lA VL)))), (aw, .inl (dA 1, 1024, .inr (.inl (lA wf))))] := hD
      refine lv_aload_n hx hb dX8_single_27 rfl (lv_at hl 0 rfl) ?_
      refine lv_iload_n hx hb dX8_single_28 rfl (lv_at hl 1 rfl) ?_
      refine lv_iconst (v := I3 (2)) hx hb dX8_single_29 rfl ?_
      have h_5 : 0 ≤ a ∧ a < 60 := by first | assumption | omega | (constructor <;> omega)
      have h_6 : 0 ≤ (2 : Int) ∧ (2 : Int) < 16 := by decide
      have h_7 : Dg wf := by first | assumption | omega | (constructor <;> omega)
      have h_8 : Dg VL := by first | assumption | omega | (constructor <;> omega)
      have hPc := hP.sub (ws' := [(am, .inr (0, [.int (I3 th1_3), .int (I3 mn), .ref as_, .ref av, .ref aw, .int (I3 sm), .int (I3 wd1_24), .int (I3 lp1_24), .int (I3 mp1_24), .int (I3 re)])), (as_, .inl (dA 0, 60, .inl (iA SG))), (av, .inl (dA 1, 960, .inr (.inl (lA VL)))), (aw, .inl (dA 1, 1024, .inr (.inl (lA wf))))]) [0, 1, 2, 3] rfl
      have hDc := hD.sub (ws' := [(am, .inr (0, [.int (I3 th1_3), .int (I3 mn), .ref as_, .ref av, .ref aw, .int (I3 sm), .int (I3 wd1_24), .int (I3 lp1_24), .int (I3 mp1_24), .int (I3 re)])), (as_, .inl (dA 0, 60, .inl (iA SG))), (av, .inl (dA 1, 960, .inr (.inl (lA VL)))), (aw, .inl (dA 1, 1024, .inr (.inl (lA wf))))]) [0, 1, 2, 3] (by decide) rfl
      have hFc := va_free (wc := [(am, .inr (0, [.int (I3 th1_3), .int (I3 mn), .ref as_, .ref av, .ref aw, .int (I3 sm), .int (I3 wd1_24), .int (I3 lp1_24), .int (I3 mp1_24), .int (I3 re)])), (as_, .inl (dA 0, 60, .inl (iA SG))), (av, .inl (dA 1, 960, .inr (.inl (lA VL)))), (aw, .inl (dA 1, 1024, .inr (.inl (lA wf))))]) hD hS hA [0, 1, 2, 3] rfl
      refine va_callv (va_runV (As := [.int (I3 a), .int (I3 2)]) (rest := []) ⟨hx, hb, hml, hown, hts⟩ (metX8_loadP l dC dI dA am as_ av aw H.size th1_3 mn sm wd1_24 lp1_24 mp1_24 re SG VL wf a 2 h_5 h_6 h_7 h_8) (cwV 2 hts (lw_V q1066 q1068 qs39 q66 q1069) rfl rfl rfl (by decide +kernel) ⟨Nat.le_of_ble_eq_true rfl, Nat.le_of_ble_eq_true rfl⟩) ⟨fun a U g mk q => by obtain ⟨q0, q1, qP, qK, qD⟩ := q; exact ⟨q0, q1, qP, va_K.moved (u := U) (U := U.calling g mk a) (Vm.Alike.refl U.vm) qK, qD⟩, va_recv hK hPc (ci := 0) (q0 := 0) rfl rfl, fun U hU hW => ⟨rfl, by rw [hU], by rw [hU]; exact hPc, va_K.moved hW.alike hK, hDc.weaken (fun _ _ _ _ => trivial)⟩⟩ rfl rfl hl.1 rfl (lv_room (Nat.le_of_ble_eq_true rfl)) dX8_single_30 ⟨Nat.le_of_ble_eq_true rfl, Nat.le_of_ble_eq_true rfl⟩) hS (fun q _ h => hFc q h) hFc (fun u t H1 locs ht hvm hw hB hz1 hk1 hS => ?_)
      obtain ⟨W1_30, rfl⟩ : ∃ z, z = u := ⟨_, rfl⟩
      obtain ⟨p0_30, p1_30, p2_30⟩ : (Dg W1_30) ∧ (Fr wf W1_30 (2 : Int)) ∧ (rv W1_30 (2 : Int) = pv VL a) := hw
      obtain ⟨hP1, hK1, hD1⟩ := hB
      rw [ht] at hP1
      obtain ⟨hP, hD⟩ := va_join (wr := []) (w1 := [(am, .inr (0, [.int (I3 th1_3), .int (I3 mn), .ref as_, .ref av, .ref aw, .int (I3 sm), .int (I3 wd1_24), .int (I3 lp1_24), .int (I3 mp1_24), .int (I3 re)])), (as_, .inl (dA 0, 60, .inl (iA SG))), (av, .inl (dA 1, 960, .inr (.inl (lA VL)))), (aw, .inl (dA 1, 1024, .inr (.inl (lA W1_30))))]) hP hD [0, 1, 2, 3] [] rfl rfl (by decide) (by decide) hk1 hFc hP1 hD1
      generalize H1 = H at hP hS ⊢
      have hP : va_P (dC, dI) vwCl [(am, .inr (0, [.int (I3 th1_3), .int (I3 mn), .ref as_, .ref av, .ref aw, .int (I3 sm), .int (I3 wd1_24), .int (I3 lp1_24), .int (I3 mp1_24), .int (I3 re)])), (as_, .inl (dA 0, 60, .inl (iA SG))), (av, .inl (dA 1, 960, .inr (.inl (lA VL)))), (aw, .inl (dA 1, 1024, .inr (.inl (lA W1_30))))] H := hP
      have hD : va_D A [(am, .inr (0, [.int (I3 th1_3), .int (I3 mn), .ref as_, .ref av, .ref aw, .int (I3 sm), .int (I3 wd1_24), .int (I3 lp1_24), .int (I3 mp1_24), .int (I3 re)])), (as_, .inl (dA 0, 60, .inl (iA SG))), (av, .inl (dA 1, 960, .inr (.inl (lA VL)))), (aw, .inl (dA 1, 1024, .inr (.inl (lA W1_30))))] := hD
      refine lv_aload_n hx hb dX8_single_33 rfl (lv_at hl 0 rfl) ?_
      refine lv_iload_n hx hb dX8_single_34 rfl (lv_at hl 1 rfl) ?_
      refine lv_iconst (v := I3 (3)) hx hb dX8_single_35 rfl ?_
      have h_9 : 0 ≤ a ∧ a < 60 := by first | assumption | omega | (constructor <;> omega)
      have h_10 : 0 ≤ (3 : Int) ∧ (3 : Int) < 16 := by decide
      have h_11 : Dg W1_30 := by first | assumption | omega | (constructor <;> omega)
      have h_12 : Dg VL := by first | assumption | omega | (constructor <;> omega)
      have hPc := hP.sub (ws' := [(am, .inr (0, [.int (I3 th1_3), .int (I3 mn), .ref as_, .ref av, .ref aw, .int (I3 sm), .int (I3 wd1_24), .int (I3 lp1_24), .int (I3 mp1_24), .int (I3 re)])), (as_, .inl (dA 0, 60, .inl (iA SG))), (av, .inl (dA 1, 960, .inr (.inl (lA VL)))), (aw, .inl (dA 1, 1024, .inr (.inl (lA W1_30))))]) [0, 1, 2, 3] rfl
      have hDc := hD.sub (ws' := [(am, .inr (0, [.int (I3 th1_3), .int (I3 mn), .ref as_, .ref av, .ref aw, .int (I3 sm), .int (I3 wd1_24), .int (I3 lp1_24), .int (I3 mp1_24), .int (I3 re)])), (as_, .inl (dA 0, 60, .inl (iA SG))), (av, .inl (dA 1, 960, .inr (.inl (lA VL)))), (aw, .inl (dA 1, 1024, .inr (.inl (lA W1_30))))]) [0, 1, 2, 3] (by decide) rfl
      have hFc := va_free (wc := [(am, .inr (0, [.int (I3 th1_3), .int (I3 mn), .ref as_, .ref av, .ref aw, .int (I3 sm), .int (I3 wd1_24), .int (I3 lp1_24), .int (I3 mp1_24), .int (I3 re)])), (as_, .inl (dA 0, 60, .inl (iA SG))), (av, .inl (dA 1, 960, .inr (.inl (lA VL)))), (aw, .inl (dA 1, 1024, .inr (.inl (lA W1_30))))]) hD hS hA [0, 1, 2, 3] rfl
      refine va_callv (va_runV (As := [.int (I3 a), .int (I3 3)]) (rest := []) ⟨hx, hb, hml, hown, hts⟩ (metX8_loadQ l dC dI dA am as_ av aw H.size th1_3 mn sm wd1_24 lp1_24 mp1_24 re SG VL W1_30 a 3 h_9 h_10 h_11 h_12) (cwV 2 hts (lw_V q1070 q1072 qs40 q66 q1073) rfl rfl rfl (by decide +kernel) ⟨Nat.le_of_ble_eq_true rfl, Nat.le_of_ble_eq_true rfl⟩) ⟨fun a U g mk q => by obtain ⟨q0, q1, qP, qK, qD⟩ := q; exact ⟨q0, q1, qP, va_K.moved (u := U) (U := U.calling g mk a) (Vm.Alike.refl U.vm) qK, qD⟩, va_recv hK hPc (ci := 0) (q0 := 0) rfl rfl, fun U hU hW => ⟨rfl, by rw [hU], by rw [hU]; exact hPc, va_K.moved hW.alike hK, hDc.weaken (fun _ _ _ _ => trivial)⟩⟩ rfl rfl hl.1 rfl (lv_room (Nat.le_of_ble_eq_true rfl)) dX8_single_36 ⟨Nat.le_of_ble_eq_true rfl, Nat.le_of_ble_eq_true rfl⟩) hS (fun q _ h => hFc q h) hFc (fun u t H1 locs ht hvm hw hB hz1 hk1 hS => ?_)
      obtain ⟨W1_36, rfl⟩ : ∃ z, z = u := ⟨_, rfl⟩
      obtain ⟨p0_36, p1_36, p2_36⟩ : (Dg W1_36) ∧ (Fr W1_30 W1_36 (3 : Int)) ∧ (rv W1_36 (3 : Int) = qv VL a) := hw
      obtain ⟨hP1, hK1, hD1⟩ := hB
      rw [ht] at hP1
      obtain ⟨hP, hD⟩ := va_join (wr := []) (w1 := [(am, .inr (0, [.int (I3 th1_3), .int (I3 mn), .ref as_, .ref av, .ref aw, .int (I3 sm), .int (I3 wd1_24), .int (I3 lp1_24), .int (I3 mp1_24), .int (I3 re)])), (as_, .inl (dA 0, 60, .inl (iA SG))), (av, .inl (dA 1, 960, .inr (.inl (lA VL)))), (aw, .inl (dA 1, 1024, .inr (.inl (lA W1_36))))]) hP hD [0, 1, 2, 3] [] rfl rfl (by decide) (by decide) hk1 hFc hP1 hD1
      generalize H1 = H at hP hS ⊢
      have hP : va_P (dC, dI) vwCl [(am, .inr (0, [.int (I3 th1_3), .int (I3 mn), .ref as_, .ref av, .ref aw, .int (I3 sm), .int (I3 wd1_24), .int (I3 lp1_24), .int (I3 mp1_24), .int (I3 re)])), (as_, .inl (dA 0, 60, .inl (iA SG))), (av, .inl (dA 1, 960, .inr (.inl (lA VL)))), (aw, .inl (dA 1, 1024, .inr (.inl (lA W1_36))))] H := hP
      have hD : va_D A [(am, .inr (0, [.int (I3 th1_3), .int (I3 mn), .ref as_, .ref av, .ref aw, .int (I3 sm), .int (I3 wd1_24), .int (I3 lp1_24), .int (I3 mp1_24), .int (I3 re)])), (as_, .inl (dA 0, 60, .inl (iA SG))), (av, .inl (dA 1, 960, .inr (.inl (lA VL)))), (aw, .inl (dA 1, 1024, .inr (.inl (lA W1_36))))] := hD
      have f3 : rv W1_36 3 = qv VL a := p2_36
      have f2 : rv W1_36 2 = pv VL a := (Fr_rv p1_36 (by decide)).trans p2_30
      refine lv_aload_n hx hb dX8_single_39 rfl (lv_at hl 0 rfl) ?_
      refine lv_aload_n hx hb dX8_single_40 rfl (lv_at hl 0 rfl) ?_
      refine va_get (D := (dC, dI)) (ci := 0) (v := .ref as_) (C := RX8) (T := TX8) (N := 10) hx hb hts in_X8 hown hK hP 0 rfl rfl 2 (by decide) (hts _ q915) (fun _ h9 => h9) rfl dX8_single_41 ?_
      refine lv_iload_n hx hb dX8_single_44 rfl (lv_at hl 1 rfl) ?_
      refine ix_iald hx hb hK hP 1 0 rfl rfl (Nat.le_of_ble_eq_true rfl) (by omega) dX8_single_45 ?_
      refine lv_iload_n hx hb dX8_single_46 rfl (lv_at hl 2 rfl) ?_
      have h_13 : Dg W1_36 := by first | assumption | omega | (constructor <;> omega)
      have h_14 : FM wd1_24 lp1_24 mp1_24 := by unfold FM; omega
      have h_15 : rv W1_36 2 ≠ 0 := by rw [f2]; intro q; have := ha2.2.1.mpr q; omega
      have h_16 : rv W1_36 3 ≠ 0 := by rw [f3]; exact ha2.2.2.1
      have h_17 : bl (rv W1_36 2) ≤ 1900 := by rw [f2]; omega
      have h_18 : bl (rv W1_36 3) ≤ 1900 := by rw [f3]; omega
      have h_19 : In3 (SG a) := by first | assumption | omega | (constructor <;> omega)
      have h_20 : 0 ≤ dr ∧ dr ≤ 3 := by first | assumption | omega | (constructor <;> omega)
      have hPc := hP.sub (ws' := [(am, .inr (0, [.int (I3 th1_3), .int (I3 mn), .ref as_, .ref av, .ref aw, .int (I3 sm), .int (I3 wd1_24), .int (I3 lp1_24), .int (I3 mp1_24), .int (I3 re)])), (as_, .inl (dA 0, 60, .inl (iA SG))), (av, .inl (dA 1, 960, .inr (.inl (lA VL)))), (aw, .inl (dA 1, 1024, .inr (.inl (lA W1_36))))]) [0, 1, 2, 3] rfl
      have hDc := hD.sub (ws' := [(am, .inr (0, [.int (I3 th1_3), .int (I3 mn), .ref as_, .ref av, .ref aw, .int (I3 sm), .int (I3 wd1_24), .int (I3 lp1_24), .int (I3 mp1_24), .int (I3 re)])), (as_, .inl (dA 0, 60, .inl (iA SG))), (av, .inl (dA 1, 960, .inr (.inl (lA VL)))), (aw, .inl (dA 1, 1024, .inr (.inl (lA W1_36))))]) [0, 1, 2, 3] (by decide) rfl
      have hFc := va_free (wc := [(am, .inr (0, [.int (I3 th1_3), .int (I3 mn), .ref as_, .ref av, .ref aw, .int (I3 sm), .int (I3 wd1_24), .int (I3 lp1_24), .int (I3 mp1_24), .int (I3 re)])), (as_, .inl (dA 0, 60, .inl (iA SG))), (av, .inl (dA 1, 960, .inr (.inl (lA VL)))), (aw, .inl (dA 1, 1024, .inr (.inl (lA W1_36))))]) hD hS hA [0, 1, 2, 3] rfl
      refine va_calll (va_runV (As := [.int (I3 (SG a)), .int (I3 dr)]) (rest := []) ⟨hx, hb, hml, hown, hts⟩ (metX8_round l dC dI dA am as_ av aw H.size th1_3 mn sm wd1_24 lp1_24 mp1_24 re SG VL W1_36 (SG a) dr h_13 h_14 h_15 h_16 h_17 h_18 h_19 h_20) (cwV 2 hts (lw_V q1145 q1147 qs48 q66 q1148) rfl rfl rfl (by decide +kernel) ⟨Nat.le_of_ble_eq_true rfl, Nat.le_of_ble_eq_true rfl⟩) ⟨fun a U g mk q => by obtain ⟨q0, q1, qP, qK, qD⟩ := q; exact ⟨q0, q1, qP, va_K.moved (u := U) (U := U.calling g mk a) (Vm.Alike.refl U.vm) qK, qD⟩, va_recv hK hPc (ci := 0) (q0 := 0) rfl rfl, fun U hU hW => ⟨rfl, by rw [hU], by rw [hU]; exact hPc, va_K.moved hW.alike hK, hDc.weaken (fun _ _ _ _ => trivial)⟩⟩ rfl rfl hl.1 rfl (lv_room (Nat.le_of_ble_eq_true rfl)) dX8_single_47 ⟨Nat.le_of_ble_eq_true rfl, Nat.le_of_ble_eq_true rfl⟩) hS (fun q _ h => hFc q h) hFc (fun r_47 u t H1 locs ht hvm hw hB hz1 hk1 hS => ?_)
      obtain ⟨z_47, W1_47⟩ := u
      obtain ⟨rfl, p0_47, p1_47⟩ : r_47 = L6 z_47 ∧ (Dg W1_47) ∧ (∃ q : Int, RQ wd1_24 lp1_24 (rv W1_36 2) (rv W1_36 3) q ∧ z_47 = encS (2 ^ (wd1_24 - 1).toNat) lp1_24 mp1_24 (upS dr (SG a) (nS (rv W1_36 2) q) (dS (rv W1_36 3) q)) q (infS dr (SG a))) := hw
      obtain ⟨hP1, hK1, hD1⟩ := hB
      rw [ht] at hP1
      obtain ⟨hP, hD⟩ := va_join (wr := []) (w1 := [(am, .inr (0, [.int (I3 th1_3), .int (I3 mn), .ref as_, .ref av, .ref aw, .int (I3 sm), .int (I3 wd1_24), .int (I3 lp1_24), .int (I3 mp1_24), .int (I3 re)])), (as_, .inl (dA 0, 60, .inl (iA SG))), (av, .inl (dA 1, 960, .inr (.inl (lA VL)))), (aw, .inl (dA 1, 1024, .inr (.inl (lA W1_47))))]) hP hD [0, 1, 2, 3] [] rfl rfl (by decide) (by decide) hk1 hFc hP1 hD1
      generalize H1 = H at hP hS ⊢
      have hP : va_P (dC, dI) vwCl [(am, .inr (0, [.int (I3 th1_3), .int (I3 mn), .ref as_, .ref av, .ref aw, .int (I3 sm), .int (I3 wd1_24), .int (I3 lp1_24), .int (I3 mp1_24), .int (I3 re)])), (as_, .inl (dA 0, 60, .inl (iA SG))), (av, .inl (dA 1, 960, .inr (.inl (lA VL)))), (aw, .inl (dA 1, 1024, .inr (.inl (lA W1_47))))] H := hP
      have hD : va_D A [(am, .inr (0, [.int (I3 th1_3), .int (I3 mn), .ref as_, .ref av, .ref aw, .int (I3 sm), .int (I3 wd1_24), .int (I3 lp1_24), .int (I3 mp1_24), .int (I3 re)])), (as_, .inl (dA 0, 60, .inl (iA SG))), (av, .inl (dA 1, 960, .inr (.inl (lA VL)))), (aw, .inl (dA 1, 1024, .inr (.inl (lA W1_47))))] := hD
      rw [f2, f3] at p1_47
      have hr_ := rnB_32 (by omega) p1_47
      refine lv_aload_n hx hb dX8_single_50 rfl (lv_at hl 0 rfl) ?_
      refine va_get (D := (dC, dI)) (ci := 0) (v := .ref as_) (C := RX8) (T := TX8) (N := 10) hx hb hts in_X8 hown hK hP 0 rfl rfl 2 (by decide) (hts _ q915) (fun _ h9 => h9) rfl dX8_single_51 ?_
      refine lv_iload_n hx hb dX8_single_54 rfl (lv_at hl 1 rfl) ?_
      refine ix_iald hx hb hK hP 1 0 rfl rfl (Nat.le_of_ble_eq_true rfl) (by omega) dX8_single_55 ?_
      refine ix_if_ge (tgt := 65) hx hb (by have sa := (hAll a (by omega) (by omega)).1; constructor <;> omega) dX8_single_56 (by decide) (fun c_56 => ?_) (fun c_56 => ?_)
      · skip
        refine lv_lconst (v := L6 0) hx hb dX8_single_65 (by decide) ?_
        refine ix_lor hx hb dX8_single_66 ?_
        refine ix_tl (y := (if SG a < 0 then z_47 + 2147483648 else z_47)) (by first | (rw [if_pos (by omega)]; exact zor6_c 31 rfl (by omega) (by omega)) | (rw [if_neg (by omega)]; exact zor6_0 (by constructor <;> omega))) ?_
        refine ix_l2i hx hb dX8_single_67 ?_
        refine ix_ci (y := (if SG a < 0 then z_47 - 2147483648 else z_47)) (by apply I3_congr; split <;> omega) ?_
        have o_21 : Dg W1_47 := by first | assumption | omega | (constructor <;> omega)
        have o_22 : th1_3 = if 0 ≤ a ∧ a < mn then (if 0 ≤ dr ∧ dr ≤ 3 then 0 else 2) else 1 := by exact p0_3
        have o_23 : ((0 ≤ a ∧ a < mn) ∧ 0 ≤ dr ∧ dr ≤ 3) → SG a ≠ 0 → ∃ e : Int, rnB 32 (pv VL a) (qv VL a) dr (SG a) e ∧ ((if SG a < 0 then z_47 - 2147483648 else z_47)) = if SG a < 0 then e - 2147483648 else e := by intro q1 q2; exact ⟨z_47, hr_.1, rfl⟩
        have o_24 : ¬ ((0 ≤ a ∧ a < mn) ∧ 0 ≤ dr ∧ dr ≤ 3) → ((if SG a < 0 then z_47 - 2147483648 else z_47)) = 0 := by intro q; exact absurd hnum q
        have o_25 : SG a = 0 → ((if SG a < 0 then z_47 - 2147483648 else z_47)) = 0 := by intro q; omega
        exact W.iret (v := I3 ((if SG a < 0 then z_47 - 2147483648 else z_47))) hx hb hr (fun t ht hW => ⟨⟨I3 ((if SG a < 0 then z_47 - 2147483648 else z_47)), (((if SG a < 0 then z_47 - 2147483648 else z_47)), th1_3, W1_47, wd1_24, lp1_24, mp1_24), rfl, ⟨rfl, ⟨o_21, o_22, o_23, o_24, o_25⟩⟩, by rw [ht]; exact hP, va_K.moved hW.alike hK, hD⟩, hS.F ht⟩) hS.2.2 dX8_single_68
      · skip
        refine lv_ldc2 hx hb hown (hts _ q1158) dX8_single_59 ?_
        refine ix_vl (x := (2147483648)) (by decide) ?_
        refine lv_goto (tgt := 66) hx hb dX8_single_62 (by decide) ?_
        refine ix_lor hx hb dX8_single_66 ?_
        refine ix_tl (y := (if SG a < 0 then z_47 + 2147483648 else z_47)) (by first | (rw [if_pos (by omega)]; exact zor6_c 31 rfl (by omega) (by omega)) | (rw [if_neg (by omega)]; exact zor6_0 (by constructor <;> omega))) ?_
        refine ix_l2i hx hb dX8_single_67 ?_
        refine ix_ci (y := (if SG a < 0 then z_47 - 2147483648 else z_47)) (by apply I3_congr; split <;> omega) ?_
        have o_26 : Dg W1_47 := by first | assumption | omega | (constructor <;> omega)
        have o_27 : th1_3 = if 0 ≤ a ∧ a < mn then (if 0 ≤ dr ∧ dr ≤ 3 then 0 else 2) else 1 := by exact p0_3
        have o_28 : ((0 ≤ a ∧ a < mn) ∧ 0 ≤ dr ∧ dr ≤ 3) → SG a ≠ 0 → ∃ e : Int, rnB 32 (pv VL a) (qv VL a) dr (SG a) e ∧ ((if SG a < 0 then z_47 - 2147483648 else z_47)) = if SG a < 0 then e - 2147483648 else e := by intro q1 q2; exact ⟨z_47, hr_.1, rfl⟩
        have o_29 : ¬ ((0 ≤ a ∧ a < mn) ∧ 0 ≤ dr ∧ dr ≤ 3) → ((if SG a < 0 then z_47 - 2147483648 else z_47)) = 0 := by intro q; exact absurd hnum q
        have o_30 : SG a = 0 → ((if SG a < 0 then z_47 - 2147483648 else z_47)) = 0 := by intro q; omega
        exact W.iret (v := I3 ((if SG a < 0 then z_47 - 2147483648 else z_47))) hx hb hr (fun t ht hW => ⟨⟨I3 ((if SG a < 0 then z_47 - 2147483648 else z_47)), (((if SG a < 0 then z_47 - 2147483648 else z_47)), th1_3, W1_47, wd1_24, lp1_24, mp1_24), rfl, ⟨rfl, ⟨o_26, o_27, o_28, o_29, o_30⟩⟩, by rw [ht]; exact hP, va_K.moved hW.alike hK, hD⟩, hS.F ht⟩) hS.2.2 dX8_single_68
    · skip
      refine lv_iconst (v := I3 (0)) hx hb dX8_single_20 rfl ?_
      have o_31 : Dg wf := by first | assumption | omega | (constructor <;> omega)
      have o_32 : th1_3 = if 0 ≤ a ∧ a < mn then (if 0 ≤ dr ∧ dr ≤ 3 then 0 else 2) else 1 := by exact p0_3
      have o_33 : ((0 ≤ a ∧ a < mn) ∧ 0 ≤ dr ∧ dr ≤ 3) → SG a ≠ 0 → ∃ e : Int, rnB 32 (pv VL a) (qv VL a) dr (SG a) e ∧ (0 : Int) = if SG a < 0 then e - 2147483648 else e := by intro q1 q2; exact absurd (by assumption) q2
      have o_34 : ¬ ((0 ≤ a ∧ a < mn) ∧ 0 ≤ dr ∧ dr ≤ 3) → (0 : Int) = 0 := by intro q; rfl
      have o_35 : SG a = 0 → (0 : Int) = 0 := by intro q; rfl
      exact W.iret (v := I3 0) hx hb hr (fun t ht hW => ⟨⟨I3 0, (0, th1_3, wf, wd, lp, mp), rfl, ⟨rfl, ⟨o_31, o_32, o_33, o_34, o_35⟩⟩, by rw [ht]; exact hP, va_K.moved hW.alike hK, hD⟩, hS.F ht⟩) hS.2.2 dX8_single_21
  · skip
    refine lv_iconst (v := I3 (0)) hx hb dX8_single_9 rfl ?_
    have o_36 : Dg wf := by first | assumption | omega | (constructor <;> omega)
    have o_37 : th1_3 = if 0 ≤ a ∧ a < mn then (if 0 ≤ dr ∧ dr ≤ 3 then 0 else 2) else 1 := by exact p0_3
    have o_38 : ((0 ≤ a ∧ a < mn) ∧ 0 ≤ dr ∧ dr ≤ 3) → SG a ≠ 0 → ∃ e : Int, rnB 32 (pv VL a) (qv VL a) dr (SG a) e ∧ (0 : Int) = if SG a < 0 then e - 2147483648 else e := by intro q1 q2; exfalso; rw [if_pos q1.1, if_pos q1.2] at p0_3; rw [p0_3, if_pos rfl] at p1_3; omega
    have o_39 : ¬ ((0 ≤ a ∧ a < mn) ∧ 0 ≤ dr ∧ dr ≤ 3) → (0 : Int) = 0 := by intro q; rfl
    have o_40 : SG a = 0 → (0 : Int) = 0 := by intro q; rfl
    exact W.iret (v := I3 0) hx hb hr (fun t ht hW => ⟨⟨I3 0, (0, th1_3, wf, wd, lp, mp), rfl, ⟨rfl, ⟨o_36, o_37, o_38, o_39, o_40⟩⟩, by rw [ht]; exact hP, va_K.moved hW.alike hK, hD⟩, hS.F ht⟩) hS.2.2 dX8_single_10
