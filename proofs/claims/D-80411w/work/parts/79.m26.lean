/-! the model: machine -/
set_option maxRecDepth 100000
abbrev BmetX8_machine (dC : Nat → ClassId) (dI : Nat → Nat → Nat) (dA : Nat → ClassId) (A : Nat → Prop) (am : Nat) (as_ : Nat) (av : Nat) (aw : Nat) (th : Int) (mn : Int) (sm : Int) (wd : Int) (lp : Int) (mp : Int) (re : Int) (SG : Int → Int) (VL : Int → Int) (wf : Int → Int) (kind : Int) (v : Int) (w : Int) : Int × Int × (Int → Int) × Int × Int × Int × Int → State → Prop := fun u t => (fun (u : Int × Int × (Int → Int) × Int × Int × Int × Int) => (fun (z : Int) (th1 : Int) (W1 : Int → Int) (wd1 : Int) (lp1 : Int) (mp1 : Int) (re1 : Int) => va_P (dC, dI) vwCl [(am, .inr (0, [.int (I3 th1), .int (I3 mn), .ref as_, .ref av, .ref aw, .int (I3 sm), .int (I3 wd1), .int (I3 lp1), .int (I3 mp1), .int (I3 re1)])), (as_, .inl (dA 0, 60, .inl (iA SG))), (av, .inl (dA 1, 960, .inr (.inl (lA VL)))), (aw, .inl (dA 1, 1024, .inr (.inl (lA W1))))] t.heap ∧ va_K (dC, dI) vwCl (tyA dA) t ∧ va_D A [(am, .inr (0, [.int (I3 th1), .int (I3 mn), .ref as_, .ref av, .ref aw, .int (I3 sm), .int (I3 wd1), .int (I3 lp1), .int (I3 mp1), .int (I3 re1)])), (as_, .inl (dA 0, 60, .inl (iA SG))), (av, .inl (dA 1, 960, .inr (.inl (lA VL)))), (aw, .inl (dA 1, 1024, .inr (.inl (lA W1))))]) u.1 u.2.1 u.2.2.1 u.2.2.2.1 u.2.2.2.2.1 u.2.2.2.2.2.1 u.2.2.2.2.2.2) u
abbrev QmetX8_machine (dC : Nat → ClassId) (dI : Nat → Nat → Nat) (dA : Nat → ClassId) (A : Nat → Prop) (am : Nat) (as_ : Nat) (av : Nat) (aw : Nat) (th : Int) (mn : Int) (sm : Int) (wd : Int) (lp : Int) (mp : Int) (re : Int) (SG : Int → Int) (VL : Int → Int) (wf : Int → Int) (kind : Int) (v : Int) (w : Int) := va_Ql (fun (rt_ : Int64) => fun (u : Int × Int × (Int → Int) × Int × Int × Int × Int) => (fun (z : Int) (th1 : Int) (W1 : Int → Int) (wd1 : Int) (lp1 : Int) (mp1 : Int) (re1 : Int) => rt_ = L6 z ∧ (Dg W1) ∧ (¬ (0 ≤ kind ∧ kind ≤ 10) → th1 = 1 ∧ z = 0) ∧ (0 ≤ kind ∧ kind ≤ 10 → th1 = 0 ∧ maX kind v w z)) u.1 u.2.1 u.2.2.1 u.2.2.2.1 u.2.2.2.2.1 u.2.2.2.2.2.1 u.2.2.2.2.2.2) (BmetX8_machine dC dI dA A am as_ av aw th mn sm wd lp mp re SG VL wf kind v w) A
set_option maxHeartbeats 8000000 in
set_option maxRecDepth 100000 in
/-- machine -/
theorem metX8_machine (l : Launch) (dC : Nat → ClassId) (dI : Nat → Nat → Nat) (dA : Nat → ClassId) (am : Nat) (as_ : Nat) (av : Nat) (aw : Nat) (sz : Nat) (th : Int) (mn : Int) (sm : Int) (wd : Int) (lp : Int) (mp : Int) (re : Int) (SG : Int → Int) (VL : Int → Int) (wf : Int → Int) (kind : Int) (v : Int) (w : Int) (hW : Dg wf) (hk3 : In3 kind) (hv : In6 v) (hw : In6 w) : Met l yX8_machine (ws_ yX8_machine cX8_machine 6 (some .long)) ({ frames := 6, cells := 0, slots := 0, locals := 240 }) (va_Pc [.ref am, .int (I3 kind), .long (L6 v), .long (L6 w)] (fun U => U.heap.size = sz ∧ va_P (dC, dI) vwCl [(am, .inr (0, [.int (I3 th), .int (I3 mn), .ref as_, .ref av, .ref aw, .int (I3 sm), .int (I3 wd), .int (I3 lp), .int (I3 mp), .int (I3 re)])), (as_, .inl (dA 0, 60, .inl (iA SG))), (av, .inl (dA 1, 960, .inr (.inl (lA VL)))), (aw, .inl (dA 1, 1024, .inr (.inl (lA wf))))] U.heap ∧ va_K (dC, dI) vwCl (tyA dA) U ∧ va_D (fun _ => True) [(am, .inr (0, [.int (I3 th), .int (I3 mn), .ref as_, .ref av, .ref aw, .int (I3 sm), .int (I3 wd), .int (I3 lp), .int (I3 mp), .int (I3 re)])), (as_, .inl (dA 0, 60, .inl (iA SG))), (av, .inl (dA 1, 960, .inr (.inl (lA VL)))), (aw, .inl (dA 1, 1024, .inr (.inl (lA wf))))])) (QmetX8_machine dC dI dA (va_A [(am, .inr (0, [.int (I3 th), .int (I3 mn), .ref as_, .ref av, .ref aw, .int (I3 sm), .int (I3 wd), .int (I3 lp), .int (I3 mp), .int (I3 re)])), (as_, .inl (dA 0, 60, .inl (iA SG))), (av, .inl (dA 1, 960, .inr (.inl (lA VL)))), (aw, .inl (dA 1, 1024, .inr (.inl (lA wf))))] sz) am as_ av aw th mn sm wd lp mp re SG VL wf kind v w) 0 0 (va_A [(am, .inr (0, [.int (I3 th), .int (I3 mn), .ref as_, .ref av, .ref aw, .int (I3 sm), .int (I3 wd), .int (I3 lp), .int (I3 mp), .int (I3 re)])), (as_, .inl (dA 0, 60, .inl (iA SG))), (av, .inl (dA 1, 960, .inr (.inl (lA VL)))), (aw, .inl (dA 1, 1024, .inr (.inl (lA wf))))] sz) := by
  refine Met.ofW (cc := cX8_machine) (maxL := 6) (ret := (some .long)) (by decide) rfl ?_
  intro p e s m args below meth c s₁ B hml hv
  obtain ⟨rfl, hsz, hP, hK, hD0⟩ := hv
  have hx := B.exec
  have hb := B.bytes
  have hr := B.returns
  have hts := atoms_spec (ws := (ws_ yX8_machine cX8_machine 6 (some .long))) B.pre
  have hts : ∀ w ∈ lw_all, w.before _ s = true := fun w h => hts w (List.mem_cons_of_mem _ h)
  have hown : s.vm.findClass RX8 = some m.cls := findClass_of_methodNamed B.named
  have hlocks := B.notSynchronized
  subst hsz
  have hD := hD0.self (sz := s.heap.size)
  generalize hAe : va_A [(am, .inr (0, [.int (I3 th), .int (I3 mn), .ref as_, .ref av, .ref aw, .int (I3 sm), .int (I3 wd), .int (I3 lp), .int (I3 mp), .int (I3 re)])), (as_, .inl (dA 0, 60, .inl (iA SG))), (av, .inl (dA 1, 960, .inr (.inl (lA VL)))), (aw, .inl (dA 1, 1024, .inr (.inl (lA wf))))] s.heap.size = A at hD ⊢
  have hA : ∀ q : Nat, s.heap.size ≤ q → A q := fun q h => by rw [← hAe]; exact Or.inr h
  have hS : va_S A s.heap s.heap [] := va_S.rf
  have hP : va_P (dC, dI) vwCl [(am, .inr (0, [.int (I3 th), .int (I3 mn), .ref as_, .ref av, .ref aw, .int (I3 sm), .int (I3 wd), .int (I3 lp), .int (I3 mp), .int (I3 re)])), (as_, .inl (dA 0, 60, .inl (iA SG))), (av, .inl (dA 1, 960, .inr (.inl (lA VL)))), (aw, .inl (dA 1, 1024, .inr (.inl (lA wf))))] s.heap := hP
  have hl := lv_entry ([.ref am, .int (I3 kind), .long (L6 v), .long (L6 w)]) (n := 6) (Nat.le_of_ble_eq_true rfl)
  rw [lg_entry_eq]
  generalize (lg_sl ([.ref am, .int (I3 kind), .long (L6 v), .long (L6 w)]) ++ List.replicate (6 - (lg_sl ([.ref am, .int (I3 kind), .long (L6 v), .long (L6 w)])).length) Slot.unset).toArray = ls at hl ⊢
  have hl : lv_has ls 6 [(0, .ref am), (1, .int (I3 kind)), (2, .long (L6 v)), (4, .long (L6 w))] := hl
  have xv_ := eX_r v
  have qv_ := pX_r v
  have xw_ := eX_r w
  have qw_ := pX_r w
  refine lv_iload_n hx hb dX8_machine_0 rfl (lv_at hl 1 rfl) ?_
  refine ix_if_lt (tgt := 10) hx hb (by first | assumption | decide | (constructor <;> omega)) dX8_machine_1 (by decide) (fun c_1 => ?_) (fun c_1 => ?_)
  · skip
    refine lv_aload_n hx hb dX8_machine_10 rfl (lv_at hl 0 rfl) ?_
    refine lv_iconst (v := I3 (1)) hx hb dX8_machine_11 rfl ?_
    have h_1 : In3 (1 : Int) := by first | assumption | omega | (constructor <;> omega)
    have hPc := hP.sub (ws' := [(am, .inr (0, [.int (I3 th), .int (I3 mn), .ref as_, .ref av, .ref aw, .int (I3 sm), .int (I3 wd), .int (I3 lp), .int (I3 mp), .int (I3 re)])), (as_, .inl (dA 0, 60, .inl (iA SG))), (av, .inl (dA 1, 960, .inr (.inl (lA VL)))), (aw, .inl (dA 1, 1024, .inr (.inl (lA wf))))]) [0, 1, 2, 3] rfl
    have hDc := hD.sub (ws' := [(am, .inr (0, [.int (I3 th), .int (I3 mn), .ref as_, .ref av, .ref aw, .int (I3 sm), .int (I3 wd), .int (I3 lp), .int (I3 mp), .int (I3 re)])), (as_, .inl (dA 0, 60, .inl (iA SG))), (av, .inl (dA 1, 960, .inr (.inl (lA VL)))), (aw, .inl (dA 1, 1024, .inr (.inl (lA wf))))]) [0, 1, 2, 3] (by decide) rfl
    have hFc := va_free (wc := [(am, .inr (0, [.int (I3 th), .int (I3 mn), .ref as_, .ref av, .ref aw, .int (I3 sm), .int (I3 wd), .int (I3 lp), .int (I3 mp), .int (I3 re)])), (as_, .inl (dA 0, 60, .inl (iA SG))), (av, .inl (dA 1, 960, .inr (.inl (lA VL)))), (aw, .inl (dA 1, 1024, .inr (.inl (lA wf))))]) hD hS hA [0, 1, 2, 3] rfl
    refine va_calli (va_runV (As := [.int (I3 1)]) (rest := []) ⟨hx, hb, hml, hown, hts⟩ (metX8_fails l dC dI dA am as_ av aw s.heap.size th mn sm wd lp mp re SG VL wf 1 h_1) (cwV 1 hts (lw_V q1016 q1018 qs34 q66 q1019) rfl rfl rfl (by decide +kernel) ⟨Nat.le_of_ble_eq_true rfl, Nat.le_of_ble_eq_true rfl⟩) ⟨fun a U g mk q => by obtain ⟨q0, q1, qP, qK, qD⟩ := q; exact ⟨q0, q1, qP, va_K.moved (u := U) (U := U.calling g mk a) (Vm.Alike.refl U.vm) qK, qD⟩, va_recv hK hPc (ci := 0) (q0 := 0) rfl rfl, fun U hU hW => ⟨rfl, by rw [hU], by rw [hU]; exact hPc, va_K.moved hW.alike hK, hDc.weaken (fun _ _ _ _ => trivial)⟩⟩ rfl rfl hl.1 rfl (lv_room (Nat.le_of_ble_eq_true rfl)) dX8_machine_12 ⟨Nat.le_of_ble_eq_true rfl, Nat.le_of_ble_eq_true rfl⟩) hS (fun q _ h => hFc q h) hFc (fun r_12 u t H1 locs ht hvm hw hB hz1 hk1 hS => ?_)
    obtain ⟨z_12, th1_12⟩ := u
    obtain ⟨rfl, p0_12, p1_12⟩ : r_12 = I3 z_12 ∧ (z_12 = 0) ∧ (th1_12 = (1 : Int)) := hw
    obtain ⟨hP1, hK1, hD1⟩ := hB
    rw [ht] at hP1
    obtain ⟨hP, hD⟩ := va_join (wr := []) (w1 := [(am, .inr (0, [.int (I3 th1_12), .int (I3 mn), .ref as_, .ref av, .ref aw, .int (I3 sm), .int (I3 wd), .int (I3 lp), .int (I3 mp), .int (I3 re)])), (as_, .inl (dA 0, 60, .inl (iA SG))), (av, .inl (dA 1, 960, .inr (.inl (lA VL)))), (aw, .inl (dA 1, 1024, .inr (.inl (lA wf))))]) hP hD [0, 1, 2, 3] [] rfl rfl (by decide) (by decide) hk1 hFc hP1 hD1
    generalize H1 = H at hP hS ⊢
    have hP : va_P (dC, dI) vwCl [(am, .inr (0, [.int (I3 th1_12), .int (I3 mn), .ref as_, .ref av, .ref aw, .int (I3 sm), .int (I3 wd), .int (I3 lp), .int (I3 mp), .int (I3 re)])), (as_, .inl (dA 0, 60, .inl (iA SG))), (av, .inl (dA 1, 960, .inr (.inl (lA VL)))), (aw, .inl (dA 1, 1024, .inr (.inl (lA wf))))] H := hP
    have hD : va_D A [(am, .inr (0, [.int (I3 th1_12), .int (I3 mn), .ref as_, .ref av, .ref aw, .int (I3 sm), .int (I3 wd), .int (I3 lp), .int (I3 mp), .int (I3 re)])), (as_, .inl (dA 0, 60, .inl (iA SG))), (av, .inl (dA 1, 960, .inr (.inl (lA VL)))), (aw, .inl (dA 1, 1024, .inr (.inl (lA wf))))] := hD
    refine ix_i2l hx hb (by rw [p0_12]; decide) dX8_machine_15 ?_
    have o_2 : Dg wf := by first | assumption | omega | (constructor <;> omega)
    have o_3 : ¬ (0 ≤ kind ∧ kind ≤ 10) → th1_12 = 1 ∧ z_12 = 0 := by intro _; exact ⟨p1_12, p0_12⟩
    have o_4 : 0 ≤ kind ∧ kind ≤ 10 → th1_12 = 0 ∧ maX kind v w z_12 := by intro q; exfalso; omega
    exact W.lret (v := L6 z_12) hx hb hr (fun t ht hW => ⟨⟨L6 z_12, (z_12, th1_12, wf, wd, lp, mp, re), rfl, ⟨rfl, ⟨o_2, o_3, o_4⟩⟩, by rw [ht]; exact hP, va_K.moved hW.alike hK, hD⟩, hS.F ht⟩) hS.2.2 dX8_machine_16
  · skip
    refine lv_iload_n hx hb dX8_machine_4 rfl (lv_at hl 1 rfl) ?_
    refine lv_bipush (v := I3 (10)) hx hb dX8_machine_5 (by decide) ?_
    refine ix_icmp_le (tgt := 17) hx hb (by first | assumption | decide | (constructor <;> omega)) (by first | assumption | decide | (constructor <;> omega)) dX8_machine_7 (by decide) (fun c_7 => ?_) (fun c_7 => ?_)
    · skip
      refine lv_aload_n hx hb dX8_machine_17 rfl (lv_at hl 0 rfl) ?_
      refine lv_iconst (v := I3 (0)) hx hb dX8_machine_18 rfl ?_
      refine va_put (D := (dC, dI)) (ci := 0) (v := .int (I3 0)) (ty := .int) (C := RX8) (T := TX8) (N := 10) hx hb hts in_X8 tyX8 tyX8_ok nmX8 hown hK hP hD hS 0 rfl rfl 0 (by decide) (hts _ q913) (fun _ h9 => h9) rfl (by decide +kernel) rfl rfl (Nat.le_of_ble_eq_true rfl) dX8_machine_19 (fun H locs hP hD hS => ?_)
      have hP : va_P (dC, dI) vwCl [(am, .inr (0, [.int (I3 0), .int (I3 mn), .ref as_, .ref av, .ref aw, .int (I3 sm), .int (I3 wd), .int (I3 lp), .int (I3 mp), .int (I3 re)])), (as_, .inl (dA 0, 60, .inl (iA SG))), (av, .inl (dA 1, 960, .inr (.inl (lA VL)))), (aw, .inl (dA 1, 1024, .inr (.inl (lA wf))))] H := hP
      have hD : va_D A [(am, .inr (0, [.int (I3 0), .int (I3 mn), .ref as_, .ref av, .ref aw, .int (I3 sm), .int (I3 wd), .int (I3 lp), .int (I3 mp), .int (I3 re)])), (as_, .inl (dA 0, 60, .inl (iA SG))), (av, .inl (dA 1, 960, .inr (.inl (lA VL)))), (aw, .inl (dA 1, 1024, .inr (.inl (lA wf))))] := hD
      refine lv_iload_n hx hb dX8_machine_22 rfl (lv_at hl 1 rfl) ?_
      refine ix_if_ne (tgt := 34) hx hb (by first | assumption | decide | (constructor <;> omega)) dX8_machine_23 (by decide) (fun c_23 => ?_) (fun c_23 => ?_)
      · skip
        refine lv_iload_n hx hb dX8_machine_34 rfl (lv_at hl 1 rfl) ?_
        refine lv_iconst (v := I3 (4)) hx hb dX8_machine_35 rfl ?_
        refine ix_icmp_ge (tgt := 46) hx hb (by first | assumption | decide | (constructor <;> omega)) (by first | assumption | decide | (constructor <;> omega)) dX8_machine_36 (by decide) (fun c_36 => ?_) (fun c_36 => ?_)
        · skip
          refine lv_iload_n hx hb dX8_machine_46 rfl (lv_at hl 1 rfl) ?_
          refine lv_bipush (v := I3 (6)) hx hb dX8_machine_47 (by decide) ?_
          refine ix_icmp_ge (tgt := 109) hx hb (by first | assumption | decide | (constructor <;> omega)) (by first | assumption | decide | (constructor <;> omega)) dX8_machine_49 (by decide) (fun c_49 => ?_) (fun c_49 => ?_)
          · skip
            refine lv_aload_n hx hb dX8_machine_109 rfl (lv_at hl 0 rfl) ?_
            refine lv_iload_n hx hb dX8_machine_110 rfl (lv_at hl 1 rfl) ?_
            refine lv_lload_n hx hb dX8_machine_111 rfl (lv_at hl 2 rfl) ?_
            refine lv_lload hx hb dX8_machine_112 (lv_at hl 3 rfl) ?_
            have h_5 : Dg wf := by first | assumption | omega | (constructor <;> omega)
            have h_6 : In6 v := by first | assumption | omega | (constructor <;> omega)
            have h_7 : In6 w := by first | assumption | omega | (constructor <;> omega)
            have h_8 : 6 ≤ kind ∧ kind ≤ 10 := by first | assumption | omega | (constructor <;> omega)
            have hPc := hP.sub (ws' := [(am, .inr (0, [.int (I3 ((0 : Int))), .int (I3 mn), .ref as_, .ref av, .ref aw, .int (I3 sm), .int (I3 wd), .int (I3 lp), .int (I3 mp), .int (I3 re)])), (as_, .inl (dA 0, 60, .inl (iA SG))), (av, .inl (dA 1, 960, .inr (.inl (lA VL)))), (aw, .inl (dA 1, 1024, .inr (.inl (lA wf))))]) [0, 1, 2, 3] rfl
            have hDc := hD.sub (ws' := [(am, .inr (0, [.int (I3 ((0 : Int))), .int (I3 mn), .ref as_, .ref av, .ref aw, .int (I3 sm), .int (I3 wd), .int (I3 lp), .int (I3 mp), .int (I3 re)])), (as_, .inl (dA 0, 60, .inl (iA SG))), (av, .inl (dA 1, 960, .inr (.inl (lA VL)))), (aw, .inl (dA 1, 1024, .inr (.inl (lA wf))))]) [0, 1, 2, 3] (by decide) rfl
            have hFc := va_free (wc := [(am, .inr (0, [.int (I3 ((0 : Int))), .int (I3 mn), .ref as_, .ref av, .ref aw, .int (I3 sm), .int (I3 wd), .int (I3 lp), .int (I3 mp), .int (I3 re)])), (as_, .inl (dA 0, 60, .inl (iA SG))), (av, .inl (dA 1, 960, .inr (.inl (lA VL)))), (aw, .inl (dA 1, 1024, .inr (.inl (lA wf))))]) hD hS hA [0, 1, 2, 3] rfl
            refine va_calll (va_runV (As := [.int (I3 kind), .long (L6 v), .long (L6 w)]) (rest := []) ⟨hx, hb, hml, hown, hts⟩ (metX8_machineMore l dC dI dA am as_ av aw H.size 0 mn sm wd lp mp re SG VL wf kind v w h_5 h_6 h_7 h_8) (cwV 3 hts (lw_V q1186 q1188 qs54 q66 q1189) rfl rfl rfl (by decide +kernel) ⟨Nat.le_of_ble_eq_true rfl, Nat.le_of_ble_eq_true rfl⟩) ⟨fun a U g mk q => by obtain ⟨q0, q1, qP, qK, qD⟩ := q; exact ⟨q0, q1, qP, va_K.moved (u := U) (U := U.calling g mk a) (Vm.Alike.refl U.vm) qK, qD⟩, va_recv hK hPc (ci := 0) (q0 := 0) rfl rfl, fun U hU hW => ⟨rfl, by rw [hU], by rw [hU]; exact hPc, va_K.moved hW.alike hK, hDc.weaken (fun _ _ _ _ => trivial)⟩⟩ rfl rfl hl.1 rfl (lv_room (Nat.le_of_ble_eq_true rfl)) dX8_machine_114 ⟨Nat.le_of_ble_eq_true rfl, Nat.le_of_ble_eq_true rfl⟩) hS (fun q _ h => hFc q h) hFc (fun r_114 u t H1 locs ht hvm hw hB hz1 hk1 hS => ?_)
            obtain ⟨z_114, W1_114, wd1_114, lp1_114, mp1_114⟩ := u
            obtain ⟨rfl, p0_114, p1_114⟩ : r_114 = L6 z_114 ∧ (Dg W1_114) ∧ (mmX kind v w z_114) := hw
            obtain ⟨hP1, hK1, hD1⟩ := hB
            rw [ht] at hP1
            obtain ⟨hP, hD⟩ := va_join (wr := []) (w1 := [(am, .inr (0, [.int (I3 ((0 : Int))), .int (I3 mn), .ref as_, .ref av, .ref aw, .int (I3 sm), .int (I3 wd1_114), .int (I3 lp1_114), .int (I3 mp1_114), .int (I3 re)])), (as_, .inl (dA 0, 60, .inl (iA SG))), (av, .inl (dA 1, 960, .inr (.inl (lA VL)))), (aw, .inl (dA 1, 1024, .inr (.inl (lA W1_114))))]) hP hD [0, 1, 2, 3] [] rfl rfl (by decide) (by decide) hk1 hFc hP1 hD1
            generalize H1 = H at hP hS ⊢
            have hP : va_P (dC, dI) vwCl [(am, .inr (0, [.int (I3 ((0 : Int))), .int (I3 mn), .ref as_, .ref av, .ref aw, .int (I3 sm), .int (I3 wd1_114), .int (I3 lp1_114), .int (I3 mp1_114), .int (I3 re)])), (as_, .inl (dA 0, 60, .inl (iA SG))), (av, .inl (dA 1, 960, .inr (.inl (lA VL)))), (aw, .inl (dA 1, 1024, .inr (.inl (lA W1_114))))] H := hP
            have hD : va_D A [(am, .inr (0, [.int (I3 ((0 : Int))), .int (I3 mn), .ref as_, .ref av, .ref aw, .int (I3 sm), .int (I3 wd1_114), .int (I3 lp1_114), .int (I3 mp1_114), .int (I3 re)])), (as_, .inl (dA 0, 60, .inl (iA SG))), (av, .inl (dA 1, 960, .inr (.inl (lA VL)))), (aw, .inl (dA 1, 1024, .inr (.inl (lA W1_114))))] := hD
            have o_9 : Dg W1_114 := by first | assumption | omega | (constructor <;> omega)
            have o_10 : ¬ (0 ≤ kind ∧ kind ≤ 10) → ((0 : Int)) = 1 ∧ z_114 = 0 := by intro q; exfalso; omega
            have o_11 : 0 ≤ kind ∧ kind ≤ 10 → ((0 : Int)) = 0 ∧ maX kind v w z_114 := by intro _; refine ⟨rfl, ?_⟩; exact ⟨fun q => by exfalso; omega, fun q q2 => by exfalso; omega, fun q => by exfalso; omega, fun _ => p1_114⟩
            exact W.lret (v := L6 z_114) hx hb hr (fun t ht hW => ⟨⟨L6 z_114, (z_114, ((0 : Int)), W1_114, wd1_114, lp1_114, mp1_114, re), rfl, ⟨rfl, ⟨o_9, o_10, o_11⟩⟩, by rw [ht]; exact hP, va_K.moved hW.alike hK, hD⟩, hS.F ht⟩) hS.2.2 dX8_machine_117
          · skip
            refine lv_lload_n hx hb dX8_machine_52 rfl (lv_at hl 2 rfl) ?_
            have h_12 : In6 v := by first | assumption | omega | (constructor <;> omega)
            have hPc := hP.sub (ws' := []) [] rfl
            have hDc := hD.sub (ws' := []) [] (by decide) rfl
            have hFc := va_free (wc := []) hD hS hA [] rfl
            refine va_calli (va_runS (As := [.long (L6 v)]) (rest := []) ⟨hx, hb, hml, hown, hts⟩ (metX8_isNo l dC dI dA H.size v h_12) (va_cwS 1 hts (lw_S q1127 q1128 q66 q1129) rfl rfl rfl (by decide +kernel) ⟨Nat.le_of_ble_eq_true rfl, Nat.le_of_ble_eq_true rfl⟩) ⟨fun a U g mk q => by obtain ⟨q0, q1, qP, qK, qD⟩ := q; exact ⟨q0, q1, qP, va_K.moved (u := U) (U := U.calling g mk a) (Vm.Alike.refl U.vm) qK, qD⟩, fun U hU hW => ⟨rfl, by rw [hU], by rw [hU]; exact hPc, va_K.moved hW.alike hK, hDc.weaken (fun _ _ _ _ => trivial)⟩⟩ rfl rfl hl.1 rfl (lv_room (Nat.le_of_ble_eq_true rfl)) dX8_machine_53 ⟨Nat.le_of_ble_eq_true rfl, Nat.le_of_ble_eq_true rfl⟩) hS (fun q _ h => hFc q h) hFc (fun r_53 u t H1 locs ht hvm hw hB hz1 hk1 hS => ?_)
            obtain ⟨z_53, rfl⟩ : ∃ z, z = u := ⟨_, rfl⟩
            obtain ⟨rfl, p0_53⟩ : r_53 = I3 z_53 ∧ (z_53 = if eX v = 2047 ∧ pX v ≠ 0 then 1 else 0) := hw
            obtain ⟨hP1, hK1, hD1⟩ := hB
            rw [ht] at hP1
            obtain ⟨hP, hD⟩ := va_join (wr := [(am, .inr (0, [.int (I3 0), .int (I3 mn), .ref as_, .ref av, .ref aw, .int (I3 sm), .int (I3 wd), .int (I3 lp), .int (I3 mp), .int (I3 re)])), (as_, .inl (dA 0, 60, .inl (iA SG))), (av, .inl (dA 1, 960, .inr (.inl (lA VL)))), (aw, .inl (dA 1, 1024, .inr (.inl (lA wf))))]) (w1 := []) hP hD [] [0, 1, 2, 3] rfl rfl (by decide) (by decide) hk1 hFc hP1 hD1
            generalize H1 = H at hP hS ⊢
            have hP : va_P (dC, dI) vwCl [(am, .inr (0, [.int (I3 0), .int (I3 mn), .ref as_, .ref av, .ref aw, .int (I3 sm), .int (I3 wd), .int (I3 lp), .int (I3 mp), .int (I3 re)])), (as_, .inl (dA 0, 60, .inl (iA SG))), (av, .inl (dA 1, 960, .inr (.inl (lA VL)))), (aw, .inl (dA 1, 1024, .inr (.inl (lA wf))))] H := hP
            have hD : va_D A [(am, .inr (0, [.int (I3 0), .int (I3 mn), .ref as_, .ref av, .ref aw, .int (I3 sm), .int (I3 wd), .int (I3 lp), .int (I3 mp), .int (I3 re)])), (as_, .inl (dA 0, 60, .inl (iA SG))), (av, .inl (dA 1, 960, .inr (.inl (lA VL)))), (aw, .inl (dA 1, 1024, .inr (.inl (lA wf))))] := hD
            have y_53 := b01 p0_53
            refine ix_if_ne (tgt := 67) hx hb (by first | assumption | decide | (constructor <;> omega)) dX8_machine_56 (by decide) (fun c_56 => ?_) (fun c_56 => ?_)
            · skip
              refine lv_ldc2 hx hb hown (hts _ q1167) dX8_machine_67 ?_
              refine ix_vl (x := (9221120237041090560)) (by decide) ?_
              have o_13 : Dg wf := by first | assumption | omega | (constructor <;> omega)
              have o_14 : ¬ (0 ≤ kind ∧ kind ≤ 10) → (0 : Int) = 1 ∧ (9221120237041090560 : Int) = 0 := by intro q; exfalso; omega
              have o_15 : 0 ≤ kind ∧ kind ≤ 10 → (0 : Int) = 0 ∧ maX kind v w (9221120237041090560 : Int) := by intro _; refine ⟨rfl, ?_⟩; exact ⟨fun q => by exfalso; omega, fun q q2 => by exfalso; omega, fun _ => by rw [if_pos (by omega)], fun q => by exfalso; omega⟩
              exact W.lret (v := L6 9221120237041090560) hx hb hr (fun t ht hW => ⟨⟨L6 9221120237041090560, (9221120237041090560, 0, wf, wd, lp, mp, re), rfl, ⟨rfl, ⟨o_13, o_14, o_15⟩⟩, by rw [ht]; exact hP, va_K.moved hW.alike hK, hD⟩, hS.F ht⟩) hS.2.2 dX8_machine_70
            · skip
              refine lv_lload hx hb dX8_machine_59 (lv_at hl 3 rfl) ?_
              have h_16 : In6 w := by first | assumption | omega | (constructor <;> omega)
              have hPc := hP.sub (ws' := []) [] rfl
              have hDc := hD.sub (ws' := []) [] (by decide) rfl
              have hFc := va_free (wc := []) hD hS hA [] rfl
              refine va_calli (va_runS (As := [.long (L6 w)]) (rest := []) ⟨hx, hb, hml, hown, hts⟩ (metX8_isNo l dC dI dA H.size w h_16) (va_cwS 1 hts (lw_S q1127 q1128 q66 q1129) rfl rfl rfl (by decide +kernel) ⟨Nat.le_of_ble_eq_true rfl, Nat.le_of_ble_eq_true rfl⟩) ⟨fun a U g mk q => by obtain ⟨q0, q1, qP, qK, qD⟩ := q; exact ⟨q0, q1, qP, va_K.moved (u := U) (U := U.calling g mk a) (Vm.Alike.refl U.vm) qK, qD⟩, fun U hU hW => ⟨rfl, by rw [hU], by rw [hU]; exact hPc, va_K.moved hW.alike hK, hDc.weaken (fun _ _ _ _ => trivial)⟩⟩ rfl rfl hl.1 rfl (lv_room (Nat.le_of_ble_eq_true rfl)) dX8_machine_61 ⟨Nat.le_of_ble_eq_true rfl, Nat.le_of_ble_eq_true rfl⟩) hS (fun q _ h => hFc q h) hFc (fun r_61 u t H1 locs ht hvm hw hB hz1 hk1 hS => ?_)
              obtain ⟨z_61, rfl⟩ : ∃ z, z = u := ⟨_, rfl⟩
              obtain ⟨rfl, p0_61⟩ : r_61 = I3 z_61 ∧ (z_61 = if eX w = 2047 ∧ pX w ≠ 0 then 1 else 0) := hw
              obtain ⟨hP1, hK1, hD1⟩ := hB
              rw [ht] at hP1
              obtain ⟨hP, hD⟩ := va_join (wr := [(am, .inr (0, [.int (I3 0), .int (I3 mn), .ref as_, .ref av, .ref aw, .int (I3 sm), .int (I3 wd), .int (I3 lp), .int (I3 mp), .int (I3 re)])), (as_, .inl (dA 0, 60, .inl (iA SG))), (av, .inl (dA 1, 960, .inr (.inl (lA VL)))), (aw, .inl (dA 1, 1024, .inr (.inl (lA wf))))]) (w1 := []) hP hD [] [0, 1, 2, 3] rfl rfl (by decide) (by decide) hk1 hFc hP1 hD1
              generalize H1 = H at hP hS ⊢
              have hP : va_P (dC, dI) vwCl [(am, .inr (0, [.int (I3 0), .int (I3 mn), .ref as_, .ref av, .ref aw, .int (I3 sm), .int (I3 wd), .int (I3 lp), .int (I3 mp), .int (I3 re)])), (as_, .inl (dA 0, 60, .inl (iA SG))), (av, .inl (dA 1, 960, .inr (.inl (lA VL)))), (aw, .inl (dA 1, 1024, .inr (.inl (lA wf))))] H := hP
              have hD : va_D A [(am, .inr (0, [.int (I3 0), .int (I3 mn), .ref as_, .ref av, .ref aw, .int (I3 sm), .int (I3 wd), .int (I3 lp), .int (I3 mp), .int (I3 re)])), (as_, .inl (dA 0, 60, .inl (iA SG))), (av, .inl (dA 1, 960, .inr (.inl (lA VL)))), (aw, .inl (dA 1, 1024, .inr (.inl (lA wf))))] := hD
              have y_61 := b01 p0_61
              refine ix_if_eq (tgt := 71) hx hb (by first | assumption | decide | (constructor <;> omega)) dX8_machine_64 (by decide) (fun c_64 => ?_) (fun c_64 => ?_)
              · skip
                refine lv_lload_n hx hb dX8_machine_71 rfl (lv_at hl 2 rfl) ?_
                have h_17 : In6 v := by first | assumption | omega | (constructor <;> omega)
                have hPc := hP.sub (ws' := []) [] rfl
                have hDc := hD.sub (ws' := []) [] (by decide) rfl
                have hFc := va_free (wc := []) hD hS hA [] rfl
                refine va_calll (va_runS (As := [.long (L6 v)]) (rest := []) ⟨hx, hb, hml, hown, hts⟩ (metX8_rank l dC dI dA H.size v h_17) (va_cwS 1 hts (lw_S q1181 q1182 q66 q1183) rfl rfl rfl (by decide +kernel) ⟨Nat.le_of_ble_eq_true rfl, Nat.le_of_ble_eq_true rfl⟩) ⟨fun a U g mk q => by obtain ⟨q0, q1, qP, qK, qD⟩ := q; exact ⟨q0, q1, qP, va_K.moved (u := U) (U := U.calling g mk a) (Vm.Alike.refl U.vm) qK, qD⟩, fun U hU hW => ⟨rfl, by rw [hU], by rw [hU]; exact hPc, va_K.moved hW.alike hK, hDc.weaken (fun _ _ _ _ => trivial)⟩⟩ rfl rfl hl.1 rfl (lv_room (Nat.le_of_ble_eq_true rfl)) dX8_machine_72 ⟨Nat.le_of_ble_eq_true rfl, Nat.le_of_ble_eq_true rfl⟩) hS (fun q _ h => hFc q h) hFc (fun r_72 u t H1 locs ht hvm hw hB hz1 hk1 hS => ?_)
                obtain ⟨z_72, rfl⟩ : ∃ z, z = u := ⟨_, rfl⟩
                obtain ⟨rfl, p0_72⟩ : r_72 = L6 z_72 ∧ (z_72 = rkX v) := hw
                obtain ⟨hP1, hK1, hD1⟩ := hB
                rw [ht] at hP1
                obtain ⟨hP, hD⟩ := va_join (wr := [(am, .inr (0, [.int (I3 0), .int (I3 mn), .ref as_, .ref av, .ref aw, .int (I3 sm), .int (I3 wd), .int (I3 lp), .int (I3 mp), .int (I3 re)])), (as_, .inl (dA 0, 60, .inl (iA SG))), (av, .inl (dA 1, 960, .inr (.inl (lA VL)))), (aw, .inl (dA 1, 1024, .inr (.inl (lA wf))))]) (w1 := []) hP hD [] [0, 1, 2, 3] rfl rfl (by decide) (by decide) hk1 hFc hP1 hD1
                generalize H1 = H at hP hS ⊢
                have hP : va_P (dC, dI) vwCl [(am, .inr (0, [.int (I3 0), .int (I3 mn), .ref as_, .ref av, .ref aw, .int (I3 sm), .int (I3 wd), .int (I3 lp), .int (I3 mp), .int (I3 re)])), (as_, .inl (dA 0, 60, .inl (iA SG))), (av, .inl (dA 1, 960, .inr (.inl (lA VL)))), (aw, .inl (dA 1, 1024, .inr (.inl (lA wf))))] H := hP
                have hD : va_D A [(am, .inr (0, [.int (I3 0), .int (I3 mn), .ref as_, .ref av, .ref aw, .int (I3 sm), .int (I3 wd), .int (I3 lp), .int (I3 mp), .int (I3 re)])), (as_, .inl (dA 0, 60, .inl (iA SG))), (av, .inl (dA 1, 960, .inr (.inl (lA VL)))), (aw, .inl (dA 1, 1024, .inr (.inl (lA wf))))] := hD
                have i_72 : In6 z_72 := by rw [p0_72]; exact rkX_r hv
                refine lv_lload hx hb dX8_machine_75 (lv_at hl 3 rfl) ?_
                have h_18 : In6 w := by first | assumption | omega | (constructor <;> omega)
                have hPc := hP.sub (ws' := []) [] rfl
                have hDc := hD.sub (ws' := []) [] (by decide) rfl
                have hFc := va_free (wc := []) hD hS hA [] rfl
                refine va_calll (va_runS (As := [.long (L6 w)]) (rest := [.long (L6 z_72)]) ⟨hx, hb, hml, hown, hts⟩ (metX8_rank l dC dI dA H.size w h_18) (va_cwS 1 hts (lw_S q1181 q1182 q66 q1183) rfl rfl rfl (by decide +kernel) ⟨Nat.le_of_ble_eq_true rfl, Nat.le_of_ble_eq_true rfl⟩) ⟨fun a U g mk q => by obtain ⟨q0, q1, qP, qK, qD⟩ := q; exact ⟨q0, q1, qP, va_K.moved (u := U) (U := U.calling g mk a) (Vm.Alike.refl U.vm) qK, qD⟩, fun U hU hW => ⟨rfl, by rw [hU], by rw [hU]; exact hPc, va_K.moved hW.alike hK, hDc.weaken (fun _ _ _ _ => trivial)⟩⟩ rfl rfl hl.1 rfl (lv_room (Nat.le_of_ble_eq_true rfl)) dX8_machine_77 ⟨Nat.le_of_ble_eq_true rfl, Nat.le_of_ble_eq_true rfl⟩) hS (fun q _ h => hFc q h) hFc (fun r_77 u t H1 locs ht hvm hw hB hz1 hk1 hS => ?_)
                obtain ⟨z_77, rfl⟩ : ∃ z, z = u := ⟨_, rfl⟩
                obtain ⟨rfl, p0_77⟩ : r_77 = L6 z_77 ∧ (z_77 = rkX w) := hw
                obtain ⟨hP1, hK1, hD1⟩ := hB
                rw [ht] at hP1
                obtain ⟨hP, hD⟩ := va_join (wr := [(am, .inr (0, [.int (I3 0), .int (I3 mn), .ref as_, .ref av, .ref aw, .int (I3 sm), .int (I3 wd), .int (I3 lp), .int (I3 mp), .int (I3 re)])), (as_, .inl (dA 0, 60, .inl (iA SG))), (av, .inl (dA 1, 960, .inr (.inl (lA VL)))), (aw, .inl (dA 1, 1024, .inr (.inl (lA wf))))]) (w1 := []) hP hD [] [0, 1, 2, 3] rfl rfl (by decide) (by decide) hk1 hFc hP1 hD1
                generalize H1 = H at hP hS ⊢
                have hP : va_P (dC, dI) vwCl [(am, .inr (0, [.int (I3 0), .int (I3 mn), .ref as_, .ref av, .ref aw, .int (I3 sm), .int (I3 wd), .int (I3 lp), .int (I3 mp), .int (I3 re)])), (as_, .inl (dA 0, 60, .inl (iA SG))), (av, .inl (dA 1, 960, .inr (.inl (lA VL)))), (aw, .inl (dA 1, 1024, .inr (.inl (lA wf))))] H := hP
                have hD : va_D A [(am, .inr (0, [.int (I3 0), .int (I3 mn), .ref as_, .ref av, .ref aw, .int (I3 sm), .int (I3 wd), .int (I3 lp), .int (I3 mp), .int (I3 re)])), (as_, .inl (dA 0, 60, .inl (iA SG))), (av, .inl (dA 1, 960, .inr (.inl (lA VL)))), (aw, .inl (dA 1, 1024, .inr (.inl (lA wf))))] := hD
                have i_77 : In6 z_77 := by rw [p0_77]; exact rkX_r hw
                refine ix_lcmp_le (tgt := 88) hx hb (by first | assumption | decide | (constructor <;> omega)) (by first | assumption | decide | (constructor <;> omega)) dX8_machine_80 dX8_machine_81 (by decide) (fun c_80 => ?_) (fun c_80 => ?_)
                · skip
                  refine lv_iconst (v := I3 (0)) hx hb dX8_machine_88 rfl ?_
                  refine lv_iload_n hx hb dX8_machine_89 rfl (lv_at hl 1 rfl) ?_
                  refine lv_iconst (v := I3 (4)) hx hb dX8_machine_90 rfl ?_
                  refine ix_icmp_ne (tgt := 98) hx hb (by first | assumption | decide | (constructor <;> omega)) (by first | assumption | decide | (constructor <;> omega)) dX8_machine_91 (by decide) (fun c_91 => ?_) (fun c_91 => ?_)
                  · skip
                    refine lv_iconst (v := I3 (0)) hx hb dX8_machine_98 rfl ?_
                    refine ix_icmp_ne (tgt := 106) hx hb (by first | assumption | decide | (constructor <;> omega)) (by first | assumption | decide | (constructor <;> omega)) dX8_machine_99 (by decide) (fun c_99 => ?_) (fun c_99 => ?_)
                    · skip
                      omega
                    · skip
                      refine lv_lload_n hx hb dX8_machine_102 rfl (lv_at hl 2 rfl) ?_
                      refine lv_goto (tgt := 108) hx hb dX8_machine_103 (by decide) ?_
                      have o_19 : Dg wf := by first | assumption | omega | (constructor <;> omega)
                      have o_20 : ¬ (0 ≤ kind ∧ kind ≤ 10) → (0 : Int) = 1 ∧ v = 0 := by intro q; exfalso; omega
                      have o_21 : 0 ≤ kind ∧ kind ≤ 10 → (0 : Int) = 0 ∧ maX kind v w v := by intro _; refine ⟨rfl, ?_⟩; exact ⟨fun q => by exfalso; omega, fun q q2 => by exfalso; omega, fun _ => by rw [if_neg (by omega)]; first | (rw [if_pos (by omega)]; done) | (rw [if_neg (by omega)]; done), fun q => by exfalso; omega⟩
                      exact W.lret (v := L6 v) hx hb hr (fun t ht hW => ⟨⟨L6 v, (v, 0, wf, wd, lp, mp, re), rfl, ⟨rfl, ⟨o_19, o_20, o_21⟩⟩, by rw [ht]; exact hP, va_K.moved hW.alike hK, hD⟩, hS.F ht⟩) hS.2.2 dX8_machine_108
                  · skip
                    refine lv_iconst (v := I3 (1)) hx hb dX8_machine_94 rfl ?_
                    refine lv_goto (tgt := 99) hx hb dX8_machine_95 (by decide) ?_
                    refine ix_icmp_ne (tgt := 106) hx hb (by first | assumption | decide | (constructor <;> omega)) (by first | assumption | decide | (constructor <;> omega)) dX8_machine_99 (by decide) (fun c_99 => ?_) (fun c_99 => ?_)
                    · skip
                      refine lv_lload hx hb dX8_machine_106 (lv_at hl 3 rfl) ?_
                      have o_22 : Dg wf := by first | assumption | omega | (constructor <;> omega)
                      have o_23 : ¬ (0 ≤ kind ∧ kind ≤ 10) → (0 : Int) = 1 ∧ w = 0 := by intro q; exfalso; omega
                      have o_24 : 0 ≤ kind ∧ kind ≤ 10 → (0 : Int) = 0 ∧ maX kind v w w := by intro _; refine ⟨rfl, ?_⟩; exact ⟨fun q => by exfalso; omega, fun q q2 => by exfalso; omega, fun _ => by rw [if_neg (by omega)]; first | (rw [if_pos (by omega)]; done) | (rw [if_neg (by omega)]; done), fun q => by exfalso; omega⟩
                      exact W.lret (v := L6 w) hx hb hr (fun t ht hW => ⟨⟨L6 w, (w, 0, wf, wd, lp, mp, re), rfl, ⟨rfl, ⟨o_22, o_23, o_24⟩⟩, by rw [ht]; exact hP, va_K.moved hW.alike hK, hD⟩, hS.F ht⟩) hS.2.2 dX8_machine_108
                    · skip
                      omega
                · skip
                  refine lv_iconst (v := I3 (1)) hx hb dX8_machine_84 rfl ?_
                  refine lv_goto (tgt := 89) hx hb dX8_machine_85 (by decide) ?_
                  refine lv_iload_n hx hb dX8_machine_89 rfl (lv_at hl 1 rfl) ?_
                  refine lv_iconst (v := I3 (4)) hx hb dX8_machine_90 rfl ?_
                  refine ix_icmp_ne (tgt := 98) hx hb (by first | assumption | decide | (constructor <;> omega)) (by first | assumption | decide | (constructor <;> omega)) dX8_machine_91 (by decide) (fun c_91 => ?_) (fun c_91 => ?_)
                  · skip
                    refine lv_iconst (v := I3 (0)) hx hb dX8_machine_98 rfl ?_
                    refine ix_icmp_ne (tgt := 106) hx hb (by first | assumption | decide | (constructor <;> omega)) (by first | assumption | decide | (constructor <;> omega)) dX8_machine_99 (by decide) (fun c_99 => ?_) (fun c_99 => ?_)
                    · skip
                      refine lv_lload hx hb dX8_machine_106 (lv_at hl 3 rfl) ?_
                      have o_25 : Dg wf := by first | assumption | omega | (constructor <;> omega)
                      have o_26 : ¬ (0 ≤ kind ∧ kind ≤ 10) → (0 : Int) = 1 ∧ w = 0 := by intro q; exfalso; omega
                      have o_27 : 0 ≤ kind ∧ kind ≤ 10 → (0 : Int) = 0 ∧ maX kind v w w := by intro _; refine ⟨rfl, ?_⟩; exact ⟨fun q => by exfalso; omega, fun q q2 => by exfalso; omega, fun _ => by rw [if_neg (by omega)]; first | (rw [if_pos (by omega)]; done) | (rw [if_neg (by omega)]; done), fun q => by exfalso; omega⟩
                      exact W.lret (v := L6 w) hx hb hr (fun t ht hW => ⟨⟨L6 w, (w, 0, wf, wd, lp, mp, re), rfl, ⟨rfl, ⟨o_25, o_26, o_27⟩⟩, by rw [ht]; exact hP, va_K.moved hW.alike hK, hD⟩, hS.F ht⟩) hS.2.2 dX8_machine_108
                    · skip
                      omega
                  · skip
                    refine lv_iconst (v := I3 (1)) hx hb dX8_machine_94 rfl ?_
                    refine lv_goto (tgt := 99) hx hb dX8_machine_95 (by decide) ?_
                    refine ix_icmp_ne (tgt := 106) hx hb (by first | assumption | decide | (constructor <;> omega)) (by first | assumption | decide | (constructor <;> omega)) dX8_machine_99 (by decide) (fun c_99 => ?_) (fun c_99 => ?_)
                    · skip
                      omega
                    · skip
                      refine lv_lload_n hx hb dX8_machine_102 rfl (lv_at hl 2 rfl) ?_
                      refine lv_goto (tgt := 108) hx hb dX8_machine_103 (by decide) ?_
                      have o_28 : Dg wf := by first | assumption | omega | (constructor <;> omega)
                      have o_29 : ¬ (0 ≤ kind ∧ kind ≤ 10) → (0 : Int) = 1 ∧ v = 0 := by intro q; exfalso; omega
                      have o_30 : 0 ≤ kind ∧ kind ≤ 10 → (0 : Int) = 0 ∧ maX kind v w v := by intro _; refine ⟨rfl, ?_⟩; exact ⟨fun q => by exfalso; omega, fun q q2 => by exfalso; omega, fun _ => by rw [if_neg (by omega)]; first | (rw [if_pos (by omega)]; done) | (rw [if_neg (by omega)]; done), fun q => by exfalso; omega⟩
                      exact W.lret (v := L6 v) hx hb hr (fun t ht hW => ⟨⟨L6 v, (v, 0, wf, wd, lp, mp, re), rfl, ⟨rfl, ⟨o_28, o_29, o_30⟩⟩, by rw [ht]; exact hP, va_K.moved hW.alike hK, hD⟩, hS.F ht⟩) hS.2.2 dX8_machine_108
              · skip
                refine lv_ldc2 hx hb hown (hts _ q1167) dX8_machine_67 ?_
                refine ix_vl (x := (9221120237041090560)) (by decide) ?_
                have o_31 : Dg wf := by first | assumption | omega | (constructor <;> omega)
                have o_32 : ¬ (0 ≤ kind ∧ kind ≤ 10) → (0 : Int) = 1 ∧ (9221120237041090560 : Int) = 0 := by intro q; exfalso; omega
                have o_33 : 0 ≤ kind ∧ kind ≤ 10 → (0 : Int) = 0 ∧ maX kind v w (9221120237041090560 : Int) := by intro _; refine ⟨rfl, ?_⟩; exact ⟨fun q => by exfalso; omega, fun q q2 => by exfalso; omega, fun _ => by rw [if_pos (by omega)], fun q => by exfalso; omega⟩
                exact W.lret (v := L6 9221120237041090560) hx hb hr (fun t ht hW => ⟨⟨L6 9221120237041090560, (9221120237041090560, 0, wf, wd, lp, mp, re), rfl, ⟨rfl, ⟨o_31, o_32, o_33⟩⟩, by rw [ht]; exact hP, va_K.moved hW.alike hK, hD⟩, hS.F ht⟩) hS.2.2 dX8_machine_70
        · skip
          refine lv_aload_n hx hb dX8_machine_39 rfl (lv_at hl 0 rfl) ?_
          refine lv_iload_n hx hb dX8_machine_40 rfl (lv_at hl 1 rfl) ?_
          refine lv_lload_n hx hb dX8_machine_41 rfl (lv_at hl 2 rfl) ?_
          have h_34 : Dg wf := by first | assumption | omega | (constructor <;> omega)
          have h_35 : In3 kind := by first | assumption | omega | (constructor <;> omega)
          have h_36 : In6 v := by first | assumption | omega | (constructor <;> omega)
          have hPc := hP.sub (ws' := [(am, .inr (0, [.int (I3 ((0 : Int))), .int (I3 mn), .ref as_, .ref av, .ref aw, .int (I3 sm), .int (I3 wd), .int (I3 lp), .int (I3 mp), .int (I3 re)])), (as_, .inl (dA 0, 60, .inl (iA SG))), (av, .inl (dA 1, 960, .inr (.inl (lA VL)))), (aw, .inl (dA 1, 1024, .inr (.inl (lA wf))))]) [0, 1, 2, 3] rfl
          have hDc := hD.sub (ws' := [(am, .inr (0, [.int (I3 ((0 : Int))), .int (I3 mn), .ref as_, .ref av, .ref aw, .int (I3 sm), .int (I3 wd), .int (I3 lp), .int (I3 mp), .int (I3 re)])), (as_, .inl (dA 0, 60, .inl (iA SG))), (av, .inl (dA 1, 960, .inr (.inl (lA VL)))), (aw, .inl (dA 1, 1024, .inr (.inl (lA wf))))]) [0, 1, 2, 3] (by decide) rfl
          have hFc := va_free (wc := [(am, .inr (0, [.int (I3 ((0 : Int))), .int (I3 mn), .ref as_, .ref av, .ref aw, .int (I3 sm), .int (I3 wd), .int (I3 lp), .int (I3 mp), .int (I3 re)])), (as_, .inl (dA 0, 60, .inl (iA SG))), (av, .inl (dA 1, 960, .inr (.inl (lA VL)))), (aw, .inl (dA 1, 1024, .inr (.inl (lA wf))))]) hD hS hA [0, 1, 2, 3] rfl
          refine va_calll (va_runV (As := [.int (I3 kind), .long (L6 v)]) (rest := []) ⟨hx, hb, hml, hown, hts⟩ (metX8_rounded l dC dI dA am as_ av aw H.size 0 mn sm wd lp mp re SG VL wf kind v h_34 h_35 h_36) (cwV 2 hts (lw_V q1173 q1175 qs52 q66 q1176) rfl rfl rfl (by decide +kernel) ⟨Nat.le_of_ble_eq_true rfl, Nat.le_of_ble_eq_true rfl⟩) ⟨fun a U g mk q => by obtain ⟨q0, q1, qP, qK, qD⟩ := q; exact ⟨q0, q1, qP, va_K.moved (u := U) (U := U.calling g mk a) (Vm.Alike.refl U.vm) qK, qD⟩, va_recv hK hPc (ci := 0) (q0 := 0) rfl rfl, fun U hU hW => ⟨rfl, by rw [hU], by rw [hU]; exact hPc, va_K.moved hW.alike hK, hDc.weaken (fun _ _ _ _ => trivial)⟩⟩ rfl rfl hl.1 rfl (lv_room (Nat.le_of_ble_eq_true rfl)) dX8_machine_42 ⟨Nat.le_of_ble_eq_true rfl, Nat.le_of_ble_eq_true rfl⟩) hS (fun q _ h => hFc q h) hFc (fun r_42 u t H1 locs ht hvm hw hB hz1 hk1 hS => ?_)
          obtain ⟨z_42, W1_42, wd1_42, lp1_42, mp1_42, re1_42⟩ := u
          obtain ⟨rfl, p0_42, p1_42⟩ : r_42 = L6 z_42 ∧ (Dg W1_42) ∧ (rdX kind v z_42) := hw
          obtain ⟨hP1, hK1, hD1⟩ := hB
          rw [ht] at hP1
          obtain ⟨hP, hD⟩ := va_join (wr := []) (w1 := [(am, .inr (0, [.int (I3 ((0 : Int))), .int (I3 mn), .ref as_, .ref av, .ref aw, .int (I3 sm), .int (I3 wd1_42), .int (I3 lp1_42), .int (I3 mp1_42), .int (I3 re1_42)])), (as_, .inl (dA 0, 60, .inl (iA SG))), (av, .inl (dA 1, 960, .inr (.inl (lA VL)))), (aw, .inl (dA 1, 1024, .inr (.inl (lA W1_42))))]) hP hD [0, 1, 2, 3] [] rfl rfl (by decide) (by decide) hk1 hFc hP1 hD1
          generalize H1 = H at hP hS ⊢
          have hP : va_P (dC, dI) vwCl [(am, .inr (0, [.int (I3 ((0 : Int))), .int (I3 mn), .ref as_, .ref av, .ref aw, .int (I3 sm), .int (I3 wd1_42), .int (I3 lp1_42), .int (I3 mp1_42), .int (I3 re1_42)])), (as_, .inl (dA 0, 60, .inl (iA SG))), (av, .inl (dA 1, 960, .inr (.inl (lA VL)))), (aw, .inl (dA 1, 1024, .inr (.inl (lA W1_42))))] H := hP
          have hD : va_D A [(am, .inr (0, [.int (I3 ((0 : Int))), .int (I3 mn), .ref as_, .ref av, .ref aw, .int (I3 sm), .int (I3 wd1_42), .int (I3 lp1_42), .int (I3 mp1_42), .int (I3 re1_42)])), (as_, .inl (dA 0, 60, .inl (iA SG))), (av, .inl (dA 1, 960, .inr (.inl (lA VL)))), (aw, .inl (dA 1, 1024, .inr (.inl (lA W1_42))))] := hD
          have o_37 : Dg W1_42 := by first | assumption | omega | (constructor <;> omega)
          have o_38 : ¬ (0 ≤ kind ∧ kind ≤ 10) → ((0 : Int)) = 1 ∧ z_42 = 0 := by intro q; exfalso; omega
          have o_39 : 0 ≤ kind ∧ kind ≤ 10 → ((0 : Int)) = 0 ∧ maX kind v w z_42 := by intro _; refine ⟨rfl, ?_⟩; exact ⟨fun q => by exfalso; omega, fun _ _ => p1_42, fun q => by exfalso; omega, fun q => by exfalso; omega⟩
          exact W.lret (v := L6 z_42) hx hb hr (fun t ht hW => ⟨⟨L6 z_42, (z_42, ((0 : Int)), W1_42, wd1_42, lp1_42, mp1_42, re1_42), rfl, ⟨rfl, ⟨o_37, o_38, o_39⟩⟩, by rw [ht]; exact hP, va_K.moved hW.alike hK, hD⟩, hS.F ht⟩) hS.2.2 dX8_machine_45
      · skip
        refine lv_aload_n hx hb dX8_machine_26 rfl (lv_at hl 0 rfl) ?_
        refine lv_lload_n hx hb dX8_machine_27 rfl (lv_at hl 2 rfl) ?_
        refine lv_lload hx hb dX8_machine_28 (lv_at hl 3 rfl) ?_
        have h_40 : Dg wf := by first | assumption | omega | (constructor <;> omega)
        have h_41 : In6 v := by first | assumption | omega | (constructor <;> omega)
        have h_42 : In6 w := by first | assumption | omega | (constructor <;> omega)
        have hPc := hP.sub (ws' := [(am, .inr (0, [.int (I3 ((0 : Int))), .int (I3 mn), .ref as_, .ref av, .ref aw, .int (I3 sm), .int (I3 wd), .int (I3 lp), .int (I3 mp), .int (I3 re)])), (as_, .inl (dA 0, 60, .inl (iA SG))), (av, .inl (dA 1, 960, .inr (.inl (lA VL)))), (aw, .inl (dA 1, 1024, .inr (.inl (lA wf))))]) [0, 1, 2, 3] rfl
        have hDc := hD.sub (ws' := [(am, .inr (0, [.int (I3 ((0 : Int))), .int (I3 mn), .ref as_, .ref av, .ref aw, .int (I3 sm), .int (I3 wd), .int (I3 lp), .int (I3 mp), .int (I3 re)])), (as_, .inl (dA 0, 60, .inl (iA SG))), (av, .inl (dA 1, 960, .inr (.inl (lA VL)))), (aw, .inl (dA 1, 1024, .inr (.inl (lA wf))))]) [0, 1, 2, 3] (by decide) rfl
        have hFc := va_free (wc := [(am, .inr (0, [.int (I3 ((0 : Int))), .int (I3 mn), .ref as_, .ref av, .ref aw, .int (I3 sm), .int (I3 wd), .int (I3 lp), .int (I3 mp), .int (I3 re)])), (as_, .inl (dA 0, 60, .inl (iA SG))), (av, .inl (dA 1, 960, .inr (.inl (lA VL)))), (aw, .inl (dA 1, 1024, .inr (.inl (lA wf))))]) hD hS hA [0, 1, 2, 3] rfl
        refine va_calll (va_runV (As := [.long (L6 v), .long (L6 w)]) (rest := []) ⟨hx, hb, hml, hown, hts⟩ (metX8_remainder l dC dI dA am as_ av aw H.size 0 mn sm wd lp mp re SG VL wf v w h_40 h_41 h_42) (cwV 2 hts (lw_V q1163 q1165 qs50 q66 q1166) rfl rfl rfl (by decide +kernel) ⟨Nat.le_of_ble_eq_true rfl, Nat.le_of_ble_eq_true rfl⟩) ⟨fun a U g mk q => by obtain ⟨q0, q1, qP, qK, qD⟩ := q; exact ⟨q0, q1, qP, va_K.moved (u := U) (U := U.calling g mk a) (Vm.Alike.refl U.vm) qK, qD⟩, va_recv hK hPc (ci := 0) (q0 := 0) rfl rfl, fun U hU hW => ⟨rfl, by rw [hU], by rw [hU]; exact hPc, va_K.moved hW.alike hK, hDc.weaken (fun _ _ _ _ => trivial)⟩⟩ rfl rfl hl.1 rfl (lv_room (Nat.le_of_ble_eq_true rfl)) dX8_machine_30 ⟨Nat.le_of_ble_eq_true rfl, Nat.le_of_ble_eq_true rfl⟩) hS (fun q _ h => hFc q h) hFc (fun r_30 u t H1 locs ht hvm hw hB hz1 hk1 hS => ?_)
        obtain ⟨z_30, W1_30, wd1_30, lp1_30, mp1_30⟩ := u
        obtain ⟨rfl, p0_30, p1_30⟩ : r_30 = L6 z_30 ∧ (Dg W1_30) ∧ (rmX v w z_30) := hw
        obtain ⟨hP1, hK1, hD1⟩ := hB
        rw [ht] at hP1
        obtain ⟨hP, hD⟩ := va_join (wr := []) (w1 := [(am, .inr (0, [.int (I3 ((0 : Int))), .int (I3 mn), .ref as_, .ref av, .ref aw, .int (I3 sm), .int (I3 wd1_30), .int (I3 lp1_30), .int (I3 mp1_30), .int (I3 re)])), (as_, .inl (dA 0, 60, .inl (iA SG))), (av, .inl (dA 1, 960, .inr (.inl (lA VL)))), (aw, .inl (dA 1, 1024, .inr (.inl (lA W1_30))))]) hP hD [0, 1, 2, 3] [] rfl rfl (by decide) (by decide) hk1 hFc hP1 hD1
        generalize H1 = H at hP hS ⊢
        have hP : va_P (dC, dI) vwCl [(am, .inr (0, [.int (I3 ((0 : Int))), .int (I3 mn), .ref as_, .ref av, .ref aw, .int (I3 sm), .int (I3 wd1_30), .int (I3 lp1_30), .int (I3 mp1_30), .int (I3 re)])), (as_, .inl (dA 0, 60, .inl (iA SG))), (av, .inl (dA 1, 960, .inr (.inl (lA VL)))), (aw, .inl (dA 1, 1024, .inr (.inl (lA W1_30))))] H := hP
        have hD : va_D A [(am, .inr (0, [.int (I3 ((0 : Int))), .int (I3 mn), .ref as_, .ref av, .ref aw, .int (I3 sm), .int (I3 wd1_30), .int (I3 lp1_30), .int (I3 mp1_30), .int (I3 re)])), (as_, .inl (dA 0, 60, .inl (iA SG))), (av, .inl (dA 1, 960, .inr (.inl (lA VL)))), (aw, .inl (dA 1, 1024, .inr (.inl (lA W1_30))))] := hD
        have o_43 : Dg W1_30 := by first | assumption | omega | (constructor <;> omega)
        have o_44 : ¬ (0 ≤ kind ∧ kind ≤ 10) → ((0 : Int)) = 1 ∧ z_30 = 0 := by intro q; exfalso; omega
        have o_45 : 0 ≤ kind ∧ kind ≤ 10 → ((0 : Int)) = 0 ∧ maX kind v w z_30 := by intro _; refine ⟨rfl, ?_⟩; exact ⟨fun _ => p1_30, fun q q2 => by exfalso; omega, fun q => by exfalso; omega, fun q => by exfalso; omega⟩
        exact W.lret (v := L6 z_30) hx hb hr (fun t ht hW => ⟨⟨L6 z_30, (z_30, ((0 : Int)), W1_30, wd1_30, lp1_30, mp1_30, re), rfl, ⟨rfl, ⟨o_43, o_44, o_45⟩⟩, by rw [ht]; exact hP, va_K.moved hW.alike hK, hD⟩, hS.F ht⟩) hS.2.2 dX8_machine_33
    · skip
      refine lv_aload_n hx hb dX8_machine_10 rfl (lv_at hl 0 rfl) ?_
      refine lv_iconst (v := I3 (1)) hx hb dX8_machine_11 rfl ?_
      have h_46 : In3 (1 : Int) := by first | assumption | omega | (constructor <;> omega)
      have hPc := hP.sub (ws' := [(am, .inr (0, [.int (I3 th), .int (I3 mn), .ref as_, .ref av, .ref aw, .int (I3 sm), .int (I3 wd), .int (I3 lp), .int (I3 mp), .int (I3 re)])), (as_, .inl (dA 0, 60, .inl (iA SG))), (av, .inl (dA 1, 960, .inr (.inl (lA VL)))), (aw, .inl (dA 1, 1024, .inr (.inl (lA wf))))]) [0, 1, 2, 3] rfl
      have hDc := hD.sub (ws' := [(am, .inr (0, [.int (I3 th), .int (I3 mn), .ref as_, .ref av, .ref aw, .int (I3 sm), .int (I3 wd), .int (I3 lp), .int (I3 mp), .int (I3 re)])), (as_, .inl (dA 0, 60, .inl (iA SG))), (av, .inl (dA 1, 960, .inr (.inl (lA VL)))), (aw, .inl (dA 1, 1024, .inr (.inl (lA wf))))]) [0, 1, 2, 3] (by decide) rfl
      have hFc := va_free (wc := [(am, .inr (0, [.int (I3 th), .int (I3 mn), .ref as_, .ref av, .ref aw, .int (I3 sm), .int (I3 wd), .int (I3 lp), .int (I3 mp), .int (I3 re)])), (as_, .inl (dA 0, 60, .inl (iA SG))), (av, .inl (dA 1, 960, .inr (.inl (lA VL)))), (aw, .inl (dA 1, 1024, .inr (.inl (lA wf))))]) hD hS hA [0, 1, 2, 3] rfl
      refine va_calli (va_runV (As := [.int (I3 1)]) (rest := []) ⟨hx, hb, hml, hown, hts⟩ (metX8_fails l dC dI dA am as_ av aw s.heap.size th mn sm wd lp mp re SG VL wf 1 h_46) (cwV 1 hts (lw_V q1016 q1018 qs34 q66 q1019) rfl rfl rfl (by decide +kernel) ⟨Nat.le_of_ble_eq_true rfl, Nat.le_of_ble_eq_true rfl⟩) ⟨fun a U g mk q => by obtain ⟨q0, q1, qP, qK, qD⟩ := q; exact ⟨q0, q1, qP, va_K.moved (u := U) (U := U.calling g mk a) (Vm.Alike.refl U.vm) qK, qD⟩, va_recv hK hPc (ci := 0) (q0 := 0) rfl rfl, fun U hU hW => ⟨rfl, by rw [hU], by rw [hU]; exact hPc, va_K.moved hW.alike hK, hDc.weaken (fun _ _ _ _ => trivial)⟩⟩ rfl rfl hl.1 rfl (lv_room (Nat.le_of_ble_eq_true rfl)) dX8_machine_12 ⟨Nat.le_of_ble_eq_true rfl, Nat.le_of_ble_eq_true rfl⟩) hS (fun q _ h => hFc q h) hFc (fun r_12 u t H1 locs ht hvm hw hB hz1 hk1 hS => ?_)
      obtain ⟨z_12, th1_12⟩ := u
      obtain ⟨rfl, p0_12, p1_12⟩ : r_12 = I3 z_12 ∧ (z_12 = 0) ∧ (th1_12 = (1 : Int)) := hw
      obtain ⟨hP1, hK1, hD1⟩ := hB
      rw [ht] at hP1
      obtain ⟨hP, hD⟩ := va_join (wr := []) (w1 := [(am, .inr (0, [.int (I3 th1_12), .int (I3 mn), .ref as_, .ref av, .ref aw, .int (I3 sm), .int (I3 wd), .int (I3 lp), .int (I3 mp), .int (I3 re)])), (as_, .inl (dA 0, 60, .inl (iA SG))), (av, .inl (dA 1, 960, .inr (.inl (lA VL)))), (aw, .inl (dA 1, 1024, .inr (.inl (lA wf))))]) hP hD [0, 1, 2, 3] [] rfl rfl (by decide) (by decide) hk1 hFc hP1 hD1
      generalize H1 = H at hP hS ⊢
      have hP : va_P (dC, dI) vwCl [(am, .inr (0, [.int (I3 th1_12), .int (I3 mn), .ref as_, .ref av, .ref aw, .int (I3 sm), .int (I3 wd), .int (I3 lp), .int (I3 mp), .int (I3 re)])), (as_, .inl (dA 0, 60, .inl (iA SG))), (av, .inl (dA 1, 960, .inr (.inl (lA VL)))), (aw, .inl (dA 1, 1024, .inr (.inl (lA wf))))] H := hP
      have hD : va_D A [(am, .inr (0, [.int (I3 th1_12), .int (I3 mn), .ref as_, .ref av, .ref aw, .int (I3 sm), .int (I3 wd), .int (I3 lp), .int (I3 mp), .int (I3 re)])), (as_, .inl (dA 0, 60, .inl (iA SG))), (av, .inl (dA 1, 960, .inr (.inl (lA VL)))), (aw, .inl (dA 1, 1024, .inr (.inl (lA wf))))] := hD
      refine ix_i2l hx hb (by rw [p0_12]; decide) dX8_machine_15 ?_
      have o_47 : Dg wf := by first | assumption | omega | (constructor <;> omega)
      have o_48 : ¬ (0 ≤ kind ∧ kind ≤ 10) → th1_12 = 1 ∧ z_12 = 0 := by intro _; exact ⟨p1_12, p0_12⟩
      have o_49 : 0 ≤ kind ∧ kind ≤ 10 → th1_12 = 0 ∧ maX kind v w z_12 := by intro q; exfalso; omega
      exact W.lret (v := L6 z_12) hx hb hr (fun t ht hW => ⟨⟨L6 z_12, (z_12, th1_12, wf, wd, lp, mp, re), rfl, ⟨rfl, ⟨o_47, o_48, o_49⟩⟩, by rw [ht]; exact hP, va_K.moved hW.alike hK, hD⟩, hS.F ht⟩) hS.2.2 dX8_machine_16
