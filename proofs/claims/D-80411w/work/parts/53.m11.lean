/-! the model: sums and powers -/
set_option maxRecDepth 100000
abbrev BmetX8_sum (dC : Nat → ClassId) (dI : Nat → Nat → Nat) (dA : Nat → ClassId) (A : Nat → Prop) (am : Nat) (as_ : Nat) (av : Nat) (aw : Nat) (th : Int) (mn : Int) (sm : Int) (wd : Int) (lp : Int) (mp : Int) (re : Int) (SG : Int → Int) (VL : Int → Int) (wf : Int → Int) (x : Int) (y : Int) : Int × Int × Int × (Int → Int) × (Int → Int) × (Int → Int) → State → Prop := fun u t => (fun (u : Int × Int × Int × (Int → Int) × (Int → Int) × (Int → Int)) => (fun (z : Int) (th1 : Int) (mn1 : Int) (SG1 : Int → Int) (VL1 : Int → Int) (W1 : Int → Int) => va_P (dC, dI) vwCl [(am, .inr (0, [.int (I3 th1), .int (I3 mn1), .ref as_, .ref av, .ref aw, .int (I3 sm), .int (I3 wd), .int (I3 lp), .int (I3 mp), .int (I3 re)])), (as_, .inl (dA 0, 60, .inl (iA SG1))), (av, .inl (dA 1, 960, .inr (.inl (lA VL1)))), (aw, .inl (dA 1, 1024, .inr (.inl (lA W1))))] t.heap ∧ va_K (dC, dI) vwCl (tyA dA) t ∧ va_D A [(am, .inr (0, [.int (I3 th1), .int (I3 mn1), .ref as_, .ref av, .ref aw, .int (I3 sm), .int (I3 wd), .int (I3 lp), .int (I3 mp), .int (I3 re)])), (as_, .inl (dA 0, 60, .inl (iA SG1))), (av, .inl (dA 1, 960, .inr (.inl (lA VL1)))), (aw, .inl (dA 1, 1024, .inr (.inl (lA W1))))]) u.1 u.2.1 u.2.2.1 u.2.2.2.1 u.2.2.2.2.1 u.2.2.2.2.2) u
abbrev QmetX8_sum (dC : Nat → ClassId) (dI : Nat → Nat → Nat) (dA : Nat → ClassId) (A : Nat → Prop) (am : Nat) (as_ : Nat) (av : Nat) (aw : Nat) (th : Int) (mn : Int) (sm : Int) (wd : Int) (lp : Int) (mp : Int) (re : Int) (SG : Int → Int) (VL : Int → Int) (wf : Int → Int) (x : Int) (y : Int) := va_Qi (fun (rt_ : Int32) => fun (u : Int × Int × Int × (Int → Int) × (Int → Int) × (Int → Int)) => (fun (z : Int) (th1 : Int) (mn1 : Int) (SG1 : Int → Int) (VL1 : Int → Int) (W1 : Int → Int) => rt_ = I3 z ∧ (Dg W1) ∧ (MI mn1 SG1 VL1) ∧ (Mde mn SG VL ((sumG x y (rv wf 4) (rv wf 5))) ((sumP x y (rv wf 4) (rv wf 5))) ((rv wf 1)) 4 z th1 mn1 SG1 VL1)) u.1 u.2.1 u.2.2.1 u.2.2.2.1 u.2.2.2.2.1 u.2.2.2.2.2) (BmetX8_sum dC dI dA A am as_ av aw th mn sm wd lp mp re SG VL wf x y) A
set_option maxHeartbeats 1000000 in
set_option maxRecDepth 100000 in
/-- rows 4 and 5 with their signs -/
theorem metX8_sum (l : Launch) (dC : Nat → ClassId) (dI : Nat → Nat → Nat) (dA : Nat → ClassId) (am : Nat) (as_ : Nat) (av : Nat) (aw : Nat) (sz : Nat) (th : Int) (mn : Int) (sm : Int) (wd : Int) (lp : Int) (mp : Int) (re : Int) (SG : Int → Int) (VL : Int → Int) (wf : Int → Int) (x : Int) (y : Int) (hW : Dg wf) (hI : MI mn SG VL) (hx3 : x = -1 ∨ x = 0 ∨ x = 1) (hy3 : y = -1 ∨ y = 0 ∨ y = 1) (hxA : x = 0 → rv wf 4 = 0) (hyB : y = 0 → rv wf 5 = 0) (hA2 : 4 * rv wf 4 ≤ BN) (hB2 : 4 * rv wf 5 ≤ BN) (hQ : rv wf 1 ≠ 0) (hQ2 : 2 * rv wf 1 ≤ BN) : Met l yX8_sum (ws_ yX8_sum cX8_sum 4 (some .int)) ({ frames := 4, cells := 0, slots := 0, locals := 160 }) (va_Pc [.ref am, .int (I3 x), .int (I3 y)] (fun U => U.heap.size = sz ∧ va_P (dC, dI) vwCl [(am, .inr (0, [.int (I3 th), .int (I3 mn), .ref as_, .ref av, .ref aw, .int (I3 sm), .int (I3 wd), .int (I3 lp), .int (I3 mp), .int (I3 re)])), (as_, .inl (dA 0, 60, .inl (iA SG))), (av, .inl (dA 1, 960, .inr (.inl (lA VL)))), (aw, .inl (dA 1, 1024, .inr (.inl (lA wf))))] U.heap ∧ va_K (dC, dI) vwCl (tyA dA) U ∧ va_D (fun _ => True) [(am, .inr (0, [.int (I3 th), .int (I3 mn), .ref as_, .ref av, .ref aw, .int (I3 sm), .int (I3 wd), .int (I3 lp), .int (I3 mp), .int (I3 re)])), (as_, .inl (dA 0, 60, .inl (iA SG))), (av, .inl (dA 1, 960, .inr (.inl (lA VL)))), (aw, .inl (dA 1, 1024, .inr (.inl (lA wf))))])) (QmetX8_sum dC dI dA (va_A [(am, .inr (0, [.int (I3 th), .int (I3 mn), .ref as_, .ref av, .ref aw, .int (I3 sm), .int (I3 wd), .int (I3 lp), .int (I3 mp), .int (I3 re)])), (as_, .inl (dA 0, 60, .inl (iA SG))), (av, .inl (dA 1, 960, .inr (.inl (lA VL)))), (aw, .inl (dA 1, 1024, .inr (.inl (lA wf))))] sz) am as_ av aw th mn sm wd lp mp re SG VL wf x y) 0 0 (va_A [(am, .inr (0, [.int (I3 th), .int (I3 mn), .ref as_, .ref av, .ref aw, .int (I3 sm), .int (I3 wd), .int (I3 lp), .int (I3 mp), .int (I3 re)])), (as_, .inl (dA 0, 60, .inl (iA SG))), (av, .inl (dA 1, 960, .inr (.inl (lA VL)))), (aw, .inl (dA 1, 1024, .inr (.inl (lA wf))))] sz) := by
  refine Met.ofW (cc := cX8_sum) (maxL := 4) (ret := (some .int)) (by decide) rfl ?_
  intro p e s m args below meth c s₁ B hml hv
  obtain ⟨rfl, hsz, hP, hK, hD0⟩ := hv
  have hx := B.exec
  have hb := B.bytes
  have hr := B.returns
  have hts := atoms_spec (ws := (ws_ yX8_sum cX8_sum 4 (some .int))) B.pre
  have hts : ∀ w ∈ lw_all, w.before _ s = true := fun w h => hts w (List.mem_cons_of_mem _ h)
  have hown : s.vm.findClass RX8 = some m.cls := findClass_of_methodNamed B.named
  have hlocks := B.notSynchronized
  subst hsz
  have hD := hD0.self (sz := s.heap.size)
  generalize hAe : va_A [(am, .inr (0, [.int (I3 th), .int (I3 mn), .ref as_, .ref av, .ref aw, .int (I3 sm), .int (I3 wd), .int (I3 lp), .int (I3 mp), .int (I3 re)])), (as_, .inl (dA 0, 60, .inl (iA SG))), (av, .inl (dA 1, 960, .inr (.inl (lA VL)))), (aw, .inl (dA 1, 1024, .inr (.inl (lA wf))))] s.heap.size = A at hD ⊢
  have hA : ∀ q : Nat, s.heap.size ≤ q → A q := fun q h => by rw [← hAe]; exact Or.inr h
  have hS : va_S A s.heap s.heap [] := va_S.rf
  have hP : va_P (dC, dI) vwCl [(am, .inr (0, [.int (I3 th), .int (I3 mn), .ref as_, .ref av, .ref aw, .int (I3 sm), .int (I3 wd), .int (I3 lp), .int (I3 mp), .int (I3 re)])), (as_, .inl (dA 0, 60, .inl (iA SG))), (av, .inl (dA 1, 960, .inr (.inl (lA VL)))), (aw, .inl (dA 1, 1024, .inr (.inl (lA wf))))] s.heap := hP
  have hl := lv_entry ([.ref am, .int (I3 x), .int (I3 y)]) (n := 4) (Nat.le_of_ble_eq_true rfl)
  rw [lg_entry_eq]
  generalize (lg_sl ([.ref am, .int (I3 x), .int (I3 y)]) ++ List.replicate (4 - (lg_sl ([.ref am, .int (I3 x), .int (I3 y)])).length) Slot.unset).toArray = ls at hl ⊢
  have hl : lv_has ls 4 [(0, .ref am), (1, .int (I3 x)), (2, .int (I3 y))] := hl
  have cut_13 : (x = 0 ∨ y = 0 ∨ x = y) → ∀ (H : Heap) (locs : List Loc), va_P (dC, dI) vwCl [(am, .inr (0, [.int (I3 th), .int (I3 mn), .ref as_, .ref av, .ref aw, .int (I3 sm), .int (I3 wd), .int (I3 lp), .int (I3 mp), .int (I3 re)])), (as_, .inl (dA 0, 60, .inl (iA SG))), (av, .inl (dA 1, 960, .inr (.inl (lA VL)))), (aw, .inl (dA 1, 1024, .inr (.inl (lA wf))))] H → va_D A [(am, .inr (0, [.int (I3 th), .int (I3 mn), .ref as_, .ref av, .ref aw, .int (I3 sm), .int (I3 wd), .int (I3 lp), .int (I3 mp), .int (I3 re)])), (as_, .inl (dA 0, 60, .inl (iA SG))), (av, .inl (dA 1, 960, .inr (.inl (lA VL)))), (aw, .inl (dA 1, 1024, .inr (.inl (lA wf))))] → va_S A s.heap H locs → ∀ (ls : Array Slot), lv_has ls 4 [(0, .ref am), (1, .int (I3 x)), (2, .int (I3 y))] → W p l e (headSpec (ws_ yX8_sum cX8_sum 4 (some .int)) ({ frames := 4, cells := 0, slots := 0, locals := 160 })).room s m ([.ref am, .int (I3 x), .int (I3 y)] : List Value).toArray below meth c H locs 0 0 (MQ below (QmetX8_sum dC dI dA A am as_ av aw th mn sm wd lp mp re SG VL wf x y) ([.ref am, .int (I3 x), .int (I3 y)] : List Value).toArray s 0 0 A) (F0 m 13 ls []) := by
    intro  hc H locs hP hD hS ls hl
    obtain ⟨hmn, hV, hAll⟩ := id hI
    have hs3 := sumG3 (A := rv wf 4) (B := rv wf 5) hx3 hy3 hxA hyB
    have es1 : sumG x y (rv wf 4) (rv wf 5) = if x = 0 then y else x := by unfold sumG; rw [if_pos hc]
    have es2 : sumP x y (rv wf 4) (rv wf 5) = rv wf 4 + rv wf 5 := by unfold sumP; rw [if_pos hc]
    refine lv_aload_n hx hb dX8_sum_13 rfl (lv_at hl 0 rfl) ?_
    refine lv_iconst (v := I3 (4)) hx hb dX8_sum_14 rfl ?_
    refine lv_iconst (v := I3 (0)) hx hb dX8_sum_15 rfl ?_
    have h_1 : 0 ≤ (4 : Int) ∧ (4 : Int) < 16 := by first | assumption | omega | (constructor <;> omega)
    have h_2 : 0 ≤ (0 : Int) ∧ (0 : Int) < 16 := by first | assumption | omega | (constructor <;> omega)
    have h_3 : (4 : Int) ≠ (0 : Int) := by first | assumption | omega | (constructor <;> omega)
    have h_4 : Dg wf := by first | assumption | omega | (constructor <;> omega)
    have hPc := hP.sub (ws' := [(am, .inr (0, [.int (I3 th), .int (I3 mn), .ref as_, .ref av, .ref aw, .int (I3 sm), .int (I3 wd), .int (I3 lp), .int (I3 mp), .int (I3 re)])), (as_, .inl (dA 0, 60, .inl (iA SG))), (av, .inl (dA 1, 960, .inr (.inl (lA VL)))), (aw, .inl (dA 1, 1024, .inr (.inl (lA wf))))]) [0, 1, 2, 3] rfl
    have hDc := hD.sub (ws' := [(am, .inr (0, [.int (I3 th), .int (I3 mn), .ref as_, .ref av, .ref aw, .int (I3 sm), .int (I3 wd), .int (I3 lp), .int (I3 mp), .int (I3 re)])), (as_, .inl (dA 0, 60, .inl (iA SG))), (av, .inl (dA 1, 960, .inr (.inl (lA VL)))), (aw, .inl (dA 1, 1024, .inr (.inl (lA wf))))]) [0, 1, 2, 3] (by decide) rfl
    have hFc := va_free (wc := [(am, .inr (0, [.int (I3 th), .int (I3 mn), .ref as_, .ref av, .ref aw, .int (I3 sm), .int (I3 wd), .int (I3 lp), .int (I3 mp), .int (I3 re)])), (as_, .inl (dA 0, 60, .inl (iA SG))), (av, .inl (dA 1, 960, .inr (.inl (lA VL)))), (aw, .inl (dA 1, 1024, .inr (.inl (lA wf))))]) hD hS hA [0, 1, 2, 3] rfl
    refine va_callv (va_runV (As := [.int (I3 4), .int (I3 0)]) (rest := []) ⟨hx, hb, hml, hown, hts⟩ (metX8_copy l dC dI dA am as_ av aw H.size th mn sm wd lp mp re SG VL wf 4 0 h_1 h_2 h_3 h_4) (cwV 2 hts (lw_V q976 q978 qs24 q66 q979) rfl rfl rfl (by decide +kernel) ⟨Nat.le_of_ble_eq_true rfl, Nat.le_of_ble_eq_true rfl⟩) ⟨fun a U g mk q => by obtain ⟨q0, q1, qP, qK, qD⟩ := q; exact ⟨q0, q1, qP, va_K.moved (u := U) (U := U.calling g mk a) (Vm.Alike.refl U.vm) qK, qD⟩, va_recv hK hPc (ci := 0) (q0 := 0) rfl rfl, fun U hU hW => ⟨rfl, by rw [hU], by rw [hU]; exact hPc, va_K.moved hW.alike hK, hDc.weaken (fun _ _ _ _ => trivial)⟩⟩ rfl rfl hl.1 rfl (lv_room (Nat.le_of_ble_eq_true rfl)) dX8_sum_16 ⟨Nat.le_of_ble_eq_true rfl, Nat.le_of_ble_eq_true rfl⟩) hS (fun q _ h => hFc q h) hFc (fun u t H1 locs ht hvm hw hB hz1 hk1 hS => ?_)
    obtain ⟨W1_16, rfl⟩ : ∃ z, z = u := ⟨_, rfl⟩
    obtain ⟨p0_16, p1_16, p2_16⟩ : (Dg W1_16) ∧ (Fr wf W1_16 (0 : Int)) ∧ (rv W1_16 (0 : Int) = rv wf (4 : Int)) := hw
    obtain ⟨hP1, hK1, hD1⟩ := hB
    rw [ht] at hP1
    obtain ⟨hP, hD⟩ := va_join (wr := []) (w1 := [(am, .inr (0, [.int (I3 th), .int (I3 mn), .ref as_, .ref av, .ref aw, .int (I3 sm), .int (I3 wd), .int (I3 lp), .int (I3 mp), .int (I3 re)])), (as_, .inl (dA 0, 60, .inl (iA SG))), (av, .inl (dA 1, 960, .inr (.inl (lA VL)))), (aw, .inl (dA 1, 1024, .inr (.inl (lA W1_16))))]) hP hD [0, 1, 2, 3] [] rfl rfl (by decide) (by decide) hk1 hFc hP1 hD1
    generalize H1 = H at hP hS ⊢
    have hP : va_P (dC, dI) vwCl [(am, .inr (0, [.int (I3 th), .int (I3 mn), .ref as_, .ref av, .ref aw, .int (I3 sm), .int (I3 wd), .int (I3 lp), .int (I3 mp), .int (I3 re)])), (as_, .inl (dA 0, 60, .inl (iA SG))), (av, .inl (dA 1, 960, .inr (.inl (lA VL)))), (aw, .inl (dA 1, 1024, .inr (.inl (lA W1_16))))] H := hP
    have hD : va_D A [(am, .inr (0, [.int (I3 th), .int (I3 mn), .ref as_, .ref av, .ref aw, .int (I3 sm), .int (I3 wd), .int (I3 lp), .int (I3 mp), .int (I3 re)])), (as_, .inl (dA 0, 60, .inl (iA SG))), (av, .inl (dA 1, 960, .inr (.inl (lA VL)))), (aw, .inl (dA 1, 1024, .inr (.inl (lA W1_16))))] := hD
    refine lv_aload_n hx hb dX8_sum_19 rfl (lv_at hl 0 rfl) ?_
    refine lv_iconst (v := I3 (0)) hx hb dX8_sum_20 rfl ?_
    refine lv_iconst (v := I3 (5)) hx hb dX8_sum_21 rfl ?_
    have h_5 : 0 ≤ (0 : Int) ∧ (0 : Int) < 16 := by first | assumption | omega | (constructor <;> omega)
    have h_6 : 0 ≤ (5 : Int) ∧ (5 : Int) < 16 := by first | assumption | omega | (constructor <;> omega)
    have h_7 : (0 : Int) ≠ (5 : Int) := by first | assumption | omega | (constructor <;> omega)
    have h_8 : Dg W1_16 := by first | assumption | omega | (constructor <;> omega)
    have hPc := hP.sub (ws' := [(am, .inr (0, [.int (I3 th), .int (I3 mn), .ref as_, .ref av, .ref aw, .int (I3 sm), .int (I3 wd), .int (I3 lp), .int (I3 mp), .int (I3 re)])), (as_, .inl (dA 0, 60, .inl (iA SG))), (av, .inl (dA 1, 960, .inr (.inl (lA VL)))), (aw, .inl (dA 1, 1024, .inr (.inl (lA W1_16))))]) [0, 1, 2, 3] rfl
    have hDc := hD.sub (ws' := [(am, .inr (0, [.int (I3 th), .int (I3 mn), .ref as_, .ref av, .ref aw, .int (I3 sm), .int (I3 wd), .int (I3 lp), .int (I3 mp), .int (I3 re)])), (as_, .inl (dA 0, 60, .inl (iA SG))), (av, .inl (dA 1, 960, .inr (.inl (lA VL)))), (aw, .inl (dA 1, 1024, .inr (.inl (lA W1_16))))]) [0, 1, 2, 3] (by decide) rfl
    have hFc := va_free (wc := [(am, .inr (0, [.int (I3 th), .int (I3 mn), .ref as_, .ref av, .ref aw, .int (I3 sm), .int (I3 wd), .int (I3 lp), .int (I3 mp), .int (I3 re)])), (as_, .inl (dA 0, 60, .inl (iA SG))), (av, .inl (dA 1, 960, .inr (.inl (lA VL)))), (aw, .inl (dA 1, 1024, .inr (.inl (lA W1_16))))]) hD hS hA [0, 1, 2, 3] rfl
    refine va_callv (va_runV (As := [.int (I3 0), .int (I3 5)]) (rest := []) ⟨hx, hb, hml, hown, hts⟩ (metX8_add l dC dI dA am as_ av aw H.size th mn sm wd lp mp re SG VL W1_16 0 5 h_5 h_6 h_7 h_8) (cwV 2 hts (lw_V q1094 q1096 qs45 q66 q1097) rfl rfl rfl (by decide +kernel) ⟨Nat.le_of_ble_eq_true rfl, Nat.le_of_ble_eq_true rfl⟩) ⟨fun a U g mk q => by obtain ⟨q0, q1, qP, qK, qD⟩ := q; exact ⟨q0, q1, qP, va_K.moved (u := U) (U := U.calling g mk a) (Vm.Alike.refl U.vm) qK, qD⟩, va_recv hK hPc (ci := 0) (q0 := 0) rfl rfl, fun U hU hW => ⟨rfl, by rw [hU], by rw [hU]; exact hPc, va_K.moved hW.alike hK, hDc.weaken (fun _ _ _ _ => trivial)⟩⟩ rfl rfl hl.1 rfl (lv_room (Nat.le_of_ble_eq_true rfl)) dX8_sum_22 ⟨Nat.le_of_ble_eq_true rfl, Nat.le_of_ble_eq_true rfl⟩) hS (fun q _ h => hFc q h) hFc (fun u t H1 locs ht hvm hw hB hz1 hk1 hS => ?_)
    obtain ⟨W1_22, rfl⟩ : ∃ z, z = u := ⟨_, rfl⟩
    obtain ⟨p0_22, p1_22, p2_22⟩ : (Dg W1_22) ∧ (Fr W1_16 W1_22 (0 : Int)) ∧ (rv W1_22 (0 : Int) = (rv W1_16 (0 : Int) + rv W1_16 (5 : Int)) % BN) := hw
    obtain ⟨hP1, hK1, hD1⟩ := hB
    rw [ht] at hP1
    obtain ⟨hP, hD⟩ := va_join (wr := []) (w1 := [(am, .inr (0, [.int (I3 th), .int (I3 mn), .ref as_, .ref av, .ref aw, .int (I3 sm), .int (I3 wd), .int (I3 lp), .int (I3 mp), .int (I3 re)])), (as_, .inl (dA 0, 60, .inl (iA SG))), (av, .inl (dA 1, 960, .inr (.inl (lA VL)))), (aw, .inl (dA 1, 1024, .inr (.inl (lA W1_22))))]) hP hD [0, 1, 2, 3] [] rfl rfl (by decide) (by decide) hk1 hFc hP1 hD1
    generalize H1 = H at hP hS ⊢
    have hP : va_P (dC, dI) vwCl [(am, .inr (0, [.int (I3 th), .int (I3 mn), .ref as_, .ref av, .ref aw, .int (I3 sm), .int (I3 wd), .int (I3 lp), .int (I3 mp), .int (I3 re)])), (as_, .inl (dA 0, 60, .inl (iA SG))), (av, .inl (dA 1, 960, .inr (.inl (lA VL)))), (aw, .inl (dA 1, 1024, .inr (.inl (lA W1_22))))] H := hP
    have hD : va_D A [(am, .inr (0, [.int (I3 th), .int (I3 mn), .ref as_, .ref av, .ref aw, .int (I3 sm), .int (I3 wd), .int (I3 lp), .int (I3 mp), .int (I3 re)])), (as_, .inl (dA 0, 60, .inl (iA SG))), (av, .inl (dA 1, 960, .inr (.inl (lA VL)))), (aw, .inl (dA 1, 1024, .inr (.inl (lA W1_22))))] := hD
    have f0 : rv W1_22 0 = rv wf 4 + rv wf 5 := by rw [p2_22, p2_16, Fr_rv p1_16 (by decide)]; exact mod_BN (by omega)
    have f1 : rv W1_22 1 = rv wf 1 := (Fr_rv p1_22 (by decide)).trans (Fr_rv p1_16 (by decide))
    refine lv_aload_n hx hb dX8_sum_25 rfl (lv_at hl 0 rfl) ?_
    refine lv_iload_n hx hb dX8_sum_26 rfl (lv_at hl 1 rfl) ?_
    refine ix_if_ne (tgt := 34) hx hb (by first | decide | assumption | (constructor <;> omega)) dX8_sum_27 (by decide) (fun c_27 => ?_) (fun c_27 => ?_)
    · skip
      refine lv_iload_n hx hb dX8_sum_34 rfl (lv_at hl 1 rfl) ?_
      refine lv_iconst (v := I3 (4)) hx hb dX8_sum_35 rfl ?_
      have h_9 : Dg W1_22 := by first | assumption | omega | (constructor <;> omega)
      have h_10 : Dg VL := by exact hV
      have h_11 : 0 ≤ mn ∧ mn ≤ 60 := by exact hmn
      have h_12 : In3 x := by constructor <;> omega
      have h_13 : In3 (4 : Int) := by first | assumption | omega | (constructor <;> omega)
      have h_14 : rv W1_22 1 ≠ 0 := by omega
      have h_15 : 2 * rv W1_22 1 ≤ BN := by omega
      have hPc := hP.sub (ws' := [(am, .inr (0, [.int (I3 th), .int (I3 mn), .ref as_, .ref av, .ref aw, .int (I3 sm), .int (I3 wd), .int (I3 lp), .int (I3 mp), .int (I3 re)])), (as_, .inl (dA 0, 60, .inl (iA SG))), (av, .inl (dA 1, 960, .inr (.inl (lA VL)))), (aw, .inl (dA 1, 1024, .inr (.inl (lA W1_22))))]) [0, 1, 2, 3] rfl
      have hDc := hD.sub (ws' := [(am, .inr (0, [.int (I3 th), .int (I3 mn), .ref as_, .ref av, .ref aw, .int (I3 sm), .int (I3 wd), .int (I3 lp), .int (I3 mp), .int (I3 re)])), (as_, .inl (dA 0, 60, .inl (iA SG))), (av, .inl (dA 1, 960, .inr (.inl (lA VL)))), (aw, .inl (dA 1, 1024, .inr (.inl (lA W1_22))))]) [0, 1, 2, 3] (by decide) rfl
      have hFc := va_free (wc := [(am, .inr (0, [.int (I3 th), .int (I3 mn), .ref as_, .ref av, .ref aw, .int (I3 sm), .int (I3 wd), .int (I3 lp), .int (I3 mp), .int (I3 re)])), (as_, .inl (dA 0, 60, .inl (iA SG))), (av, .inl (dA 1, 960, .inr (.inl (lA VL)))), (aw, .inl (dA 1, 1024, .inr (.inl (lA W1_22))))]) hD hS hA [0, 1, 2, 3] rfl
      refine va_calli (va_runV (As := [.int (I3 x), .int (I3 4)]) (rest := []) ⟨hx, hb, hml, hown, hts⟩ (metX8_make l dC dI dA am as_ av aw H.size th mn sm wd lp mp re SG VL W1_22 x 4 h_9 h_10 h_11 h_12 h_13 h_14 h_15) (cwV 2 hts (lw_V q964 q966 qs21 q66 q967) rfl rfl rfl (by decide +kernel) ⟨Nat.le_of_ble_eq_true rfl, Nat.le_of_ble_eq_true rfl⟩) ⟨fun a U g mk q => by obtain ⟨q0, q1, qP, qK, qD⟩ := q; exact ⟨q0, q1, qP, va_K.moved (u := U) (U := U.calling g mk a) (Vm.Alike.refl U.vm) qK, qD⟩, va_recv hK hPc (ci := 0) (q0 := 0) rfl rfl, fun U hU hW => ⟨rfl, by rw [hU], by rw [hU]; exact hPc, va_K.moved hW.alike hK, hDc.weaken (fun _ _ _ _ => trivial)⟩⟩ rfl rfl hl.1 rfl (lv_room (Nat.le_of_ble_eq_true rfl)) dX8_sum_36 ⟨Nat.le_of_ble_eq_true rfl, Nat.le_of_ble_eq_true rfl⟩) hS (fun q _ h => hFc q h) hFc (fun r_36 u t H1 locs ht hvm hw hB hz1 hk1 hS => ?_)
      obtain ⟨z_36, th1_36, mn1_36, SG1_36, VL1_36, W1_36⟩ := u
      obtain ⟨rfl, p0_36, p1_36, p2_36, p3_36⟩ : r_36 = I3 z_36 ∧ (Dg W1_36) ∧ (Dg VL1_36) ∧ (0 ≤ mn1_36 ∧ mn1_36 ≤ 60) ∧ (Mde mn SG VL x (rv W1_22 0) (rv W1_22 1) (4 : Int) z_36 th1_36 mn1_36 SG1_36 VL1_36) := hw
      obtain ⟨hP1, hK1, hD1⟩ := hB
      rw [ht] at hP1
      obtain ⟨hP, hD⟩ := va_join (wr := []) (w1 := [(am, .inr (0, [.int (I3 th1_36), .int (I3 mn1_36), .ref as_, .ref av, .ref aw, .int (I3 sm), .int (I3 wd), .int (I3 lp), .int (I3 mp), .int (I3 re)])), (as_, .inl (dA 0, 60, .inl (iA SG1_36))), (av, .inl (dA 1, 960, .inr (.inl (lA VL1_36)))), (aw, .inl (dA 1, 1024, .inr (.inl (lA W1_36))))]) hP hD [0, 1, 2, 3] [] rfl rfl (by decide) (by decide) hk1 hFc hP1 hD1
      generalize H1 = H at hP hS ⊢
      have hP : va_P (dC, dI) vwCl [(am, .inr (0, [.int (I3 th1_36), .int (I3 mn1_36), .ref as_, .ref av, .ref aw, .int (I3 sm), .int (I3 wd), .int (I3 lp), .int (I3 mp), .int (I3 re)])), (as_, .inl (dA 0, 60, .inl (iA SG1_36))), (av, .inl (dA 1, 960, .inr (.inl (lA VL1_36)))), (aw, .inl (dA 1, 1024, .inr (.inl (lA W1_36))))] H := hP
      have hD : va_D A [(am, .inr (0, [.int (I3 th1_36), .int (I3 mn1_36), .ref as_, .ref av, .ref aw, .int (I3 sm), .int (I3 wd), .int (I3 lp), .int (I3 mp), .int (I3 re)])), (as_, .inl (dA 0, 60, .inl (iA SG1_36))), (av, .inl (dA 1, 960, .inr (.inl (lA VL1_36)))), (aw, .inl (dA 1, 1024, .inr (.inl (lA W1_36))))] := hD
      have hM := p3_36
      rw [f0, f1] at hM
      have eg : sumG x y (rv wf 4) (rv wf 5) = _ := es1.trans (by first | exact if_pos (by assumption) | exact if_neg (by assumption))
      rw [← eg, ← es2] at hM
      have o_16 : Dg W1_36 := by first | assumption | omega | (constructor <;> omega)
      have o_17 : MI mn1_36 SG1_36 VL1_36 := by exact MI_Mde hI (by omega) hs3.1 hs3.2 p1_36 p2_36 hM
      have o_18 : Mde mn SG VL ((sumG x y (rv wf 4) (rv wf 5))) ((sumP x y (rv wf 4) (rv wf 5))) ((rv wf 1)) 4 z_36 th1_36 mn1_36 SG1_36 VL1_36 := by exact hM
      exact W.iret (v := I3 z_36) hx hb hr (fun t ht hW => ⟨⟨I3 z_36, (z_36, th1_36, mn1_36, SG1_36, VL1_36, W1_36), rfl, ⟨rfl, ⟨o_16, o_17, o_18⟩⟩, by rw [ht]; exact hP, va_K.moved hW.alike hK, hD⟩, hS.F ht⟩) hS.2.2 dX8_sum_39
    · skip
      refine lv_iload_n hx hb dX8_sum_30 rfl (lv_at hl 2 rfl) ?_
      refine lv_goto (tgt := 35) hx hb dX8_sum_31 (by decide) ?_
      refine lv_iconst (v := I3 (4)) hx hb dX8_sum_35 rfl ?_
      have h_19 : Dg W1_22 := by first | assumption | omega | (constructor <;> omega)
      have h_20 : Dg VL := by exact hV
      have h_21 : 0 ≤ mn ∧ mn ≤ 60 := by exact hmn
      have h_22 : In3 y := by constructor <;> omega
      have h_23 : In3 (4 : Int) := by first | assumption | omega | (constructor <;> omega)
      have h_24 : rv W1_22 1 ≠ 0 := by omega
      have h_25 : 2 * rv W1_22 1 ≤ BN := by omega
      have hPc := hP.sub (ws' := [(am, .inr (0, [.int (I3 th), .int (I3 mn), .ref as_, .ref av, .ref aw, .int (I3 sm), .int (I3 wd), .int (I3 lp), .int (I3 mp), .int (I3 re)])), (as_, .inl (dA 0, 60, .inl (iA SG))), (av, .inl (dA 1, 960, .inr (.inl (lA VL)))), (aw, .inl (dA 1, 1024, .inr (.inl (lA W1_22))))]) [0, 1, 2, 3] rfl
      have hDc := hD.sub (ws' := [(am, .inr (0, [.int (I3 th), .int (I3 mn), .ref as_, .ref av, .ref aw, .int (I3 sm), .int (I3 wd), .int (I3 lp), .int (I3 mp), .int (I3 re)])), (as_, .inl (dA 0, 60, .inl (iA SG))), (av, .inl (dA 1, 960, .inr (.inl (lA VL)))), (aw, .inl (dA 1, 1024, .inr (.inl (lA W1_22))))]) [0, 1, 2, 3] (by decide) rfl
      have hFc := va_free (wc := [(am, .inr (0, [.int (I3 th), .int (I3 mn), .ref as_, .ref av, .ref aw, .int (I3 sm), .int (I3 wd), .int (I3 lp), .int (I3 mp), .int (I3 re)])), (as_, .inl (dA 0, 60, .inl (iA SG))), (av, .inl (dA 1, 960, .inr (.inl (lA VL)))), (aw, .inl (dA 1, 1024, .inr (.inl (lA W1_22))))]) hD hS hA [0, 1, 2, 3] rfl
      refine va_calli (va_runV (As := [.int (I3 y), .int (I3 4)]) (rest := []) ⟨hx, hb, hml, hown, hts⟩ (metX8_make l dC dI dA am as_ av aw H.size th mn sm wd lp mp re SG VL W1_22 y 4 h_19 h_20 h_21 h_22 h_23 h_24 h_25) (cwV 2 hts (lw_V q964 q966 qs21 q66 q967) rfl rfl rfl (by decide +kernel) ⟨Nat.le_of_ble_eq_true rfl, Nat.le_of_ble_eq_true rfl⟩) ⟨fun a U g mk q => by obtain ⟨q0, q1, qP, qK, qD⟩ := q; exact ⟨q0, q1, qP, va_K.moved (u := U) (U := U.calling g mk a) (Vm.Alike.refl U.vm) qK, qD⟩, va_recv hK hPc (ci := 0) (q0 := 0) rfl rfl, fun U hU hW => ⟨rfl, by rw [hU], by rw [hU]; exact hPc, va_K.moved hW.alike hK, hDc.weaken (fun _ _ _ _ => trivial)⟩⟩ rfl rfl hl.1 rfl (lv_room (Nat.le_of_ble_eq_true rfl)) dX8_sum_36 ⟨Nat.le_of_ble_eq_true rfl, Nat.le_of_ble_eq_true rfl⟩) hS (fun q _ h => hFc q h) hFc (fun r_36 u t H1 locs ht hvm hw hB hz1 hk1 hS => ?_)
      obtain ⟨z_36, th1_36, mn1_36, SG1_36, VL1_36, W1_36⟩ := u
      obtain ⟨rfl, p0_36, p1_36, p2_36, p3_36⟩ : r_36 = I3 z_36 ∧ (Dg W1_36) ∧ (Dg VL1_36) ∧ (0 ≤ mn1_36 ∧ mn1_36 ≤ 60) ∧ (Mde mn SG VL y (rv W1_22 0) (rv W1_22 1) (4 : Int) z_36 th1_36 mn1_36 SG1_36 VL1_36) := hw
      obtain ⟨hP1, hK1, hD1⟩ := hB
      rw [ht] at hP1
      obtain ⟨hP, hD⟩ := va_join (wr := []) (w1 := [(am, .inr (0, [.int (I3 th1_36), .int (I3 mn1_36), .ref as_, .ref av, .ref aw, .int (I3 sm), .int (I3 wd), .int (I3 lp), .int (I3 mp), .int (I3 re)])), (as_, .inl (dA 0, 60, .inl (iA SG1_36))), (av, .inl (dA 1, 960, .inr (.inl (lA VL1_36)))), (aw, .inl (dA 1, 1024, .inr (.inl (lA W1_36))))]) hP hD [0, 1, 2, 3] [] rfl rfl (by decide) (by decide) hk1 hFc hP1 hD1
      generalize H1 = H at hP hS ⊢
      have hP : va_P (dC, dI) vwCl [(am, .inr (0, [.int (I3 th1_36), .int (I3 mn1_36), .ref as_, .ref av, .ref aw, .int (I3 sm), .int (I3 wd), .int (I3 lp), .int (I3 mp), .int (I3 re)])), (as_, .inl (dA 0, 60, .inl (iA SG1_36))), (av, .inl (dA 1, 960, .inr (.inl (lA VL1_36)))), (aw, .inl (dA 1, 1024, .inr (.inl (lA W1_36))))] H := hP
      have hD : va_D A [(am, .inr (0, [.int (I3 th1_36), .int (I3 mn1_36), .ref as_, .ref av, .ref aw, .int (I3 sm), .int (I3 wd), .int (I3 lp), .int (I3 mp), .int (I3 re)])), (as_, .inl (dA 0, 60, .inl (iA SG1_36))), (av, .inl (dA 1, 960, .inr (.inl (lA VL1_36)))), (aw, .inl (dA 1, 1024, .inr (.inl (lA W1_36))))] := hD
      have hM := p3_36
      rw [f0, f1] at hM
      have eg : sumG x y (rv wf 4) (rv wf 5) = _ := es1.trans (by first | exact if_pos (by assumption) | exact if_neg (by assumption))
      rw [← eg, ← es2] at hM
      have o_26 : Dg W1_36 := by first | assumption | omega | (constructor <;> omega)
      have o_27 : MI mn1_36 SG1_36 VL1_36 := by exact MI_Mde hI (by omega) hs3.1 hs3.2 p1_36 p2_36 hM
      have o_28 : Mde mn SG VL ((sumG x y (rv wf 4) (rv wf 5))) ((sumP x y (rv wf 4) (rv wf 5))) ((rv wf 1)) 4 z_36 th1_36 mn1_36 SG1_36 VL1_36 := by exact hM
      exact W.iret (v := I3 z_36) hx hb hr (fun t ht hW => ⟨⟨I3 z_36, (z_36, th1_36, mn1_36, SG1_36, VL1_36, W1_36), rfl, ⟨rfl, ⟨o_26, o_27, o_28⟩⟩, by rw [ht]; exact hP, va_K.moved hW.alike hK, hD⟩, hS.F ht⟩) hS.2.2 dX8_sum_39
  have cut_55 : ∀ (f : Int), (¬ (x = 0 ∨ y = 0 ∨ x = y)) → ((f = 1 ∧ rv wf 5 ≤ rv wf 4) ∨ (f = 0 ∧ rv wf 4 < rv wf 5)) → ∀ (H : Heap) (locs : List Loc), va_P (dC, dI) vwCl [(am, .inr (0, [.int (I3 th), .int (I3 mn), .ref as_, .ref av, .ref aw, .int (I3 sm), .int (I3 wd), .int (I3 lp), .int (I3 mp), .int (I3 re)])), (as_, .inl (dA 0, 60, .inl (iA SG))), (av, .inl (dA 1, 960, .inr (.inl (lA VL)))), (aw, .inl (dA 1, 1024, .inr (.inl (lA wf))))] H → va_D A [(am, .inr (0, [.int (I3 th), .int (I3 mn), .ref as_, .ref av, .ref aw, .int (I3 sm), .int (I3 wd), .int (I3 lp), .int (I3 mp), .int (I3 re)])), (as_, .inl (dA 0, 60, .inl (iA SG))), (av, .inl (dA 1, 960, .inr (.inl (lA VL)))), (aw, .inl (dA 1, 1024, .inr (.inl (lA wf))))] → va_S A s.heap H locs → ∀ (ls : Array Slot), lv_has ls 4 [(0, .ref am), (1, .int (I3 x)), (2, .int (I3 y)), (3, .int (I3 f))] → W p l e (headSpec (ws_ yX8_sum cX8_sum 4 (some .int)) ({ frames := 4, cells := 0, slots := 0, locals := 160 })).room s m ([.ref am, .int (I3 x), .int (I3 y)] : List Value).toArray below meth c H locs 0 0 (MQ below (QmetX8_sum dC dI dA A am as_ av aw th mn sm wd lp mp re SG VL wf x y) ([.ref am, .int (I3 x), .int (I3 y)] : List Value).toArray s 0 0 A) (F0 m 55 ls []) := by
    intro f hc hf H locs hP hD hS ls hl
    obtain ⟨hmn, hV, hAll⟩ := id hI
    have hs3 := sumG3 (A := rv wf 4) (B := rv wf 5) hx3 hy3 hxA hyB
    have es1 : sumG x y (rv wf 4) (rv wf 5) = if rv wf 5 ≤ rv wf 4 then x else y := by unfold sumG; rw [if_neg hc]
    have es2 : sumP x y (rv wf 4) (rv wf 5) = if rv wf 5 ≤ rv wf 4 then rv wf 4 - rv wf 5 else rv wf 5 - rv wf 4 := by unfold sumP; rw [if_neg hc]
    refine lv_aload_n hx hb dX8_sum_55 rfl (lv_at hl 0 rfl) ?_
    refine lv_iload_n hx hb dX8_sum_56 rfl (lv_at hl 3 rfl) ?_
    refine ix_if_eq (tgt := 64) hx hb (by first | decide | assumption | (constructor <;> omega)) dX8_sum_57 (by decide) (fun c_57 => ?_) (fun c_57 => ?_)
    · skip
      refine lv_iconst (v := I3 (5)) hx hb dX8_sum_64 rfl ?_
      refine lv_iconst (v := I3 (0)) hx hb dX8_sum_65 rfl ?_
      have h_29 : 0 ≤ (5 : Int) ∧ (5 : Int) < 16 := by first | assumption | omega | (constructor <;> omega)
      have h_30 : 0 ≤ (0 : Int) ∧ (0 : Int) < 16 := by first | assumption | omega | (constructor <;> omega)
      have h_31 : (5 : Int) ≠ (0 : Int) := by first | assumption | omega | (constructor <;> omega)
      have h_32 : Dg wf := by first | assumption | omega | (constructor <;> omega)
      have hPc := hP.sub (ws' := [(am, .inr (0, [.int (I3 th), .int (I3 mn), .ref as_, .ref av, .ref aw, .int (I3 sm), .int (I3 wd), .int (I3 lp), .int (I3 mp), .int (I3 re)])), (as_, .inl (dA 0, 60, .inl (iA SG))), (av, .inl (dA 1, 960, .inr (.inl (lA VL)))), (aw, .inl (dA 1, 1024, .inr (.inl (lA wf))))]) [0, 1, 2, 3] rfl
      have hDc := hD.sub (ws' := [(am, .inr (0, [.int (I3 th), .int (I3 mn), .ref as_, .ref av, .ref aw, .int (I3 sm), .int (I3 wd), .int (I3 lp), .int (I3 mp), .int (I3 re)])), (as_, .inl (dA 0, 60, .inl (iA SG))), (av, .inl (dA 1, 960, .inr (.inl (lA VL)))), (aw, .inl (dA 1, 1024, .inr (.inl (lA wf))))]) [0, 1, 2, 3] (by decide) rfl
      have hFc := va_free (wc := [(am, .inr (0, [.int (I3 th), .int (I3 mn), .ref as_, .ref av, .ref aw, .int (I3 sm), .int (I3 wd), .int (I3 lp), .int (I3 mp), .int (I3 re)])), (as_, .inl (dA 0, 60, .inl (iA SG))), (av, .inl (dA 1, 960, .inr (.inl (lA VL)))), (aw, .inl (dA 1, 1024, .inr (.inl (lA wf))))]) hD hS hA [0, 1, 2, 3] rfl
      refine va_callv (va_runV (As := [.int (I3 5), .int (I3 0)]) (rest := []) ⟨hx, hb, hml, hown, hts⟩ (metX8_copy l dC dI dA am as_ av aw H.size th mn sm wd lp mp re SG VL wf 5 0 h_29 h_30 h_31 h_32) (cwV 2 hts (lw_V q976 q978 qs24 q66 q979) rfl rfl rfl (by decide +kernel) ⟨Nat.le_of_ble_eq_true rfl, Nat.le_of_ble_eq_true rfl⟩) ⟨fun a U g mk q => by obtain ⟨q0, q1, qP, qK, qD⟩ := q; exact ⟨q0, q1, qP, va_K.moved (u := U) (U := U.calling g mk a) (Vm.Alike.refl U.vm) qK, qD⟩, va_recv hK hPc (ci := 0) (q0 := 0) rfl rfl, fun U hU hW => ⟨rfl, by rw [hU], by rw [hU]; exact hPc, va_K.moved hW.alike hK, hDc.weaken (fun _ _ _ _ => trivial)⟩⟩ rfl rfl hl.1 rfl (lv_room (Nat.le_of_ble_eq_true rfl)) dX8_sum_66 ⟨Nat.le_of_ble_eq_true rfl, Nat.le_of_ble_eq_true rfl⟩) hS (fun q _ h => hFc q h) hFc (fun u t H1 locs ht hvm hw hB hz1 hk1 hS => ?_)
      obtain ⟨W1_66, rfl⟩ : ∃ z, z = u := ⟨_, rfl⟩
      obtain ⟨p0_66, p1_66, p2_66⟩ : (Dg W1_66) ∧ (Fr wf W1_66 (0 : Int)) ∧ (rv W1_66 (0 : Int) = rv wf (5 : Int)) := hw
      obtain ⟨hP1, hK1, hD1⟩ := hB
      rw [ht] at hP1
      obtain ⟨hP, hD⟩ := va_join (wr := []) (w1 := [(am, .inr (0, [.int (I3 th), .int (I3 mn), .ref as_, .ref av, .ref aw, .int (I3 sm), .int (I3 wd), .int (I3 lp), .int (I3 mp), .int (I3 re)])), (as_, .inl (dA 0, 60, .inl (iA SG))), (av, .inl (dA 1, 960, .inr (.inl (lA VL)))), (aw, .inl (dA 1, 1024, .inr (.inl (lA W1_66))))]) hP hD [0, 1, 2, 3] [] rfl rfl (by decide) (by decide) hk1 hFc hP1 hD1
      generalize H1 = H at hP hS ⊢
      have hP : va_P (dC, dI) vwCl [(am, .inr (0, [.int (I3 th), .int (I3 mn), .ref as_, .ref av, .ref aw, .int (I3 sm), .int (I3 wd), .int (I3 lp), .int (I3 mp), .int (I3 re)])), (as_, .inl (dA 0, 60, .inl (iA SG))), (av, .inl (dA 1, 960, .inr (.inl (lA VL)))), (aw, .inl (dA 1, 1024, .inr (.inl (lA W1_66))))] H := hP
      have hD : va_D A [(am, .inr (0, [.int (I3 th), .int (I3 mn), .ref as_, .ref av, .ref aw, .int (I3 sm), .int (I3 wd), .int (I3 lp), .int (I3 mp), .int (I3 re)])), (as_, .inl (dA 0, 60, .inl (iA SG))), (av, .inl (dA 1, 960, .inr (.inl (lA VL)))), (aw, .inl (dA 1, 1024, .inr (.inl (lA W1_66))))] := hD
      refine lv_aload_n hx hb dX8_sum_69 rfl (lv_at hl 0 rfl) ?_
      refine lv_iconst (v := I3 (0)) hx hb dX8_sum_70 rfl ?_
      refine lv_iload_n hx hb dX8_sum_71 rfl (lv_at hl 3 rfl) ?_
      refine ix_if_eq (tgt := 79) hx hb (by first | decide | assumption | (constructor <;> omega)) dX8_sum_72 (by decide) (fun c_72 => ?_) (fun c_72 => ?_)
      · skip
        refine lv_iconst (v := I3 (4)) hx hb dX8_sum_79 rfl ?_
        have h_33 : 0 ≤ (0 : Int) ∧ (0 : Int) < 16 := by first | assumption | omega | (constructor <;> omega)
        have h_34 : 0 ≤ (4 : Int) ∧ (4 : Int) < 16 := by first | assumption | omega | (constructor <;> omega)
        have h_35 : (0 : Int) ≠ (4 : Int) := by first | assumption | omega | (constructor <;> omega)
        have h_36 : rv W1_66 (4 : Int) ≤ rv W1_66 (0 : Int) := by rw [p2_66, Fr_rv p1_66 (by decide)]; omega
        have h_37 : Dg W1_66 := by first | assumption | omega | (constructor <;> omega)
        have hPc := hP.sub (ws' := [(am, .inr (0, [.int (I3 th), .int (I3 mn), .ref as_, .ref av, .ref aw, .int (I3 sm), .int (I3 wd), .int (I3 lp), .int (I3 mp), .int (I3 re)])), (as_, .inl (dA 0, 60, .inl (iA SG))), (av, .inl (dA 1, 960, .inr (.inl (lA VL)))), (aw, .inl (dA 1, 1024, .inr (.inl (lA W1_66))))]) [0, 1, 2, 3] rfl
        have hDc := hD.sub (ws' := [(am, .inr (0, [.int (I3 th), .int (I3 mn), .ref as_, .ref av, .ref aw, .int (I3 sm), .int (I3 wd), .int (I3 lp), .int (I3 mp), .int (I3 re)])), (as_, .inl (dA 0, 60, .inl (iA SG))), (av, .inl (dA 1, 960, .inr (.inl (lA VL)))), (aw, .inl (dA 1, 1024, .inr (.inl (lA W1_66))))]) [0, 1, 2, 3] (by decide) rfl
        have hFc := va_free (wc := [(am, .inr (0, [.int (I3 th), .int (I3 mn), .ref as_, .ref av, .ref aw, .int (I3 sm), .int (I3 wd), .int (I3 lp), .int (I3 mp), .int (I3 re)])), (as_, .inl (dA 0, 60, .inl (iA SG))), (av, .inl (dA 1, 960, .inr (.inl (lA VL)))), (aw, .inl (dA 1, 1024, .inr (.inl (lA W1_66))))]) hD hS hA [0, 1, 2, 3] rfl
        refine va_callv (va_runV (As := [.int (I3 0), .int (I3 4)]) (rest := []) ⟨hx, hb, hml, hown, hts⟩ (metX8_take l dC dI dA am as_ av aw H.size th mn sm wd lp mp re SG VL W1_66 0 4 h_33 h_34 h_35 h_36 h_37) (cwV 2 hts (lw_V q996 q998 qs29 q66 q999) rfl rfl rfl (by decide +kernel) ⟨Nat.le_of_ble_eq_true rfl, Nat.le_of_ble_eq_true rfl⟩) ⟨fun a U g mk q => by obtain ⟨q0, q1, qP, qK, qD⟩ := q; exact ⟨q0, q1, qP, va_K.moved (u := U) (U := U.calling g mk a) (Vm.Alike.refl U.vm) qK, qD⟩, va_recv hK hPc (ci := 0) (q0 := 0) rfl rfl, fun U hU hW => ⟨rfl, by rw [hU], by rw [hU]; exact hPc, va_K.moved hW.alike hK, hDc.weaken (fun _ _ _ _ => trivial)⟩⟩ rfl rfl hl.1 rfl (lv_room (Nat.le_of_ble_eq_true rfl)) dX8_sum_80 ⟨Nat.le_of_ble_eq_true rfl, Nat.le_of_ble_eq_true rfl⟩) hS (fun q _ h => hFc q h) hFc (fun u t H1 locs ht hvm hw hB hz1 hk1 hS => ?_)
        obtain ⟨W1_80, rfl⟩ : ∃ z, z = u := ⟨_, rfl⟩
        obtain ⟨p0_80, p1_80, p2_80⟩ : (Dg W1_80) ∧ (Fr W1_66 W1_80 (0 : Int)) ∧ (rv W1_80 (0 : Int) = rv W1_66 (0 : Int) - rv W1_66 (4 : Int)) := hw
        obtain ⟨hP1, hK1, hD1⟩ := hB
        rw [ht] at hP1
        obtain ⟨hP, hD⟩ := va_join (wr := []) (w1 := [(am, .inr (0, [.int (I3 th), .int (I3 mn), .ref as_, .ref av, .ref aw, .int (I3 sm), .int (I3 wd), .int (I3 lp), .int (I3 mp), .int (I3 re)])), (as_, .inl (dA 0, 60, .inl (iA SG))), (av, .inl (dA 1, 960, .inr (.inl (lA VL)))), (aw, .inl (dA 1, 1024, .inr (.inl (lA W1_80))))]) hP hD [0, 1, 2, 3] [] rfl rfl (by decide) (by decide) hk1 hFc hP1 hD1
        generalize H1 = H at hP hS ⊢
        have hP : va_P (dC, dI) vwCl [(am, .inr (0, [.int (I3 th), .int (I3 mn), .ref as_, .ref av, .ref aw, .int (I3 sm), .int (I3 wd), .int (I3 lp), .int (I3 mp), .int (I3 re)])), (as_, .inl (dA 0, 60, .inl (iA SG))), (av, .inl (dA 1, 960, .inr (.inl (lA VL)))), (aw, .inl (dA 1, 1024, .inr (.inl (lA W1_80))))] H := hP
        have hD : va_D A [(am, .inr (0, [.int (I3 th), .int (I3 mn), .ref as_, .ref av, .ref aw, .int (I3 sm), .int (I3 wd), .int (I3 lp), .int (I3 mp), .int (I3 re)])), (as_, .inl (dA 0, 60, .inl (iA SG))), (av, .inl (dA 1, 960, .inr (.inl (lA VL)))), (aw, .inl (dA 1, 1024, .inr (.inl (lA W1_80))))] := hD
        have f1 : rv W1_80 1 = rv wf 1 := (Fr_rv p1_80 (by decide)).trans (Fr_rv p1_66 (by decide))
        have f0 : rv W1_80 0 = sumP x y (rv wf 4) (rv wf 5) := by rw [p2_80, p2_66, Fr_rv p1_66 (by decide), es2]; first | (rw [if_pos (by omega)]; done) | (rw [if_neg (by omega)]; done)
        refine lv_aload_n hx hb dX8_sum_83 rfl (lv_at hl 0 rfl) ?_
        refine lv_iload_n hx hb dX8_sum_84 rfl (lv_at hl 3 rfl) ?_
        refine ix_if_eq (tgt := 92) hx hb (by first | decide | assumption | (constructor <;> omega)) dX8_sum_85 (by decide) (fun c_85 => ?_) (fun c_85 => ?_)
        · skip
          refine lv_iload_n hx hb dX8_sum_92 rfl (lv_at hl 2 rfl) ?_
          refine lv_iconst (v := I3 (4)) hx hb dX8_sum_93 rfl ?_
          have h_38 : Dg W1_80 := by first | assumption | omega | (constructor <;> omega)
          have h_39 : Dg VL := by exact hV
          have h_40 : 0 ≤ mn ∧ mn ≤ 60 := by exact hmn
          have h_41 : In3 y := by constructor <;> omega
          have h_42 : In3 (4 : Int) := by first | assumption | omega | (constructor <;> omega)
          have h_43 : rv W1_80 1 ≠ 0 := by omega
          have h_44 : 2 * rv W1_80 1 ≤ BN := by omega
          have hPc := hP.sub (ws' := [(am, .inr (0, [.int (I3 th), .int (I3 mn), .ref as_, .ref av, .ref aw, .int (I3 sm), .int (I3 wd), .int (I3 lp), .int (I3 mp), .int (I3 re)])), (as_, .inl (dA 0, 60, .inl (iA SG))), (av, .inl (dA 1, 960, .inr (.inl (lA VL)))), (aw, .inl (dA 1, 1024, .inr (.inl (lA W1_80))))]) [0, 1, 2, 3] rfl
          have hDc := hD.sub (ws' := [(am, .inr (0, [.int (I3 th), .int (I3 mn), .ref as_, .ref av, .ref aw, .int (I3 sm), .int (I3 wd), .int (I3 lp), .int (I3 mp), .int (I3 re)])), (as_, .inl (dA 0, 60, .inl (iA SG))), (av, .inl (dA 1, 960, .inr (.inl (lA VL)))), (aw, .inl (dA 1, 1024, .inr (.inl (lA W1_80))))]) [0, 1, 2, 3] (by decide) rfl
          have hFc := va_free (wc := [(am, .inr (0, [.int (I3 th), .int (I3 mn), .ref as_, .ref av, .ref aw, .int (I3 sm), .int (I3 wd), .int (I3 lp), .int (I3 mp), .int (I3 re)])), (as_, .inl (dA 0, 60, .inl (iA SG))), (av, .inl (dA 1, 960, .inr (.inl (lA VL)))), (aw, .inl (dA 1, 1024, .inr (.inl (lA W1_80))))]) hD hS hA [0, 1, 2, 3] rfl
          refine va_calli (va_runV (As := [.int (I3 y), .int (I3 4)]) (rest := []) ⟨hx, hb, hml, hown, hts⟩ (metX8_make l dC dI dA am as_ av aw H.size th mn sm wd lp mp re SG VL W1_80 y 4 h_38 h_39 h_40 h_41 h_42 h_43 h_44) (cwV 2 hts (lw_V q964 q966 qs21 q66 q967) rfl rfl rfl (by decide +kernel) ⟨Nat.le_of_ble_eq_true rfl, Nat.le_of_ble_eq_true rfl⟩) ⟨fun a U g mk q => by obtain ⟨q0, q1, qP, qK, qD⟩ := q; exact ⟨q0, q1, qP, va_K.moved (u := U) (U := U.calling g mk a) (Vm.Alike.refl U.vm) qK, qD⟩, va_recv hK hPc (ci := 0) (q0 := 0) rfl rfl, fun U hU hW => ⟨rfl, by rw [hU], by rw [hU]; exact hPc, va_K.moved hW.alike hK, hDc.weaken (fun _ _ _ _ => trivial)⟩⟩ rfl rfl hl.1 rfl (lv_room (Nat.le_of_ble_eq_true rfl)) dX8_sum_94 ⟨Nat.le_of_ble_eq_true rfl, Nat.le_of_ble_eq_true rfl⟩) hS (fun q _ h => hFc q h) hFc (fun r_94 u t H1 locs ht hvm hw hB hz1 hk1 hS => ?_)
          obtain ⟨z_94, th1_94, mn1_94, SG1_94, VL1_94, W1_94⟩ := u
          obtain ⟨rfl, p0_94, p1_94, p2_94, p3_94⟩ : r_94 = I3 z_94 ∧ (Dg W1_94) ∧ (Dg VL1_94) ∧ (0 ≤ mn1_94 ∧ mn1_94 ≤ 60) ∧ (Mde mn SG VL y (rv W1_80 0) (rv W1_80 1) (4 : Int) z_94 th1_94 mn1_94 SG1_94 VL1_94) := hw
          obtain ⟨hP1, hK1, hD1⟩ := hB
          rw [ht] at hP1
          obtain ⟨hP, hD⟩ := va_join (wr := []) (w1 := [(am, .inr (0, [.int (I3 th1_94), .int (I3 mn1_94), .ref as_, .ref av, .ref aw, .int (I3 sm), .int (I3 wd), .int (I3 lp), .int (I3 mp), .int (I3 re)])), (as_, .inl (dA 0, 60, .inl (iA SG1_94))), (av, .inl (dA 1, 960, .inr (.inl (lA VL1_94)))), (aw, .inl (dA 1, 1024, .inr (.inl (lA W1_94))))]) hP hD [0, 1, 2, 3] [] rfl rfl (by decide) (by decide) hk1 hFc hP1 hD1
          generalize H1 = H at hP hS ⊢
          have hP : va_P (dC, dI) vwCl [(am, .inr (0, [.int (I3 th1_94), .int (I3 mn1_94), .ref as_, .ref av, .ref aw, .int (I3 sm), .int (I3 wd), .int (I3 lp), .int (I3 mp), .int (I3 re)])), (as_, .inl (dA 0, 60, .inl (iA SG1_94))), (av, .inl (dA 1, 960, .inr (.inl (lA VL1_94)))), (aw, .inl (dA 1, 1024, .inr (.inl (lA W1_94))))] H := hP
          have hD : va_D A [(am, .inr (0, [.int (I3 th1_94), .int (I3 mn1_94), .ref as_, .ref av, .ref aw, .int (I3 sm), .int (I3 wd), .int (I3 lp), .int (I3 mp), .int (I3 re)])), (as_, .inl (dA 0, 60, .inl (iA SG1_94))), (av, .inl (dA 1, 960, .inr (.inl (lA VL1_94)))), (aw, .inl (dA 1, 1024, .inr (.inl (lA W1_94))))] := hD
          have hM := p3_94
          have eg : sumG x y (rv wf 4) (rv wf 5) = _ := es1.trans (by first | exact if_pos (by omega) | exact if_neg (by omega))
          rw [← eg, f0, f1] at hM
          have o_45 : Dg W1_94 := by first | assumption | omega | (constructor <;> omega)
          have o_46 : MI mn1_94 SG1_94 VL1_94 := by exact MI_Mde hI (by omega) hs3.1 hs3.2 p1_94 p2_94 hM
          have o_47 : Mde mn SG VL ((sumG x y (rv wf 4) (rv wf 5))) ((sumP x y (rv wf 4) (rv wf 5))) ((rv wf 1)) 4 z_94 th1_94 mn1_94 SG1_94 VL1_94 := by exact hM
          exact W.iret (v := I3 z_94) hx hb hr (fun t ht hW => ⟨⟨I3 z_94, (z_94, th1_94, mn1_94, SG1_94, VL1_94, W1_94), rfl, ⟨rfl, ⟨o_45, o_46, o_47⟩⟩, by rw [ht]; exact hP, va_K.moved hW.alike hK, hD⟩, hS.F ht⟩) hS.2.2 dX8_sum_97
        · skip
          omega
      · skip
        omega
    · skip
      refine lv_iconst (v := I3 (4)) hx hb dX8_sum_60 rfl ?_
      refine lv_goto (tgt := 65) hx hb dX8_sum_61 (by decide) ?_
      refine lv_iconst (v := I3 (0)) hx hb dX8_sum_65 rfl ?_
      have h_48 : 0 ≤ (4 : Int) ∧ (4 : Int) < 16 := by first | assumption | omega | (constructor <;> omega)
      have h_49 : 0 ≤ (0 : Int) ∧ (0 : Int) < 16 := by first | assumption | omega | (constructor <;> omega)
      have h_50 : (4 : Int) ≠ (0 : Int) := by first | assumption | omega | (constructor <;> omega)
      have h_51 : Dg wf := by first | assumption | omega | (constructor <;> omega)
      have hPc := hP.sub (ws' := [(am, .inr (0, [.int (I3 th), .int (I3 mn), .ref as_, .ref av, .ref aw, .int (I3 sm), .int (I3 wd), .int (I3 lp), .int (I3 mp), .int (I3 re)])), (as_, .inl (dA 0, 60, .inl (iA SG))), (av, .inl (dA 1, 960, .inr (.inl (lA VL)))), (aw, .inl (dA 1, 1024, .inr (.inl (lA wf))))]) [0, 1, 2, 3] rfl
      have hDc := hD.sub (ws' := [(am, .inr (0, [.int (I3 th), .int (I3 mn), .ref as_, .ref av, .ref aw, .int (I3 sm), .int (I3 wd), .int (I3 lp), .int (I3 mp), .int (I3 re)])), (as_, .inl (dA 0, 60, .inl (iA SG))), (av, .inl (dA 1, 960, .inr (.inl (lA VL)))), (aw, .inl (dA 1, 1024, .inr (.inl (lA wf))))]) [0, 1, 2, 3] (by decide) rfl
      have hFc := va_free (wc := [(am, .inr (0, [.int (I3 th), .int (I3 mn), .ref as_, .ref av, .ref aw, .int (I3 sm), .int (I3 wd), .int (I3 lp), .int (I3 mp), .int (I3 re)])), (as_, .inl (dA 0, 60, .inl (iA SG))), (av, .inl (dA 1, 960, .inr (.inl (lA VL)))), (aw, .inl (dA 1, 1024, .inr (.inl (lA wf))))]) hD hS hA [0, 1, 2, 3] rfl
      refine va_callv (va_runV (As := [.int (I3 4), .int (I3 0)]) (rest := []) ⟨hx, hb, hml, hown, hts⟩ (metX8_copy l dC dI dA am as_ av aw H.size th mn sm wd lp mp re SG VL wf 4 0 h_48 h_49 h_50 h_51) (cwV 2 hts (lw_V q976 q978 qs24 q66 q979) rfl rfl rfl (by decide +kernel) ⟨Nat.le_of_ble_eq_true rfl, Nat.le_of_ble_eq_true rfl⟩) ⟨fun a U g mk q => by obtain ⟨q0, q1, qP, qK, qD⟩ := q; exact ⟨q0, q1, qP, va_K.moved (u := U) (U := U.calling g mk a) (Vm.Alike.refl U.vm) qK, qD⟩, va_recv hK hPc (ci := 0) (q0 := 0) rfl rfl, fun U hU hW => ⟨rfl, by rw [hU], by rw [hU]; exact hPc, va_K.moved hW.alike hK, hDc.weaken (fun _ _ _ _ => trivial)⟩⟩ rfl rfl hl.1 rfl (lv_room (Nat.le_of_ble_eq_true rfl)) dX8_sum_66 ⟨Nat.le_of_ble_eq_true rfl, Nat.le_of_ble_eq_true rfl⟩) hS (fun q _ h => hFc q h) hFc (fun u t H1 locs ht hvm hw hB hz1 hk1 hS => ?_)
      obtain ⟨W1_66, rfl⟩ : ∃ z, z = u := ⟨_, rfl⟩
      obtain ⟨p0_66, p1_66, p2_66⟩ : (Dg W1_66) ∧ (Fr wf W1_66 (0 : Int)) ∧ (rv W1_66 (0 : Int) = rv wf (4 : Int)) := hw
      obtain ⟨hP1, hK1, hD1⟩ := hB
      rw [ht] at hP1
      obtain ⟨hP, hD⟩ := va_join (wr := []) (w1 := [(am, .inr (0, [.int (I3 th), .int (I3 mn), .ref as_, .ref av, .ref aw, .int (I3 sm), .int (I3 wd), .int (I3 lp), .int (I3 mp), .int (I3 re)])), (as_, .inl (dA 0, 60, .inl (iA SG))), (av, .inl (dA 1, 960, .inr (.inl (lA VL)))), (aw, .inl (dA 1, 1024, .inr (.inl (lA W1_66))))]) hP hD [0, 1, 2, 3] [] rfl rfl (by decide) (by decide) hk1 hFc hP1 hD1
      generalize H1 = H at hP hS ⊢
      have hP : va_P (dC, dI) vwCl [(am, .inr (0, [.int (I3 th), .int (I3 mn), .ref as_, .ref av, .ref aw, .int (I3 sm), .int (I3 wd), .int (I3 lp), .int (I3 mp), .int (I3 re)])), (as_, .inl (dA 0, 60, .inl (iA SG))), (av, .inl (dA 1, 960, .inr (.inl (lA VL)))), (aw, .inl (dA 1, 1024, .inr (.inl (lA W1_66))))] H := hP
      have hD : va_D A [(am, .inr (0, [.int (I3 th), .int (I3 mn), .ref as_, .ref av, .ref aw, .int (I3 sm), .int (I3 wd), .int (I3 lp), .int (I3 mp), .int (I3 re)])), (as_, .inl (dA 0, 60, .inl (iA SG))), (av, .inl (dA 1, 960, .inr (.inl (lA VL)))), (aw, .inl (dA 1, 1024, .inr (.inl (lA W1_66))))] := hD
      refine lv_aload_n hx hb dX8_sum_69 rfl (lv_at hl 0 rfl) ?_
      refine lv_iconst (v := I3 (0)) hx hb dX8_sum_70 rfl ?_
      refine lv_iload_n hx hb dX8_sum_71 rfl (lv_at hl 3 rfl) ?_
      refine ix_if_eq (tgt := 79) hx hb (by first | decide | assumption | (constructor <;> omega)) dX8_sum_72 (by decide) (fun c_72 => ?_) (fun c_72 => ?_)
      · skip
        omega
      · skip
        refine lv_iconst (v := I3 (5)) hx hb dX8_sum_75 rfl ?_
        refine lv_goto (tgt := 80) hx hb dX8_sum_76 (by decide) ?_
        have h_52 : 0 ≤ (0 : Int) ∧ (0 : Int) < 16 := by first | assumption | omega | (constructor <;> omega)
        have h_53 : 0 ≤ (5 : Int) ∧ (5 : Int) < 16 := by first | assumption | omega | (constructor <;> omega)
        have h_54 : (0 : Int) ≠ (5 : Int) := by first | assumption | omega | (constructor <;> omega)
        have h_55 : rv W1_66 (5 : Int) ≤ rv W1_66 (0 : Int) := by rw [p2_66, Fr_rv p1_66 (by decide)]; omega
        have h_56 : Dg W1_66 := by first | assumption | omega | (constructor <;> omega)
        have hPc := hP.sub (ws' := [(am, .inr (0, [.int (I3 th), .int (I3 mn), .ref as_, .ref av, .ref aw, .int (I3 sm), .int (I3 wd), .int (I3 lp), .int (I3 mp), .int (I3 re)])), (as_, .inl (dA 0, 60, .inl (iA SG))), (av, .inl (dA 1, 960, .inr (.inl (lA VL)))), (aw, .inl (dA 1, 1024, .inr (.inl (lA W1_66))))]) [0, 1, 2, 3] rfl
        have hDc := hD.sub (ws' := [(am, .inr (0, [.int (I3 th), .int (I3 mn), .ref as_, .ref av, .ref aw, .int (I3 sm), .int (I3 wd), .int (I3 lp), .int (I3 mp), .int (I3 re)])), (as_, .inl (dA 0, 60, .inl (iA SG))), (av, .inl (dA 1, 960, .inr (.inl (lA VL)))), (aw, .inl (dA 1, 1024, .inr (.inl (lA W1_66))))]) [0, 1, 2, 3] (by decide) rfl
        have hFc := va_free (wc := [(am, .inr (0, [.int (I3 th), .int (I3 mn), .ref as_, .ref av, .ref aw, .int (I3 sm), .int (I3 wd), .int (I3 lp), .int (I3 mp), .int (I3 re)])), (as_, .inl (dA 0, 60, .inl (iA SG))), (av, .inl (dA 1, 960, .inr (.inl (lA VL)))), (aw, .inl (dA 1, 1024, .inr (.inl (lA W1_66))))]) hD hS hA [0, 1, 2, 3] rfl
        refine va_callv (va_runV (As := [.int (I3 0), .int (I3 5)]) (rest := []) ⟨hx, hb, hml, hown, hts⟩ (metX8_take l dC dI dA am as_ av aw H.size th mn sm wd lp mp re SG VL W1_66 0 5 h_52 h_53 h_54 h_55 h_56) (cwV 2 hts (lw_V q996 q998 qs29 q66 q999) rfl rfl rfl (by decide +kernel) ⟨Nat.le_of_ble_eq_true rfl, Nat.le_of_ble_eq_true rfl⟩) ⟨fun a U g mk q => by obtain ⟨q0, q1, qP, qK, qD⟩ := q; exact ⟨q0, q1, qP, va_K.moved (u := U) (U := U.calling g mk a) (Vm.Alike.refl U.vm) qK, qD⟩, va_recv hK hPc (ci := 0) (q0 := 0) rfl rfl, fun U hU hW => ⟨rfl, by rw [hU], by rw [hU]; exact hPc, va_K.moved hW.alike hK, hDc.weaken (fun _ _ _ _ => trivial)⟩⟩ rfl rfl hl.1 rfl (lv_room (Nat.le_of_ble_eq_true rfl)) dX8_sum_80 ⟨Nat.le_of_ble_eq_true rfl, Nat.le_of_ble_eq_true rfl⟩) hS (fun q _ h => hFc q h) hFc (fun u t H1 locs ht hvm hw hB hz1 hk1 hS => ?_)
        obtain ⟨W1_80, rfl⟩ : ∃ z, z = u := ⟨_, rfl⟩
        obtain ⟨p0_80, p1_80, p2_80⟩ : (Dg W1_80) ∧ (Fr W1_66 W1_80 (0 : Int)) ∧ (rv W1_80 (0 : Int) = rv W1_66 (0 : Int) - rv W1_66 (5 : Int)) := hw
        obtain ⟨hP1, hK1, hD1⟩ := hB
        rw [ht] at hP1
        obtain ⟨hP, hD⟩ := va_join (wr := []) (w1 := [(am, .inr (0, [.int (I3 th), .int (I3 mn), .ref as_, .ref av, .ref aw, .int (I3 sm), .int (I3 wd), .int (I3 lp), .int (I3 mp), .int (I3 re)])), (as_, .inl (dA 0, 60, .inl (iA SG))), (av, .inl (dA 1, 960, .inr (.inl (lA VL)))), (aw, .inl (dA 1, 1024, .inr (.inl (lA W1_80))))]) hP hD [0, 1, 2, 3] [] rfl rfl (by decide) (by decide) hk1 hFc hP1 hD1
        generalize H1 = H at hP hS ⊢
        have hP : va_P (dC, dI) vwCl [(am, .inr (0, [.int (I3 th), .int (I3 mn), .ref as_, .ref av, .ref aw, .int (I3 sm), .int (I3 wd), .int (I3 lp), .int (I3 mp), .int (I3 re)])), (as_, .inl (dA 0, 60, .inl (iA SG))), (av, .inl (dA 1, 960, .inr (.inl (lA VL)))), (aw, .inl (dA 1, 1024, .inr (.inl (lA W1_80))))] H := hP
        have hD : va_D A [(am, .inr (0, [.int (I3 th), .int (I3 mn), .ref as_, .ref av, .ref aw, .int (I3 sm), .int (I3 wd), .int (I3 lp), .int (I3 mp), .int (I3 re)])), (as_, .inl (dA 0, 60, .inl (iA SG))), (av, .inl (dA 1, 960, .inr (.inl (lA VL)))), (aw, .inl (dA 1, 1024, .inr (.inl (lA W1_80))))] := hD
        have f1 : rv W1_80 1 = rv wf 1 := (Fr_rv p1_80 (by decide)).trans (Fr_rv p1_66 (by decide))
        have f0 : rv W1_80 0 = sumP x y (rv wf 4) (rv wf 5) := by rw [p2_80, p2_66, Fr_rv p1_66 (by decide), es2]; first | (rw [if_pos (by omega)]; done) | (rw [if_neg (by omega)]; done)
        refine lv_aload_n hx hb dX8_sum_83 rfl (lv_at hl 0 rfl) ?_
        refine lv_iload_n hx hb dX8_sum_84 rfl (lv_at hl 3 rfl) ?_
        refine ix_if_eq (tgt := 92) hx hb (by first | decide | assumption | (constructor <;> omega)) dX8_sum_85 (by decide) (fun c_85 => ?_) (fun c_85 => ?_)
        · skip
          omega
        · skip
          refine lv_iload_n hx hb dX8_sum_88 rfl (lv_at hl 1 rfl) ?_
          refine lv_goto (tgt := 93) hx hb dX8_sum_89 (by decide) ?_
          refine lv_iconst (v := I3 (4)) hx hb dX8_sum_93 rfl ?_
          have h_57 : Dg W1_80 := by first | assumption | omega | (constructor <;> omega)
          have h_58 : Dg VL := by exact hV
          have h_59 : 0 ≤ mn ∧ mn ≤ 60 := by exact hmn
          have h_60 : In3 x := by constructor <;> omega
          have h_61 : In3 (4 : Int) := by first | assumption | omega | (constructor <;> omega)
          have h_62 : rv W1_80 1 ≠ 0 := by omega
          have h_63 : 2 * rv W1_80 1 ≤ BN := by omega
          have hPc := hP.sub (ws' := [(am, .inr (0, [.int (I3 th), .int (I3 mn), .ref as_, .ref av, .ref aw, .int (I3 sm), .int (I3 wd), .int (I3 lp), .int (I3 mp), .int (I3 re)])), (as_, .inl (dA 0, 60, .inl (iA SG))), (av, .inl (dA 1, 960, .inr (.inl (lA VL)))), (aw, .inl (dA 1, 1024, .inr (.inl (lA W1_80))))]) [0, 1, 2, 3] rfl
          have hDc := hD.sub (ws' := [(am, .inr (0, [.int (I3 th), .int (I3 mn), .ref as_, .ref av, .ref aw, .int (I3 sm), .int (I3 wd), .int (I3 lp), .int (I3 mp), .int (I3 re)])), (as_, .inl (dA 0, 60, .inl (iA SG))), (av, .inl (dA 1, 960, .inr (.inl (lA VL)))), (aw, .inl (dA 1, 1024, .inr (.inl (lA W1_80))))]) [0, 1, 2, 3] (by decide) rfl
          have hFc := va_free (wc := [(am, .inr (0, [.int (I3 th), .int (I3 mn), .ref as_, .ref av, .ref aw, .int (I3 sm), .int (I3 wd), .int (I3 lp), .int (I3 mp), .int (I3 re)])), (as_, .inl (dA 0, 60, .inl (iA SG))), (av, .inl (dA 1, 960, .inr (.inl (lA VL)))), (aw, .inl (dA 1, 1024, .inr (.inl (lA W1_80))))]) hD hS hA [0, 1, 2, 3] rfl
          refine va_calli (va_runV (As := [.int (I3 x), .int (I3 4)]) (rest := []) ⟨hx, hb, hml, hown, hts⟩ (metX8_make l dC dI dA am as_ av aw H.size th mn sm wd lp mp re SG VL W1_80 x 4 h_57 h_58 h_59 h_60 h_61 h_62 h_63) (cwV 2 hts (lw_V q964 q966 qs21 q66 q967) rfl rfl rfl (by decide +kernel) ⟨Nat.le_of_ble_eq_true rfl, Nat.le_of_ble_eq_true rfl⟩) ⟨fun a U g mk q => by obtain ⟨q0, q1, qP, qK, qD⟩ := q; exact ⟨q0, q1, qP, va_K.moved (u := U) (U := U.calling g mk a) (Vm.Alike.refl U.vm) qK, qD⟩, va_recv hK hPc (ci := 0) (q0 := 0) rfl rfl, fun U hU hW => ⟨rfl, by rw [hU], by rw [hU]; exact hPc, va_K.moved hW.alike hK, hDc.weaken (fun _ _ _ _ => trivial)⟩⟩ rfl rfl hl.1 rfl (lv_room (Nat.le_of_ble_eq_true rfl)) dX8_sum_94 ⟨Nat.le_of_ble_eq_true rfl, Nat.le_of_ble_eq_true rfl⟩) hS (fun q _ h => hFc q h) hFc (fun r_94 u t H1 locs ht hvm hw hB hz1 hk1 hS => ?_)
          obtain ⟨z_94, th1_94, mn1_94, SG1_94, VL1_94, W1_94⟩ := u
          obtain ⟨rfl, p0_94, p1_94, p2_94, p3_94⟩ : r_94 = I3 z_94 ∧ (Dg W1_94) ∧ (Dg VL1_94) ∧ (0 ≤ mn1_94 ∧ mn1_94 ≤ 60) ∧ (Mde mn SG VL x (rv W1_80 0) (rv W1_80 1) (4 : Int) z_94 th1_94 mn1_94 SG1_94 VL1_94) := hw
          obtain ⟨hP1, hK1, hD1⟩ := hB
          rw [ht] at hP1
          obtain ⟨hP, hD⟩ := va_join (wr := []) (w1 := [(am, .inr (0, [.int (I3 th1_94), .int (I3 mn1_94), .ref as_, .ref av, .ref aw, .int (I3 sm), .int (I3 wd), .int (I3 lp), .int (I3 mp), .int (I3 re)])), (as_, .inl (dA 0, 60, .inl (iA SG1_94))), (av, .inl (dA 1, 960, .inr (.inl (lA VL1_94)))), (aw, .inl (dA 1, 1024, .inr (.inl (lA W1_94))))]) hP hD [0, 1, 2, 3] [] rfl rfl (by decide) (by decide) hk1 hFc hP1 hD1
          generalize H1 = H at hP hS ⊢
          have hP : va_P (dC, dI) vwCl [(am, .inr (0, [.int (I3 th1_94), .int (I3 mn1_94), .ref as_, .ref av, .ref aw, .int (I3 sm), .int (I3 wd), .int (I3 lp), .int (I3 mp), .int (I3 re)])), (as_, .inl (dA 0, 60, .inl (iA SG1_94))), (av, .inl (dA 1, 960, .inr (.inl (lA VL1_94)))), (aw, .inl (dA 1, 1024, .inr (.inl (lA W1_94))))] H := hP
          have hD : va_D A [(am, .inr (0, [.int (I3 th1_94), .int (I3 mn1_94), .ref as_, .ref av, .ref aw, .int (I3 sm), .int (I3 wd), .int (I3 lp), .int (I3 mp), .int (I3 re)])), (as_, .inl (dA 0, 60, .inl (iA SG1_94))), (av, .inl (dA 1, 960, .inr (.inl (lA VL1_94)))), (aw, .inl (dA 1, 1024, .inr (.inl (lA W1_94))))] := hD
          have hM := p3_94
          have eg : sumG x y (rv wf 4) (rv wf 5) = _ := es1.trans (by first | exact if_pos (by omega) | exact if_neg (by omega))
          rw [← eg, f0, f1] at hM
          have o_64 : Dg W1_94 := by first | assumption | omega | (constructor <;> omega)
          have o_65 : MI mn1_94 SG1_94 VL1_94 := by exact MI_Mde hI (by omega) hs3.1 hs3.2 p1_94 p2_94 hM
          have o_66 : Mde mn SG VL ((sumG x y (rv wf 4) (rv wf 5))) ((sumP x y (rv wf 4) (rv wf 5))) ((rv wf 1)) 4 z_94 th1_94 mn1_94 SG1_94 VL1_94 := by exact hM
          exact W.iret (v := I3 z_94) hx hb hr (fun t ht hW => ⟨⟨I3 z_94, (z_94, th1_94, mn1_94, SG1_94, VL1_94, W1_94), rfl, ⟨rfl, ⟨o_64, o_65, o_66⟩⟩, by rw [ht]; exact hP, va_K.moved hW.alike hK, hD⟩, hS.F ht⟩) hS.2.2 dX8_sum_97
  refine lv_iload_n hx hb dX8_sum_0 rfl (lv_at hl 1 rfl) ?_
  refine ix_if_eq (tgt := 13) hx hb (by first | decide | assumption | (constructor <;> omega)) dX8_sum_1 (by decide) (fun c_1 => ?_) (fun c_1 => ?_)
  · skip
    have e_67 : x = 0 ∨ y = 0 ∨ x = y := by first | assumption | omega | (constructor <;> omega)
    exact cut_13  e_67 _ _ hP hD hS ls (lv_sub hl [0, 1, 2] rfl)
  · skip
    refine lv_iload_n hx hb dX8_sum_4 rfl (lv_at hl 2 rfl) ?_
    refine ix_if_eq (tgt := 13) hx hb (by first | decide | assumption | (constructor <;> omega)) dX8_sum_5 (by decide) (fun c_5 => ?_) (fun c_5 => ?_)
    · skip
      have e_68 : x = 0 ∨ y = 0 ∨ x = y := by first | assumption | omega | (constructor <;> omega)
      exact cut_13  e_68 _ _ hP hD hS ls (lv_sub hl [0, 1, 2] rfl)
    · skip
      refine lv_iload_n hx hb dX8_sum_8 rfl (lv_at hl 1 rfl) ?_
      refine lv_iload_n hx hb dX8_sum_9 rfl (lv_at hl 2 rfl) ?_
      refine ix_icmp_ne (tgt := 40) hx hb (by first | decide | assumption | (constructor <;> omega)) (by first | decide | assumption | (constructor <;> omega)) dX8_sum_10 (by decide) (fun c_10 => ?_) (fun c_10 => ?_)
      · skip
        refine lv_aload_n hx hb dX8_sum_40 rfl (lv_at hl 0 rfl) ?_
        refine lv_iconst (v := I3 (4)) hx hb dX8_sum_41 rfl ?_
        refine lv_iconst (v := I3 (5)) hx hb dX8_sum_42 rfl ?_
        have h_69 : 0 ≤ (4 : Int) ∧ (4 : Int) < 16 := by first | assumption | omega | (constructor <;> omega)
        have h_70 : 0 ≤ (5 : Int) ∧ (5 : Int) < 16 := by first | assumption | omega | (constructor <;> omega)
        have h_71 : Dg wf := by first | assumption | omega | (constructor <;> omega)
        have hPc := hP.sub (ws' := [(am, .inr (0, [.int (I3 th), .int (I3 mn), .ref as_, .ref av, .ref aw, .int (I3 sm), .int (I3 wd), .int (I3 lp), .int (I3 mp), .int (I3 re)])), (as_, .inl (dA 0, 60, .inl (iA SG))), (av, .inl (dA 1, 960, .inr (.inl (lA VL)))), (aw, .inl (dA 1, 1024, .inr (.inl (lA wf))))]) [0, 1, 2, 3] rfl
        have hDc := hD.sub (ws' := [(am, .inr (0, [.int (I3 th), .int (I3 mn), .ref as_, .ref av, .ref aw, .int (I3 sm), .int (I3 wd), .int (I3 lp), .int (I3 mp), .int (I3 re)])), (as_, .inl (dA 0, 60, .inl (iA SG))), (av, .inl (dA 1, 960, .inr (.inl (lA VL)))), (aw, .inl (dA 1, 1024, .inr (.inl (lA wf))))]) [0, 1, 2, 3] (by decide) rfl
        have hFc := va_free (wc := [(am, .inr (0, [.int (I3 th), .int (I3 mn), .ref as_, .ref av, .ref aw, .int (I3 sm), .int (I3 wd), .int (I3 lp), .int (I3 mp), .int (I3 re)])), (as_, .inl (dA 0, 60, .inl (iA SG))), (av, .inl (dA 1, 960, .inr (.inl (lA VL)))), (aw, .inl (dA 1, 1024, .inr (.inl (lA wf))))]) hD hS hA [0, 1, 2, 3] rfl
        refine va_calli (va_runV (As := [.int (I3 4), .int (I3 5)]) (rest := []) ⟨hx, hb, hml, hown, hts⟩ (metX8_compare l dC dI dA am as_ av aw s.heap.size th mn sm wd lp mp re SG VL wf 4 5 h_69 h_70 h_71) (cwV 2 hts (lw_V q988 q990 qs27 q66 q991) rfl rfl rfl (by decide +kernel) ⟨Nat.le_of_ble_eq_true rfl, Nat.le_of_ble_eq_true rfl⟩) ⟨fun a U g mk q => by obtain ⟨q0, q1, qP, qK, qD⟩ := q; exact ⟨q0, q1, qP, va_K.moved (u := U) (U := U.calling g mk a) (Vm.Alike.refl U.vm) qK, qD⟩, va_recv hK hPc (ci := 0) (q0 := 0) rfl rfl, fun U hU hW => ⟨rfl, by rw [hU], by rw [hU]; exact hPc, va_K.moved hW.alike hK, hDc.weaken (fun _ _ _ _ => trivial)⟩⟩ rfl rfl hl.1 rfl (lv_room (Nat.le_of_ble_eq_true rfl)) dX8_sum_43 ⟨Nat.le_of_ble_eq_true rfl, Nat.le_of_ble_eq_true rfl⟩) hS (fun q _ h => hFc q h) hFc (fun r_43 u t H1 locs ht hvm hw hB hz1 hk1 hS => ?_)
        obtain ⟨z_43, rfl⟩ : ∃ z, z = u := ⟨_, rfl⟩
        obtain ⟨rfl, p0_43⟩ : r_43 = I3 z_43 ∧ (z_43 = cmpN (rv wf (4 : Int)) (rv wf (5 : Int))) := hw
        obtain ⟨hP1, hK1, hD1⟩ := hB
        rw [ht] at hP1
        obtain ⟨hP, hD⟩ := va_join (wr := []) (w1 := [(am, .inr (0, [.int (I3 th), .int (I3 mn), .ref as_, .ref av, .ref aw, .int (I3 sm), .int (I3 wd), .int (I3 lp), .int (I3 mp), .int (I3 re)])), (as_, .inl (dA 0, 60, .inl (iA SG))), (av, .inl (dA 1, 960, .inr (.inl (lA VL)))), (aw, .inl (dA 1, 1024, .inr (.inl (lA wf))))]) hP hD [0, 1, 2, 3] [] rfl rfl (by decide) (by decide) hk1 hFc hP1 hD1
        generalize H1 = H at hP hS ⊢
        have hP : va_P (dC, dI) vwCl [(am, .inr (0, [.int (I3 th), .int (I3 mn), .ref as_, .ref av, .ref aw, .int (I3 sm), .int (I3 wd), .int (I3 lp), .int (I3 mp), .int (I3 re)])), (as_, .inl (dA 0, 60, .inl (iA SG))), (av, .inl (dA 1, 960, .inr (.inl (lA VL)))), (aw, .inl (dA 1, 1024, .inr (.inl (lA wf))))] H := hP
        have hD : va_D A [(am, .inr (0, [.int (I3 th), .int (I3 mn), .ref as_, .ref av, .ref aw, .int (I3 sm), .int (I3 wd), .int (I3 lp), .int (I3 mp), .int (I3 re)])), (as_, .inl (dA 0, 60, .inl (iA SG))), (av, .inl (dA 1, 960, .inr (.inl (lA VL)))), (aw, .inl (dA 1, 1024, .inr (.inl (lA wf))))] := hD
        refine ix_if_lt (tgt := 53) hx hb (by have q := cmpN3 p0_43; constructor <;> omega) dX8_sum_46 (by decide) (fun c_46 => ?_) (fun c_46 => ?_)
        · skip
          refine lv_iconst (v := I3 (0)) hx hb dX8_sum_53 rfl ?_
          refine lv_istore_n (lv' := [(3, .int (I3 0)), (0, .ref am), (1, .int (I3 x)), (2, .int (I3 y))]) hx hb dX8_sum_54 rfl hl (by decide) rfl (fun ls hl => ?_)
          have q := cmpN3 p0_43
          have e_72 : ¬ (x = 0 ∨ y = 0 ∨ x = y) := by first | assumption | omega | (constructor <;> omega)
          have e_73 : ((0 : Int) = 1 ∧ rv wf 5 ≤ rv wf 4) ∨ ((0 : Int) = 0 ∧ rv wf 4 < rv wf 5) := by first | assumption | omega | (constructor <;> omega)
          exact cut_55 0 e_72 e_73 _ _ hP hD hS ls (lv_sub hl [1, 2, 3, 0] rfl)
        · skip
          refine lv_iconst (v := I3 (1)) hx hb dX8_sum_49 rfl ?_
          refine lv_goto (tgt := 54) hx hb dX8_sum_50 (by decide) ?_
          refine lv_istore_n (lv' := [(3, .int (I3 1)), (0, .ref am), (1, .int (I3 x)), (2, .int (I3 y))]) hx hb dX8_sum_54 rfl hl (by decide) rfl (fun ls hl => ?_)
          have q := cmpN3 p0_43
          have e_74 : ¬ (x = 0 ∨ y = 0 ∨ x = y) := by first | assumption | omega | (constructor <;> omega)
          have e_75 : ((1 : Int) = 1 ∧ rv wf 5 ≤ rv wf 4) ∨ ((1 : Int) = 0 ∧ rv wf 4 < rv wf 5) := by first | assumption | omega | (constructor <;> omega)
          exact cut_55 1 e_74 e_75 _ _ hP hD hS ls (lv_sub hl [1, 2, 3, 0] rfl)
      · skip
        have e_76 : x = 0 ∨ y = 0 ∨ x = y := by first | assumption | omega | (constructor <;> omega)
        exact cut_13  e_76 _ _ hP hD hS ls (lv_sub hl [0, 1, 2] rfl)
abbrev BmetX8_power (dC : Nat → ClassId) (dI : Nat → Nat → Nat) (dA : Nat → ClassId) (A : Nat → Prop) (am : Nat) (as_ : Nat) (av : Nat) (aw : Nat) (th : Int) (mn : Int) (sm : Int) (wd : Int) (lp : Int) (mp : Int) (re : Int) (SG : Int → Int) (VL : Int → Int) (wf : Int → Int) (a : Int) (b : Int) : Int × Int × Int × (Int → Int) × (Int → Int) × (Int → Int) → State → Prop := fun u t => (fun (u : Int × Int × Int × (Int → Int) × (Int → Int) × (Int → Int)) => (fun (z : Int) (th1 : Int) (mn1 : Int) (SG1 : Int → Int) (VL1 : Int → Int) (W1 : Int → Int) => va_P (dC, dI) vwCl [(am, .inr (0, [.int (I3 th1), .int (I3 mn1), .ref as_, .ref av, .ref aw, .int (I3 sm), .int (I3 wd), .int (I3 lp), .int (I3 mp), .int (I3 re)])), (as_, .inl (dA 0, 60, .inl (iA SG1))), (av, .inl (dA 1, 960, .inr (.inl (lA VL1)))), (aw, .inl (dA 1, 1024, .inr (.inl (lA W1))))] t.heap ∧ va_K (dC, dI) vwCl (tyA dA) t ∧ va_D A [(am, .inr (0, [.int (I3 th1), .int (I3 mn1), .ref as_, .ref av, .ref aw, .int (I3 sm), .int (I3 wd), .int (I3 lp), .int (I3 mp), .int (I3 re)])), (as_, .inl (dA 0, 60, .inl (iA SG1))), (av, .inl (dA 1, 960, .inr (.inl (lA VL1)))), (aw, .inl (dA 1, 1024, .inr (.inl (lA W1))))]) u.1 u.2.1 u.2.2.1 u.2.2.2.1 u.2.2.2.2.1 u.2.2.2.2.2) u
abbrev QmetX8_power (dC : Nat → ClassId) (dI : Nat → Nat → Nat) (dA : Nat → ClassId) (A : Nat → Prop) (am : Nat) (as_ : Nat) (av : Nat) (aw : Nat) (th : Int) (mn : Int) (sm : Int) (wd : Int) (lp : Int) (mp : Int) (re : Int) (SG : Int → Int) (VL : Int → Int) (wf : Int → Int) (a : Int) (b : Int) := va_Qi (fun (rt_ : Int32) => fun (u : Int × Int × Int × (Int → Int) × (Int → Int) × (Int → Int)) => (fun (z : Int) (th1 : Int) (mn1 : Int) (SG1 : Int → Int) (VL1 : Int → Int) (W1 : Int → Int) => rt_ = I3 z ∧ (Dg W1) ∧ (MI mn1 SG1 VL1) ∧ (¬ pwO (pv VL a) (qv VL a) b.natAbs → Fld mn SG VL 4 z th1 mn1 SG1 VL1) ∧ (pwO (pv VL a) (qv VL a) b.natAbs → Mde mn SG VL (if SG a < 0 ∧ b.natAbs % 2 = 1 then -1 else 1) (if b < 0 then qv VL a ^ b.natAbs else pv VL a ^ b.natAbs) (if b < 0 then pv VL a ^ b.natAbs else qv VL a ^ b.natAbs) 4 z th1 mn1 SG1 VL1)) u.1 u.2.1 u.2.2.1 u.2.2.2.1 u.2.2.2.2.1 u.2.2.2.2.2) (BmetX8_power dC dI dA A am as_ av aw th mn sm wd lp mp re SG VL wf a b) A
set_option maxHeartbeats 1000000 in
set_option maxRecDepth 100000 in
/-- power -/
theorem metX8_power (l : Launch) (dC : Nat → ClassId) (dI : Nat → Nat → Nat) (dA : Nat → ClassId) (am : Nat) (as_ : Nat) (av : Nat) (aw : Nat) (sz : Nat) (th : Int) (mn : Int) (sm : Int) (wd : Int) (lp : Int) (mp : Int) (re : Int) (SG : Int → Int) (VL : Int → Int) (wf : Int → Int) (a : Int) (b : Int) (hW : Dg wf) (hI : MI mn SG VL) (ha : 0 ≤ a ∧ a < mn) (hb3 : -1000 ≤ b ∧ b ≤ 1000) (hb0 : b < 0 → SG a ≠ 0) : Met l yX8_power (ws_ yX8_power cX8_power 6 (some .int)) ({ frames := 4, cells := 0, slots := 0, locals := 160 }) (va_Pc [.ref am, .int (I3 a), .int (I3 b)] (fun U => U.heap.size = sz ∧ va_P (dC, dI) vwCl [(am, .inr (0, [.int (I3 th), .int (I3 mn), .ref as_, .ref av, .ref aw, .int (I3 sm), .int (I3 wd), .int (I3 lp), .int (I3 mp), .int (I3 re)])), (as_, .inl (dA 0, 60, .inl (iA SG))), (av, .inl (dA 1, 960, .inr (.inl (lA VL)))), (aw, .inl (dA 1, 1024, .inr (.inl (lA wf))))] U.heap ∧ va_K (dC, dI) vwCl (tyA dA) U ∧ va_D (fun _ => True) [(am, .inr (0, [.int (I3 th), .int (I3 mn), .ref as_, .ref av, .ref aw, .int (I3 sm), .int (I3 wd), .int (I3 lp), .int (I3 mp), .int (I3 re)])), (as_, .inl (dA 0, 60, .inl (iA SG))), (av, .inl (dA 1, 960, .inr (.inl (lA VL)))), (aw, .inl (dA 1, 1024, .inr (.inl (lA wf))))])) (QmetX8_power dC dI dA (va_A [(am, .inr (0, [.int (I3 th), .int (I3 mn), .ref as_, .ref av, .ref aw, .int (I3 sm), .int (I3 wd), .int (I3 lp), .int (I3 mp), .int (I3 re)])), (as_, .inl (dA 0, 60, .inl (iA SG))), (av, .inl (dA 1, 960, .inr (.inl (lA VL)))), (aw, .inl (dA 1, 1024, .inr (.inl (lA wf))))] sz) am as_ av aw th mn sm wd lp mp re SG VL wf a b) 0 0 (va_A [(am, .inr (0, [.int (I3 th), .int (I3 mn), .ref as_, .ref av, .ref aw, .int (I3 sm), .int (I3 wd), .int (I3 lp), .int (I3 mp), .int (I3 re)])), (as_, .inl (dA 0, 60, .inl (iA SG))), (av, .inl (dA 1, 960, .inr (.inl (lA VL)))), (aw, .inl (dA 1, 1024, .inr (.inl (lA wf))))] sz) := by
  refine Met.ofW (cc := cX8_power) (maxL := 6) (ret := (some .int)) (by decide) rfl ?_
  intro p e s m args below meth c s₁ B hml hv
  obtain ⟨rfl, hsz, hP, hK, hD0⟩ := hv
  have hx := B.exec
  have hb := B.bytes
  have hr := B.returns
  have hts := atoms_spec (ws := (ws_ yX8_power cX8_power 6 (some .int))) B.pre
  have hts : ∀ w ∈ lw_all, w.before _ s = true := fun w h => hts w (List.mem_cons_of_mem _ h)
  have hown : s.vm.findClass RX8 = some m.cls := findClass_of_methodNamed B.named
  have hlocks := B.notSynchronized
  subst hsz
  have hD := hD0.self (sz := s.heap.size)
  generalize hAe : va_A [(am, .inr (0, [.int (I3 th), .int (I3 mn), .ref as_, .ref av, .ref aw, .int (I3 sm), .int (I3 wd), .int (I3 lp), .int (I3 mp), .int (I3 re)])), (as_, .inl (dA 0, 60, .inl (iA SG))), (av, .inl (dA 1, 960, .inr (.inl (lA VL)))), (aw, .inl (dA 1, 1024, .inr (.inl (lA wf))))] s.heap.size = A at hD ⊢
  have hA : ∀ q : Nat, s.heap.size ≤ q → A q := fun q h => by rw [← hAe]; exact Or.inr h
  have hS : va_S A s.heap s.heap [] := va_S.rf
  have hP : va_P (dC, dI) vwCl [(am, .inr (0, [.int (I3 th), .int (I3 mn), .ref as_, .ref av, .ref aw, .int (I3 sm), .int (I3 wd), .int (I3 lp), .int (I3 mp), .int (I3 re)])), (as_, .inl (dA 0, 60, .inl (iA SG))), (av, .inl (dA 1, 960, .inr (.inl (lA VL)))), (aw, .inl (dA 1, 1024, .inr (.inl (lA wf))))] s.heap := hP
  have hl := lv_entry ([.ref am, .int (I3 a), .int (I3 b)]) (n := 6) (Nat.le_of_ble_eq_true rfl)
  rw [lg_entry_eq]
  generalize (lg_sl ([.ref am, .int (I3 a), .int (I3 b)]) ++ List.replicate (6 - (lg_sl ([.ref am, .int (I3 a), .int (I3 b)])).length) Slot.unset).toArray = ls at hl ⊢
  have hl : lv_has ls 6 [(0, .ref am), (1, .int (I3 a)), (2, .int (I3 b))] := hl
  have cut_61 : ∀ (fuel_61 : Nat), ∀ (n_ : Int) (g : Int) (k : Int) (W1 : Int → Int), (n_ = b.natAbs) → (g = if SG a < 0 ∧ b.natAbs % 2 = 1 then -1 else 1) → (g = -1 ∨ g = 1) → (0 ≤ k ∧ k ≤ n_) → (Dg W1) → (rv W1 2 = pv VL a) → (rv W1 3 = qv VL a) → (rv W1 0 = pv VL a ^ k.toNat) → (rv W1 1 = qv VL a ^ k.toNat) → (rv W1 0 < B8) → (rv W1 1 < B8) → ((n_ - k).toNat < fuel_61) → ∀ (H : Heap) (locs : List Loc), va_P (dC, dI) vwCl [(am, .inr (0, [.int (I3 th), .int (I3 mn), .ref as_, .ref av, .ref aw, .int (I3 sm), .int (I3 wd), .int (I3 lp), .int (I3 mp), .int (I3 re)])), (as_, .inl (dA 0, 60, .inl (iA SG))), (av, .inl (dA 1, 960, .inr (.inl (lA VL)))), (aw, .inl (dA 1, 1024, .inr (.inl (lA W1))))] H → va_D A [(am, .inr (0, [.int (I3 th), .int (I3 mn), .ref as_, .ref av, .ref aw, .int (I3 sm), .int (I3 wd), .int (I3 lp), .int (I3 mp), .int (I3 re)])), (as_, .inl (dA 0, 60, .inl (iA SG))), (av, .inl (dA 1, 960, .inr (.inl (lA VL)))), (aw, .inl (dA 1, 1024, .inr (.inl (lA W1))))] → va_S A s.heap H locs → ∀ (ls : Array Slot), lv_has ls 6 [(0, .ref am), (1, .int (I3 a)), (2, .int (I3 b)), (3, .int (I3 n_)), (4, .int (I3 g)), (5, .int (I3 k))] → W p l e (headSpec (ws_ yX8_power cX8_power 6 (some .int)) ({ frames := 4, cells := 0, slots := 0, locals := 160 })).room s m ([.ref am, .int (I3 a), .int (I3 b)] : List Value).toArray below meth c H locs 0 0 (MQ below (QmetX8_power dC dI dA A am as_ av aw th mn sm wd lp mp re SG VL wf a b) ([.ref am, .int (I3 a), .int (I3 b)] : List Value).toArray s 0 0 A) (F0 m 61 ls []) := by
    intro fuel_61
    induction fuel_61 with
    | zero =>
      intro n_ g k W1 hn hg hg1 hk hW1 f2 f3 f0 f1 hl0 hl1 hm
      exact absurd hm (Nat.not_lt_zero _)
    | succ fuel_61 ih_61 =>
      intro n_ g k W1 hn hg hg1 hk hW1 f2 f3 f0 f1 hl0 hl1 hm_61 H locs hP hD hS ls hl
      obtain ⟨hmn, hV, hAll⟩ := id hI
      have ha2 := hAll a (by omega) (by omega)
      have la := pv_lt hV a
      have lb := qv_lt hV a
      have hBB := BB_BN
      have hBp := B8_pos
      have hB82 := B8_2
      refine lv_iload hx hb dX8_power_61 (lv_at hl 5 rfl) ?_
      refine lv_iload_n hx hb dX8_power_63 rfl (lv_at hl 3 rfl) ?_
      refine ix_icmp_ge (tgt := 127) hx hb (by first | decide | assumption | (constructor <;> omega)) (by first | decide | assumption | (constructor <;> omega)) dX8_power_64 (by decide) (fun c_64 => ?_) (fun c_64 => ?_)
      · skip
        refine lv_iload_n hx hb dX8_power_127 rfl (lv_at hl 2 rfl) ?_
        refine ix_if_ge (tgt := 137) hx hb (by first | decide | assumption | (constructor <;> omega)) dX8_power_128 (by decide) (fun c_128 => ?_) (fun c_128 => ?_)
        · skip
          refine lv_aload_n hx hb dX8_power_137 rfl (lv_at hl 0 rfl) ?_
          refine lv_iload hx hb dX8_power_138 (lv_at hl 4 rfl) ?_
          refine lv_iconst (v := I3 (4)) hx hb dX8_power_140 rfl ?_
          have h_1 : Dg W1 := by first | assumption | omega | (constructor <;> omega)
          have h_2 : Dg VL := by exact hV
          have h_3 : 0 ≤ mn ∧ mn ≤ 60 := by exact hmn
          have h_4 : In3 g := by constructor <;> omega
          have h_5 : In3 (4 : Int) := by first | assumption | omega | (constructor <;> omega)
          have h_6 : rv W1 1 ≠ 0 := by first | (rw [p3_134]; have := Nat.pos_of_ne_zero (show pv VL a ≠ 0 from fun q => hb0 (by omega) (ha2.2.1.mpr q)); rw [f0]; exact Nat.ne_of_gt (Nat.pow_pos this)) | (rw [f1]; exact Nat.ne_of_gt (Nat.pow_pos (Nat.pos_of_ne_zero ha2.2.2.1)))
          have h_7 : 2 * rv W1 1 ≤ BN := by first | (rw [p3_134]; have := B8_8; have h3 := Nat.mul_le_mul (Nat.mul_le_mul B8_pos B8_pos) B8_pos; omega) | omega
          have hPc := hP.sub (ws' := [(am, .inr (0, [.int (I3 th), .int (I3 mn), .ref as_, .ref av, .ref aw, .int (I3 sm), .int (I3 wd), .int (I3 lp), .int (I3 mp), .int (I3 re)])), (as_, .inl (dA 0, 60, .inl (iA SG))), (av, .inl (dA 1, 960, .inr (.inl (lA VL)))), (aw, .inl (dA 1, 1024, .inr (.inl (lA W1))))]) [0, 1, 2, 3] rfl
          have hDc := hD.sub (ws' := [(am, .inr (0, [.int (I3 th), .int (I3 mn), .ref as_, .ref av, .ref aw, .int (I3 sm), .int (I3 wd), .int (I3 lp), .int (I3 mp), .int (I3 re)])), (as_, .inl (dA 0, 60, .inl (iA SG))), (av, .inl (dA 1, 960, .inr (.inl (lA VL)))), (aw, .inl (dA 1, 1024, .inr (.inl (lA W1))))]) [0, 1, 2, 3] (by decide) rfl
          have hFc := va_free (wc := [(am, .inr (0, [.int (I3 th), .int (I3 mn), .ref as_, .ref av, .ref aw, .int (I3 sm), .int (I3 wd), .int (I3 lp), .int (I3 mp), .int (I3 re)])), (as_, .inl (dA 0, 60, .inl (iA SG))), (av, .inl (dA 1, 960, .inr (.inl (lA VL)))), (aw, .inl (dA 1, 1024, .inr (.inl (lA W1))))]) hD hS hA [0, 1, 2, 3] rfl
          refine va_calli (va_runV (As := [.int (I3 g), .int (I3 4)]) (rest := []) ⟨hx, hb, hml, hown, hts⟩ (metX8_make l dC dI dA am as_ av aw H.size th mn sm wd lp mp re SG VL W1 g 4 h_1 h_2 h_3 h_4 h_5 h_6 h_7) (cwV 2 hts (lw_V q964 q966 qs21 q66 q967) rfl rfl rfl (by decide +kernel) ⟨Nat.le_of_ble_eq_true rfl, Nat.le_of_ble_eq_true rfl⟩) ⟨fun a U g mk q => by obtain ⟨q0, q1, qP, qK, qD⟩ := q; exact ⟨q0, q1, qP, va_K.moved (u := U) (U := U.calling g mk a) (Vm.Alike.refl U.vm) qK, qD⟩, va_recv hK hPc (ci := 0) (q0 := 0) rfl rfl, fun U hU hW => ⟨rfl, by rw [hU], by rw [hU]; exact hPc, va_K.moved hW.alike hK, hDc.weaken (fun _ _ _ _ => trivial)⟩⟩ rfl rfl hl.1 rfl (lv_room (Nat.le_of_ble_eq_true rfl)) dX8_power_141 ⟨Nat.le_of_ble_eq_true rfl, Nat.le_of_ble_eq_true rfl⟩) hS (fun q _ h => hFc q h) hFc (fun r_141 u t H1 locs ht hvm hw hB hz1 hk1 hS => ?_)
          obtain ⟨z_141, th1_141, mn1_141, SG1_141, VL1_141, W1_141⟩ := u
          obtain ⟨rfl, p0_141, p1_141, p2_141, p3_141⟩ : r_141 = I3 z_141 ∧ (Dg W1_141) ∧ (Dg VL1_141) ∧ (0 ≤ mn1_141 ∧ mn1_141 ≤ 60) ∧ (Mde mn SG VL g (rv W1 0) (rv W1 1) (4 : Int) z_141 th1_141 mn1_141 SG1_141 VL1_141) := hw
          obtain ⟨hP1, hK1, hD1⟩ := hB
          rw [ht] at hP1
          obtain ⟨hP, hD⟩ := va_join (wr := []) (w1 := [(am, .inr (0, [.int (I3 th1_141), .int (I3 mn1_141), .ref as_, .ref av, .ref aw, .int (I3 sm), .int (I3 wd), .int (I3 lp), .int (I3 mp), .int (I3 re)])), (as_, .inl (dA 0, 60, .inl (iA SG1_141))), (av, .inl (dA 1, 960, .inr (.inl (lA VL1_141)))), (aw, .inl (dA 1, 1024, .inr (.inl (lA W1_141))))]) hP hD [0, 1, 2, 3] [] rfl rfl (by decide) (by decide) hk1 hFc hP1 hD1
          generalize H1 = H at hP hS ⊢
          have hP : va_P (dC, dI) vwCl [(am, .inr (0, [.int (I3 th1_141), .int (I3 mn1_141), .ref as_, .ref av, .ref aw, .int (I3 sm), .int (I3 wd), .int (I3 lp), .int (I3 mp), .int (I3 re)])), (as_, .inl (dA 0, 60, .inl (iA SG1_141))), (av, .inl (dA 1, 960, .inr (.inl (lA VL1_141)))), (aw, .inl (dA 1, 1024, .inr (.inl (lA W1_141))))] H := hP
          have hD : va_D A [(am, .inr (0, [.int (I3 th1_141), .int (I3 mn1_141), .ref as_, .ref av, .ref aw, .int (I3 sm), .int (I3 wd), .int (I3 lp), .int (I3 mp), .int (I3 re)])), (as_, .inl (dA 0, 60, .inl (iA SG1_141))), (av, .inl (dA 1, 960, .inr (.inl (lA VL1_141)))), (aw, .inl (dA 1, 1024, .inr (.inl (lA W1_141))))] := hD
          have ek : k = (b.natAbs : Int) := by omega
          have ek2 : k.toNat = b.natAbs := by omega
          rw [ek2] at f0 f1
          have hyes : pwO (pv VL a) (qv VL a) b.natAbs := ⟨by rw [← f0]; exact bl_B8.mpr hl0, by rw [← f1]; exact bl_B8.mpr hl1⟩
          have hM := p3_141
          rw [hg] at hM
          have o_8 : Dg W1_141 := by first | assumption | omega | (constructor <;> omega)
          have o_9 : MI mn1_141 SG1_141 VL1_141 := by exact MI_Mde hI (by first | exact h_hQ | assumption) (by omega) (fun q => by omega) p1_141 p2_141 p3_141
          have o_10 : ¬ pwO (pv VL a) (qv VL a) b.natAbs → Fld mn SG VL 4 z_141 th1_141 mn1_141 SG1_141 VL1_141 := by intro q; exact absurd hyes q
          have o_11 : pwO (pv VL a) (qv VL a) b.natAbs → Mde mn SG VL (if SG a < 0 ∧ b.natAbs % 2 = 1 then -1 else 1) (if b < 0 then qv VL a ^ b.natAbs else pv VL a ^ b.natAbs) (if b < 0 then pv VL a ^ b.natAbs else qv VL a ^ b.natAbs) 4 z_141 th1_141 mn1_141 SG1_141 VL1_141 := by intro q; (first | (rw [p2_134, p3_134, f0, f1] at hM) | (rw [f0, f1] at hM)); (first | (rw [if_pos (show b < 0 by omega), if_pos (show b < 0 by omega)]; exact hM) | (rw [if_neg (show ¬ b < 0 by omega), if_neg (show ¬ b < 0 by omega)]; exact hM))
          exact W.iret (v := I3 z_141) hx hb hr (fun t ht hW => ⟨⟨I3 z_141, (z_141, th1_141, mn1_141, SG1_141, VL1_141, W1_141), rfl, ⟨rfl, ⟨o_8, o_9, o_10, o_11⟩⟩, by rw [ht]; exact hP, va_K.moved hW.alike hK, hD⟩, hS.F ht⟩) hS.2.2 dX8_power_144
        · skip
          refine lv_aload_n hx hb dX8_power_131 rfl (lv_at hl 0 rfl) ?_
          refine lv_iconst (v := I3 (0)) hx hb dX8_power_132 rfl ?_
          refine lv_iconst (v := I3 (1)) hx hb dX8_power_133 rfl ?_
          have h_12 : 0 ≤ (0 : Int) ∧ (0 : Int) < 16 := by first | assumption | omega | (constructor <;> omega)
          have h_13 : 0 ≤ (1 : Int) ∧ (1 : Int) < 16 := by first | assumption | omega | (constructor <;> omega)
          have h_14 : (0 : Int) ≠ (1 : Int) := by first | assumption | omega | (constructor <;> omega)
          have h_15 : Dg W1 := by first | assumption | omega | (constructor <;> omega)
          have hPc := hP.sub (ws' := [(am, .inr (0, [.int (I3 th), .int (I3 mn), .ref as_, .ref av, .ref aw, .int (I3 sm), .int (I3 wd), .int (I3 lp), .int (I3 mp), .int (I3 re)])), (as_, .inl (dA 0, 60, .inl (iA SG))), (av, .inl (dA 1, 960, .inr (.inl (lA VL)))), (aw, .inl (dA 1, 1024, .inr (.inl (lA W1))))]) [0, 1, 2, 3] rfl
          have hDc := hD.sub (ws' := [(am, .inr (0, [.int (I3 th), .int (I3 mn), .ref as_, .ref av, .ref aw, .int (I3 sm), .int (I3 wd), .int (I3 lp), .int (I3 mp), .int (I3 re)])), (as_, .inl (dA 0, 60, .inl (iA SG))), (av, .inl (dA 1, 960, .inr (.inl (lA VL)))), (aw, .inl (dA 1, 1024, .inr (.inl (lA W1))))]) [0, 1, 2, 3] (by decide) rfl
          have hFc := va_free (wc := [(am, .inr (0, [.int (I3 th), .int (I3 mn), .ref as_, .ref av, .ref aw, .int (I3 sm), .int (I3 wd), .int (I3 lp), .int (I3 mp), .int (I3 re)])), (as_, .inl (dA 0, 60, .inl (iA SG))), (av, .inl (dA 1, 960, .inr (.inl (lA VL)))), (aw, .inl (dA 1, 1024, .inr (.inl (lA W1))))]) hD hS hA [0, 1, 2, 3] rfl
          refine va_callv (va_runV (As := [.int (I3 0), .int (I3 1)]) (rest := []) ⟨hx, hb, hml, hown, hts⟩ (metX8_swap l dC dI dA am as_ av aw H.size th mn sm wd lp mp re SG VL W1 0 1 h_12 h_13 h_14 h_15) (cwV 2 hts (lw_V q992 q994 qs28 q66 q995) rfl rfl rfl (by decide +kernel) ⟨Nat.le_of_ble_eq_true rfl, Nat.le_of_ble_eq_true rfl⟩) ⟨fun a U g mk q => by obtain ⟨q0, q1, qP, qK, qD⟩ := q; exact ⟨q0, q1, qP, va_K.moved (u := U) (U := U.calling g mk a) (Vm.Alike.refl U.vm) qK, qD⟩, va_recv hK hPc (ci := 0) (q0 := 0) rfl rfl, fun U hU hW => ⟨rfl, by rw [hU], by rw [hU]; exact hPc, va_K.moved hW.alike hK, hDc.weaken (fun _ _ _ _ => trivial)⟩⟩ rfl rfl hl.1 rfl (lv_room (Nat.le_of_ble_eq_true rfl)) dX8_power_134 ⟨Nat.le_of_ble_eq_true rfl, Nat.le_of_ble_eq_true rfl⟩) hS (fun q _ h => hFc q h) hFc (fun u t H1 locs ht hvm hw hB hz1 hk1 hS => ?_)
          obtain ⟨W1_134, rfl⟩ : ∃ z, z = u := ⟨_, rfl⟩
          obtain ⟨p0_134, p1_134, p2_134, p3_134⟩ : (Dg W1_134) ∧ (∀ i : Int, ¬ (64 * (0 : Int) ≤ i ∧ i < 64 * (0 : Int) + 64) → ¬ (64 * (1 : Int) ≤ i ∧ i < 64 * (1 : Int) + 64) → W1_134 i = W1 i) ∧ (rv W1_134 (0 : Int) = rv W1 (1 : Int)) ∧ (rv W1_134 (1 : Int) = rv W1 (0 : Int)) := hw
          obtain ⟨hP1, hK1, hD1⟩ := hB
          rw [ht] at hP1
          obtain ⟨hP, hD⟩ := va_join (wr := []) (w1 := [(am, .inr (0, [.int (I3 th), .int (I3 mn), .ref as_, .ref av, .ref aw, .int (I3 sm), .int (I3 wd), .int (I3 lp), .int (I3 mp), .int (I3 re)])), (as_, .inl (dA 0, 60, .inl (iA SG))), (av, .inl (dA 1, 960, .inr (.inl (lA VL)))), (aw, .inl (dA 1, 1024, .inr (.inl (lA W1_134))))]) hP hD [0, 1, 2, 3] [] rfl rfl (by decide) (by decide) hk1 hFc hP1 hD1
          generalize H1 = H at hP hS ⊢
          have hP : va_P (dC, dI) vwCl [(am, .inr (0, [.int (I3 th), .int (I3 mn), .ref as_, .ref av, .ref aw, .int (I3 sm), .int (I3 wd), .int (I3 lp), .int (I3 mp), .int (I3 re)])), (as_, .inl (dA 0, 60, .inl (iA SG))), (av, .inl (dA 1, 960, .inr (.inl (lA VL)))), (aw, .inl (dA 1, 1024, .inr (.inl (lA W1_134))))] H := hP
          have hD : va_D A [(am, .inr (0, [.int (I3 th), .int (I3 mn), .ref as_, .ref av, .ref aw, .int (I3 sm), .int (I3 wd), .int (I3 lp), .int (I3 mp), .int (I3 re)])), (as_, .inl (dA 0, 60, .inl (iA SG))), (av, .inl (dA 1, 960, .inr (.inl (lA VL)))), (aw, .inl (dA 1, 1024, .inr (.inl (lA W1_134))))] := hD
          refine lv_aload_n hx hb dX8_power_137 rfl (lv_at hl 0 rfl) ?_
          refine lv_iload hx hb dX8_power_138 (lv_at hl 4 rfl) ?_
          refine lv_iconst (v := I3 (4)) hx hb dX8_power_140 rfl ?_
          have h_16 : Dg W1_134 := by first | assumption | omega | (constructor <;> omega)
          have h_17 : Dg VL := by exact hV
          have h_18 : 0 ≤ mn ∧ mn ≤ 60 := by exact hmn
          have h_19 : In3 g := by constructor <;> omega
          have h_20 : In3 (4 : Int) := by first | assumption | omega | (constructor <;> omega)
          have h_21 : rv W1_134 1 ≠ 0 := by first | (rw [p3_134]; have := Nat.pos_of_ne_zero (show pv VL a ≠ 0 from fun q => hb0 (by omega) (ha2.2.1.mpr q)); rw [f0]; exact Nat.ne_of_gt (Nat.pow_pos this)) | (rw [f1]; exact Nat.ne_of_gt (Nat.pow_pos (Nat.pos_of_ne_zero ha2.2.2.1)))
          have h_22 : 2 * rv W1_134 1 ≤ BN := by first | (rw [p3_134]; have := B8_8; have h3 := Nat.mul_le_mul (Nat.mul_le_mul B8_pos B8_pos) B8_pos; omega) | omega
          have hPc := hP.sub (ws' := [(am, .inr (0, [.int (I3 th), .int (I3 mn), .ref as_, .ref av, .ref aw, .int (I3 sm), .int (I3 wd), .int (I3 lp), .int (I3 mp), .int (I3 re)])), (as_, .inl (dA 0, 60, .inl (iA SG))), (av, .inl (dA 1, 960, .inr (.inl (lA VL)))), (aw, .inl (dA 1, 1024, .inr (.inl (lA W1_134))))]) [0, 1, 2, 3] rfl
          have hDc := hD.sub (ws' := [(am, .inr (0, [.int (I3 th), .int (I3 mn), .ref as_, .ref av, .ref aw, .int (I3 sm), .int (I3 wd), .int (I3 lp), .int (I3 mp), .int (I3 re)])), (as_, .inl (dA 0, 60, .inl (iA SG))), (av, .inl (dA 1, 960, .inr (.inl (lA VL)))), (aw, .inl (dA 1, 1024, .inr (.inl (lA W1_134))))]) [0, 1, 2, 3] (by decide) rfl
          have hFc := va_free (wc := [(am, .inr (0, [.int (I3 th), .int (I3 mn), .ref as_, .ref av, .ref aw, .int (I3 sm), .int (I3 wd), .int (I3 lp), .int (I3 mp), .int (I3 re)])), (as_, .inl (dA 0, 60, .inl (iA SG))), (av, .inl (dA 1, 960, .inr (.inl (lA VL)))), (aw, .inl (dA 1, 1024, .inr (.inl (lA W1_134))))]) hD hS hA [0, 1, 2, 3] rfl
          refine va_calli (va_runV (As := [.int (I3 g), .int (I3 4)]) (rest := []) ⟨hx, hb, hml, hown, hts⟩ (metX8_make l dC dI dA am as_ av aw H.size th mn sm wd lp mp re SG VL W1_134 g 4 h_16 h_17 h_18 h_19 h_20 h_21 h_22) (cwV 2 hts (lw_V q964 q966 qs21 q66 q967) rfl rfl rfl (by decide +kernel) ⟨Nat.le_of_ble_eq_true rfl, Nat.le_of_ble_eq_true rfl⟩) ⟨fun a U g mk q => by obtain ⟨q0, q1, qP, qK, qD⟩ := q; exact ⟨q0, q1, qP, va_K.moved (u := U) (U := U.calling g mk a) (Vm.Alike.refl U.vm) qK, qD⟩, va_recv hK hPc (ci := 0) (q0 := 0) rfl rfl, fun U hU hW => ⟨rfl, by rw [hU], by rw [hU]; exact hPc, va_K.moved hW.alike hK, hDc.weaken (fun _ _ _ _ => trivial)⟩⟩ rfl rfl hl.1 rfl (lv_room (Nat.le_of_ble_eq_true rfl)) dX8_power_141 ⟨Nat.le_of_ble_eq_true rfl, Nat.le_of_ble_eq_true rfl⟩) hS (fun q _ h => hFc q h) hFc (fun r_141 u t H1 locs ht hvm hw hB hz1 hk1 hS => ?_)
          obtain ⟨z_141, th1_141, mn1_141, SG1_141, VL1_141, W1_141⟩ := u
          obtain ⟨rfl, p0_141, p1_141, p2_141, p3_141⟩ : r_141 = I3 z_141 ∧ (Dg W1_141) ∧ (Dg VL1_141) ∧ (0 ≤ mn1_141 ∧ mn1_141 ≤ 60) ∧ (Mde mn SG VL g (rv W1_134 0) (rv W1_134 1) (4 : Int) z_141 th1_141 mn1_141 SG1_141 VL1_141) := hw
          obtain ⟨hP1, hK1, hD1⟩ := hB
          rw [ht] at hP1
          obtain ⟨hP, hD⟩ := va_join (wr := []) (w1 := [(am, .inr (0, [.int (I3 th1_141), .int (I3 mn1_141), .ref as_, .ref av, .ref aw, .int (I3 sm), .int (I3 wd), .int (I3 lp), .int (I3 mp), .int (I3 re)])), (as_, .inl (dA 0, 60, .inl (iA SG1_141))), (av, .inl (dA 1, 960, .inr (.inl (lA VL1_141)))), (aw, .inl (dA 1, 1024, .inr (.inl (lA W1_141))))]) hP hD [0, 1, 2, 3] [] rfl rfl (by decide) (by decide) hk1 hFc hP1 hD1
          generalize H1 = H at hP hS ⊢
          have hP : va_P (dC, dI) vwCl [(am, .inr (0, [.int (I3 th1_141), .int (I3 mn1_141), .ref as_, .ref av, .ref aw, .int (I3 sm), .int (I3 wd), .int (I3 lp), .int (I3 mp), .int (I3 re)])), (as_, .inl (dA 0, 60, .inl (iA SG1_141))), (av, .inl (dA 1, 960, .inr (.inl (lA VL1_141)))), (aw, .inl (dA 1, 1024, .inr (.inl (lA W1_141))))] H := hP
          have hD : va_D A [(am, .inr (0, [.int (I3 th1_141), .int (I3 mn1_141), .ref as_, .ref av, .ref aw, .int (I3 sm), .int (I3 wd), .int (I3 lp), .int (I3 mp), .int (I3 re)])), (as_, .inl (dA 0, 60, .inl (iA SG1_141))), (av, .inl (dA 1, 960, .inr (.inl (lA VL1_141)))), (aw, .inl (dA 1, 1024, .inr (.inl (lA W1_141))))] := hD
          have ek : k = (b.natAbs : Int) := by omega
          have ek2 : k.toNat = b.natAbs := by omega
          rw [ek2] at f0 f1
          have hyes : pwO (pv VL a) (qv VL a) b.natAbs := ⟨by rw [← f0]; exact bl_B8.mpr hl0, by rw [← f1]; exact bl_B8.mpr hl1⟩
          have hM := p3_141
          rw [hg] at hM
          have o_23 : Dg W1_141 := by first | assumption | omega | (constructor <;> omega)
          have o_24 : MI mn1_141 SG1_141 VL1_141 := by exact MI_Mde hI (by first | exact h_hQ | assumption) (by omega) (fun q => by omega) p1_141 p2_141 p3_141
          have o_25 : ¬ pwO (pv VL a) (qv VL a) b.natAbs → Fld mn SG VL 4 z_141 th1_141 mn1_141 SG1_141 VL1_141 := by intro q; exact absurd hyes q
          have o_26 : pwO (pv VL a) (qv VL a) b.natAbs → Mde mn SG VL (if SG a < 0 ∧ b.natAbs % 2 = 1 then -1 else 1) (if b < 0 then qv VL a ^ b.natAbs else pv VL a ^ b.natAbs) (if b < 0 then pv VL a ^ b.natAbs else qv VL a ^ b.natAbs) 4 z_141 th1_141 mn1_141 SG1_141 VL1_141 := by intro q; (first | (rw [p2_134, p3_134, f0, f1] at hM) | (rw [f0, f1] at hM)); (first | (rw [if_pos (show b < 0 by omega), if_pos (show b < 0 by omega)]; exact hM) | (rw [if_neg (show ¬ b < 0 by omega), if_neg (show ¬ b < 0 by omega)]; exact hM))
          exact W.iret (v := I3 z_141) hx hb hr (fun t ht hW => ⟨⟨I3 z_141, (z_141, th1_141, mn1_141, SG1_141, VL1_141, W1_141), rfl, ⟨rfl, ⟨o_23, o_24, o_25, o_26⟩⟩, by rw [ht]; exact hP, va_K.moved hW.alike hK, hD⟩, hS.F ht⟩) hS.2.2 dX8_power_144
      · skip
        refine lv_aload_n hx hb dX8_power_67 rfl (lv_at hl 0 rfl) ?_
        refine lv_iconst (v := I3 (0)) hx hb dX8_power_68 rfl ?_
        refine lv_iconst (v := I3 (2)) hx hb dX8_power_69 rfl ?_
        refine lv_iconst (v := I3 (4)) hx hb dX8_power_70 rfl ?_
        have h_27 : 0 ≤ (0 : Int) ∧ (0 : Int) < 16 := by first | assumption | omega | (constructor <;> omega)
        have h_28 : 0 ≤ (2 : Int) ∧ (2 : Int) < 16 := by first | assumption | omega | (constructor <;> omega)
        have h_29 : 0 ≤ (4 : Int) ∧ (4 : Int) < 16 := by first | assumption | omega | (constructor <;> omega)
        have h_30 : (0 : Int) ≠ (4 : Int) := by first | assumption | omega | (constructor <;> omega)
        have h_31 : (2 : Int) ≠ (4 : Int) := by first | assumption | omega | (constructor <;> omega)
        have h_32 : Dg W1 := by first | assumption | omega | (constructor <;> omega)
        have hPc := hP.sub (ws' := [(am, .inr (0, [.int (I3 th), .int (I3 mn), .ref as_, .ref av, .ref aw, .int (I3 sm), .int (I3 wd), .int (I3 lp), .int (I3 mp), .int (I3 re)])), (as_, .inl (dA 0, 60, .inl (iA SG))), (av, .inl (dA 1, 960, .inr (.inl (lA VL)))), (aw, .inl (dA 1, 1024, .inr (.inl (lA W1))))]) [0, 1, 2, 3] rfl
        have hDc := hD.sub (ws' := [(am, .inr (0, [.int (I3 th), .int (I3 mn), .ref as_, .ref av, .ref aw, .int (I3 sm), .int (I3 wd), .int (I3 lp), .int (I3 mp), .int (I3 re)])), (as_, .inl (dA 0, 60, .inl (iA SG))), (av, .inl (dA 1, 960, .inr (.inl (lA VL)))), (aw, .inl (dA 1, 1024, .inr (.inl (lA W1))))]) [0, 1, 2, 3] (by decide) rfl
        have hFc := va_free (wc := [(am, .inr (0, [.int (I3 th), .int (I3 mn), .ref as_, .ref av, .ref aw, .int (I3 sm), .int (I3 wd), .int (I3 lp), .int (I3 mp), .int (I3 re)])), (as_, .inl (dA 0, 60, .inl (iA SG))), (av, .inl (dA 1, 960, .inr (.inl (lA VL)))), (aw, .inl (dA 1, 1024, .inr (.inl (lA W1))))]) hD hS hA [0, 1, 2, 3] rfl
        refine va_callv (va_runV (As := [.int (I3 0), .int (I3 2), .int (I3 4)]) (rest := []) ⟨hx, hb, hml, hown, hts⟩ (metX8_times l dC dI dA am as_ av aw H.size th mn sm wd lp mp re SG VL W1 0 2 4 h_27 h_28 h_29 h_30 h_31 h_32) (cwV 3 hts (lw_V q1074 q1076 qs41 q66 q1077) rfl rfl rfl (by decide +kernel) ⟨Nat.le_of_ble_eq_true rfl, Nat.le_of_ble_eq_true rfl⟩) ⟨fun a U g mk q => by obtain ⟨q0, q1, qP, qK, qD⟩ := q; exact ⟨q0, q1, qP, va_K.moved (u := U) (U := U.calling g mk a) (Vm.Alike.refl U.vm) qK, qD⟩, va_recv hK hPc (ci := 0) (q0 := 0) rfl rfl, fun U hU hW => ⟨rfl, by rw [hU], by rw [hU]; exact hPc, va_K.moved hW.alike hK, hDc.weaken (fun _ _ _ _ => trivial)⟩⟩ rfl rfl hl.1 rfl (lv_room (Nat.le_of_ble_eq_true rfl)) dX8_power_71 ⟨Nat.le_of_ble_eq_true rfl, Nat.le_of_ble_eq_true rfl⟩) hS (fun q _ h => hFc q h) hFc (fun u t H1 locs ht hvm hw hB hz1 hk1 hS => ?_)
        obtain ⟨W1_71, rfl⟩ : ∃ z, z = u := ⟨_, rfl⟩
        obtain ⟨p0_71, p1_71, p2_71⟩ : (Dg W1_71) ∧ (Fr W1 W1_71 (4 : Int)) ∧ (rv W1_71 (4 : Int) = rv W1 (0 : Int) * rv W1 (2 : Int) % BN) := hw
        obtain ⟨hP1, hK1, hD1⟩ := hB
        rw [ht] at hP1
        obtain ⟨hP, hD⟩ := va_join (wr := []) (w1 := [(am, .inr (0, [.int (I3 th), .int (I3 mn), .ref as_, .ref av, .ref aw, .int (I3 sm), .int (I3 wd), .int (I3 lp), .int (I3 mp), .int (I3 re)])), (as_, .inl (dA 0, 60, .inl (iA SG))), (av, .inl (dA 1, 960, .inr (.inl (lA VL)))), (aw, .inl (dA 1, 1024, .inr (.inl (lA W1_71))))]) hP hD [0, 1, 2, 3] [] rfl rfl (by decide) (by decide) hk1 hFc hP1 hD1
        generalize H1 = H at hP hS ⊢
        have hP : va_P (dC, dI) vwCl [(am, .inr (0, [.int (I3 th), .int (I3 mn), .ref as_, .ref av, .ref aw, .int (I3 sm), .int (I3 wd), .int (I3 lp), .int (I3 mp), .int (I3 re)])), (as_, .inl (dA 0, 60, .inl (iA SG))), (av, .inl (dA 1, 960, .inr (.inl (lA VL)))), (aw, .inl (dA 1, 1024, .inr (.inl (lA W1_71))))] H := hP
        have hD : va_D A [(am, .inr (0, [.int (I3 th), .int (I3 mn), .ref as_, .ref av, .ref aw, .int (I3 sm), .int (I3 wd), .int (I3 lp), .int (I3 mp), .int (I3 re)])), (as_, .inl (dA 0, 60, .inl (iA SG))), (av, .inl (dA 1, 960, .inr (.inl (lA VL)))), (aw, .inl (dA 1, 1024, .inr (.inl (lA W1_71))))] := hD
        have t1 := mul_B8 hl0 la
        have c0 : rv W1_71 4 = rv W1 0 * pv VL a := by rw [p2_71, f2]; exact mod_BN (by omega)
        refine lv_aload_n hx hb dX8_power_74 rfl (lv_at hl 0 rfl) ?_
        refine lv_iconst (v := I3 (4)) hx hb dX8_power_75 rfl ?_
        refine lv_iconst (v := I3 (0)) hx hb dX8_power_76 rfl ?_
        have h_33 : 0 ≤ (4 : Int) ∧ (4 : Int) < 16 := by first | assumption | omega | (constructor <;> omega)
        have h_34 : 0 ≤ (0 : Int) ∧ (0 : Int) < 16 := by first | assumption | omega | (constructor <;> omega)
        have h_35 : (4 : Int) ≠ (0 : Int) := by first | assumption | omega | (constructor <;> omega)
        have h_36 : Dg W1_71 := by first | assumption | omega | (constructor <;> omega)
        have hPc := hP.sub (ws' := [(am, .inr (0, [.int (I3 th), .int (I3 mn), .ref as_, .ref av, .ref aw, .int (I3 sm), .int (I3 wd), .int (I3 lp), .int (I3 mp), .int (I3 re)])), (as_, .inl (dA 0, 60, .inl (iA SG))), (av, .inl (dA 1, 960, .inr (.inl (lA VL)))), (aw, .inl (dA 1, 1024, .inr (.inl (lA W1_71))))]) [0, 1, 2, 3] rfl
        have hDc := hD.sub (ws' := [(am, .inr (0, [.int (I3 th), .int (I3 mn), .ref as_, .ref av, .ref aw, .int (I3 sm), .int (I3 wd), .int (I3 lp), .int (I3 mp), .int (I3 re)])), (as_, .inl (dA 0, 60, .inl (iA SG))), (av, .inl (dA 1, 960, .inr (.inl (lA VL)))), (aw, .inl (dA 1, 1024, .inr (.inl (lA W1_71))))]) [0, 1, 2, 3] (by decide) rfl
        have hFc := va_free (wc := [(am, .inr (0, [.int (I3 th), .int (I3 mn), .ref as_, .ref av, .ref aw, .int (I3 sm), .int (I3 wd), .int (I3 lp), .int (I3 mp), .int (I3 re)])), (as_, .inl (dA 0, 60, .inl (iA SG))), (av, .inl (dA 1, 960, .inr (.inl (lA VL)))), (aw, .inl (dA 1, 1024, .inr (.inl (lA W1_71))))]) hD hS hA [0, 1, 2, 3] rfl
        refine va_callv (va_runV (As := [.int (I3 4), .int (I3 0)]) (rest := []) ⟨hx, hb, hml, hown, hts⟩ (metX8_copy l dC dI dA am as_ av aw H.size th mn sm wd lp mp re SG VL W1_71 4 0 h_33 h_34 h_35 h_36) (cwV 2 hts (lw_V q976 q978 qs24 q66 q979) rfl rfl rfl (by decide +kernel) ⟨Nat.le_of_ble_eq_true rfl, Nat.le_of_ble_eq_true rfl⟩) ⟨fun a U g mk q => by obtain ⟨q0, q1, qP, qK, qD⟩ := q; exact ⟨q0, q1, qP, va_K.moved (u := U) (U := U.calling g mk a) (Vm.Alike.refl U.vm) qK, qD⟩, va_recv hK hPc (ci := 0) (q0 := 0) rfl rfl, fun U hU hW => ⟨rfl, by rw [hU], by rw [hU]; exact hPc, va_K.moved hW.alike hK, hDc.weaken (fun _ _ _ _ => trivial)⟩⟩ rfl rfl hl.1 rfl (lv_room (Nat.le_of_ble_eq_true rfl)) dX8_power_77 ⟨Nat.le_of_ble_eq_true rfl, Nat.le_of_ble_eq_true rfl⟩) hS (fun q _ h => hFc q h) hFc (fun u t H1 locs ht hvm hw hB hz1 hk1 hS => ?_)
        obtain ⟨W1_77, rfl⟩ : ∃ z, z = u := ⟨_, rfl⟩
        obtain ⟨p0_77, p1_77, p2_77⟩ : (Dg W1_77) ∧ (Fr W1_71 W1_77 (0 : Int)) ∧ (rv W1_77 (0 : Int) = rv W1_71 (4 : Int)) := hw
        obtain ⟨hP1, hK1, hD1⟩ := hB
        rw [ht] at hP1
        obtain ⟨hP, hD⟩ := va_join (wr := []) (w1 := [(am, .inr (0, [.int (I3 th), .int (I3 mn), .ref as_, .ref av, .ref aw, .int (I3 sm), .int (I3 wd), .int (I3 lp), .int (I3 mp), .int (I3 re)])), (as_, .inl (dA 0, 60, .inl (iA SG))), (av, .inl (dA 1, 960, .inr (.inl (lA VL)))), (aw, .inl (dA 1, 1024, .inr (.inl (lA W1_77))))]) hP hD [0, 1, 2, 3] [] rfl rfl (by decide) (by decide) hk1 hFc hP1 hD1
        generalize H1 = H at hP hS ⊢
        have hP : va_P (dC, dI) vwCl [(am, .inr (0, [.int (I3 th), .int (I3 mn), .ref as_, .ref av, .ref aw, .int (I3 sm), .int (I3 wd), .int (I3 lp), .int (I3 mp), .int (I3 re)])), (as_, .inl (dA 0, 60, .inl (iA SG))), (av, .inl (dA 1, 960, .inr (.inl (lA VL)))), (aw, .inl (dA 1, 1024, .inr (.inl (lA W1_77))))] H := hP
        have hD : va_D A [(am, .inr (0, [.int (I3 th), .int (I3 mn), .ref as_, .ref av, .ref aw, .int (I3 sm), .int (I3 wd), .int (I3 lp), .int (I3 mp), .int (I3 re)])), (as_, .inl (dA 0, 60, .inl (iA SG))), (av, .inl (dA 1, 960, .inr (.inl (lA VL)))), (aw, .inl (dA 1, 1024, .inr (.inl (lA W1_77))))] := hD
        have d0_ : rv W1_77 0 = rv W1 0 * pv VL a := p2_77.trans c0
        have d1_ : rv W1_77 1 = rv W1 1 := (Fr_rv p1_77 (by decide)).trans (Fr_rv p1_71 (by decide))
        have d3_ : rv W1_77 3 = rv W1 3 := (Fr_rv p1_77 (by decide)).trans (Fr_rv p1_71 (by decide))
        have d2_ : rv W1_77 2 = rv W1 2 := (Fr_rv p1_77 (by decide)).trans (Fr_rv p1_71 (by decide))
        refine lv_aload_n hx hb dX8_power_80 rfl (lv_at hl 0 rfl) ?_
        refine lv_iconst (v := I3 (1)) hx hb dX8_power_81 rfl ?_
        refine lv_iconst (v := I3 (3)) hx hb dX8_power_82 rfl ?_
        refine lv_iconst (v := I3 (4)) hx hb dX8_power_83 rfl ?_
        have h_37 : 0 ≤ (1 : Int) ∧ (1 : Int) < 16 := by first | assumption | omega | (constructor <;> omega)
        have h_38 : 0 ≤ (3 : Int) ∧ (3 : Int) < 16 := by first | assumption | omega | (constructor <;> omega)
        have h_39 : 0 ≤ (4 : Int) ∧ (4 : Int) < 16 := by first | assumption | omega | (constructor <;> omega)
        have h_40 : (1 : Int) ≠ (4 : Int) := by first | assumption | omega | (constructor <;> omega)
        have h_41 : (3 : Int) ≠ (4 : Int) := by first | assumption | omega | (constructor <;> omega)
        have h_42 : Dg W1_77 := by first | assumption | omega | (constructor <;> omega)
        have hPc := hP.sub (ws' := [(am, .inr (0, [.int (I3 th), .int (I3 mn), .ref as_, .ref av, .ref aw, .int (I3 sm), .int (I3 wd), .int (I3 lp), .int (I3 mp), .int (I3 re)])), (as_, .inl (dA 0, 60, .inl (iA SG))), (av, .inl (dA 1, 960, .inr (.inl (lA VL)))), (aw, .inl (dA 1, 1024, .inr (.inl (lA W1_77))))]) [0, 1, 2, 3] rfl
        have hDc := hD.sub (ws' := [(am, .inr (0, [.int (I3 th), .int (I3 mn), .ref as_, .ref av, .ref aw, .int (I3 sm), .int (I3 wd), .int (I3 lp), .int (I3 mp), .int (I3 re)])), (as_, .inl (dA 0, 60, .inl (iA SG))), (av, .inl (dA 1, 960, .inr (.inl (lA VL)))), (aw, .inl (dA 1, 1024, .inr (.inl (lA W1_77))))]) [0, 1, 2, 3] (by decide) rfl
        have hFc := va_free (wc := [(am, .inr (0, [.int (I3 th), .int (I3 mn), .ref as_, .ref av, .ref aw, .int (I3 sm), .int (I3 wd), .int (I3 lp), .int (I3 mp), .int (I3 re)])), (as_, .inl (dA 0, 60, .inl (iA SG))), (av, .inl (dA 1, 960, .inr (.inl (lA VL)))), (aw, .inl (dA 1, 1024, .inr (.inl (lA W1_77))))]) hD hS hA [0, 1, 2, 3] rfl
        refine va_callv (va_runV (As := [.int (I3 1), .int (I3 3), .int (I3 4)]) (rest := []) ⟨hx, hb, hml, hown, hts⟩ (metX8_times l dC dI dA am as_ av aw H.size th mn sm wd lp mp re SG VL W1_77 1 3 4 h_37 h_38 h_39 h_40 h_41 h_42) (cwV 3 hts (lw_V q1074 q1076 qs41 q66 q1077) rfl rfl rfl (by decide +kernel) ⟨Nat.le_of_ble_eq_true rfl, Nat.le_of_ble_eq_true rfl⟩) ⟨fun a U g mk q => by obtain ⟨q0, q1, qP, qK, qD⟩ := q; exact ⟨q0, q1, qP, va_K.moved (u := U) (U := U.calling g mk a) (Vm.Alike.refl U.vm) qK, qD⟩, va_recv hK hPc (ci := 0) (q0 := 0) rfl rfl, fun U hU hW => ⟨rfl, by rw [hU], by rw [hU]; exact hPc, va_K.moved hW.alike hK, hDc.weaken (fun _ _ _ _ => trivial)⟩⟩ rfl rfl hl.1 rfl (lv_room (Nat.le_of_ble_eq_true rfl)) dX8_power_84 ⟨Nat.le_of_ble_eq_true rfl, Nat.le_of_ble_eq_true rfl⟩) hS (fun q _ h => hFc q h) hFc (fun u t H1 locs ht hvm hw hB hz1 hk1 hS => ?_)
        obtain ⟨W1_84, rfl⟩ : ∃ z, z = u := ⟨_, rfl⟩
        obtain ⟨p0_84, p1_84, p2_84⟩ : (Dg W1_84) ∧ (Fr W1_77 W1_84 (4 : Int)) ∧ (rv W1_84 (4 : Int) = rv W1_77 (1 : Int) * rv W1_77 (3 : Int) % BN) := hw
        obtain ⟨hP1, hK1, hD1⟩ := hB
        rw [ht] at hP1
        obtain ⟨hP, hD⟩ := va_join (wr := []) (w1 := [(am, .inr (0, [.int (I3 th), .int (I3 mn), .ref as_, .ref av, .ref aw, .int (I3 sm), .int (I3 wd), .int (I3 lp), .int (I3 mp), .int (I3 re)])), (as_, .inl (dA 0, 60, .inl (iA SG))), (av, .inl (dA 1, 960, .inr (.inl (lA VL)))), (aw, .inl (dA 1, 1024, .inr (.inl (lA W1_84))))]) hP hD [0, 1, 2, 3] [] rfl rfl (by decide) (by decide) hk1 hFc hP1 hD1
        generalize H1 = H at hP hS ⊢
        have hP : va_P (dC, dI) vwCl [(am, .inr (0, [.int (I3 th), .int (I3 mn), .ref as_, .ref av, .ref aw, .int (I3 sm), .int (I3 wd), .int (I3 lp), .int (I3 mp), .int (I3 re)])), (as_, .inl (dA 0, 60, .inl (iA SG))), (av, .inl (dA 1, 960, .inr (.inl (lA VL)))), (aw, .inl (dA 1, 1024, .inr (.inl (lA W1_84))))] H := hP
        have hD : va_D A [(am, .inr (0, [.int (I3 th), .int (I3 mn), .ref as_, .ref av, .ref aw, .int (I3 sm), .int (I3 wd), .int (I3 lp), .int (I3 mp), .int (I3 re)])), (as_, .inl (dA 0, 60, .inl (iA SG))), (av, .inl (dA 1, 960, .inr (.inl (lA VL)))), (aw, .inl (dA 1, 1024, .inr (.inl (lA W1_84))))] := hD
        have t2 := mul_B8 hl1 lb
        have c1 : rv W1_84 4 = rv W1 1 * qv VL a := by rw [p2_84, d1_, d3_, f3]; exact mod_BN (by omega)
        refine lv_aload_n hx hb dX8_power_87 rfl (lv_at hl 0 rfl) ?_
        refine lv_iconst (v := I3 (4)) hx hb dX8_power_88 rfl ?_
        refine lv_iconst (v := I3 (1)) hx hb dX8_power_89 rfl ?_
        have h_43 : 0 ≤ (4 : Int) ∧ (4 : Int) < 16 := by first | assumption | omega | (constructor <;> omega)
        have h_44 : 0 ≤ (1 : Int) ∧ (1 : Int) < 16 := by first | assumption | omega | (constructor <;> omega)
        have h_45 : (4 : Int) ≠ (1 : Int) := by first | assumption | omega | (constructor <;> omega)
        have h_46 : Dg W1_84 := by first | assumption | omega | (constructor <;> omega)
        have hPc := hP.sub (ws' := [(am, .inr (0, [.int (I3 th), .int (I3 mn), .ref as_, .ref av, .ref aw, .int (I3 sm), .int (I3 wd), .int (I3 lp), .int (I3 mp), .int (I3 re)])), (as_, .inl (dA 0, 60, .inl (iA SG))), (av, .inl (dA 1, 960, .inr (.inl (lA VL)))), (aw, .inl (dA 1, 1024, .inr (.inl (lA W1_84))))]) [0, 1, 2, 3] rfl
        have hDc := hD.sub (ws' := [(am, .inr (0, [.int (I3 th), .int (I3 mn), .ref as_, .ref av, .ref aw, .int (I3 sm), .int (I3 wd), .int (I3 lp), .int (I3 mp), .int (I3 re)])), (as_, .inl (dA 0, 60, .inl (iA SG))), (av, .inl (dA 1, 960, .inr (.inl (lA VL)))), (aw, .inl (dA 1, 1024, .inr (.inl (lA W1_84))))]) [0, 1, 2, 3] (by decide) rfl
        have hFc := va_free (wc := [(am, .inr (0, [.int (I3 th), .int (I3 mn), .ref as_, .ref av, .ref aw, .int (I3 sm), .int (I3 wd), .int (I3 lp), .int (I3 mp), .int (I3 re)])), (as_, .inl (dA 0, 60, .inl (iA SG))), (av, .inl (dA 1, 960, .inr (.inl (lA VL)))), (aw, .inl (dA 1, 1024, .inr (.inl (lA W1_84))))]) hD hS hA [0, 1, 2, 3] rfl
        refine va_callv (va_runV (As := [.int (I3 4), .int (I3 1)]) (rest := []) ⟨hx, hb, hml, hown, hts⟩ (metX8_copy l dC dI dA am as_ av aw H.size th mn sm wd lp mp re SG VL W1_84 4 1 h_43 h_44 h_45 h_46) (cwV 2 hts (lw_V q976 q978 qs24 q66 q979) rfl rfl rfl (by decide +kernel) ⟨Nat.le_of_ble_eq_true rfl, Nat.le_of_ble_eq_true rfl⟩) ⟨fun a U g mk q => by obtain ⟨q0, q1, qP, qK, qD⟩ := q; exact ⟨q0, q1, qP, va_K.moved (u := U) (U := U.calling g mk a) (Vm.Alike.refl U.vm) qK, qD⟩, va_recv hK hPc (ci := 0) (q0 := 0) rfl rfl, fun U hU hW => ⟨rfl, by rw [hU], by rw [hU]; exact hPc, va_K.moved hW.alike hK, hDc.weaken (fun _ _ _ _ => trivial)⟩⟩ rfl rfl hl.1 rfl (lv_room (Nat.le_of_ble_eq_true rfl)) dX8_power_90 ⟨Nat.le_of_ble_eq_true rfl, Nat.le_of_ble_eq_true rfl⟩) hS (fun q _ h => hFc q h) hFc (fun u t H1 locs ht hvm hw hB hz1 hk1 hS => ?_)
        obtain ⟨W1_90, rfl⟩ : ∃ z, z = u := ⟨_, rfl⟩
        obtain ⟨p0_90, p1_90, p2_90⟩ : (Dg W1_90) ∧ (Fr W1_84 W1_90 (1 : Int)) ∧ (rv W1_90 (1 : Int) = rv W1_84 (4 : Int)) := hw
        obtain ⟨hP1, hK1, hD1⟩ := hB
        rw [ht] at hP1
        obtain ⟨hP, hD⟩ := va_join (wr := []) (w1 := [(am, .inr (0, [.int (I3 th), .int (I3 mn), .ref as_, .ref av, .ref aw, .int (I3 sm), .int (I3 wd), .int (I3 lp), .int (I3 mp), .int (I3 re)])), (as_, .inl (dA 0, 60, .inl (iA SG))), (av, .inl (dA 1, 960, .inr (.inl (lA VL)))), (aw, .inl (dA 1, 1024, .inr (.inl (lA W1_90))))]) hP hD [0, 1, 2, 3] [] rfl rfl (by decide) (by decide) hk1 hFc hP1 hD1
        generalize H1 = H at hP hS ⊢
        have hP : va_P (dC, dI) vwCl [(am, .inr (0, [.int (I3 th), .int (I3 mn), .ref as_, .ref av, .ref aw, .int (I3 sm), .int (I3 wd), .int (I3 lp), .int (I3 mp), .int (I3 re)])), (as_, .inl (dA 0, 60, .inl (iA SG))), (av, .inl (dA 1, 960, .inr (.inl (lA VL)))), (aw, .inl (dA 1, 1024, .inr (.inl (lA W1_90))))] H := hP
        have hD : va_D A [(am, .inr (0, [.int (I3 th), .int (I3 mn), .ref as_, .ref av, .ref aw, .int (I3 sm), .int (I3 wd), .int (I3 lp), .int (I3 mp), .int (I3 re)])), (as_, .inl (dA 0, 60, .inl (iA SG))), (av, .inl (dA 1, 960, .inr (.inl (lA VL)))), (aw, .inl (dA 1, 1024, .inr (.inl (lA W1_90))))] := hD
        have d1 : rv W1_90 1 = rv W1 1 * qv VL a := p2_90.trans c1
        have d0 : rv W1_90 0 = rv W1 0 * pv VL a := (Fr_rv p1_90 (by decide)).trans ((Fr_rv p1_84 (by decide)).trans d0_)
        have d2 : rv W1_90 2 = rv W1 2 := (Fr_rv p1_90 (by decide)).trans ((Fr_rv p1_84 (by decide)).trans d2_)
        have d3 : rv W1_90 3 = rv W1 3 := (Fr_rv p1_90 (by decide)).trans ((Fr_rv p1_84 (by decide)).trans d3_)
        refine lv_aload_n hx hb dX8_power_93 rfl (lv_at hl 0 rfl) ?_
        refine lv_iconst (v := I3 (0)) hx hb dX8_power_94 rfl ?_
        have h_47 : 0 ≤ (0 : Int) ∧ (0 : Int) < 16 := by first | assumption | omega | (constructor <;> omega)
        have h_48 : Dg W1_90 := by first | assumption | omega | (constructor <;> omega)
        have hPc := hP.sub (ws' := [(am, .inr (0, [.int (I3 th), .int (I3 mn), .ref as_, .ref av, .ref aw, .int (I3 sm), .int (I3 wd), .int (I3 lp), .int (I3 mp), .int (I3 re)])), (as_, .inl (dA 0, 60, .inl (iA SG))), (av, .inl (dA 1, 960, .inr (.inl (lA VL)))), (aw, .inl (dA 1, 1024, .inr (.inl (lA W1_90))))]) [0, 1, 2, 3] rfl
        have hDc := hD.sub (ws' := [(am, .inr (0, [.int (I3 th), .int (I3 mn), .ref as_, .ref av, .ref aw, .int (I3 sm), .int (I3 wd), .int (I3 lp), .int (I3 mp), .int (I3 re)])), (as_, .inl (dA 0, 60, .inl (iA SG))), (av, .inl (dA 1, 960, .inr (.inl (lA VL)))), (aw, .inl (dA 1, 1024, .inr (.inl (lA W1_90))))]) [0, 1, 2, 3] (by decide) rfl
        have hFc := va_free (wc := [(am, .inr (0, [.int (I3 th), .int (I3 mn), .ref as_, .ref av, .ref aw, .int (I3 sm), .int (I3 wd), .int (I3 lp), .int (I3 mp), .int (I3 re)])), (as_, .inl (dA 0, 60, .inl (iA SG))), (av, .inl (dA 1, 960, .inr (.inl (lA VL)))), (aw, .inl (dA 1, 1024, .inr (.inl (lA W1_90))))]) hD hS hA [0, 1, 2, 3] rfl
        refine va_calli (va_runV (As := [.int (I3 0)]) (rest := []) ⟨hx, hb, hml, hown, hts⟩ (metX8_length l dC dI dA am as_ av aw H.size th mn sm wd lp mp re SG VL W1_90 0 h_47 h_48) (cwV 1 hts (lw_V q1008 q1010 qs32 q66 q1011) rfl rfl rfl (by decide +kernel) ⟨Nat.le_of_ble_eq_true rfl, Nat.le_of_ble_eq_true rfl⟩) ⟨fun a U g mk q => by obtain ⟨q0, q1, qP, qK, qD⟩ := q; exact ⟨q0, q1, qP, va_K.moved (u := U) (U := U.calling g mk a) (Vm.Alike.refl U.vm) qK, qD⟩, va_recv hK hPc (ci := 0) (q0 := 0) rfl rfl, fun U hU hW => ⟨rfl, by rw [hU], by rw [hU]; exact hPc, va_K.moved hW.alike hK, hDc.weaken (fun _ _ _ _ => trivial)⟩⟩ rfl rfl hl.1 rfl (lv_room (Nat.le_of_ble_eq_true rfl)) dX8_power_95 ⟨Nat.le_of_ble_eq_true rfl, Nat.le_of_ble_eq_true rfl⟩) hS (fun q _ h => hFc q h) hFc (fun r_95 u t H1 locs ht hvm hw hB hz1 hk1 hS => ?_)
        obtain ⟨z_95, rfl⟩ : ∃ z, z = u := ⟨_, rfl⟩
        obtain ⟨rfl, p0_95⟩ : r_95 = I3 z_95 ∧ (z_95 = ((bl (rv W1_90 (0 : Int)) : Nat) : Int)) := hw
        obtain ⟨hP1, hK1, hD1⟩ := hB
        rw [ht] at hP1
        obtain ⟨hP, hD⟩ := va_join (wr := []) (w1 := [(am, .inr (0, [.int (I3 th), .int (I3 mn), .ref as_, .ref av, .ref aw, .int (I3 sm), .int (I3 wd), .int (I3 lp), .int (I3 mp), .int (I3 re)])), (as_, .inl (dA 0, 60, .inl (iA SG))), (av, .inl (dA 1, 960, .inr (.inl (lA VL)))), (aw, .inl (dA 1, 1024, .inr (.inl (lA W1_90))))]) hP hD [0, 1, 2, 3] [] rfl rfl (by decide) (by decide) hk1 hFc hP1 hD1
        generalize H1 = H at hP hS ⊢
        have hP : va_P (dC, dI) vwCl [(am, .inr (0, [.int (I3 th), .int (I3 mn), .ref as_, .ref av, .ref aw, .int (I3 sm), .int (I3 wd), .int (I3 lp), .int (I3 mp), .int (I3 re)])), (as_, .inl (dA 0, 60, .inl (iA SG))), (av, .inl (dA 1, 960, .inr (.inl (lA VL)))), (aw, .inl (dA 1, 1024, .inr (.inl (lA W1_90))))] H := hP
        have hD : va_D A [(am, .inr (0, [.int (I3 th), .int (I3 mn), .ref as_, .ref av, .ref aw, .int (I3 sm), .int (I3 wd), .int (I3 lp), .int (I3 mp), .int (I3 re)])), (as_, .inl (dA 0, 60, .inl (iA SG))), (av, .inl (dA 1, 960, .inr (.inl (lA VL)))), (aw, .inl (dA 1, 1024, .inr (.inl (lA W1_90))))] := hD
        have b95 : bl (rv W1_90 0) ≤ 2048 := bl_le.mpr (rv_lt p0_90 0)
        refine lv_sipush (v := I3 (256)) hx hb dX8_power_98 (by decide) ?_
        refine ix_icmp_gt (tgt := 115) hx hb (by first | decide | assumption | (constructor <;> omega)) (by first | decide | assumption | (constructor <;> omega)) dX8_power_101 (by decide) (fun c_101 => ?_) (fun c_101 => ?_)
        · skip
          refine lv_aload_n hx hb dX8_power_115 rfl (lv_at hl 0 rfl) ?_
          refine lv_iconst (v := I3 (4)) hx hb dX8_power_116 rfl ?_
          have h_49 : In3 (4 : Int) := by first | assumption | omega | (constructor <;> omega)
          have hPc := hP.sub (ws' := [(am, .inr (0, [.int (I3 th), .int (I3 mn), .ref as_, .ref av, .ref aw, .int (I3 sm), .int (I3 wd), .int (I3 lp), .int (I3 mp), .int (I3 re)])), (as_, .inl (dA 0, 60, .inl (iA SG))), (av, .inl (dA 1, 960, .inr (.inl (lA VL)))), (aw, .inl (dA 1, 1024, .inr (.inl (lA W1_90))))]) [0, 1, 2, 3] rfl
          have hDc := hD.sub (ws' := [(am, .inr (0, [.int (I3 th), .int (I3 mn), .ref as_, .ref av, .ref aw, .int (I3 sm), .int (I3 wd), .int (I3 lp), .int (I3 mp), .int (I3 re)])), (as_, .inl (dA 0, 60, .inl (iA SG))), (av, .inl (dA 1, 960, .inr (.inl (lA VL)))), (aw, .inl (dA 1, 1024, .inr (.inl (lA W1_90))))]) [0, 1, 2, 3] (by decide) rfl
          have hFc := va_free (wc := [(am, .inr (0, [.int (I3 th), .int (I3 mn), .ref as_, .ref av, .ref aw, .int (I3 sm), .int (I3 wd), .int (I3 lp), .int (I3 mp), .int (I3 re)])), (as_, .inl (dA 0, 60, .inl (iA SG))), (av, .inl (dA 1, 960, .inr (.inl (lA VL)))), (aw, .inl (dA 1, 1024, .inr (.inl (lA W1_90))))]) hD hS hA [0, 1, 2, 3] rfl
          refine va_calli (va_runV (As := [.int (I3 4)]) (rest := []) ⟨hx, hb, hml, hown, hts⟩ (metX8_fails l dC dI dA am as_ av aw H.size th mn sm wd lp mp re SG VL W1_90 4 h_49) (cwV 1 hts (lw_V q1016 q1018 qs34 q66 q1019) rfl rfl rfl (by decide +kernel) ⟨Nat.le_of_ble_eq_true rfl, Nat.le_of_ble_eq_true rfl⟩) ⟨fun a U g mk q => by obtain ⟨q0, q1, qP, qK, qD⟩ := q; exact ⟨q0, q1, qP, va_K.moved (u := U) (U := U.calling g mk a) (Vm.Alike.refl U.vm) qK, qD⟩, va_recv hK hPc (ci := 0) (q0 := 0) rfl rfl, fun U hU hW => ⟨rfl, by rw [hU], by rw [hU]; exact hPc, va_K.moved hW.alike hK, hDc.weaken (fun _ _ _ _ => trivial)⟩⟩ rfl rfl hl.1 rfl (lv_room (Nat.le_of_ble_eq_true rfl)) dX8_power_117 ⟨Nat.le_of_ble_eq_true rfl, Nat.le_of_ble_eq_true rfl⟩) hS (fun q _ h => hFc q h) hFc (fun r_117 u t H1 locs ht hvm hw hB hz1 hk1 hS => ?_)
          obtain ⟨z_117, th1_117⟩ := u
          obtain ⟨rfl, p0_117, p1_117⟩ : r_117 = I3 z_117 ∧ (z_117 = 0) ∧ (th1_117 = (4 : Int)) := hw
          obtain ⟨hP1, hK1, hD1⟩ := hB
          rw [ht] at hP1
          obtain ⟨hP, hD⟩ := va_join (wr := []) (w1 := [(am, .inr (0, [.int (I3 th1_117), .int (I3 mn), .ref as_, .ref av, .ref aw, .int (I3 sm), .int (I3 wd), .int (I3 lp), .int (I3 mp), .int (I3 re)])), (as_, .inl (dA 0, 60, .inl (iA SG))), (av, .inl (dA 1, 960, .inr (.inl (lA VL)))), (aw, .inl (dA 1, 1024, .inr (.inl (lA W1_90))))]) hP hD [0, 1, 2, 3] [] rfl rfl (by decide) (by decide) hk1 hFc hP1 hD1
          generalize H1 = H at hP hS ⊢
          have hP : va_P (dC, dI) vwCl [(am, .inr (0, [.int (I3 th1_117), .int (I3 mn), .ref as_, .ref av, .ref aw, .int (I3 sm), .int (I3 wd), .int (I3 lp), .int (I3 mp), .int (I3 re)])), (as_, .inl (dA 0, 60, .inl (iA SG))), (av, .inl (dA 1, 960, .inr (.inl (lA VL)))), (aw, .inl (dA 1, 1024, .inr (.inl (lA W1_90))))] H := hP
          have hD : va_D A [(am, .inr (0, [.int (I3 th1_117), .int (I3 mn), .ref as_, .ref av, .ref aw, .int (I3 sm), .int (I3 wd), .int (I3 lp), .int (I3 mp), .int (I3 re)])), (as_, .inl (dA 0, 60, .inl (iA SG))), (av, .inl (dA 1, 960, .inr (.inl (lA VL)))), (aw, .inl (dA 1, 1024, .inr (.inl (lA W1_90))))] := hD
          have hno : ¬ pwO (pv VL a) (qv VL a) b.natAbs := by intro ⟨q0, q1⟩; have ek : k.toNat + 1 ≤ b.natAbs := (by omega); have m0 := pw_mono (x := pv VL a) ek; have m1 := pw_mono (x := qv VL a) ek; rw [Nat.pow_succ, ← f0, ← d0] at m0; rw [Nat.pow_succ, ← f1, ← d1] at m1; by_cases c0 : bl (rv W1_90 0) ≤ 256; exact m1 (by omega) q1; exact m0 c0 q0
          have o_50 : Dg W1_90 := by first | assumption | omega | (constructor <;> omega)
          have o_51 : MI mn SG VL := by exact hI
          have o_52 : ¬ pwO (pv VL a) (qv VL a) b.natAbs → Fld mn SG VL 4 z_117 th1_117 mn SG VL := by intro q; exact ⟨p0_117, p1_117, rfl, rfl, rfl⟩
          have o_53 : pwO (pv VL a) (qv VL a) b.natAbs → Mde mn SG VL (if SG a < 0 ∧ b.natAbs % 2 = 1 then -1 else 1) (if b < 0 then qv VL a ^ b.natAbs else pv VL a ^ b.natAbs) (if b < 0 then pv VL a ^ b.natAbs else qv VL a ^ b.natAbs) 4 z_117 th1_117 mn SG VL := by intro q; exact absurd q hno
          exact W.iret (v := I3 z_117) hx hb hr (fun t ht hW => ⟨⟨I3 z_117, (z_117, th1_117, mn, SG, VL, W1_90), rfl, ⟨rfl, ⟨o_50, o_51, o_52, o_53⟩⟩, by rw [ht]; exact hP, va_K.moved hW.alike hK, hD⟩, hS.F ht⟩) hS.2.2 dX8_power_120
        · skip
          refine lv_aload_n hx hb dX8_power_104 rfl (lv_at hl 0 rfl) ?_
          refine lv_iconst (v := I3 (1)) hx hb dX8_power_105 rfl ?_
          have h_54 : 0 ≤ (1 : Int) ∧ (1 : Int) < 16 := by first | assumption | omega | (constructor <;> omega)
          have h_55 : Dg W1_90 := by first | assumption | omega | (constructor <;> omega)
          have hPc := hP.sub (ws' := [(am, .inr (0, [.int (I3 th), .int (I3 mn), .ref as_, .ref av, .ref aw, .int (I3 sm), .int (I3 wd), .int (I3 lp), .int (I3 mp), .int (I3 re)])), (as_, .inl (dA 0, 60, .inl (iA SG))), (av, .inl (dA 1, 960, .inr (.inl (lA VL)))), (aw, .inl (dA 1, 1024, .inr (.inl (lA W1_90))))]) [0, 1, 2, 3] rfl
          have hDc := hD.sub (ws' := [(am, .inr (0, [.int (I3 th), .int (I3 mn), .ref as_, .ref av, .ref aw, .int (I3 sm), .int (I3 wd), .int (I3 lp), .int (I3 mp), .int (I3 re)])), (as_, .inl (dA 0, 60, .inl (iA SG))), (av, .inl (dA 1, 960, .inr (.inl (lA VL)))), (aw, .inl (dA 1, 1024, .inr (.inl (lA W1_90))))]) [0, 1, 2, 3] (by decide) rfl
          have hFc := va_free (wc := [(am, .inr (0, [.int (I3 th), .int (I3 mn), .ref as_, .ref av, .ref aw, .int (I3 sm), .int (I3 wd), .int (I3 lp), .int (I3 mp), .int (I3 re)])), (as_, .inl (dA 0, 60, .inl (iA SG))), (av, .inl (dA 1, 960, .inr (.inl (lA VL)))), (aw, .inl (dA 1, 1024, .inr (.inl (lA W1_90))))]) hD hS hA [0, 1, 2, 3] rfl
          refine va_calli (va_runV (As := [.int (I3 1)]) (rest := []) ⟨hx, hb, hml, hown, hts⟩ (metX8_length l dC dI dA am as_ av aw H.size th mn sm wd lp mp re SG VL W1_90 1 h_54 h_55) (cwV 1 hts (lw_V q1008 q1010 qs32 q66 q1011) rfl rfl rfl (by decide +kernel) ⟨Nat.le_of_ble_eq_true rfl, Nat.le_of_ble_eq_true rfl⟩) ⟨fun a U g mk q => by obtain ⟨q0, q1, qP, qK, qD⟩ := q; exact ⟨q0, q1, qP, va_K.moved (u := U) (U := U.calling g mk a) (Vm.Alike.refl U.vm) qK, qD⟩, va_recv hK hPc (ci := 0) (q0 := 0) rfl rfl, fun U hU hW => ⟨rfl, by rw [hU], by rw [hU]; exact hPc, va_K.moved hW.alike hK, hDc.weaken (fun _ _ _ _ => trivial)⟩⟩ rfl rfl hl.1 rfl (lv_room (Nat.le_of_ble_eq_true rfl)) dX8_power_106 ⟨Nat.le_of_ble_eq_true rfl, Nat.le_of_ble_eq_true rfl⟩) hS (fun q _ h => hFc q h) hFc (fun r_106 u t H1 locs ht hvm hw hB hz1 hk1 hS => ?_)
          obtain ⟨z_106, rfl⟩ : ∃ z, z = u := ⟨_, rfl⟩
          obtain ⟨rfl, p0_106⟩ : r_106 = I3 z_106 ∧ (z_106 = ((bl (rv W1_90 (1 : Int)) : Nat) : Int)) := hw
          obtain ⟨hP1, hK1, hD1⟩ := hB
          rw [ht] at hP1
          obtain ⟨hP, hD⟩ := va_join (wr := []) (w1 := [(am, .inr (0, [.int (I3 th), .int (I3 mn), .ref as_, .ref av, .ref aw, .int (I3 sm), .int (I3 wd), .int (I3 lp), .int (I3 mp), .int (I3 re)])), (as_, .inl (dA 0, 60, .inl (iA SG))), (av, .inl (dA 1, 960, .inr (.inl (lA VL)))), (aw, .inl (dA 1, 1024, .inr (.inl (lA W1_90))))]) hP hD [0, 1, 2, 3] [] rfl rfl (by decide) (by decide) hk1 hFc hP1 hD1
          generalize H1 = H at hP hS ⊢
          have hP : va_P (dC, dI) vwCl [(am, .inr (0, [.int (I3 th), .int (I3 mn), .ref as_, .ref av, .ref aw, .int (I3 sm), .int (I3 wd), .int (I3 lp), .int (I3 mp), .int (I3 re)])), (as_, .inl (dA 0, 60, .inl (iA SG))), (av, .inl (dA 1, 960, .inr (.inl (lA VL)))), (aw, .inl (dA 1, 1024, .inr (.inl (lA W1_90))))] H := hP
          have hD : va_D A [(am, .inr (0, [.int (I3 th), .int (I3 mn), .ref as_, .ref av, .ref aw, .int (I3 sm), .int (I3 wd), .int (I3 lp), .int (I3 mp), .int (I3 re)])), (as_, .inl (dA 0, 60, .inl (iA SG))), (av, .inl (dA 1, 960, .inr (.inl (lA VL)))), (aw, .inl (dA 1, 1024, .inr (.inl (lA W1_90))))] := hD
          have b106 : bl (rv W1_90 1) ≤ 2048 := bl_le.mpr (rv_lt p0_90 1)
          refine lv_sipush (v := I3 (256)) hx hb dX8_power_109 (by decide) ?_
          refine ix_icmp_le (tgt := 121) hx hb (by first | decide | assumption | (constructor <;> omega)) (by first | decide | assumption | (constructor <;> omega)) dX8_power_112 (by decide) (fun c_112 => ?_) (fun c_112 => ?_)
          · skip
            refine lv_iinc (v := I3 (k + 1)) (lv' := [(5, .int (I3 (k + 1))), (0, .ref am), (1, .int (I3 a)), (2, .int (I3 b)), (3, .int (I3 n_)), (4, .int (I3 g))]) hx hb dX8_power_121 hl (k := 5) rfl (I3_add _ _) (by decide) rfl (fun ls hl => ?_)
            refine lv_goto (tgt := 61) hx hb dX8_power_124 (by decide) ?_
            have e_56 : n_ = b.natAbs := by first | assumption | omega | (constructor <;> omega)
            have e_57 : g = if SG a < 0 ∧ b.natAbs % 2 = 1 then -1 else 1 := by first | assumption | omega | (constructor <;> omega)
            have e_58 : g = -1 ∨ g = 1 := by first | assumption | omega | (constructor <;> omega)
            have e_59 : 0 ≤ (k + 1) ∧ (k + 1) ≤ n_ := by first | assumption | omega | (constructor <;> omega)
            have e_60 : Dg W1_90 := by first | assumption | omega | (constructor <;> omega)
            have e_61 : rv W1_90 2 = pv VL a := by rw [d2]; exact f2
            have e_62 : rv W1_90 3 = qv VL a := by rw [d3]; exact f3
            have e_63 : rv W1_90 0 = pv VL a ^ (k + 1).toNat := by rw [d0, f0, show (k + 1).toNat = k.toNat + 1 by omega, Nat.pow_succ]
            have e_64 : rv W1_90 1 = qv VL a ^ (k + 1).toNat := by rw [d1, f1, show (k + 1).toNat = k.toNat + 1 by omega, Nat.pow_succ]
            have e_65 : rv W1_90 0 < B8 := by rw [← bl_B8]; omega
            have e_66 : rv W1_90 1 < B8 := by rw [← bl_B8]; omega
            have e_67 : (n_ - (k + 1)).toNat < fuel_61 := by omega
            exact ih_61 n_ g (k + 1) W1_90 e_56 e_57 e_58 e_59 e_60 e_61 e_62 e_63 e_64 e_65 e_66 e_67 _ _ hP hD hS ls (lv_sub hl [1, 2, 3, 4, 5, 0] rfl)
          · skip
            refine lv_aload_n hx hb dX8_power_115 rfl (lv_at hl 0 rfl) ?_
            refine lv_iconst (v := I3 (4)) hx hb dX8_power_116 rfl ?_
            have h_68 : In3 (4 : Int) := by first | assumption | omega | (constructor <;> omega)
            have hPc := hP.sub (ws' := [(am, .inr (0, [.int (I3 th), .int (I3 mn), .ref as_, .ref av, .ref aw, .int (I3 sm), .int (I3 wd), .int (I3 lp), .int (I3 mp), .int (I3 re)])), (as_, .inl (dA 0, 60, .inl (iA SG))), (av, .inl (dA 1, 960, .inr (.inl (lA VL)))), (aw, .inl (dA 1, 1024, .inr (.inl (lA W1_90))))]) [0, 1, 2, 3] rfl
            have hDc := hD.sub (ws' := [(am, .inr (0, [.int (I3 th), .int (I3 mn), .ref as_, .ref av, .ref aw, .int (I3 sm), .int (I3 wd), .int (I3 lp), .int (I3 mp), .int (I3 re)])), (as_, .inl (dA 0, 60, .inl (iA SG))), (av, .inl (dA 1, 960, .inr (.inl (lA VL)))), (aw, .inl (dA 1, 1024, .inr (.inl (lA W1_90))))]) [0, 1, 2, 3] (by decide) rfl
            have hFc := va_free (wc := [(am, .inr (0, [.int (I3 th), .int (I3 mn), .ref as_, .ref av, .ref aw, .int (I3 sm), .int (I3 wd), .int (I3 lp), .int (I3 mp), .int (I3 re)])), (as_, .inl (dA 0, 60, .inl (iA SG))), (av, .inl (dA 1, 960, .inr (.inl (lA VL)))), (aw, .inl (dA 1, 1024, .inr (.inl (lA W1_90))))]) hD hS hA [0, 1, 2, 3] rfl
            refine va_calli (va_runV (As := [.int (I3 4)]) (rest := []) ⟨hx, hb, hml, hown, hts⟩ (metX8_fails l dC dI dA am as_ av aw H.size th mn sm wd lp mp re SG VL W1_90 4 h_68) (cwV 1 hts (lw_V q1016 q1018 qs34 q66 q1019) rfl rfl rfl (by decide +kernel) ⟨Nat.le_of_ble_eq_true rfl, Nat.le_of_ble_eq_true rfl⟩) ⟨fun a U g mk q => by obtain ⟨q0, q1, qP, qK, qD⟩ := q; exact ⟨q0, q1, qP, va_K.moved (u := U) (U := U.calling g mk a) (Vm.Alike.refl U.vm) qK, qD⟩, va_recv hK hPc (ci := 0) (q0 := 0) rfl rfl, fun U hU hW => ⟨rfl, by rw [hU], by rw [hU]; exact hPc, va_K.moved hW.alike hK, hDc.weaken (fun _ _ _ _ => trivial)⟩⟩ rfl rfl hl.1 rfl (lv_room (Nat.le_of_ble_eq_true rfl)) dX8_power_117 ⟨Nat.le_of_ble_eq_true rfl, Nat.le_of_ble_eq_true rfl⟩) hS (fun q _ h => hFc q h) hFc (fun r_117 u t H1 locs ht hvm hw hB hz1 hk1 hS => ?_)
            obtain ⟨z_117, th1_117⟩ := u
            obtain ⟨rfl, p0_117, p1_117⟩ : r_117 = I3 z_117 ∧ (z_117 = 0) ∧ (th1_117 = (4 : Int)) := hw
            obtain ⟨hP1, hK1, hD1⟩ := hB
            rw [ht] at hP1
            obtain ⟨hP, hD⟩ := va_join (wr := []) (w1 := [(am, .inr (0, [.int (I3 th1_117), .int (I3 mn), .ref as_, .ref av, .ref aw, .int (I3 sm), .int (I3 wd), .int (I3 lp), .int (I3 mp), .int (I3 re)])), (as_, .inl (dA 0, 60, .inl (iA SG))), (av, .inl (dA 1, 960, .inr (.inl (lA VL)))), (aw, .inl (dA 1, 1024, .inr (.inl (lA W1_90))))]) hP hD [0, 1, 2, 3] [] rfl rfl (by decide) (by decide) hk1 hFc hP1 hD1
            generalize H1 = H at hP hS ⊢
            have hP : va_P (dC, dI) vwCl [(am, .inr (0, [.int (I3 th1_117), .int (I3 mn), .ref as_, .ref av, .ref aw, .int (I3 sm), .int (I3 wd), .int (I3 lp), .int (I3 mp), .int (I3 re)])), (as_, .inl (dA 0, 60, .inl (iA SG))), (av, .inl (dA 1, 960, .inr (.inl (lA VL)))), (aw, .inl (dA 1, 1024, .inr (.inl (lA W1_90))))] H := hP
            have hD : va_D A [(am, .inr (0, [.int (I3 th1_117), .int (I3 mn), .ref as_, .ref av, .ref aw, .int (I3 sm), .int (I3 wd), .int (I3 lp), .int (I3 mp), .int (I3 re)])), (as_, .inl (dA 0, 60, .inl (iA SG))), (av, .inl (dA 1, 960, .inr (.inl (lA VL)))), (aw, .inl (dA 1, 1024, .inr (.inl (lA W1_90))))] := hD
            have hno : ¬ pwO (pv VL a) (qv VL a) b.natAbs := by intro ⟨q0, q1⟩; have ek : k.toNat + 1 ≤ b.natAbs := (by omega); have m0 := pw_mono (x := pv VL a) ek; have m1 := pw_mono (x := qv VL a) ek; rw [Nat.pow_succ, ← f0, ← d0] at m0; rw [Nat.pow_succ, ← f1, ← d1] at m1; by_cases c0 : bl (rv W1_90 0) ≤ 256; exact m1 (by omega) q1; exact m0 c0 q0
            have o_69 : Dg W1_90 := by first | assumption | omega | (constructor <;> omega)
            have o_70 : MI mn SG VL := by exact hI
            have o_71 : ¬ pwO (pv VL a) (qv VL a) b.natAbs → Fld mn SG VL 4 z_117 th1_117 mn SG VL := by intro q; exact ⟨p0_117, p1_117, rfl, rfl, rfl⟩
            have o_72 : pwO (pv VL a) (qv VL a) b.natAbs → Mde mn SG VL (if SG a < 0 ∧ b.natAbs % 2 = 1 then -1 else 1) (if b < 0 then qv VL a ^ b.natAbs else pv VL a ^ b.natAbs) (if b < 0 then pv VL a ^ b.natAbs else qv VL a ^ b.natAbs) 4 z_117 th1_117 mn SG VL := by intro q; exact absurd q hno
            exact W.iret (v := I3 z_117) hx hb hr (fun t ht hW => ⟨⟨I3 z_117, (z_117, th1_117, mn, SG, VL, W1_90), rfl, ⟨rfl, ⟨o_69, o_70, o_71, o_72⟩⟩, by rw [ht]; exact hP, va_K.moved hW.alike hK, hD⟩, hS.F ht⟩) hS.2.2 dX8_power_120
  have cut_32 : ∀ (n_ : Int) (g : Int), (n_ = b.natAbs) → (g = if SG a < 0 ∧ b.natAbs % 2 = 1 then -1 else 1) → (g = -1 ∨ g = 1) → ∀ (H : Heap) (locs : List Loc), va_P (dC, dI) vwCl [(am, .inr (0, [.int (I3 th), .int (I3 mn), .ref as_, .ref av, .ref aw, .int (I3 sm), .int (I3 wd), .int (I3 lp), .int (I3 mp), .int (I3 re)])), (as_, .inl (dA 0, 60, .inl (iA SG))), (av, .inl (dA 1, 960, .inr (.inl (lA VL)))), (aw, .inl (dA 1, 1024, .inr (.inl (lA wf))))] H → va_D A [(am, .inr (0, [.int (I3 th), .int (I3 mn), .ref as_, .ref av, .ref aw, .int (I3 sm), .int (I3 wd), .int (I3 lp), .int (I3 mp), .int (I3 re)])), (as_, .inl (dA 0, 60, .inl (iA SG))), (av, .inl (dA 1, 960, .inr (.inl (lA VL)))), (aw, .inl (dA 1, 1024, .inr (.inl (lA wf))))] → va_S A s.heap H locs → ∀ (ls : Array Slot), lv_has ls 6 [(0, .ref am), (1, .int (I3 a)), (2, .int (I3 b)), (3, .int (I3 n_))] → W p l e (headSpec (ws_ yX8_power cX8_power 6 (some .int)) ({ frames := 4, cells := 0, slots := 0, locals := 160 })).room s m ([.ref am, .int (I3 a), .int (I3 b)] : List Value).toArray below meth c H locs 0 0 (MQ below (QmetX8_power dC dI dA A am as_ av aw th mn sm wd lp mp re SG VL wf a b) ([.ref am, .int (I3 a), .int (I3 b)] : List Value).toArray s 0 0 A) (F0 m 32 ls [.int (I3 g)]) := by
    intro n_ g hn hg hg1 H locs hP hD hS ls hl
    obtain ⟨hmn, hV, hAll⟩ := id hI
    refine lv_istore (lv' := [(4, .int (I3 g)), (0, .ref am), (1, .int (I3 a)), (2, .int (I3 b)), (3, .int (I3 n_))]) hx hb dX8_power_32 hl (by decide) rfl (fun ls hl => ?_)
    refine lv_aload_n hx hb dX8_power_34 rfl (lv_at hl 1 rfl) ?_
    refine lv_iload_n hx hb dX8_power_35 rfl (lv_at hl 2 rfl) ?_
    refine lv_iconst (v := I3 (2)) hx hb dX8_power_36 rfl ?_
    have h_73 : 0 ≤ a ∧ a < 60 := by first | assumption | omega | (constructor <;> omega)
    have h_74 : 0 ≤ (2 : Int) ∧ (2 : Int) < 16 := by first | assumption | omega | (constructor <;> omega)
    have h_75 : Dg wf := by first | assumption | omega | (constructor <;> omega)
    have h_76 : Dg VL := by first | assumption | omega | (constructor <;> omega)
    have hPc := hP.sub (ws' := [(am, .inr (0, [.int (I3 th), .int (I3 mn), .ref as_, .ref av, .ref aw, .int (I3 sm), .int (I3 wd), .int (I3 lp), .int (I3 mp), .int (I3 re)])), (as_, .inl (dA 0, 60, .inl (iA SG))), (av, .inl (dA 1, 960, .inr (.inl (lA VL)))), (aw, .inl (dA 1, 1024, .inr (.inl (lA wf))))]) [0, 1, 2, 3] rfl
    have hDc := hD.sub (ws' := [(am, .inr (0, [.int (I3 th), .int (I3 mn), .ref as_, .ref av, .ref aw, .int (I3 sm), .int (I3 wd), .int (I3 lp), .int (I3 mp), .int (I3 re)])), (as_, .inl (dA 0, 60, .inl (iA SG))), (av, .inl (dA 1, 960, .inr (.inl (lA VL)))), (aw, .inl (dA 1, 1024, .inr (.inl (lA wf))))]) [0, 1, 2, 3] (by decide) rfl
    have hFc := va_free (wc := [(am, .inr (0, [.int (I3 th), .int (I3 mn), .ref as_, .ref av, .ref aw, .int (I3 sm), .int (I3 wd), .int (I3 lp), .int (I3 mp), .int (I3 re)])), (as_, .inl (dA 0, 60, .inl (iA SG))), (av, .inl (dA 1, 960, .inr (.inl (lA VL)))), (aw, .inl (dA 1, 1024, .inr (.inl (lA wf))))]) hD hS hA [0, 1, 2, 3] rfl
    refine va_callv (va_runV (As := [.int (I3 a), .int (I3 2)]) (rest := []) ⟨hx, hb, hml, hown, hts⟩ (metX8_loadP l dC dI dA am as_ av aw H.size th mn sm wd lp mp re SG VL wf a 2 h_73 h_74 h_75 h_76) (cwV 2 hts (lw_V q1066 q1068 qs39 q66 q1069) rfl rfl rfl (by decide +kernel) ⟨Nat.le_of_ble_eq_true rfl, Nat.le_of_ble_eq_true rfl⟩) ⟨fun a U g mk q => by obtain ⟨q0, q1, qP, qK, qD⟩ := q; exact ⟨q0, q1, qP, va_K.moved (u := U) (U := U.calling g mk a) (Vm.Alike.refl U.vm) qK, qD⟩, va_recv hK hPc (ci := 0) (q0 := 0) rfl rfl, fun U hU hW => ⟨rfl, by rw [hU], by rw [hU]; exact hPc, va_K.moved hW.alike hK, hDc.weaken (fun _ _ _ _ => trivial)⟩⟩ rfl rfl hl.1 rfl (lv_room (Nat.le_of_ble_eq_true rfl)) dX8_power_37 ⟨Nat.le_of_ble_eq_true rfl, Nat.le_of_ble_eq_true rfl⟩) hS (fun q _ h => hFc q h) hFc (fun u t H1 locs ht hvm hw hB hz1 hk1 hS => ?_)
    obtain ⟨W1_37, rfl⟩ : ∃ z, z = u := ⟨_, rfl⟩
    obtain ⟨p0_37, p1_37, p2_37⟩ : (Dg W1_37) ∧ (Fr wf W1_37 (2 : Int)) ∧ (rv W1_37 (2 : Int) = pv VL a) := hw
    obtain ⟨hP1, hK1, hD1⟩ := hB
    rw [ht] at hP1
    obtain ⟨hP, hD⟩ := va_join (wr := []) (w1 := [(am, .inr (0, [.int (I3 th), .int (I3 mn), .ref as_, .ref av, .ref aw, .int (I3 sm), .int (I3 wd), .int (I3 lp), .int (I3 mp), .int (I3 re)])), (as_, .inl (dA 0, 60, .inl (iA SG))), (av, .inl (dA 1, 960, .inr (.inl (lA VL)))), (aw, .inl (dA 1, 1024, .inr (.inl (lA W1_37))))]) hP hD [0, 1, 2, 3] [] rfl rfl (by decide) (by decide) hk1 hFc hP1 hD1
    generalize H1 = H at hP hS ⊢
    have hP : va_P (dC, dI) vwCl [(am, .inr (0, [.int (I3 th), .int (I3 mn), .ref as_, .ref av, .ref aw, .int (I3 sm), .int (I3 wd), .int (I3 lp), .int (I3 mp), .int (I3 re)])), (as_, .inl (dA 0, 60, .inl (iA SG))), (av, .inl (dA 1, 960, .inr (.inl (lA VL)))), (aw, .inl (dA 1, 1024, .inr (.inl (lA W1_37))))] H := hP
    have hD : va_D A [(am, .inr (0, [.int (I3 th), .int (I3 mn), .ref as_, .ref av, .ref aw, .int (I3 sm), .int (I3 wd), .int (I3 lp), .int (I3 mp), .int (I3 re)])), (as_, .inl (dA 0, 60, .inl (iA SG))), (av, .inl (dA 1, 960, .inr (.inl (lA VL)))), (aw, .inl (dA 1, 1024, .inr (.inl (lA W1_37))))] := hD
    refine lv_aload_n hx hb dX8_power_40 rfl (lv_at hl 1 rfl) ?_
    refine lv_iload_n hx hb dX8_power_41 rfl (lv_at hl 2 rfl) ?_
    refine lv_iconst (v := I3 (3)) hx hb dX8_power_42 rfl ?_
    have h_77 : 0 ≤ a ∧ a < 60 := by first | assumption | omega | (constructor <;> omega)
    have h_78 : 0 ≤ (3 : Int) ∧ (3 : Int) < 16 := by first | assumption | omega | (constructor <;> omega)
    have h_79 : Dg W1_37 := by first | assumption | omega | (constructor <;> omega)
    have h_80 : Dg VL := by first | assumption | omega | (constructor <;> omega)
    have hPc := hP.sub (ws' := [(am, .inr (0, [.int (I3 th), .int (I3 mn), .ref as_, .ref av, .ref aw, .int (I3 sm), .int (I3 wd), .int (I3 lp), .int (I3 mp), .int (I3 re)])), (as_, .inl (dA 0, 60, .inl (iA SG))), (av, .inl (dA 1, 960, .inr (.inl (lA VL)))), (aw, .inl (dA 1, 1024, .inr (.inl (lA W1_37))))]) [0, 1, 2, 3] rfl
    have hDc := hD.sub (ws' := [(am, .inr (0, [.int (I3 th), .int (I3 mn), .ref as_, .ref av, .ref aw, .int (I3 sm), .int (I3 wd), .int (I3 lp), .int (I3 mp), .int (I3 re)])), (as_, .inl (dA 0, 60, .inl (iA SG))), (av, .inl (dA 1, 960, .inr (.inl (lA VL)))), (aw, .inl (dA 1, 1024, .inr (.inl (lA W1_37))))]) [0, 1, 2, 3] (by decide) rfl
    have hFc := va_free (wc := [(am, .inr (0, [.int (I3 th), .int (I3 mn), .ref as_, .ref av, .ref aw, .int (I3 sm), .int (I3 wd), .int (I3 lp), .int (I3 mp), .int (I3 re)])), (as_, .inl (dA 0, 60, .inl (iA SG))), (av, .inl (dA 1, 960, .inr (.inl (lA VL)))), (aw, .inl (dA 1, 1024, .inr (.inl (lA W1_37))))]) hD hS hA [0, 1, 2, 3] rfl
    refine va_callv (va_runV (As := [.int (I3 a), .int (I3 3)]) (rest := []) ⟨hx, hb, hml, hown, hts⟩ (metX8_loadQ l dC dI dA am as_ av aw H.size th mn sm wd lp mp re SG VL W1_37 a 3 h_77 h_78 h_79 h_80) (cwV 2 hts (lw_V q1070 q1072 qs40 q66 q1073) rfl rfl rfl (by decide +kernel) ⟨Nat.le_of_ble_eq_true rfl, Nat.le_of_ble_eq_true rfl⟩) ⟨fun a U g mk q => by obtain ⟨q0, q1, qP, qK, qD⟩ := q; exact ⟨q0, q1, qP, va_K.moved (u := U) (U := U.calling g mk a) (Vm.Alike.refl U.vm) qK, qD⟩, va_recv hK hPc (ci := 0) (q0 := 0) rfl rfl, fun U hU hW => ⟨rfl, by rw [hU], by rw [hU]; exact hPc, va_K.moved hW.alike hK, hDc.weaken (fun _ _ _ _ => trivial)⟩⟩ rfl rfl hl.1 rfl (lv_room (Nat.le_of_ble_eq_true rfl)) dX8_power_43 ⟨Nat.le_of_ble_eq_true rfl, Nat.le_of_ble_eq_true rfl⟩) hS (fun q _ h => hFc q h) hFc (fun u t H1 locs ht hvm hw hB hz1 hk1 hS => ?_)
    obtain ⟨W1_43, rfl⟩ : ∃ z, z = u := ⟨_, rfl⟩
    obtain ⟨p0_43, p1_43, p2_43⟩ : (Dg W1_43) ∧ (Fr W1_37 W1_43 (3 : Int)) ∧ (rv W1_43 (3 : Int) = qv VL a) := hw
    obtain ⟨hP1, hK1, hD1⟩ := hB
    rw [ht] at hP1
    obtain ⟨hP, hD⟩ := va_join (wr := []) (w1 := [(am, .inr (0, [.int (I3 th), .int (I3 mn), .ref as_, .ref av, .ref aw, .int (I3 sm), .int (I3 wd), .int (I3 lp), .int (I3 mp), .int (I3 re)])), (as_, .inl (dA 0, 60, .inl (iA SG))), (av, .inl (dA 1, 960, .inr (.inl (lA VL)))), (aw, .inl (dA 1, 1024, .inr (.inl (lA W1_43))))]) hP hD [0, 1, 2, 3] [] rfl rfl (by decide) (by decide) hk1 hFc hP1 hD1
    generalize H1 = H at hP hS ⊢
    have hP : va_P (dC, dI) vwCl [(am, .inr (0, [.int (I3 th), .int (I3 mn), .ref as_, .ref av, .ref aw, .int (I3 sm), .int (I3 wd), .int (I3 lp), .int (I3 mp), .int (I3 re)])), (as_, .inl (dA 0, 60, .inl (iA SG))), (av, .inl (dA 1, 960, .inr (.inl (lA VL)))), (aw, .inl (dA 1, 1024, .inr (.inl (lA W1_43))))] H := hP
    have hD : va_D A [(am, .inr (0, [.int (I3 th), .int (I3 mn), .ref as_, .ref av, .ref aw, .int (I3 sm), .int (I3 wd), .int (I3 lp), .int (I3 mp), .int (I3 re)])), (as_, .inl (dA 0, 60, .inl (iA SG))), (av, .inl (dA 1, 960, .inr (.inl (lA VL)))), (aw, .inl (dA 1, 1024, .inr (.inl (lA W1_43))))] := hD
    refine lv_aload_n hx hb dX8_power_46 rfl (lv_at hl 1 rfl) ?_
    refine lv_iconst (v := I3 (0)) hx hb dX8_power_47 rfl ?_
    refine lv_lconst (v := L6 1) hx hb dX8_power_48 (by decide) ?_
    have h_81 : 0 ≤ (0 : Int) ∧ (0 : Int) < 16 := by first | assumption | omega | (constructor <;> omega)
    have h_82 : Dg W1_43 := by first | assumption | omega | (constructor <;> omega)
    have hPc := hP.sub (ws' := [(am, .inr (0, [.int (I3 th), .int (I3 mn), .ref as_, .ref av, .ref aw, .int (I3 sm), .int (I3 wd), .int (I3 lp), .int (I3 mp), .int (I3 re)])), (as_, .inl (dA 0, 60, .inl (iA SG))), (av, .inl (dA 1, 960, .inr (.inl (lA VL)))), (aw, .inl (dA 1, 1024, .inr (.inl (lA W1_43))))]) [0, 1, 2, 3] rfl
    have hDc := hD.sub (ws' := [(am, .inr (0, [.int (I3 th), .int (I3 mn), .ref as_, .ref av, .ref aw, .int (I3 sm), .int (I3 wd), .int (I3 lp), .int (I3 mp), .int (I3 re)])), (as_, .inl (dA 0, 60, .inl (iA SG))), (av, .inl (dA 1, 960, .inr (.inl (lA VL)))), (aw, .inl (dA 1, 1024, .inr (.inl (lA W1_43))))]) [0, 1, 2, 3] (by decide) rfl
    have hFc := va_free (wc := [(am, .inr (0, [.int (I3 th), .int (I3 mn), .ref as_, .ref av, .ref aw, .int (I3 sm), .int (I3 wd), .int (I3 lp), .int (I3 mp), .int (I3 re)])), (as_, .inl (dA 0, 60, .inl (iA SG))), (av, .inl (dA 1, 960, .inr (.inl (lA VL)))), (aw, .inl (dA 1, 1024, .inr (.inl (lA W1_43))))]) hD hS hA [0, 1, 2, 3] rfl
    refine va_callv (va_runV (As := [.int (I3 0), .long (L6 1)]) (rest := []) ⟨hx, hb, hml, hown, hts⟩ (metX8_set l dC dI dA am as_ av aw H.size th mn sm wd lp mp re SG VL W1_43 0 1 h_81 h_82) (cwV 2 hts (lw_V q955 q957 qs19 q66 q958) rfl rfl rfl (by decide +kernel) ⟨Nat.le_of_ble_eq_true rfl, Nat.le_of_ble_eq_true rfl⟩) ⟨fun a U g mk q => by obtain ⟨q0, q1, qP, qK, qD⟩ := q; exact ⟨q0, q1, qP, va_K.moved (u := U) (U := U.calling g mk a) (Vm.Alike.refl U.vm) qK, qD⟩, va_recv hK hPc (ci := 0) (q0 := 0) rfl rfl, fun U hU hW => ⟨rfl, by rw [hU], by rw [hU]; exact hPc, va_K.moved hW.alike hK, hDc.weaken (fun _ _ _ _ => trivial)⟩⟩ rfl rfl hl.1 rfl (lv_room (Nat.le_of_ble_eq_true rfl)) dX8_power_49 ⟨Nat.le_of_ble_eq_true rfl, Nat.le_of_ble_eq_true rfl⟩) hS (fun q _ h => hFc q h) hFc (fun u t H1 locs ht hvm hw hB hz1 hk1 hS => ?_)
    obtain ⟨W1_49, rfl⟩ : ∃ z, z = u := ⟨_, rfl⟩
    obtain ⟨p0_49, p1_49, p2_49⟩ : (Dg W1_49) ∧ (Fr W1_43 W1_49 (0 : Int)) ∧ (rv W1_49 (0 : Int) = ((1 : Int) % 18446744073709551616).toNat) := hw
    obtain ⟨hP1, hK1, hD1⟩ := hB
    rw [ht] at hP1
    obtain ⟨hP, hD⟩ := va_join (wr := []) (w1 := [(am, .inr (0, [.int (I3 th), .int (I3 mn), .ref as_, .ref av, .ref aw, .int (I3 sm), .int (I3 wd), .int (I3 lp), .int (I3 mp), .int (I3 re)])), (as_, .inl (dA 0, 60, .inl (iA SG))), (av, .inl (dA 1, 960, .inr (.inl (lA VL)))), (aw, .inl (dA 1, 1024, .inr (.inl (lA W1_49))))]) hP hD [0, 1, 2, 3] [] rfl rfl (by decide) (by decide) hk1 hFc hP1 hD1
    generalize H1 = H at hP hS ⊢
    have hP : va_P (dC, dI) vwCl [(am, .inr (0, [.int (I3 th), .int (I3 mn), .ref as_, .ref av, .ref aw, .int (I3 sm), .int (I3 wd), .int (I3 lp), .int (I3 mp), .int (I3 re)])), (as_, .inl (dA 0, 60, .inl (iA SG))), (av, .inl (dA 1, 960, .inr (.inl (lA VL)))), (aw, .inl (dA 1, 1024, .inr (.inl (lA W1_49))))] H := hP
    have hD : va_D A [(am, .inr (0, [.int (I3 th), .int (I3 mn), .ref as_, .ref av, .ref aw, .int (I3 sm), .int (I3 wd), .int (I3 lp), .int (I3 mp), .int (I3 re)])), (as_, .inl (dA 0, 60, .inl (iA SG))), (av, .inl (dA 1, 960, .inr (.inl (lA VL)))), (aw, .inl (dA 1, 1024, .inr (.inl (lA W1_49))))] := hD
    refine lv_aload_n hx hb dX8_power_52 rfl (lv_at hl 1 rfl) ?_
    refine lv_iconst (v := I3 (1)) hx hb dX8_power_53 rfl ?_
    refine lv_lconst (v := L6 1) hx hb dX8_power_54 (by decide) ?_
    have h_83 : 0 ≤ (1 : Int) ∧ (1 : Int) < 16 := by first | assumption | omega | (constructor <;> omega)
    have h_84 : Dg W1_49 := by first | assumption | omega | (constructor <;> omega)
    have hPc := hP.sub (ws' := [(am, .inr (0, [.int (I3 th), .int (I3 mn), .ref as_, .ref av, .ref aw, .int (I3 sm), .int (I3 wd), .int (I3 lp), .int (I3 mp), .int (I3 re)])), (as_, .inl (dA 0, 60, .inl (iA SG))), (av, .inl (dA 1, 960, .inr (.inl (lA VL)))), (aw, .inl (dA 1, 1024, .inr (.inl (lA W1_49))))]) [0, 1, 2, 3] rfl
    have hDc := hD.sub (ws' := [(am, .inr (0, [.int (I3 th), .int (I3 mn), .ref as_, .ref av, .ref aw, .int (I3 sm), .int (I3 wd), .int (I3 lp), .int (I3 mp), .int (I3 re)])), (as_, .inl (dA 0, 60, .inl (iA SG))), (av, .inl (dA 1, 960, .inr (.inl (lA VL)))), (aw, .inl (dA 1, 1024, .inr (.inl (lA W1_49))))]) [0, 1, 2, 3] (by decide) rfl
    have hFc := va_free (wc := [(am, .inr (0, [.int (I3 th), .int (I3 mn), .ref as_, .ref av, .ref aw, .int (I3 sm), .int (I3 wd), .int (I3 lp), .int (I3 mp), .int (I3 re)])), (as_, .inl (dA 0, 60, .inl (iA SG))), (av, .inl (dA 1, 960, .inr (.inl (lA VL)))), (aw, .inl (dA 1, 1024, .inr (.inl (lA W1_49))))]) hD hS hA [0, 1, 2, 3] rfl
    refine va_callv (va_runV (As := [.int (I3 1), .long (L6 1)]) (rest := []) ⟨hx, hb, hml, hown, hts⟩ (metX8_set l dC dI dA am as_ av aw H.size th mn sm wd lp mp re SG VL W1_49 1 1 h_83 h_84) (cwV 2 hts (lw_V q955 q957 qs19 q66 q958) rfl rfl rfl (by decide +kernel) ⟨Nat.le_of_ble_eq_true rfl, Nat.le_of_ble_eq_true rfl⟩) ⟨fun a U g mk q => by obtain ⟨q0, q1, qP, qK, qD⟩ := q; exact ⟨q0, q1, qP, va_K.moved (u := U) (U := U.calling g mk a) (Vm.Alike.refl U.vm) qK, qD⟩, va_recv hK hPc (ci := 0) (q0 := 0) rfl rfl, fun U hU hW => ⟨rfl, by rw [hU], by rw [hU]; exact hPc, va_K.moved hW.alike hK, hDc.weaken (fun _ _ _ _ => trivial)⟩⟩ rfl rfl hl.1 rfl (lv_room (Nat.le_of_ble_eq_true rfl)) dX8_power_55 ⟨Nat.le_of_ble_eq_true rfl, Nat.le_of_ble_eq_true rfl⟩) hS (fun q _ h => hFc q h) hFc (fun u t H1 locs ht hvm hw hB hz1 hk1 hS => ?_)
    obtain ⟨W1_55, rfl⟩ : ∃ z, z = u := ⟨_, rfl⟩
    obtain ⟨p0_55, p1_55, p2_55⟩ : (Dg W1_55) ∧ (Fr W1_49 W1_55 (1 : Int)) ∧ (rv W1_55 (1 : Int) = ((1 : Int) % 18446744073709551616).toNat) := hw
    obtain ⟨hP1, hK1, hD1⟩ := hB
    rw [ht] at hP1
    obtain ⟨hP, hD⟩ := va_join (wr := []) (w1 := [(am, .inr (0, [.int (I3 th), .int (I3 mn), .ref as_, .ref av, .ref aw, .int (I3 sm), .int (I3 wd), .int (I3 lp), .int (I3 mp), .int (I3 re)])), (as_, .inl (dA 0, 60, .inl (iA SG))), (av, .inl (dA 1, 960, .inr (.inl (lA VL)))), (aw, .inl (dA 1, 1024, .inr (.inl (lA W1_55))))]) hP hD [0, 1, 2, 3] [] rfl rfl (by decide) (by decide) hk1 hFc hP1 hD1
    generalize H1 = H at hP hS ⊢
    have hP : va_P (dC, dI) vwCl [(am, .inr (0, [.int (I3 th), .int (I3 mn), .ref as_, .ref av, .ref aw, .int (I3 sm), .int (I3 wd), .int (I3 lp), .int (I3 mp), .int (I3 re)])), (as_, .inl (dA 0, 60, .inl (iA SG))), (av, .inl (dA 1, 960, .inr (.inl (lA VL)))), (aw, .inl (dA 1, 1024, .inr (.inl (lA W1_55))))] H := hP
    have hD : va_D A [(am, .inr (0, [.int (I3 th), .int (I3 mn), .ref as_, .ref av, .ref aw, .int (I3 sm), .int (I3 wd), .int (I3 lp), .int (I3 mp), .int (I3 re)])), (as_, .inl (dA 0, 60, .inl (iA SG))), (av, .inl (dA 1, 960, .inr (.inl (lA VL)))), (aw, .inl (dA 1, 1024, .inr (.inl (lA W1_55))))] := hD
    refine lv_iconst (v := I3 (0)) hx hb dX8_power_58 rfl ?_
    refine lv_istore (lv' := [(5, .int (I3 0)), (4, .int (I3 g)), (0, .ref am), (1, .int (I3 a)), (2, .int (I3 b)), (3, .int (I3 n_))]) hx hb dX8_power_59 hl (by decide) rfl (fun ls hl => ?_)
    have hBp := B8_pos
    have e0 : rv W1_55 0 = 1 := by rw [Fr_rv p1_55 (by decide), p2_49]; rfl
    have e1 : rv W1_55 1 = 1 := by rw [p2_55]; rfl
    have hB1 : 1 < B8 := Nat.one_lt_two_pow (by decide)
    have e_85 : n_ = b.natAbs := by first | assumption | omega | (constructor <;> omega)
    have e_86 : g = if SG a < 0 ∧ b.natAbs % 2 = 1 then -1 else 1 := by first | assumption | omega | (constructor <;> omega)
    have e_87 : g = -1 ∨ g = 1 := by first | assumption | omega | (constructor <;> omega)
    have e_88 : 0 ≤ (0 : Int) ∧ (0 : Int) ≤ n_ := by first | assumption | omega | (constructor <;> omega)
    have e_89 : Dg W1_55 := by first | assumption | omega | (constructor <;> omega)
    have e_90 : rv W1_55 2 = pv VL a := by rw [Fr_rv p1_55 (by decide), Fr_rv p1_49 (by decide), Fr_rv p1_43 (by decide)]; exact p2_37
    have e_91 : rv W1_55 3 = qv VL a := by rw [Fr_rv p1_55 (by decide), Fr_rv p1_49 (by decide)]; exact p2_43
    have e_92 : rv W1_55 0 = pv VL a ^ (0 : Int).toNat := by rw [e0]; rfl
    have e_93 : rv W1_55 1 = qv VL a ^ (0 : Int).toNat := by rw [e1]; rfl
    have e_94 : rv W1_55 0 < B8 := by first | assumption | omega | (constructor <;> omega)
    have e_95 : rv W1_55 1 < B8 := by first | assumption | omega | (constructor <;> omega)
    exact cut_61 ((n_ - (0 : Int)).toNat + 1) n_ g 0 W1_55 e_85 e_86 e_87 e_88 e_89 e_90 e_91 e_92 e_93 e_94 e_95 (Nat.lt_succ_self _) _ _ hP hD hS ls (lv_sub hl [2, 3, 4, 5, 1, 0] rfl)
  have cut_10 : ∀ (n_ : Int), (n_ = b.natAbs) → ∀ (H : Heap) (locs : List Loc), va_P (dC, dI) vwCl [(am, .inr (0, [.int (I3 th), .int (I3 mn), .ref as_, .ref av, .ref aw, .int (I3 sm), .int (I3 wd), .int (I3 lp), .int (I3 mp), .int (I3 re)])), (as_, .inl (dA 0, 60, .inl (iA SG))), (av, .inl (dA 1, 960, .inr (.inl (lA VL)))), (aw, .inl (dA 1, 1024, .inr (.inl (lA wf))))] H → va_D A [(am, .inr (0, [.int (I3 th), .int (I3 mn), .ref as_, .ref av, .ref aw, .int (I3 sm), .int (I3 wd), .int (I3 lp), .int (I3 mp), .int (I3 re)])), (as_, .inl (dA 0, 60, .inl (iA SG))), (av, .inl (dA 1, 960, .inr (.inl (lA VL)))), (aw, .inl (dA 1, 1024, .inr (.inl (lA wf))))] → va_S A s.heap H locs → ∀ (ls : Array Slot), lv_has ls 6 [(0, .ref am), (1, .int (I3 a)), (2, .int (I3 b))] → W p l e (headSpec (ws_ yX8_power cX8_power 6 (some .int)) ({ frames := 4, cells := 0, slots := 0, locals := 160 })).room s m ([.ref am, .int (I3 a), .int (I3 b)] : List Value).toArray below meth c H locs 0 0 (MQ below (QmetX8_power dC dI dA A am as_ av aw th mn sm wd lp mp re SG VL wf a b) ([.ref am, .int (I3 a), .int (I3 b)] : List Value).toArray s 0 0 A) (F0 m 10 ls [.int (I3 n_)]) := by
    intro n_ hn H locs hP hD hS ls hl
    obtain ⟨hmn, hV, hAll⟩ := id hI
    have ha2 := (hAll a (by omega) (by omega)).1
    refine lv_istore_n (lv' := [(3, .int (I3 n_)), (0, .ref am), (1, .int (I3 a)), (2, .int (I3 b))]) hx hb dX8_power_10 rfl hl (by decide) rfl (fun ls hl => ?_)
    refine lv_aload_n hx hb dX8_power_11 rfl (lv_at hl 1 rfl) ?_
    refine va_get (D := (dC, dI)) (ci := 0) (v := .ref as_) (C := RX8) (T := TX8) (N := 10) hx hb hts in_X8 hown hK hP 0 rfl rfl 2 (by decide) (hts _ q915) (fun _ h9 => h9) rfl dX8_power_12 ?_
    refine lv_iload_n hx hb dX8_power_15 rfl (lv_at hl 2 rfl) ?_
    refine ix_iald hx hb hK hP 1 0 rfl rfl (Nat.le_of_ble_eq_true rfl) (by omega) dX8_power_16 ?_
    refine ix_if_ge (tgt := 31) hx hb (by first | decide | assumption | (constructor <;> omega)) dX8_power_17 (by decide) (fun c_17 => ?_) (fun c_17 => ?_)
    · skip
      refine lv_iconst (v := I3 (1)) hx hb dX8_power_31 rfl ?_
      have e_96 : n_ = b.natAbs := by first | assumption | omega | (constructor <;> omega)
      have e_97 : (1 : Int) = if SG a < 0 ∧ b.natAbs % 2 = 1 then -1 else 1 := by first | (rw [if_pos (by omega)]; done) | (rw [if_neg (by omega)]; done)
      have e_98 : (1 : Int) = -1 ∨ (1 : Int) = 1 := by first | assumption | omega | (constructor <;> omega)
      exact cut_32 n_ 1 e_96 e_97 e_98 _ _ hP hD hS ls (lv_sub hl [1, 2, 3, 0] rfl)
    · skip
      refine lv_iload_n hx hb dX8_power_20 rfl (lv_at hl 0 rfl) ?_
      refine lv_iconst (v := I3 (2)) hx hb dX8_power_21 rfl ?_
      refine ix_irem hx hb (by constructor <;> omega) (by first | decide | (constructor <;> omega)) (by first | decide | omega) (by omega) dX8_power_22 ?_
      refine ix_ti (y := n_ % 2) (by exact Int.tmod_eq_emod_of_nonneg (by omega)) ?_
      refine lv_iconst (v := I3 (1)) hx hb dX8_power_23 rfl ?_
      refine ix_icmp_ne (tgt := 31) hx hb (by first | decide | assumption | (constructor <;> omega)) (by first | decide | assumption | (constructor <;> omega)) dX8_power_24 (by decide) (fun c_24 => ?_) (fun c_24 => ?_)
      · skip
        refine lv_iconst (v := I3 (1)) hx hb dX8_power_31 rfl ?_
        have e_99 : n_ = b.natAbs := by first | assumption | omega | (constructor <;> omega)
        have e_100 : (1 : Int) = if SG a < 0 ∧ b.natAbs % 2 = 1 then -1 else 1 := by first | (rw [if_pos (by omega)]; done) | (rw [if_neg (by omega)]; done)
        have e_101 : (1 : Int) = -1 ∨ (1 : Int) = 1 := by first | assumption | omega | (constructor <;> omega)
        exact cut_32 n_ 1 e_99 e_100 e_101 _ _ hP hD hS ls (lv_sub hl [1, 2, 3, 0] rfl)
      · skip
        refine lv_iconst (v := I3 (-1)) hx hb dX8_power_27 rfl ?_
        refine lv_goto (tgt := 32) hx hb dX8_power_28 (by decide) ?_
        have e_102 : n_ = b.natAbs := by first | assumption | omega | (constructor <;> omega)
        have e_103 : (-1 : Int) = if SG a < 0 ∧ b.natAbs % 2 = 1 then -1 else 1 := by first | (rw [if_pos (by omega)]; done) | (rw [if_neg (by omega)]; done)
        have e_104 : (-1 : Int) = -1 ∨ (-1 : Int) = 1 := by first | assumption | omega | (constructor <;> omega)
        exact cut_32 n_ (-1) e_102 e_103 e_104 _ _ hP hD hS ls (lv_sub hl [1, 2, 3, 0] rfl)
  obtain ⟨hmn, hV, hAll⟩ := id hI
  have ha2 := (hAll a (by omega) (by omega)).1
  refine lv_iload_n hx hb dX8_power_0 rfl (lv_at hl 2 rfl) ?_
  refine ix_if_ge (tgt := 9) hx hb (by first | decide | assumption | (constructor <;> omega)) dX8_power_1 (by decide) (fun c_1 => ?_) (fun c_1 => ?_)
  · skip
    refine lv_iload_n hx hb dX8_power_9 rfl (lv_at hl 2 rfl) ?_
    have e_105 : b = b.natAbs := by first | assumption | omega | (constructor <;> omega)
    exact cut_10 b e_105 _ _ hP hD hS ls (lv_sub hl [0, 1, 2] rfl)
  · skip
    refine lv_iload_n hx hb dX8_power_4 rfl (lv_at hl 2 rfl) ?_
    refine ix_ineg hx hb dX8_power_5 ?_
    refine lv_goto (tgt := 10) hx hb dX8_power_6 (by decide) ?_
    have e_106 : (-b) = b.natAbs := by first | assumption | omega | (constructor <;> omega)
    exact cut_10 (-b) e_106 _ _ hP hD hS ls (lv_sub hl [0, 1, 2] rfl)
