/-! the model: makers -/
set_option maxRecDepth 100000
abbrev BmetX8_whole (dC : Nat → ClassId) (dI : Nat → Nat → Nat) (dA : Nat → ClassId) (A : Nat → Prop) (am : Nat) (as_ : Nat) (av : Nat) (aw : Nat) (th : Int) (mn : Int) (sm : Int) (wd : Int) (lp : Int) (mp : Int) (re : Int) (SG : Int → Int) (VL : Int → Int) (wf : Int → Int) (v : Int) : Int × Int × Int × (Int → Int) × (Int → Int) × (Int → Int) → State → Prop := fun u t => (fun (u : Int × Int × Int × (Int → Int) × (Int → Int) × (Int → Int)) => (fun (z : Int) (th1 : Int) (mn1 : Int) (SG1 : Int → Int) (VL1 : Int → Int) (W1 : Int → Int) => va_P (dC, dI) vwCl [(am, .inr (0, [.int (I3 th1), .int (I3 mn1), .ref as_, .ref av, .ref aw, .int (I3 sm), .int (I3 wd), .int (I3 lp), .int (I3 mp), .int (I3 re)])), (as_, .inl (dA 0, 60, .inl (iA SG1))), (av, .inl (dA 1, 960, .inr (.inl (lA VL1)))), (aw, .inl (dA 1, 1024, .inr (.inl (lA W1))))] t.heap ∧ va_K (dC, dI) vwCl (tyA dA) t ∧ va_D A [(am, .inr (0, [.int (I3 th1), .int (I3 mn1), .ref as_, .ref av, .ref aw, .int (I3 sm), .int (I3 wd), .int (I3 lp), .int (I3 mp), .int (I3 re)])), (as_, .inl (dA 0, 60, .inl (iA SG1))), (av, .inl (dA 1, 960, .inr (.inl (lA VL1)))), (aw, .inl (dA 1, 1024, .inr (.inl (lA W1))))]) u.1 u.2.1 u.2.2.1 u.2.2.2.1 u.2.2.2.2.1 u.2.2.2.2.2) u
abbrev QmetX8_whole (dC : Nat → ClassId) (dI : Nat → Nat → Nat) (dA : Nat → ClassId) (A : Nat → Prop) (am : Nat) (as_ : Nat) (av : Nat) (aw : Nat) (th : Int) (mn : Int) (sm : Int) (wd : Int) (lp : Int) (mp : Int) (re : Int) (SG : Int → Int) (VL : Int → Int) (wf : Int → Int) (v : Int) := va_Qi (fun (rt_ : Int32) => fun (u : Int × Int × Int × (Int → Int) × (Int → Int) × (Int → Int)) => (fun (z : Int) (th1 : Int) (mn1 : Int) (SG1 : Int → Int) (VL1 : Int → Int) (W1 : Int → Int) => rt_ = I3 z ∧ (Dg W1) ∧ (MI mn1 SG1 VL1) ∧ (Mde mn SG VL (sgX v) (v.natAbs) (1) 1 z th1 mn1 SG1 VL1)) u.1 u.2.1 u.2.2.1 u.2.2.2.1 u.2.2.2.2.1 u.2.2.2.2.2) (BmetX8_whole dC dI dA A am as_ av aw th mn sm wd lp mp re SG VL wf v) A
set_option maxHeartbeats 1000000 in
set_option maxRecDepth 100000 in
/-- whole(v) -/
theorem metX8_whole (l : Launch) (dC : Nat → ClassId) (dI : Nat → Nat → Nat) (dA : Nat → ClassId) (am : Nat) (as_ : Nat) (av : Nat) (aw : Nat) (sz : Nat) (th : Int) (mn : Int) (sm : Int) (wd : Int) (lp : Int) (mp : Int) (re : Int) (SG : Int → Int) (VL : Int → Int) (wf : Int → Int) (v : Int) (hW : Dg wf) (hI : MI mn SG VL) (hv : In6 v) : Met l yX8_whole (ws_ yX8_whole cX8_whole 3 (some .int)) ({ frames := 4, cells := 0, slots := 0, locals := 160 }) (va_Pc [.ref am, .long (L6 v)] (fun U => U.heap.size = sz ∧ va_P (dC, dI) vwCl [(am, .inr (0, [.int (I3 th), .int (I3 mn), .ref as_, .ref av, .ref aw, .int (I3 sm), .int (I3 wd), .int (I3 lp), .int (I3 mp), .int (I3 re)])), (as_, .inl (dA 0, 60, .inl (iA SG))), (av, .inl (dA 1, 960, .inr (.inl (lA VL)))), (aw, .inl (dA 1, 1024, .inr (.inl (lA wf))))] U.heap ∧ va_K (dC, dI) vwCl (tyA dA) U ∧ va_D (fun _ => True) [(am, .inr (0, [.int (I3 th), .int (I3 mn), .ref as_, .ref av, .ref aw, .int (I3 sm), .int (I3 wd), .int (I3 lp), .int (I3 mp), .int (I3 re)])), (as_, .inl (dA 0, 60, .inl (iA SG))), (av, .inl (dA 1, 960, .inr (.inl (lA VL)))), (aw, .inl (dA 1, 1024, .inr (.inl (lA wf))))])) (QmetX8_whole dC dI dA (va_A [(am, .inr (0, [.int (I3 th), .int (I3 mn), .ref as_, .ref av, .ref aw, .int (I3 sm), .int (I3 wd), .int (I3 lp), .int (I3 mp), .int (I3 re)])), (as_, .inl (dA 0, 60, .inl (iA SG))), (av, .inl (dA 1, 960, .inr (.inl (lA VL)))), (aw, .inl (dA 1, 1024, .inr (.inl (lA wf))))] sz) am as_ av aw th mn sm wd lp mp re SG VL wf v) 0 0 (va_A [(am, .inr (0, [.int (I3 th), .int (I3 mn), .ref as_, .ref av, .ref aw, .int (I3 sm), .int (I3 wd), .int (I3 lp), .int (I3 mp), .int (I3 re)])), (as_, .inl (dA 0, 60, .inl (iA SG))), (av, .inl (dA 1, 960, .inr (.inl (lA VL)))), (aw, .inl (dA 1, 1024, .inr (.inl (lA wf))))] sz) := by
  refine Met.ofW (cc := cX8_whole) (maxL := 3) (ret := (some .int)) (by decide) rfl ?_
  intro p e s m args below meth c s₁ B hml hv
  obtain ⟨rfl, hsz, hP, hK, hD0⟩ := hv
  have hx := B.exec
  have hb := B.bytes
  have hr := B.returns
  have hts := atoms_spec (ws := (ws_ yX8_whole cX8_whole 3 (some .int))) B.pre
  have hts : ∀ w ∈ lw_all, w.before _ s = true := fun w h => hts w (List.mem_cons_of_mem _ h)
  have hown : s.vm.findClass RX8 = some m.cls := findClass_of_methodNamed B.named
  have hlocks := B.notSynchronized
  subst hsz
  have hD := hD0.self (sz := s.heap.size)
  generalize hAe : va_A [(am, .inr (0, [.int (I3 th), .int (I3 mn), .ref as_, .ref av, .ref aw, .int (I3 sm), .int (I3 wd), .int (I3 lp), .int (I3 mp), .int (I3 re)])), (as_, .inl (dA 0, 60, .inl (iA SG))), (av, .inl (dA 1, 960, .inr (.inl (lA VL)))), (aw, .inl (dA 1, 1024, .inr (.inl (lA wf))))] s.heap.size = A at hD ⊢
  have hA : ∀ q : Nat, s.heap.size ≤ q → A q := fun q h => by rw [← hAe]; exact Or.inr h
  have hS : va_S A s.heap s.heap [] := va_S.rf
  have hP : va_P (dC, dI) vwCl [(am, .inr (0, [.int (I3 th), .int (I3 mn), .ref as_, .ref av, .ref aw, .int (I3 sm), .int (I3 wd), .int (I3 lp), .int (I3 mp), .int (I3 re)])), (as_, .inl (dA 0, 60, .inl (iA SG))), (av, .inl (dA 1, 960, .inr (.inl (lA VL)))), (aw, .inl (dA 1, 1024, .inr (.inl (lA wf))))] s.heap := hP
  have hl := lv_entry ([.ref am, .long (L6 v)]) (n := 3) (Nat.le_of_ble_eq_true rfl)
  rw [lg_entry_eq]
  generalize (lg_sl ([.ref am, .long (L6 v)]) ++ List.replicate (3 - (lg_sl ([.ref am, .long (L6 v)])).length) Slot.unset).toArray = ls at hl ⊢
  have hl : lv_has ls 3 [(0, .ref am), (1, .long (L6 v))] := hl
  have cut_27 : ∀ (g : Int) (W5 : Int → Int), (g = sgX v) → (g = -1 ∨ g = 1) → (Dg W5) → (rv W5 0 = v.natAbs) → (rv W5 1 = 1) → ∀ (H : Heap) (locs : List Loc), va_P (dC, dI) vwCl [(am, .inr (0, [.int (I3 th), .int (I3 mn), .ref as_, .ref av, .ref aw, .int (I3 sm), .int (I3 wd), .int (I3 lp), .int (I3 mp), .int (I3 re)])), (as_, .inl (dA 0, 60, .inl (iA SG))), (av, .inl (dA 1, 960, .inr (.inl (lA VL)))), (aw, .inl (dA 1, 1024, .inr (.inl (lA W5))))] H → va_D A [(am, .inr (0, [.int (I3 th), .int (I3 mn), .ref as_, .ref av, .ref aw, .int (I3 sm), .int (I3 wd), .int (I3 lp), .int (I3 mp), .int (I3 re)])), (as_, .inl (dA 0, 60, .inl (iA SG))), (av, .inl (dA 1, 960, .inr (.inl (lA VL)))), (aw, .inl (dA 1, 1024, .inr (.inl (lA W5))))] → va_S A s.heap H locs → ∀ (ls : Array Slot), lv_has ls 3 [(0, .ref am), (1, .long (L6 v))] → W p l e (headSpec (ws_ yX8_whole cX8_whole 3 (some .int)) ({ frames := 4, cells := 0, slots := 0, locals := 160 })).room s m ([.ref am, .long (L6 v)] : List Value).toArray below meth c H locs 0 0 (MQ below (QmetX8_whole dC dI dA A am as_ av aw th mn sm wd lp mp re SG VL wf v) ([.ref am, .long (L6 v)] : List Value).toArray s 0 0 A) (F0 m 27 ls [.int (I3 g), .ref am]) := by
    intro g W5 hg hg1 hW5 f0 f1 H locs hP hD hS ls hl
    obtain ⟨hmn, hV, hAll⟩ := id hI
    refine lv_iconst (v := I3 (1)) hx hb dX8_whole_27 rfl ?_
    have h_1 : Dg W5 := by first | assumption | omega | (constructor <;> omega)
    have h_2 : Dg VL := by exact hV
    have h_3 : 0 ≤ mn ∧ mn ≤ 60 := by exact hmn
    have h_4 : In3 g := by first | assumption | omega | (constructor <;> omega)
    have h_5 : In3 (1 : Int) := by first | assumption | omega | (constructor <;> omega)
    have h_6 : rv W5 1 ≠ 0 := by omega
    have h_7 : 2 * rv W5 1 ≤ BN := by have := BN_64; omega
    have hPc := hP.sub (ws' := [(am, .inr (0, [.int (I3 th), .int (I3 mn), .ref as_, .ref av, .ref aw, .int (I3 sm), .int (I3 wd), .int (I3 lp), .int (I3 mp), .int (I3 re)])), (as_, .inl (dA 0, 60, .inl (iA SG))), (av, .inl (dA 1, 960, .inr (.inl (lA VL)))), (aw, .inl (dA 1, 1024, .inr (.inl (lA W5))))]) [0, 1, 2, 3] rfl
    have hDc := hD.sub (ws' := [(am, .inr (0, [.int (I3 th), .int (I3 mn), .ref as_, .ref av, .ref aw, .int (I3 sm), .int (I3 wd), .int (I3 lp), .int (I3 mp), .int (I3 re)])), (as_, .inl (dA 0, 60, .inl (iA SG))), (av, .inl (dA 1, 960, .inr (.inl (lA VL)))), (aw, .inl (dA 1, 1024, .inr (.inl (lA W5))))]) [0, 1, 2, 3] (by decide) rfl
    have hFc := va_free (wc := [(am, .inr (0, [.int (I3 th), .int (I3 mn), .ref as_, .ref av, .ref aw, .int (I3 sm), .int (I3 wd), .int (I3 lp), .int (I3 mp), .int (I3 re)])), (as_, .inl (dA 0, 60, .inl (iA SG))), (av, .inl (dA 1, 960, .inr (.inl (lA VL)))), (aw, .inl (dA 1, 1024, .inr (.inl (lA W5))))]) hD hS hA [0, 1, 2, 3] rfl
    refine va_calli (va_runV (As := [.int (I3 g), .int (I3 1)]) (rest := []) ⟨hx, hb, hml, hown, hts⟩ (metX8_make l dC dI dA am as_ av aw H.size th mn sm wd lp mp re SG VL W5 g 1 h_1 h_2 h_3 h_4 h_5 h_6 h_7) (cwV 2 hts (lw_V q964 q966 qs21 q66 q967) rfl rfl rfl (by decide +kernel) ⟨Nat.le_of_ble_eq_true rfl, Nat.le_of_ble_eq_true rfl⟩) ⟨fun a U g mk q => by obtain ⟨q0, q1, qP, qK, qD⟩ := q; exact ⟨q0, q1, qP, va_K.moved (u := U) (U := U.calling g mk a) (Vm.Alike.refl U.vm) qK, qD⟩, va_recv hK hPc (ci := 0) (q0 := 0) rfl rfl, fun U hU hW => ⟨rfl, by rw [hU], by rw [hU]; exact hPc, va_K.moved hW.alike hK, hDc.weaken (fun _ _ _ _ => trivial)⟩⟩ rfl rfl hl.1 rfl (lv_room (Nat.le_of_ble_eq_true rfl)) dX8_whole_28 ⟨Nat.le_of_ble_eq_true rfl, Nat.le_of_ble_eq_true rfl⟩) hS (fun q _ h => hFc q h) hFc (fun r_28 u t H1 locs ht hvm hw hB hz1 hk1 hS => ?_)
    obtain ⟨z_28, th1_28, mn1_28, SG1_28, VL1_28, W1_28⟩ := u
    obtain ⟨rfl, p0_28, p1_28, p2_28, p3_28⟩ : r_28 = I3 z_28 ∧ (Dg W1_28) ∧ (Dg VL1_28) ∧ (0 ≤ mn1_28 ∧ mn1_28 ≤ 60) ∧ (Mde mn SG VL g (rv W5 0) (rv W5 1) (1 : Int) z_28 th1_28 mn1_28 SG1_28 VL1_28) := hw
    obtain ⟨hP1, hK1, hD1⟩ := hB
    rw [ht] at hP1
    obtain ⟨hP, hD⟩ := va_join (wr := []) (w1 := [(am, .inr (0, [.int (I3 th1_28), .int (I3 mn1_28), .ref as_, .ref av, .ref aw, .int (I3 sm), .int (I3 wd), .int (I3 lp), .int (I3 mp), .int (I3 re)])), (as_, .inl (dA 0, 60, .inl (iA SG1_28))), (av, .inl (dA 1, 960, .inr (.inl (lA VL1_28)))), (aw, .inl (dA 1, 1024, .inr (.inl (lA W1_28))))]) hP hD [0, 1, 2, 3] [] rfl rfl (by decide) (by decide) hk1 hFc hP1 hD1
    generalize H1 = H at hP hS ⊢
    have hP : va_P (dC, dI) vwCl [(am, .inr (0, [.int (I3 th1_28), .int (I3 mn1_28), .ref as_, .ref av, .ref aw, .int (I3 sm), .int (I3 wd), .int (I3 lp), .int (I3 mp), .int (I3 re)])), (as_, .inl (dA 0, 60, .inl (iA SG1_28))), (av, .inl (dA 1, 960, .inr (.inl (lA VL1_28)))), (aw, .inl (dA 1, 1024, .inr (.inl (lA W1_28))))] H := hP
    have hD : va_D A [(am, .inr (0, [.int (I3 th1_28), .int (I3 mn1_28), .ref as_, .ref av, .ref aw, .int (I3 sm), .int (I3 wd), .int (I3 lp), .int (I3 mp), .int (I3 re)])), (as_, .inl (dA 0, 60, .inl (iA SG1_28))), (av, .inl (dA 1, 960, .inr (.inl (lA VL1_28)))), (aw, .inl (dA 1, 1024, .inr (.inl (lA W1_28))))] := hD
    have o_8 : Dg W1_28 := by first | assumption | omega | (constructor <;> omega)
    have o_9 : MI mn1_28 SG1_28 VL1_28 := by exact MI_Mde hI (by omega) (by omega) (fun q => by omega) p1_28 p2_28 p3_28
    have o_10 : Mde mn SG VL (sgX v) (v.natAbs) (1) 1 z_28 th1_28 mn1_28 SG1_28 VL1_28 := by rw [← hg, ← f0, ← f1]; exact p3_28
    exact W.iret (v := I3 z_28) hx hb hr (fun t ht hW => ⟨⟨I3 z_28, (z_28, th1_28, mn1_28, SG1_28, VL1_28, W1_28), rfl, ⟨rfl, ⟨o_8, o_9, o_10⟩⟩, by rw [ht]; exact hP, va_K.moved hW.alike hK, hD⟩, hS.F ht⟩) hS.2.2 dX8_whole_31
  refine lv_aload_n hx hb dX8_whole_0 rfl (lv_at hl 0 rfl) ?_
  refine lv_iconst (v := I3 (0)) hx hb dX8_whole_1 rfl ?_
  refine lv_lload_n hx hb dX8_whole_2 rfl (lv_at hl 1 rfl) ?_
  have h_11 : In6 v := by exact hv
  have hPc := hP.sub (ws' := []) [] rfl
  have hDc := hD.sub (ws' := []) [] (by decide) rfl
  have hFc := va_free (wc := []) hD hS hA [] rfl
  refine va_calll (va_runS (As := [.long (L6 v)]) (rest := [.int (I3 0), .ref am]) ⟨hx, hb, hml, hown, hts⟩ (metX8_size l dC dI dA s.heap.size v h_11) (va_cwS 1 hts (lw_S q952 q953 q66 q954) rfl rfl rfl (by decide +kernel) ⟨Nat.le_of_ble_eq_true rfl, Nat.le_of_ble_eq_true rfl⟩) ⟨fun a U g mk q => by obtain ⟨q0, q1, qP, qK, qD⟩ := q; exact ⟨q0, q1, qP, va_K.moved (u := U) (U := U.calling g mk a) (Vm.Alike.refl U.vm) qK, qD⟩, fun U hU hW => ⟨rfl, by rw [hU], by rw [hU]; exact hPc, va_K.moved hW.alike hK, hDc.weaken (fun _ _ _ _ => trivial)⟩⟩ rfl rfl hl.1 rfl (lv_room (Nat.le_of_ble_eq_true rfl)) dX8_whole_3 ⟨Nat.le_of_ble_eq_true rfl, Nat.le_of_ble_eq_true rfl⟩) hS (fun q _ h => hFc q h) hFc (fun r_3 u t H1 locs ht hvm hw hB hz1 hk1 hS => ?_)
  obtain ⟨z_3, rfl⟩ : ∃ z, z = u := ⟨_, rfl⟩
  obtain ⟨rfl, p0_3⟩ : r_3 = L6 z_3 ∧ (z_3 = if v < 0 then -v else v) := hw
  obtain ⟨hP1, hK1, hD1⟩ := hB
  rw [ht] at hP1
  obtain ⟨hP, hD⟩ := va_join (wr := [(am, .inr (0, [.int (I3 th), .int (I3 mn), .ref as_, .ref av, .ref aw, .int (I3 sm), .int (I3 wd), .int (I3 lp), .int (I3 mp), .int (I3 re)])), (as_, .inl (dA 0, 60, .inl (iA SG))), (av, .inl (dA 1, 960, .inr (.inl (lA VL)))), (aw, .inl (dA 1, 1024, .inr (.inl (lA wf))))]) (w1 := []) hP hD [] [0, 1, 2, 3] rfl rfl (by decide) (by decide) hk1 hFc hP1 hD1
  generalize H1 = H at hP hS ⊢
  have hP : va_P (dC, dI) vwCl [(am, .inr (0, [.int (I3 th), .int (I3 mn), .ref as_, .ref av, .ref aw, .int (I3 sm), .int (I3 wd), .int (I3 lp), .int (I3 mp), .int (I3 re)])), (as_, .inl (dA 0, 60, .inl (iA SG))), (av, .inl (dA 1, 960, .inr (.inl (lA VL)))), (aw, .inl (dA 1, 1024, .inr (.inl (lA wf))))] H := hP
  have hD : va_D A [(am, .inr (0, [.int (I3 th), .int (I3 mn), .ref as_, .ref av, .ref aw, .int (I3 sm), .int (I3 wd), .int (I3 lp), .int (I3 mp), .int (I3 re)])), (as_, .inl (dA 0, 60, .inl (iA SG))), (av, .inl (dA 1, 960, .inr (.inl (lA VL)))), (aw, .inl (dA 1, 1024, .inr (.inl (lA wf))))] := hD
  have y3 : In6 z_3 ∨ v = -9223372036854775808 := by have y := p0_3; split at y <;> omega
  have h_12 : 0 ≤ (0 : Int) ∧ (0 : Int) < 16 := by first | assumption | omega | (constructor <;> omega)
  have h_13 : Dg wf := by first | assumption | omega | (constructor <;> omega)
  have hPc := hP.sub (ws' := [(am, .inr (0, [.int (I3 th), .int (I3 mn), .ref as_, .ref av, .ref aw, .int (I3 sm), .int (I3 wd), .int (I3 lp), .int (I3 mp), .int (I3 re)])), (as_, .inl (dA 0, 60, .inl (iA SG))), (av, .inl (dA 1, 960, .inr (.inl (lA VL)))), (aw, .inl (dA 1, 1024, .inr (.inl (lA wf))))]) [0, 1, 2, 3] rfl
  have hDc := hD.sub (ws' := [(am, .inr (0, [.int (I3 th), .int (I3 mn), .ref as_, .ref av, .ref aw, .int (I3 sm), .int (I3 wd), .int (I3 lp), .int (I3 mp), .int (I3 re)])), (as_, .inl (dA 0, 60, .inl (iA SG))), (av, .inl (dA 1, 960, .inr (.inl (lA VL)))), (aw, .inl (dA 1, 1024, .inr (.inl (lA wf))))]) [0, 1, 2, 3] (by decide) rfl
  have hFc := va_free (wc := [(am, .inr (0, [.int (I3 th), .int (I3 mn), .ref as_, .ref av, .ref aw, .int (I3 sm), .int (I3 wd), .int (I3 lp), .int (I3 mp), .int (I3 re)])), (as_, .inl (dA 0, 60, .inl (iA SG))), (av, .inl (dA 1, 960, .inr (.inl (lA VL)))), (aw, .inl (dA 1, 1024, .inr (.inl (lA wf))))]) hD hS hA [0, 1, 2, 3] rfl
  refine va_callv (va_runV (As := [.int (I3 0), .long (L6 z_3)]) (rest := []) ⟨hx, hb, hml, hown, hts⟩ (metX8_set l dC dI dA am as_ av aw H.size th mn sm wd lp mp re SG VL wf 0 z_3 h_12 h_13) (cwV 2 hts (lw_V q955 q957 qs19 q66 q958) rfl rfl rfl (by decide +kernel) ⟨Nat.le_of_ble_eq_true rfl, Nat.le_of_ble_eq_true rfl⟩) ⟨fun a U g mk q => by obtain ⟨q0, q1, qP, qK, qD⟩ := q; exact ⟨q0, q1, qP, va_K.moved (u := U) (U := U.calling g mk a) (Vm.Alike.refl U.vm) qK, qD⟩, va_recv hK hPc (ci := 0) (q0 := 0) rfl rfl, fun U hU hW => ⟨rfl, by rw [hU], by rw [hU]; exact hPc, va_K.moved hW.alike hK, hDc.weaken (fun _ _ _ _ => trivial)⟩⟩ rfl rfl hl.1 rfl (lv_room (Nat.le_of_ble_eq_true rfl)) dX8_whole_6 ⟨Nat.le_of_ble_eq_true rfl, Nat.le_of_ble_eq_true rfl⟩) hS (fun q _ h => hFc q h) hFc (fun u t H1 locs ht hvm hw hB hz1 hk1 hS => ?_)
  obtain ⟨W1_6, rfl⟩ : ∃ z, z = u := ⟨_, rfl⟩
  obtain ⟨p0_6, p1_6, p2_6⟩ : (Dg W1_6) ∧ (Fr wf W1_6 (0 : Int)) ∧ (rv W1_6 (0 : Int) = (z_3 % 18446744073709551616).toNat) := hw
  obtain ⟨hP1, hK1, hD1⟩ := hB
  rw [ht] at hP1
  obtain ⟨hP, hD⟩ := va_join (wr := []) (w1 := [(am, .inr (0, [.int (I3 th), .int (I3 mn), .ref as_, .ref av, .ref aw, .int (I3 sm), .int (I3 wd), .int (I3 lp), .int (I3 mp), .int (I3 re)])), (as_, .inl (dA 0, 60, .inl (iA SG))), (av, .inl (dA 1, 960, .inr (.inl (lA VL)))), (aw, .inl (dA 1, 1024, .inr (.inl (lA W1_6))))]) hP hD [0, 1, 2, 3] [] rfl rfl (by decide) (by decide) hk1 hFc hP1 hD1
  generalize H1 = H at hP hS ⊢
  have hP : va_P (dC, dI) vwCl [(am, .inr (0, [.int (I3 th), .int (I3 mn), .ref as_, .ref av, .ref aw, .int (I3 sm), .int (I3 wd), .int (I3 lp), .int (I3 mp), .int (I3 re)])), (as_, .inl (dA 0, 60, .inl (iA SG))), (av, .inl (dA 1, 960, .inr (.inl (lA VL)))), (aw, .inl (dA 1, 1024, .inr (.inl (lA W1_6))))] H := hP
  have hD : va_D A [(am, .inr (0, [.int (I3 th), .int (I3 mn), .ref as_, .ref av, .ref aw, .int (I3 sm), .int (I3 wd), .int (I3 lp), .int (I3 mp), .int (I3 re)])), (as_, .inl (dA 0, 60, .inl (iA SG))), (av, .inl (dA 1, 960, .inr (.inl (lA VL)))), (aw, .inl (dA 1, 1024, .inr (.inl (lA W1_6))))] := hD
  refine lv_aload_n hx hb dX8_whole_9 rfl (lv_at hl 0 rfl) ?_
  refine lv_iconst (v := I3 (1)) hx hb dX8_whole_10 rfl ?_
  refine lv_lconst (v := L6 1) hx hb dX8_whole_11 (by decide) ?_
  have h_14 : 0 ≤ (1 : Int) ∧ (1 : Int) < 16 := by first | assumption | omega | (constructor <;> omega)
  have h_15 : Dg W1_6 := by first | assumption | omega | (constructor <;> omega)
  have hPc := hP.sub (ws' := [(am, .inr (0, [.int (I3 th), .int (I3 mn), .ref as_, .ref av, .ref aw, .int (I3 sm), .int (I3 wd), .int (I3 lp), .int (I3 mp), .int (I3 re)])), (as_, .inl (dA 0, 60, .inl (iA SG))), (av, .inl (dA 1, 960, .inr (.inl (lA VL)))), (aw, .inl (dA 1, 1024, .inr (.inl (lA W1_6))))]) [0, 1, 2, 3] rfl
  have hDc := hD.sub (ws' := [(am, .inr (0, [.int (I3 th), .int (I3 mn), .ref as_, .ref av, .ref aw, .int (I3 sm), .int (I3 wd), .int (I3 lp), .int (I3 mp), .int (I3 re)])), (as_, .inl (dA 0, 60, .inl (iA SG))), (av, .inl (dA 1, 960, .inr (.inl (lA VL)))), (aw, .inl (dA 1, 1024, .inr (.inl (lA W1_6))))]) [0, 1, 2, 3] (by decide) rfl
  have hFc := va_free (wc := [(am, .inr (0, [.int (I3 th), .int (I3 mn), .ref as_, .ref av, .ref aw, .int (I3 sm), .int (I3 wd), .int (I3 lp), .int (I3 mp), .int (I3 re)])), (as_, .inl (dA 0, 60, .inl (iA SG))), (av, .inl (dA 1, 960, .inr (.inl (lA VL)))), (aw, .inl (dA 1, 1024, .inr (.inl (lA W1_6))))]) hD hS hA [0, 1, 2, 3] rfl
  refine va_callv (va_runV (As := [.int (I3 1), .long (L6 1)]) (rest := []) ⟨hx, hb, hml, hown, hts⟩ (metX8_set l dC dI dA am as_ av aw H.size th mn sm wd lp mp re SG VL W1_6 1 1 h_14 h_15) (cwV 2 hts (lw_V q955 q957 qs19 q66 q958) rfl rfl rfl (by decide +kernel) ⟨Nat.le_of_ble_eq_true rfl, Nat.le_of_ble_eq_true rfl⟩) ⟨fun a U g mk q => by obtain ⟨q0, q1, qP, qK, qD⟩ := q; exact ⟨q0, q1, qP, va_K.moved (u := U) (U := U.calling g mk a) (Vm.Alike.refl U.vm) qK, qD⟩, va_recv hK hPc (ci := 0) (q0 := 0) rfl rfl, fun U hU hW => ⟨rfl, by rw [hU], by rw [hU]; exact hPc, va_K.moved hW.alike hK, hDc.weaken (fun _ _ _ _ => trivial)⟩⟩ rfl rfl hl.1 rfl (lv_room (Nat.le_of_ble_eq_true rfl)) dX8_whole_12 ⟨Nat.le_of_ble_eq_true rfl, Nat.le_of_ble_eq_true rfl⟩) hS (fun q _ h => hFc q h) hFc (fun u t H1 locs ht hvm hw hB hz1 hk1 hS => ?_)
  obtain ⟨W1_12, rfl⟩ : ∃ z, z = u := ⟨_, rfl⟩
  obtain ⟨p0_12, p1_12, p2_12⟩ : (Dg W1_12) ∧ (Fr W1_6 W1_12 (1 : Int)) ∧ (rv W1_12 (1 : Int) = ((1 : Int) % 18446744073709551616).toNat) := hw
  obtain ⟨hP1, hK1, hD1⟩ := hB
  rw [ht] at hP1
  obtain ⟨hP, hD⟩ := va_join (wr := []) (w1 := [(am, .inr (0, [.int (I3 th), .int (I3 mn), .ref as_, .ref av, .ref aw, .int (I3 sm), .int (I3 wd), .int (I3 lp), .int (I3 mp), .int (I3 re)])), (as_, .inl (dA 0, 60, .inl (iA SG))), (av, .inl (dA 1, 960, .inr (.inl (lA VL)))), (aw, .inl (dA 1, 1024, .inr (.inl (lA W1_12))))]) hP hD [0, 1, 2, 3] [] rfl rfl (by decide) (by decide) hk1 hFc hP1 hD1
  generalize H1 = H at hP hS ⊢
  have hP : va_P (dC, dI) vwCl [(am, .inr (0, [.int (I3 th), .int (I3 mn), .ref as_, .ref av, .ref aw, .int (I3 sm), .int (I3 wd), .int (I3 lp), .int (I3 mp), .int (I3 re)])), (as_, .inl (dA 0, 60, .inl (iA SG))), (av, .inl (dA 1, 960, .inr (.inl (lA VL)))), (aw, .inl (dA 1, 1024, .inr (.inl (lA W1_12))))] H := hP
  have hD : va_D A [(am, .inr (0, [.int (I3 th), .int (I3 mn), .ref as_, .ref av, .ref aw, .int (I3 sm), .int (I3 wd), .int (I3 lp), .int (I3 mp), .int (I3 re)])), (as_, .inl (dA 0, 60, .inl (iA SG))), (av, .inl (dA 1, 960, .inr (.inl (lA VL)))), (aw, .inl (dA 1, 1024, .inr (.inl (lA W1_12))))] := hD
  refine lv_aload_n hx hb dX8_whole_15 rfl (lv_at hl 0 rfl) ?_
  refine lv_lload_n hx hb dX8_whole_16 rfl (lv_at hl 1 rfl) ?_
  refine lv_lconst (v := L6 0) hx hb dX8_whole_17 (by decide) ?_
  refine ix_lcmp_ge (tgt := 26) hx hb (by first | decide | assumption | (constructor <;> omega)) (by first | decide | assumption | (constructor <;> omega)) dX8_whole_18 dX8_whole_19 (by decide) (fun c_18 => ?_) (fun c_18 => ?_)
  · skip
    refine lv_iconst (v := I3 (1)) hx hb dX8_whole_26 rfl ?_
    have e_16 : (1 : Int) = sgX v := by unfold sgX; first | rw [if_pos (by omega)] | rw [if_neg (by omega)]
    have e_17 : (1 : Int) = -1 ∨ (1 : Int) = 1 := by first | assumption | omega | (constructor <;> omega)
    have e_18 : Dg W1_12 := by first | assumption | omega | (constructor <;> omega)
    have e_19 : rv W1_12 0 = v.natAbs := by rw [Fr_rv p1_12 (by decide), p2_6]; have y := p0_3; split at y <;> omega
    have e_20 : rv W1_12 1 = 1 := by rw [p2_12]; rfl
    exact cut_27 1 W1_12 e_16 e_17 e_18 e_19 e_20 _ _ hP hD hS ls (lv_sub hl [0, 1] rfl)
  · skip
    refine lv_iconst (v := I3 (-1)) hx hb dX8_whole_22 rfl ?_
    refine lv_goto (tgt := 27) hx hb dX8_whole_23 (by decide) ?_
    have e_21 : (-1 : Int) = sgX v := by unfold sgX; first | rw [if_pos (by omega)] | rw [if_neg (by omega)]
    have e_22 : (-1 : Int) = -1 ∨ (-1 : Int) = 1 := by first | assumption | omega | (constructor <;> omega)
    have e_23 : Dg W1_12 := by first | assumption | omega | (constructor <;> omega)
    have e_24 : rv W1_12 0 = v.natAbs := by rw [Fr_rv p1_12 (by decide), p2_6]; have y := p0_3; split at y <;> omega
    have e_25 : rv W1_12 1 = 1 := by rw [p2_12]; rfl
    exact cut_27 (-1) W1_12 e_21 e_22 e_23 e_24 e_25 _ _ hP hD hS ls (lv_sub hl [0, 1] rfl)
abbrev BmetX8_fraction (dC : Nat → ClassId) (dI : Nat → Nat → Nat) (dA : Nat → ClassId) (A : Nat → Prop) (am : Nat) (as_ : Nat) (av : Nat) (aw : Nat) (th : Int) (mn : Int) (sm : Int) (wd : Int) (lp : Int) (mp : Int) (re : Int) (SG : Int → Int) (VL : Int → Int) (wf : Int → Int) (a : Int) (b : Int) : Int × Int × Int × (Int → Int) × (Int → Int) × (Int → Int) → State → Prop := fun u t => (fun (u : Int × Int × Int × (Int → Int) × (Int → Int) × (Int → Int)) => (fun (z : Int) (th1 : Int) (mn1 : Int) (SG1 : Int → Int) (VL1 : Int → Int) (W1 : Int → Int) => va_P (dC, dI) vwCl [(am, .inr (0, [.int (I3 th1), .int (I3 mn1), .ref as_, .ref av, .ref aw, .int (I3 sm), .int (I3 wd), .int (I3 lp), .int (I3 mp), .int (I3 re)])), (as_, .inl (dA 0, 60, .inl (iA SG1))), (av, .inl (dA 1, 960, .inr (.inl (lA VL1)))), (aw, .inl (dA 1, 1024, .inr (.inl (lA W1))))] t.heap ∧ va_K (dC, dI) vwCl (tyA dA) t ∧ va_D A [(am, .inr (0, [.int (I3 th1), .int (I3 mn1), .ref as_, .ref av, .ref aw, .int (I3 sm), .int (I3 wd), .int (I3 lp), .int (I3 mp), .int (I3 re)])), (as_, .inl (dA 0, 60, .inl (iA SG1))), (av, .inl (dA 1, 960, .inr (.inl (lA VL1)))), (aw, .inl (dA 1, 1024, .inr (.inl (lA W1))))]) u.1 u.2.1 u.2.2.1 u.2.2.2.1 u.2.2.2.2.1 u.2.2.2.2.2) u
abbrev QmetX8_fraction (dC : Nat → ClassId) (dI : Nat → Nat → Nat) (dA : Nat → ClassId) (A : Nat → Prop) (am : Nat) (as_ : Nat) (av : Nat) (aw : Nat) (th : Int) (mn : Int) (sm : Int) (wd : Int) (lp : Int) (mp : Int) (re : Int) (SG : Int → Int) (VL : Int → Int) (wf : Int → Int) (a : Int) (b : Int) := va_Qi (fun (rt_ : Int32) => fun (u : Int × Int × Int × (Int → Int) × (Int → Int) × (Int → Int)) => (fun (z : Int) (th1 : Int) (mn1 : Int) (SG1 : Int → Int) (VL1 : Int → Int) (W1 : Int → Int) => rt_ = I3 z ∧ (Dg W1) ∧ (MI mn1 SG1 VL1) ∧ (b = 0 → Fld mn SG VL 1 z th1 mn1 SG1 VL1) ∧ (b ≠ 0 → Mde mn SG VL (if a < 0 ∧ ¬ b < 0 ∨ ¬ a < 0 ∧ b < 0 then -1 else 1) (a.natAbs) (b.natAbs) 2 z th1 mn1 SG1 VL1)) u.1 u.2.1 u.2.2.1 u.2.2.2.1 u.2.2.2.2.1 u.2.2.2.2.2) (BmetX8_fraction dC dI dA A am as_ av aw th mn sm wd lp mp re SG VL wf a b) A
set_option maxHeartbeats 1000000 in
set_option maxRecDepth 100000 in
/-- fraction(a, b) -/
theorem metX8_fraction (l : Launch) (dC : Nat → ClassId) (dI : Nat → Nat → Nat) (dA : Nat → ClassId) (am : Nat) (as_ : Nat) (av : Nat) (aw : Nat) (sz : Nat) (th : Int) (mn : Int) (sm : Int) (wd : Int) (lp : Int) (mp : Int) (re : Int) (SG : Int → Int) (VL : Int → Int) (wf : Int → Int) (a : Int) (b : Int) (hW : Dg wf) (hI : MI mn SG VL) (ha : In6 a) (hb_ : In6 b) : Met l yX8_fraction (ws_ yX8_fraction cX8_fraction 5 (some .int)) ({ frames := 4, cells := 0, slots := 0, locals := 160 }) (va_Pc [.ref am, .long (L6 a), .long (L6 b)] (fun U => U.heap.size = sz ∧ va_P (dC, dI) vwCl [(am, .inr (0, [.int (I3 th), .int (I3 mn), .ref as_, .ref av, .ref aw, .int (I3 sm), .int (I3 wd), .int (I3 lp), .int (I3 mp), .int (I3 re)])), (as_, .inl (dA 0, 60, .inl (iA SG))), (av, .inl (dA 1, 960, .inr (.inl (lA VL)))), (aw, .inl (dA 1, 1024, .inr (.inl (lA wf))))] U.heap ∧ va_K (dC, dI) vwCl (tyA dA) U ∧ va_D (fun _ => True) [(am, .inr (0, [.int (I3 th), .int (I3 mn), .ref as_, .ref av, .ref aw, .int (I3 sm), .int (I3 wd), .int (I3 lp), .int (I3 mp), .int (I3 re)])), (as_, .inl (dA 0, 60, .inl (iA SG))), (av, .inl (dA 1, 960, .inr (.inl (lA VL)))), (aw, .inl (dA 1, 1024, .inr (.inl (lA wf))))])) (QmetX8_fraction dC dI dA (va_A [(am, .inr (0, [.int (I3 th), .int (I3 mn), .ref as_, .ref av, .ref aw, .int (I3 sm), .int (I3 wd), .int (I3 lp), .int (I3 mp), .int (I3 re)])), (as_, .inl (dA 0, 60, .inl (iA SG))), (av, .inl (dA 1, 960, .inr (.inl (lA VL)))), (aw, .inl (dA 1, 1024, .inr (.inl (lA wf))))] sz) am as_ av aw th mn sm wd lp mp re SG VL wf a b) 0 0 (va_A [(am, .inr (0, [.int (I3 th), .int (I3 mn), .ref as_, .ref av, .ref aw, .int (I3 sm), .int (I3 wd), .int (I3 lp), .int (I3 mp), .int (I3 re)])), (as_, .inl (dA 0, 60, .inl (iA SG))), (av, .inl (dA 1, 960, .inr (.inl (lA VL)))), (aw, .inl (dA 1, 1024, .inr (.inl (lA wf))))] sz) := by
  refine Met.ofW (cc := cX8_fraction) (maxL := 5) (ret := (some .int)) (by decide) rfl ?_
  intro p e s m args below meth c s₁ B hml hv
  obtain ⟨rfl, hsz, hP, hK, hD0⟩ := hv
  have hx := B.exec
  have hb := B.bytes
  have hr := B.returns
  have hts := atoms_spec (ws := (ws_ yX8_fraction cX8_fraction 5 (some .int))) B.pre
  have hts : ∀ w ∈ lw_all, w.before _ s = true := fun w h => hts w (List.mem_cons_of_mem _ h)
  have hown : s.vm.findClass RX8 = some m.cls := findClass_of_methodNamed B.named
  have hlocks := B.notSynchronized
  subst hsz
  have hD := hD0.self (sz := s.heap.size)
  generalize hAe : va_A [(am, .inr (0, [.int (I3 th), .int (I3 mn), .ref as_, .ref av, .ref aw, .int (I3 sm), .int (I3 wd), .int (I3 lp), .int (I3 mp), .int (I3 re)])), (as_, .inl (dA 0, 60, .inl (iA SG))), (av, .inl (dA 1, 960, .inr (.inl (lA VL)))), (aw, .inl (dA 1, 1024, .inr (.inl (lA wf))))] s.heap.size = A at hD ⊢
  have hA : ∀ q : Nat, s.heap.size ≤ q → A q := fun q h => by rw [← hAe]; exact Or.inr h
  have hS : va_S A s.heap s.heap [] := va_S.rf
  have hP : va_P (dC, dI) vwCl [(am, .inr (0, [.int (I3 th), .int (I3 mn), .ref as_, .ref av, .ref aw, .int (I3 sm), .int (I3 wd), .int (I3 lp), .int (I3 mp), .int (I3 re)])), (as_, .inl (dA 0, 60, .inl (iA SG))), (av, .inl (dA 1, 960, .inr (.inl (lA VL)))), (aw, .inl (dA 1, 1024, .inr (.inl (lA wf))))] s.heap := hP
  have hl := lv_entry ([.ref am, .long (L6 a), .long (L6 b)]) (n := 5) (Nat.le_of_ble_eq_true rfl)
  rw [lg_entry_eq]
  generalize (lg_sl ([.ref am, .long (L6 a), .long (L6 b)]) ++ List.replicate (5 - (lg_sl ([.ref am, .long (L6 a), .long (L6 b)])).length) Slot.unset).toArray = ls at hl ⊢
  have hl : lv_has ls 5 [(0, .ref am), (1, .long (L6 a)), (3, .long (L6 b))] := hl
  have cut_61 : ∀ (g : Int) (W5 : Int → Int), (b ≠ 0) → (g = if a < 0 ∧ ¬ b < 0 ∨ ¬ a < 0 ∧ b < 0 then -1 else 1) → (g = -1 ∨ g = 1) → (Dg W5) → (rv W5 0 = a.natAbs) → (rv W5 1 = b.natAbs) → ∀ (H : Heap) (locs : List Loc), va_P (dC, dI) vwCl [(am, .inr (0, [.int (I3 th), .int (I3 mn), .ref as_, .ref av, .ref aw, .int (I3 sm), .int (I3 wd), .int (I3 lp), .int (I3 mp), .int (I3 re)])), (as_, .inl (dA 0, 60, .inl (iA SG))), (av, .inl (dA 1, 960, .inr (.inl (lA VL)))), (aw, .inl (dA 1, 1024, .inr (.inl (lA W5))))] H → va_D A [(am, .inr (0, [.int (I3 th), .int (I3 mn), .ref as_, .ref av, .ref aw, .int (I3 sm), .int (I3 wd), .int (I3 lp), .int (I3 mp), .int (I3 re)])), (as_, .inl (dA 0, 60, .inl (iA SG))), (av, .inl (dA 1, 960, .inr (.inl (lA VL)))), (aw, .inl (dA 1, 1024, .inr (.inl (lA W5))))] → va_S A s.heap H locs → ∀ (ls : Array Slot), lv_has ls 5 [(0, .ref am), (1, .long (L6 a)), (3, .long (L6 b))] → W p l e (headSpec (ws_ yX8_fraction cX8_fraction 5 (some .int)) ({ frames := 4, cells := 0, slots := 0, locals := 160 })).room s m ([.ref am, .long (L6 a), .long (L6 b)] : List Value).toArray below meth c H locs 0 0 (MQ below (QmetX8_fraction dC dI dA A am as_ av aw th mn sm wd lp mp re SG VL wf a b) ([.ref am, .long (L6 a), .long (L6 b)] : List Value).toArray s 0 0 A) (F0 m 61 ls [.int (I3 g), .ref am]) := by
    intro g W5 hb0 hg hg1 hW5 f0 f1 H locs hP hD hS ls hl
    obtain ⟨hmn, hV, hAll⟩ := id hI
    refine lv_iconst (v := I3 (2)) hx hb dX8_fraction_61 rfl ?_
    have h_1 : Dg W5 := by first | assumption | omega | (constructor <;> omega)
    have h_2 : Dg VL := by exact hV
    have h_3 : 0 ≤ mn ∧ mn ≤ 60 := by exact hmn
    have h_4 : In3 g := by first | assumption | omega | (constructor <;> omega)
    have h_5 : In3 (2 : Int) := by first | assumption | omega | (constructor <;> omega)
    have h_6 : rv W5 1 ≠ 0 := by omega
    have h_7 : 2 * rv W5 1 ≤ BN := by have := BN_64; omega
    have hPc := hP.sub (ws' := [(am, .inr (0, [.int (I3 th), .int (I3 mn), .ref as_, .ref av, .ref aw, .int (I3 sm), .int (I3 wd), .int (I3 lp), .int (I3 mp), .int (I3 re)])), (as_, .inl (dA 0, 60, .inl (iA SG))), (av, .inl (dA 1, 960, .inr (.inl (lA VL)))), (aw, .inl (dA 1, 1024, .inr (.inl (lA W5))))]) [0, 1, 2, 3] rfl
    have hDc := hD.sub (ws' := [(am, .inr (0, [.int (I3 th), .int (I3 mn), .ref as_, .ref av, .ref aw, .int (I3 sm), .int (I3 wd), .int (I3 lp), .int (I3 mp), .int (I3 re)])), (as_, .inl (dA 0, 60, .inl (iA SG))), (av, .inl (dA 1, 960, .inr (.inl (lA VL)))), (aw, .inl (dA 1, 1024, .inr (.inl (lA W5))))]) [0, 1, 2, 3] (by decide) rfl
    have hFc := va_free (wc := [(am, .inr (0, [.int (I3 th), .int (I3 mn), .ref as_, .ref av, .ref aw, .int (I3 sm), .int (I3 wd), .int (I3 lp), .int (I3 mp), .int (I3 re)])), (as_, .inl (dA 0, 60, .inl (iA SG))), (av, .inl (dA 1, 960, .inr (.inl (lA VL)))), (aw, .inl (dA 1, 1024, .inr (.inl (lA W5))))]) hD hS hA [0, 1, 2, 3] rfl
    refine va_calli (va_runV (As := [.int (I3 g), .int (I3 2)]) (rest := []) ⟨hx, hb, hml, hown, hts⟩ (metX8_make l dC dI dA am as_ av aw H.size th mn sm wd lp mp re SG VL W5 g 2 h_1 h_2 h_3 h_4 h_5 h_6 h_7) (cwV 2 hts (lw_V q964 q966 qs21 q66 q967) rfl rfl rfl (by decide +kernel) ⟨Nat.le_of_ble_eq_true rfl, Nat.le_of_ble_eq_true rfl⟩) ⟨fun a U g mk q => by obtain ⟨q0, q1, qP, qK, qD⟩ := q; exact ⟨q0, q1, qP, va_K.moved (u := U) (U := U.calling g mk a) (Vm.Alike.refl U.vm) qK, qD⟩, va_recv hK hPc (ci := 0) (q0 := 0) rfl rfl, fun U hU hW => ⟨rfl, by rw [hU], by rw [hU]; exact hPc, va_K.moved hW.alike hK, hDc.weaken (fun _ _ _ _ => trivial)⟩⟩ rfl rfl hl.1 rfl (lv_room (Nat.le_of_ble_eq_true rfl)) dX8_fraction_62 ⟨Nat.le_of_ble_eq_true rfl, Nat.le_of_ble_eq_true rfl⟩) hS (fun q _ h => hFc q h) hFc (fun r_62 u t H1 locs ht hvm hw hB hz1 hk1 hS => ?_)
    obtain ⟨z_62, th1_62, mn1_62, SG1_62, VL1_62, W1_62⟩ := u
    obtain ⟨rfl, p0_62, p1_62, p2_62, p3_62⟩ : r_62 = I3 z_62 ∧ (Dg W1_62) ∧ (Dg VL1_62) ∧ (0 ≤ mn1_62 ∧ mn1_62 ≤ 60) ∧ (Mde mn SG VL g (rv W5 0) (rv W5 1) (2 : Int) z_62 th1_62 mn1_62 SG1_62 VL1_62) := hw
    obtain ⟨hP1, hK1, hD1⟩ := hB
    rw [ht] at hP1
    obtain ⟨hP, hD⟩ := va_join (wr := []) (w1 := [(am, .inr (0, [.int (I3 th1_62), .int (I3 mn1_62), .ref as_, .ref av, .ref aw, .int (I3 sm), .int (I3 wd), .int (I3 lp), .int (I3 mp), .int (I3 re)])), (as_, .inl (dA 0, 60, .inl (iA SG1_62))), (av, .inl (dA 1, 960, .inr (.inl (lA VL1_62)))), (aw, .inl (dA 1, 1024, .inr (.inl (lA W1_62))))]) hP hD [0, 1, 2, 3] [] rfl rfl (by decide) (by decide) hk1 hFc hP1 hD1
    generalize H1 = H at hP hS ⊢
    have hP : va_P (dC, dI) vwCl [(am, .inr (0, [.int (I3 th1_62), .int (I3 mn1_62), .ref as_, .ref av, .ref aw, .int (I3 sm), .int (I3 wd), .int (I3 lp), .int (I3 mp), .int (I3 re)])), (as_, .inl (dA 0, 60, .inl (iA SG1_62))), (av, .inl (dA 1, 960, .inr (.inl (lA VL1_62)))), (aw, .inl (dA 1, 1024, .inr (.inl (lA W1_62))))] H := hP
    have hD : va_D A [(am, .inr (0, [.int (I3 th1_62), .int (I3 mn1_62), .ref as_, .ref av, .ref aw, .int (I3 sm), .int (I3 wd), .int (I3 lp), .int (I3 mp), .int (I3 re)])), (as_, .inl (dA 0, 60, .inl (iA SG1_62))), (av, .inl (dA 1, 960, .inr (.inl (lA VL1_62)))), (aw, .inl (dA 1, 1024, .inr (.inl (lA W1_62))))] := hD
    have o_8 : Dg W1_62 := by first | assumption | omega | (constructor <;> omega)
    have o_9 : MI mn1_62 SG1_62 VL1_62 := by exact MI_Mde hI (by omega) (by omega) (fun q => by omega) p1_62 p2_62 p3_62
    have o_10 : b = 0 → Fld mn SG VL 1 z_62 th1_62 mn1_62 SG1_62 VL1_62 := by intro q; omega
    have o_11 : b ≠ 0 → Mde mn SG VL (if a < 0 ∧ ¬ b < 0 ∨ ¬ a < 0 ∧ b < 0 then -1 else 1) (a.natAbs) (b.natAbs) 2 z_62 th1_62 mn1_62 SG1_62 VL1_62 := by intro q; rw [← hg, ← f0, ← f1]; exact p3_62
    exact W.iret (v := I3 z_62) hx hb hr (fun t ht hW => ⟨⟨I3 z_62, (z_62, th1_62, mn1_62, SG1_62, VL1_62, W1_62), rfl, ⟨rfl, ⟨o_8, o_9, o_10, o_11⟩⟩, by rw [ht]; exact hP, va_K.moved hW.alike hK, hD⟩, hS.F ht⟩) hS.2.2 dX8_fraction_65
  refine lv_lload_n hx hb dX8_fraction_0 rfl (lv_at hl 2 rfl) ?_
  refine lv_lconst (v := L6 0) hx hb dX8_fraction_1 (by decide) ?_
  refine ix_lcmp_ne (tgt := 12) hx hb (by first | decide | assumption | (constructor <;> omega)) (by first | decide | assumption | (constructor <;> omega)) dX8_fraction_2 dX8_fraction_3 (by decide) (fun c_2 => ?_) (fun c_2 => ?_)
  · skip
    refine lv_aload_n hx hb dX8_fraction_12 rfl (lv_at hl 0 rfl) ?_
    refine lv_iconst (v := I3 (0)) hx hb dX8_fraction_13 rfl ?_
    refine lv_lload_n hx hb dX8_fraction_14 rfl (lv_at hl 1 rfl) ?_
    have h_12 : In6 a := by first | assumption | omega | (constructor <;> omega)
    have hPc := hP.sub (ws' := []) [] rfl
    have hDc := hD.sub (ws' := []) [] (by decide) rfl
    have hFc := va_free (wc := []) hD hS hA [] rfl
    refine va_calll (va_runS (As := [.long (L6 a)]) (rest := [.int (I3 0), .ref am]) ⟨hx, hb, hml, hown, hts⟩ (metX8_size l dC dI dA s.heap.size a h_12) (va_cwS 1 hts (lw_S q952 q953 q66 q954) rfl rfl rfl (by decide +kernel) ⟨Nat.le_of_ble_eq_true rfl, Nat.le_of_ble_eq_true rfl⟩) ⟨fun a U g mk q => by obtain ⟨q0, q1, qP, qK, qD⟩ := q; exact ⟨q0, q1, qP, va_K.moved (u := U) (U := U.calling g mk a) (Vm.Alike.refl U.vm) qK, qD⟩, fun U hU hW => ⟨rfl, by rw [hU], by rw [hU]; exact hPc, va_K.moved hW.alike hK, hDc.weaken (fun _ _ _ _ => trivial)⟩⟩ rfl rfl hl.1 rfl (lv_room (Nat.le_of_ble_eq_true rfl)) dX8_fraction_15 ⟨Nat.le_of_ble_eq_true rfl, Nat.le_of_ble_eq_true rfl⟩) hS (fun q _ h => hFc q h) hFc (fun r_15 u t H1 locs ht hvm hw hB hz1 hk1 hS => ?_)
    obtain ⟨z_15, rfl⟩ : ∃ z, z = u := ⟨_, rfl⟩
    obtain ⟨rfl, p0_15⟩ : r_15 = L6 z_15 ∧ (z_15 = if a < 0 then -a else a) := hw
    obtain ⟨hP1, hK1, hD1⟩ := hB
    rw [ht] at hP1
    obtain ⟨hP, hD⟩ := va_join (wr := [(am, .inr (0, [.int (I3 th), .int (I3 mn), .ref as_, .ref av, .ref aw, .int (I3 sm), .int (I3 wd), .int (I3 lp), .int (I3 mp), .int (I3 re)])), (as_, .inl (dA 0, 60, .inl (iA SG))), (av, .inl (dA 1, 960, .inr (.inl (lA VL)))), (aw, .inl (dA 1, 1024, .inr (.inl (lA wf))))]) (w1 := []) hP hD [] [0, 1, 2, 3] rfl rfl (by decide) (by decide) hk1 hFc hP1 hD1
    generalize H1 = H at hP hS ⊢
    have hP : va_P (dC, dI) vwCl [(am, .inr (0, [.int (I3 th), .int (I3 mn), .ref as_, .ref av, .ref aw, .int (I3 sm), .int (I3 wd), .int (I3 lp), .int (I3 mp), .int (I3 re)])), (as_, .inl (dA 0, 60, .inl (iA SG))), (av, .inl (dA 1, 960, .inr (.inl (lA VL)))), (aw, .inl (dA 1, 1024, .inr (.inl (lA wf))))] H := hP
    have hD : va_D A [(am, .inr (0, [.int (I3 th), .int (I3 mn), .ref as_, .ref av, .ref aw, .int (I3 sm), .int (I3 wd), .int (I3 lp), .int (I3 mp), .int (I3 re)])), (as_, .inl (dA 0, 60, .inl (iA SG))), (av, .inl (dA 1, 960, .inr (.inl (lA VL)))), (aw, .inl (dA 1, 1024, .inr (.inl (lA wf))))] := hD
    have h_13 : 0 ≤ (0 : Int) ∧ (0 : Int) < 16 := by first | assumption | omega | (constructor <;> omega)
    have h_14 : Dg wf := by first | assumption | omega | (constructor <;> omega)
    have hPc := hP.sub (ws' := [(am, .inr (0, [.int (I3 th), .int (I3 mn), .ref as_, .ref av, .ref aw, .int (I3 sm), .int (I3 wd), .int (I3 lp), .int (I3 mp), .int (I3 re)])), (as_, .inl (dA 0, 60, .inl (iA SG))), (av, .inl (dA 1, 960, .inr (.inl (lA VL)))), (aw, .inl (dA 1, 1024, .inr (.inl (lA wf))))]) [0, 1, 2, 3] rfl
    have hDc := hD.sub (ws' := [(am, .inr (0, [.int (I3 th), .int (I3 mn), .ref as_, .ref av, .ref aw, .int (I3 sm), .int (I3 wd), .int (I3 lp), .int (I3 mp), .int (I3 re)])), (as_, .inl (dA 0, 60, .inl (iA SG))), (av, .inl (dA 1, 960, .inr (.inl (lA VL)))), (aw, .inl (dA 1, 1024, .inr (.inl (lA wf))))]) [0, 1, 2, 3] (by decide) rfl
    have hFc := va_free (wc := [(am, .inr (0, [.int (I3 th), .int (I3 mn), .ref as_, .ref av, .ref aw, .int (I3 sm), .int (I3 wd), .int (I3 lp), .int (I3 mp), .int (I3 re)])), (as_, .inl (dA 0, 60, .inl (iA SG))), (av, .inl (dA 1, 960, .inr (.inl (lA VL)))), (aw, .inl (dA 1, 1024, .inr (.inl (lA wf))))]) hD hS hA [0, 1, 2, 3] rfl
    refine va_callv (va_runV (As := [.int (I3 0), .long (L6 z_15)]) (rest := []) ⟨hx, hb, hml, hown, hts⟩ (metX8_set l dC dI dA am as_ av aw H.size th mn sm wd lp mp re SG VL wf 0 z_15 h_13 h_14) (cwV 2 hts (lw_V q955 q957 qs19 q66 q958) rfl rfl rfl (by decide +kernel) ⟨Nat.le_of_ble_eq_true rfl, Nat.le_of_ble_eq_true rfl⟩) ⟨fun a U g mk q => by obtain ⟨q0, q1, qP, qK, qD⟩ := q; exact ⟨q0, q1, qP, va_K.moved (u := U) (U := U.calling g mk a) (Vm.Alike.refl U.vm) qK, qD⟩, va_recv hK hPc (ci := 0) (q0 := 0) rfl rfl, fun U hU hW => ⟨rfl, by rw [hU], by rw [hU]; exact hPc, va_K.moved hW.alike hK, hDc.weaken (fun _ _ _ _ => trivial)⟩⟩ rfl rfl hl.1 rfl (lv_room (Nat.le_of_ble_eq_true rfl)) dX8_fraction_18 ⟨Nat.le_of_ble_eq_true rfl, Nat.le_of_ble_eq_true rfl⟩) hS (fun q _ h => hFc q h) hFc (fun u t H1 locs ht hvm hw hB hz1 hk1 hS => ?_)
    obtain ⟨W1_18, rfl⟩ : ∃ z, z = u := ⟨_, rfl⟩
    obtain ⟨p0_18, p1_18, p2_18⟩ : (Dg W1_18) ∧ (Fr wf W1_18 (0 : Int)) ∧ (rv W1_18 (0 : Int) = (z_15 % 18446744073709551616).toNat) := hw
    obtain ⟨hP1, hK1, hD1⟩ := hB
    rw [ht] at hP1
    obtain ⟨hP, hD⟩ := va_join (wr := []) (w1 := [(am, .inr (0, [.int (I3 th), .int (I3 mn), .ref as_, .ref av, .ref aw, .int (I3 sm), .int (I3 wd), .int (I3 lp), .int (I3 mp), .int (I3 re)])), (as_, .inl (dA 0, 60, .inl (iA SG))), (av, .inl (dA 1, 960, .inr (.inl (lA VL)))), (aw, .inl (dA 1, 1024, .inr (.inl (lA W1_18))))]) hP hD [0, 1, 2, 3] [] rfl rfl (by decide) (by decide) hk1 hFc hP1 hD1
    generalize H1 = H at hP hS ⊢
    have hP : va_P (dC, dI) vwCl [(am, .inr (0, [.int (I3 th), .int (I3 mn), .ref as_, .ref av, .ref aw, .int (I3 sm), .int (I3 wd), .int (I3 lp), .int (I3 mp), .int (I3 re)])), (as_, .inl (dA 0, 60, .inl (iA SG))), (av, .inl (dA 1, 960, .inr (.inl (lA VL)))), (aw, .inl (dA 1, 1024, .inr (.inl (lA W1_18))))] H := hP
    have hD : va_D A [(am, .inr (0, [.int (I3 th), .int (I3 mn), .ref as_, .ref av, .ref aw, .int (I3 sm), .int (I3 wd), .int (I3 lp), .int (I3 mp), .int (I3 re)])), (as_, .inl (dA 0, 60, .inl (iA SG))), (av, .inl (dA 1, 960, .inr (.inl (lA VL)))), (aw, .inl (dA 1, 1024, .inr (.inl (lA W1_18))))] := hD
    refine lv_aload_n hx hb dX8_fraction_21 rfl (lv_at hl 0 rfl) ?_
    refine lv_iconst (v := I3 (1)) hx hb dX8_fraction_22 rfl ?_
    refine lv_lload_n hx hb dX8_fraction_23 rfl (lv_at hl 2 rfl) ?_
    have h_15 : In6 b := by first | assumption | omega | (constructor <;> omega)
    have hPc := hP.sub (ws' := []) [] rfl
    have hDc := hD.sub (ws' := []) [] (by decide) rfl
    have hFc := va_free (wc := []) hD hS hA [] rfl
    refine va_calll (va_runS (As := [.long (L6 b)]) (rest := [.int (I3 1), .ref am]) ⟨hx, hb, hml, hown, hts⟩ (metX8_size l dC dI dA H.size b h_15) (va_cwS 1 hts (lw_S q952 q953 q66 q954) rfl rfl rfl (by decide +kernel) ⟨Nat.le_of_ble_eq_true rfl, Nat.le_of_ble_eq_true rfl⟩) ⟨fun a U g mk q => by obtain ⟨q0, q1, qP, qK, qD⟩ := q; exact ⟨q0, q1, qP, va_K.moved (u := U) (U := U.calling g mk a) (Vm.Alike.refl U.vm) qK, qD⟩, fun U hU hW => ⟨rfl, by rw [hU], by rw [hU]; exact hPc, va_K.moved hW.alike hK, hDc.weaken (fun _ _ _ _ => trivial)⟩⟩ rfl rfl hl.1 rfl (lv_room (Nat.le_of_ble_eq_true rfl)) dX8_fraction_24 ⟨Nat.le_of_ble_eq_true rfl, Nat.le_of_ble_eq_true rfl⟩) hS (fun q _ h => hFc q h) hFc (fun r_24 u t H1 locs ht hvm hw hB hz1 hk1 hS => ?_)
    obtain ⟨z_24, rfl⟩ : ∃ z, z = u := ⟨_, rfl⟩
    obtain ⟨rfl, p0_24⟩ : r_24 = L6 z_24 ∧ (z_24 = if b < 0 then -b else b) := hw
    obtain ⟨hP1, hK1, hD1⟩ := hB
    rw [ht] at hP1
    obtain ⟨hP, hD⟩ := va_join (wr := [(am, .inr (0, [.int (I3 th), .int (I3 mn), .ref as_, .ref av, .ref aw, .int (I3 sm), .int (I3 wd), .int (I3 lp), .int (I3 mp), .int (I3 re)])), (as_, .inl (dA 0, 60, .inl (iA SG))), (av, .inl (dA 1, 960, .inr (.inl (lA VL)))), (aw, .inl (dA 1, 1024, .inr (.inl (lA W1_18))))]) (w1 := []) hP hD [] [0, 1, 2, 3] rfl rfl (by decide) (by decide) hk1 hFc hP1 hD1
    generalize H1 = H at hP hS ⊢
    have hP : va_P (dC, dI) vwCl [(am, .inr (0, [.int (I3 th), .int (I3 mn), .ref as_, .ref av, .ref aw, .int (I3 sm), .int (I3 wd), .int (I3 lp), .int (I3 mp), .int (I3 re)])), (as_, .inl (dA 0, 60, .inl (iA SG))), (av, .inl (dA 1, 960, .inr (.inl (lA VL)))), (aw, .inl (dA 1, 1024, .inr (.inl (lA W1_18))))] H := hP
    have hD : va_D A [(am, .inr (0, [.int (I3 th), .int (I3 mn), .ref as_, .ref av, .ref aw, .int (I3 sm), .int (I3 wd), .int (I3 lp), .int (I3 mp), .int (I3 re)])), (as_, .inl (dA 0, 60, .inl (iA SG))), (av, .inl (dA 1, 960, .inr (.inl (lA VL)))), (aw, .inl (dA 1, 1024, .inr (.inl (lA W1_18))))] := hD
    have h_16 : 0 ≤ (1 : Int) ∧ (1 : Int) < 16 := by first | assumption | omega | (constructor <;> omega)
    have h_17 : Dg W1_18 := by first | assumption | omega | (constructor <;> omega)
    have hPc := hP.sub (ws' := [(am, .inr (0, [.int (I3 th), .int (I3 mn), .ref as_, .ref av, .ref aw, .int (I3 sm), .int (I3 wd), .int (I3 lp), .int (I3 mp), .int (I3 re)])), (as_, .inl (dA 0, 60, .inl (iA SG))), (av, .inl (dA 1, 960, .inr (.inl (lA VL)))), (aw, .inl (dA 1, 1024, .inr (.inl (lA W1_18))))]) [0, 1, 2, 3] rfl
    have hDc := hD.sub (ws' := [(am, .inr (0, [.int (I3 th), .int (I3 mn), .ref as_, .ref av, .ref aw, .int (I3 sm), .int (I3 wd), .int (I3 lp), .int (I3 mp), .int (I3 re)])), (as_, .inl (dA 0, 60, .inl (iA SG))), (av, .inl (dA 1, 960, .inr (.inl (lA VL)))), (aw, .inl (dA 1, 1024, .inr (.inl (lA W1_18))))]) [0, 1, 2, 3] (by decide) rfl
    have hFc := va_free (wc := [(am, .inr (0, [.int (I3 th), .int (I3 mn), .ref as_, .ref av, .ref aw, .int (I3 sm), .int (I3 wd), .int (I3 lp), .int (I3 mp), .int (I3 re)])), (as_, .inl (dA 0, 60, .inl (iA SG))), (av, .inl (dA 1, 960, .inr (.inl (lA VL)))), (aw, .inl (dA 1, 1024, .inr (.inl (lA W1_18))))]) hD hS hA [0, 1, 2, 3] rfl
    refine va_callv (va_runV (As := [.int (I3 1), .long (L6 z_24)]) (rest := []) ⟨hx, hb, hml, hown, hts⟩ (metX8_set l dC dI dA am as_ av aw H.size th mn sm wd lp mp re SG VL W1_18 1 z_24 h_16 h_17) (cwV 2 hts (lw_V q955 q957 qs19 q66 q958) rfl rfl rfl (by decide +kernel) ⟨Nat.le_of_ble_eq_true rfl, Nat.le_of_ble_eq_true rfl⟩) ⟨fun a U g mk q => by obtain ⟨q0, q1, qP, qK, qD⟩ := q; exact ⟨q0, q1, qP, va_K.moved (u := U) (U := U.calling g mk a) (Vm.Alike.refl U.vm) qK, qD⟩, va_recv hK hPc (ci := 0) (q0 := 0) rfl rfl, fun U hU hW => ⟨rfl, by rw [hU], by rw [hU]; exact hPc, va_K.moved hW.alike hK, hDc.weaken (fun _ _ _ _ => trivial)⟩⟩ rfl rfl hl.1 rfl (lv_room (Nat.le_of_ble_eq_true rfl)) dX8_fraction_27 ⟨Nat.le_of_ble_eq_true rfl, Nat.le_of_ble_eq_true rfl⟩) hS (fun q _ h => hFc q h) hFc (fun u t H1 locs ht hvm hw hB hz1 hk1 hS => ?_)
    obtain ⟨W1_27, rfl⟩ : ∃ z, z = u := ⟨_, rfl⟩
    obtain ⟨p0_27, p1_27, p2_27⟩ : (Dg W1_27) ∧ (Fr W1_18 W1_27 (1 : Int)) ∧ (rv W1_27 (1 : Int) = (z_24 % 18446744073709551616).toNat) := hw
    obtain ⟨hP1, hK1, hD1⟩ := hB
    rw [ht] at hP1
    obtain ⟨hP, hD⟩ := va_join (wr := []) (w1 := [(am, .inr (0, [.int (I3 th), .int (I3 mn), .ref as_, .ref av, .ref aw, .int (I3 sm), .int (I3 wd), .int (I3 lp), .int (I3 mp), .int (I3 re)])), (as_, .inl (dA 0, 60, .inl (iA SG))), (av, .inl (dA 1, 960, .inr (.inl (lA VL)))), (aw, .inl (dA 1, 1024, .inr (.inl (lA W1_27))))]) hP hD [0, 1, 2, 3] [] rfl rfl (by decide) (by decide) hk1 hFc hP1 hD1
    generalize H1 = H at hP hS ⊢
    have hP : va_P (dC, dI) vwCl [(am, .inr (0, [.int (I3 th), .int (I3 mn), .ref as_, .ref av, .ref aw, .int (I3 sm), .int (I3 wd), .int (I3 lp), .int (I3 mp), .int (I3 re)])), (as_, .inl (dA 0, 60, .inl (iA SG))), (av, .inl (dA 1, 960, .inr (.inl (lA VL)))), (aw, .inl (dA 1, 1024, .inr (.inl (lA W1_27))))] H := hP
    have hD : va_D A [(am, .inr (0, [.int (I3 th), .int (I3 mn), .ref as_, .ref av, .ref aw, .int (I3 sm), .int (I3 wd), .int (I3 lp), .int (I3 mp), .int (I3 re)])), (as_, .inl (dA 0, 60, .inl (iA SG))), (av, .inl (dA 1, 960, .inr (.inl (lA VL)))), (aw, .inl (dA 1, 1024, .inr (.inl (lA W1_27))))] := hD
    refine lv_aload_n hx hb dX8_fraction_30 rfl (lv_at hl 0 rfl) ?_
    refine lv_lload_n hx hb dX8_fraction_31 rfl (lv_at hl 1 rfl) ?_
    refine lv_lconst (v := L6 0) hx hb dX8_fraction_32 (by decide) ?_
    refine ix_lcmp_ge (tgt := 41) hx hb (by first | decide | assumption | (constructor <;> omega)) (by first | decide | assumption | (constructor <;> omega)) dX8_fraction_33 dX8_fraction_34 (by decide) (fun c_33 => ?_) (fun c_33 => ?_)
    · skip
      refine lv_iconst (v := I3 (0)) hx hb dX8_fraction_41 rfl ?_
      refine lv_lload_n hx hb dX8_fraction_42 rfl (lv_at hl 2 rfl) ?_
      refine lv_lconst (v := L6 0) hx hb dX8_fraction_43 (by decide) ?_
      refine ix_lcmp_ge (tgt := 52) hx hb (by first | decide | assumption | (constructor <;> omega)) (by first | decide | assumption | (constructor <;> omega)) dX8_fraction_44 dX8_fraction_45 (by decide) (fun c_44 => ?_) (fun c_44 => ?_)
      · skip
        refine lv_iconst (v := I3 (0)) hx hb dX8_fraction_52 rfl ?_
        refine ix_icmp_eq (tgt := 60) hx hb (by first | decide | assumption | (constructor <;> omega)) (by first | decide | assumption | (constructor <;> omega)) dX8_fraction_53 (by decide) (fun c_53 => ?_) (fun c_53 => ?_)
        · skip
          refine lv_iconst (v := I3 (1)) hx hb dX8_fraction_60 rfl ?_
          have e_18 : b ≠ 0 := by first | assumption | omega | (constructor <;> omega)
          have e_19 : (1 : Int) = if a < 0 ∧ ¬ b < 0 ∨ ¬ a < 0 ∧ b < 0 then -1 else 1 := by first | (rw [if_pos (by omega)]; done) | (rw [if_neg (by omega)]; done)
          have e_20 : (1 : Int) = -1 ∨ (1 : Int) = 1 := by first | assumption | omega | (constructor <;> omega)
          have e_21 : Dg W1_27 := by first | assumption | omega | (constructor <;> omega)
          have e_22 : rv W1_27 0 = a.natAbs := by rw [Fr_rv p1_27 (by decide), p2_18]; have y := p0_15; split at y <;> omega
          have e_23 : rv W1_27 1 = b.natAbs := by rw [p2_27]; have y := p0_24; split at y <;> omega
          exact cut_61 1 W1_27 e_18 e_19 e_20 e_21 e_22 e_23 _ _ hP hD hS ls (lv_sub hl [0, 1, 2] rfl)
        · skip
          refine lv_iconst (v := I3 (-1)) hx hb dX8_fraction_56 rfl ?_
          refine lv_goto (tgt := 61) hx hb dX8_fraction_57 (by decide) ?_
          have e_24 : b ≠ 0 := by first | assumption | omega | (constructor <;> omega)
          have e_25 : (-1 : Int) = if a < 0 ∧ ¬ b < 0 ∨ ¬ a < 0 ∧ b < 0 then -1 else 1 := by first | (rw [if_pos (by omega)]; done) | (rw [if_neg (by omega)]; done)
          have e_26 : (-1 : Int) = -1 ∨ (-1 : Int) = 1 := by first | assumption | omega | (constructor <;> omega)
          have e_27 : Dg W1_27 := by first | assumption | omega | (constructor <;> omega)
          have e_28 : rv W1_27 0 = a.natAbs := by rw [Fr_rv p1_27 (by decide), p2_18]; have y := p0_15; split at y <;> omega
          have e_29 : rv W1_27 1 = b.natAbs := by rw [p2_27]; have y := p0_24; split at y <;> omega
          exact cut_61 (-1) W1_27 e_24 e_25 e_26 e_27 e_28 e_29 _ _ hP hD hS ls (lv_sub hl [0, 1, 2] rfl)
      · skip
        refine lv_iconst (v := I3 (1)) hx hb dX8_fraction_48 rfl ?_
        refine lv_goto (tgt := 53) hx hb dX8_fraction_49 (by decide) ?_
        refine ix_icmp_eq (tgt := 60) hx hb (by first | decide | assumption | (constructor <;> omega)) (by first | decide | assumption | (constructor <;> omega)) dX8_fraction_53 (by decide) (fun c_53 => ?_) (fun c_53 => ?_)
        · skip
          refine lv_iconst (v := I3 (1)) hx hb dX8_fraction_60 rfl ?_
          have e_30 : b ≠ 0 := by first | assumption | omega | (constructor <;> omega)
          have e_31 : (1 : Int) = if a < 0 ∧ ¬ b < 0 ∨ ¬ a < 0 ∧ b < 0 then -1 else 1 := by first | (rw [if_pos (by omega)]; done) | (rw [if_neg (by omega)]; done)
          have e_32 : (1 : Int) = -1 ∨ (1 : Int) = 1 := by first | assumption | omega | (constructor <;> omega)
          have e_33 : Dg W1_27 := by first | assumption | omega | (constructor <;> omega)
          have e_34 : rv W1_27 0 = a.natAbs := by rw [Fr_rv p1_27 (by decide), p2_18]; have y := p0_15; split at y <;> omega
          have e_35 : rv W1_27 1 = b.natAbs := by rw [p2_27]; have y := p0_24; split at y <;> omega
          exact cut_61 1 W1_27 e_30 e_31 e_32 e_33 e_34 e_35 _ _ hP hD hS ls (lv_sub hl [0, 1, 2] rfl)
        · skip
          refine lv_iconst (v := I3 (-1)) hx hb dX8_fraction_56 rfl ?_
          refine lv_goto (tgt := 61) hx hb dX8_fraction_57 (by decide) ?_
          have e_36 : b ≠ 0 := by first | assumption | omega | (constructor <;> omega)
          have e_37 : (-1 : Int) = if a < 0 ∧ ¬ b < 0 ∨ ¬ a < 0 ∧ b < 0 then -1 else 1 := by first | (rw [if_pos (by omega)]; done) | (rw [if_neg (by omega)]; done)
          have e_38 : (-1 : Int) = -1 ∨ (-1 : Int) = 1 := by first | assumption | omega | (constructor <;> omega)
          have e_39 : Dg W1_27 := by first | assumption | omega | (constructor <;> omega)
          have e_40 : rv W1_27 0 = a.natAbs := by rw [Fr_rv p1_27 (by decide), p2_18]; have y := p0_15; split at y <;> omega
          have e_41 : rv W1_27 1 = b.natAbs := by rw [p2_27]; have y := p0_24; split at y <;> omega
          exact cut_61 (-1) W1_27 e_36 e_37 e_38 e_39 e_40 e_41 _ _ hP hD hS ls (lv_sub hl [0, 1, 2] rfl)
    · skip
      refine lv_iconst (v := I3 (1)) hx hb dX8_fraction_37 rfl ?_
      refine lv_goto (tgt := 42) hx hb dX8_fraction_38 (by decide) ?_
      refine lv_lload_n hx hb dX8_fraction_42 rfl (lv_at hl 2 rfl) ?_
      refine lv_lconst (v := L6 0) hx hb dX8_fraction_43 (by decide) ?_
      refine ix_lcmp_ge (tgt := 52) hx hb (by first | decide | assumption | (constructor <;> omega)) (by first | decide | assumption | (constructor <;> omega)) dX8_fraction_44 dX8_fraction_45 (by decide) (fun c_44 => ?_) (fun c_44 => ?_)
      · skip
        refine lv_iconst (v := I3 (0)) hx hb dX8_fraction_52 rfl ?_
        refine ix_icmp_eq (tgt := 60) hx hb (by first | decide | assumption | (constructor <;> omega)) (by first | decide | assumption | (constructor <;> omega)) dX8_fraction_53 (by decide) (fun c_53 => ?_) (fun c_53 => ?_)
        · skip
          refine lv_iconst (v := I3 (1)) hx hb dX8_fraction_60 rfl ?_
          have e_42 : b ≠ 0 := by first | assumption | omega | (constructor <;> omega)
          have e_43 : (1 : Int) = if a < 0 ∧ ¬ b < 0 ∨ ¬ a < 0 ∧ b < 0 then -1 else 1 := by first | (rw [if_pos (by omega)]; done) | (rw [if_neg (by omega)]; done)
          have e_44 : (1 : Int) = -1 ∨ (1 : Int) = 1 := by first | assumption | omega | (constructor <;> omega)
          have e_45 : Dg W1_27 := by first | assumption | omega | (constructor <;> omega)
          have e_46 : rv W1_27 0 = a.natAbs := by rw [Fr_rv p1_27 (by decide), p2_18]; have y := p0_15; split at y <;> omega
          have e_47 : rv W1_27 1 = b.natAbs := by rw [p2_27]; have y := p0_24; split at y <;> omega
          exact cut_61 1 W1_27 e_42 e_43 e_44 e_45 e_46 e_47 _ _ hP hD hS ls (lv_sub hl [0, 1, 2] rfl)
        · skip
          refine lv_iconst (v := I3 (-1)) hx hb dX8_fraction_56 rfl ?_
          refine lv_goto (tgt := 61) hx hb dX8_fraction_57 (by decide) ?_
          have e_48 : b ≠ 0 := by first | assumption | omega | (constructor <;> omega)
          have e_49 : (-1 : Int) = if a < 0 ∧ ¬ b < 0 ∨ ¬ a < 0 ∧ b < 0 then -1 else 1 := by first | (rw [if_pos (by omega)]; done) | (rw [if_neg (by omega)]; done)
          have e_50 : (-1 : Int) = -1 ∨ (-1 : Int) = 1 := by first | assumption | omega | (constructor <;> omega)
          have e_51 : Dg W1_27 := by first | assumption | omega | (constructor <;> omega)
          have e_52 : rv W1_27 0 = a.natAbs := by rw [Fr_rv p1_27 (by decide), p2_18]; have y := p0_15; split at y <;> omega
          have e_53 : rv W1_27 1 = b.natAbs := by rw [p2_27]; have y := p0_24; split at y <;> omega
          exact cut_61 (-1) W1_27 e_48 e_49 e_50 e_51 e_52 e_53 _ _ hP hD hS ls (lv_sub hl [0, 1, 2] rfl)
      · skip
        refine lv_iconst (v := I3 (1)) hx hb dX8_fraction_48 rfl ?_
        refine lv_goto (tgt := 53) hx hb dX8_fraction_49 (by decide) ?_
        refine ix_icmp_eq (tgt := 60) hx hb (by first | decide | assumption | (constructor <;> omega)) (by first | decide | assumption | (constructor <;> omega)) dX8_fraction_53 (by decide) (fun c_53 => ?_) (fun c_53 => ?_)
        · skip
          refine lv_iconst (v := I3 (1)) hx hb dX8_fraction_60 rfl ?_
          have e_54 : b ≠ 0 := by first | assumption | omega | (constructor <;> omega)
          have e_55 : (1 : Int) = if a < 0 ∧ ¬ b < 0 ∨ ¬ a < 0 ∧ b < 0 then -1 else 1 := by first | (rw [if_pos (by omega)]; done) | (rw [if_neg (by omega)]; done)
          have e_56 : (1 : Int) = -1 ∨ (1 : Int) = 1 := by first | assumption | omega | (constructor <;> omega)
          have e_57 : Dg W1_27 := by first | assumption | omega | (constructor <;> omega)
          have e_58 : rv W1_27 0 = a.natAbs := by rw [Fr_rv p1_27 (by decide), p2_18]; have y := p0_15; split at y <;> omega
          have e_59 : rv W1_27 1 = b.natAbs := by rw [p2_27]; have y := p0_24; split at y <;> omega
          exact cut_61 1 W1_27 e_54 e_55 e_56 e_57 e_58 e_59 _ _ hP hD hS ls (lv_sub hl [0, 1, 2] rfl)
        · skip
          refine lv_iconst (v := I3 (-1)) hx hb dX8_fraction_56 rfl ?_
          refine lv_goto (tgt := 61) hx hb dX8_fraction_57 (by decide) ?_
          have e_60 : b ≠ 0 := by first | assumption | omega | (constructor <;> omega)
          have e_61 : (-1 : Int) = if a < 0 ∧ ¬ b < 0 ∨ ¬ a < 0 ∧ b < 0 then -1 else 1 := by first | (rw [if_pos (by omega)]; done) | (rw [if_neg (by omega)]; done)
          have e_62 : (-1 : Int) = -1 ∨ (-1 : Int) = 1 := by first | assumption | omega | (constructor <;> omega)
          have e_63 : Dg W1_27 := by first | assumption | omega | (constructor <;> omega)
          have e_64 : rv W1_27 0 = a.natAbs := by rw [Fr_rv p1_27 (by decide), p2_18]; have y := p0_15; split at y <;> omega
          have e_65 : rv W1_27 1 = b.natAbs := by rw [p2_27]; have y := p0_24; split at y <;> omega
          exact cut_61 (-1) W1_27 e_60 e_61 e_62 e_63 e_64 e_65 _ _ hP hD hS ls (lv_sub hl [0, 1, 2] rfl)
  · skip
    refine lv_aload_n hx hb dX8_fraction_6 rfl (lv_at hl 0 rfl) ?_
    refine lv_iconst (v := I3 (1)) hx hb dX8_fraction_7 rfl ?_
    have h_66 : In3 (1 : Int) := by first | assumption | omega | (constructor <;> omega)
    have hPc := hP.sub (ws' := [(am, .inr (0, [.int (I3 th), .int (I3 mn), .ref as_, .ref av, .ref aw, .int (I3 sm), .int (I3 wd), .int (I3 lp), .int (I3 mp), .int (I3 re)])), (as_, .inl (dA 0, 60, .inl (iA SG))), (av, .inl (dA 1, 960, .inr (.inl (lA VL)))), (aw, .inl (dA 1, 1024, .inr (.inl (lA wf))))]) [0, 1, 2, 3] rfl
    have hDc := hD.sub (ws' := [(am, .inr (0, [.int (I3 th), .int (I3 mn), .ref as_, .ref av, .ref aw, .int (I3 sm), .int (I3 wd), .int (I3 lp), .int (I3 mp), .int (I3 re)])), (as_, .inl (dA 0, 60, .inl (iA SG))), (av, .inl (dA 1, 960, .inr (.inl (lA VL)))), (aw, .inl (dA 1, 1024, .inr (.inl (lA wf))))]) [0, 1, 2, 3] (by decide) rfl
    have hFc := va_free (wc := [(am, .inr (0, [.int (I3 th), .int (I3 mn), .ref as_, .ref av, .ref aw, .int (I3 sm), .int (I3 wd), .int (I3 lp), .int (I3 mp), .int (I3 re)])), (as_, .inl (dA 0, 60, .inl (iA SG))), (av, .inl (dA 1, 960, .inr (.inl (lA VL)))), (aw, .inl (dA 1, 1024, .inr (.inl (lA wf))))]) hD hS hA [0, 1, 2, 3] rfl
    refine va_calli (va_runV (As := [.int (I3 1)]) (rest := []) ⟨hx, hb, hml, hown, hts⟩ (metX8_fails l dC dI dA am as_ av aw s.heap.size th mn sm wd lp mp re SG VL wf 1 h_66) (cwV 1 hts (lw_V q1016 q1018 qs34 q66 q1019) rfl rfl rfl (by decide +kernel) ⟨Nat.le_of_ble_eq_true rfl, Nat.le_of_ble_eq_true rfl⟩) ⟨fun a U g mk q => by obtain ⟨q0, q1, qP, qK, qD⟩ := q; exact ⟨q0, q1, qP, va_K.moved (u := U) (U := U.calling g mk a) (Vm.Alike.refl U.vm) qK, qD⟩, va_recv hK hPc (ci := 0) (q0 := 0) rfl rfl, fun U hU hW => ⟨rfl, by rw [hU], by rw [hU]; exact hPc, va_K.moved hW.alike hK, hDc.weaken (fun _ _ _ _ => trivial)⟩⟩ rfl rfl hl.1 rfl (lv_room (Nat.le_of_ble_eq_true rfl)) dX8_fraction_8 ⟨Nat.le_of_ble_eq_true rfl, Nat.le_of_ble_eq_true rfl⟩) hS (fun q _ h => hFc q h) hFc (fun r_8 u t H1 locs ht hvm hw hB hz1 hk1 hS => ?_)
    obtain ⟨z_8, th1_8⟩ := u
    obtain ⟨rfl, p0_8, p1_8⟩ : r_8 = I3 z_8 ∧ (z_8 = 0) ∧ (th1_8 = (1 : Int)) := hw
    obtain ⟨hP1, hK1, hD1⟩ := hB
    rw [ht] at hP1
    obtain ⟨hP, hD⟩ := va_join (wr := []) (w1 := [(am, .inr (0, [.int (I3 th1_8), .int (I3 mn), .ref as_, .ref av, .ref aw, .int (I3 sm), .int (I3 wd), .int (I3 lp), .int (I3 mp), .int (I3 re)])), (as_, .inl (dA 0, 60, .inl (iA SG))), (av, .inl (dA 1, 960, .inr (.inl (lA VL)))), (aw, .inl (dA 1, 1024, .inr (.inl (lA wf))))]) hP hD [0, 1, 2, 3] [] rfl rfl (by decide) (by decide) hk1 hFc hP1 hD1
    generalize H1 = H at hP hS ⊢
    have hP : va_P (dC, dI) vwCl [(am, .inr (0, [.int (I3 th1_8), .int (I3 mn), .ref as_, .ref av, .ref aw, .int (I3 sm), .int (I3 wd), .int (I3 lp), .int (I3 mp), .int (I3 re)])), (as_, .inl (dA 0, 60, .inl (iA SG))), (av, .inl (dA 1, 960, .inr (.inl (lA VL)))), (aw, .inl (dA 1, 1024, .inr (.inl (lA wf))))] H := hP
    have hD : va_D A [(am, .inr (0, [.int (I3 th1_8), .int (I3 mn), .ref as_, .ref av, .ref aw, .int (I3 sm), .int (I3 wd), .int (I3 lp), .int (I3 mp), .int (I3 re)])), (as_, .inl (dA 0, 60, .inl (iA SG))), (av, .inl (dA 1, 960, .inr (.inl (lA VL)))), (aw, .inl (dA 1, 1024, .inr (.inl (lA wf))))] := hD
    have o_67 : Dg wf := by first | assumption | omega | (constructor <;> omega)
    have o_68 : MI mn SG VL := by exact hI
    have o_69 : b = 0 → Fld mn SG VL 1 z_8 th1_8 mn SG VL := by intro q; exact ⟨p0_8, p1_8, rfl, rfl, rfl⟩
    have o_70 : b ≠ 0 → Mde mn SG VL (if a < 0 ∧ ¬ b < 0 ∨ ¬ a < 0 ∧ b < 0 then -1 else 1) (a.natAbs) (b.natAbs) 2 z_8 th1_8 mn SG VL := by intro q; omega
    exact W.iret (v := I3 z_8) hx hb hr (fun t ht hW => ⟨⟨I3 z_8, (z_8, th1_8, mn, SG, VL, wf), rfl, ⟨rfl, ⟨o_67, o_68, o_69, o_70⟩⟩, by rw [ht]; exact hP, va_K.moved hW.alike hK, hD⟩, hS.F ht⟩) hS.2.2 dX8_fraction_11
abbrev BmetX8_real (dC : Nat → ClassId) (dI : Nat → Nat → Nat) (dA : Nat → ClassId) (A : Nat → Prop) (am : Nat) (as_ : Nat) (av : Nat) (aw : Nat) (th : Int) (mn : Int) (sm : Int) (wd : Int) (lp : Int) (mp : Int) (re : Int) (SG : Int → Int) (VL : Int → Int) (wf : Int → Int) (v : Int) : Int × Int × Int × (Int → Int) × (Int → Int) × (Int → Int) → State → Prop := fun u t => (fun (u : Int × Int × Int × (Int → Int) × (Int → Int) × (Int → Int)) => (fun (z : Int) (th1 : Int) (mn1 : Int) (SG1 : Int → Int) (VL1 : Int → Int) (W1 : Int → Int) => va_P (dC, dI) vwCl [(am, .inr (0, [.int (I3 th1), .int (I3 mn1), .ref as_, .ref av, .ref aw, .int (I3 sm), .int (I3 wd), .int (I3 lp), .int (I3 mp), .int (I3 re)])), (as_, .inl (dA 0, 60, .inl (iA SG1))), (av, .inl (dA 1, 960, .inr (.inl (lA VL1)))), (aw, .inl (dA 1, 1024, .inr (.inl (lA W1))))] t.heap ∧ va_K (dC, dI) vwCl (tyA dA) t ∧ va_D A [(am, .inr (0, [.int (I3 th1), .int (I3 mn1), .ref as_, .ref av, .ref aw, .int (I3 sm), .int (I3 wd), .int (I3 lp), .int (I3 mp), .int (I3 re)])), (as_, .inl (dA 0, 60, .inl (iA SG1))), (av, .inl (dA 1, 960, .inr (.inl (lA VL1)))), (aw, .inl (dA 1, 1024, .inr (.inl (lA W1))))]) u.1 u.2.1 u.2.2.1 u.2.2.2.1 u.2.2.2.2.1 u.2.2.2.2.2) u
abbrev QmetX8_real (dC : Nat → ClassId) (dI : Nat → Nat → Nat) (dA : Nat → ClassId) (A : Nat → Prop) (am : Nat) (as_ : Nat) (av : Nat) (aw : Nat) (th : Int) (mn : Int) (sm : Int) (wd : Int) (lp : Int) (mp : Int) (re : Int) (SG : Int → Int) (VL : Int → Int) (wf : Int → Int) (v : Int) := va_Qi (fun (rt_ : Int32) => fun (u : Int × Int × Int × (Int → Int) × (Int → Int) × (Int → Int)) => (fun (z : Int) (th1 : Int) (mn1 : Int) (SG1 : Int → Int) (VL1 : Int → Int) (W1 : Int → Int) => rt_ = I3 z ∧ (Dg W1) ∧ (MI mn1 SG1 VL1) ∧ (eX v = 2047 → Fld mn SG VL 1 z th1 mn1 SG1 VL1) ∧ (eX v ≠ 2047 → Mde mn SG VL (sgX v) ((fX v).toNat * 2 ^ (plX v).toNat) (2 ^ (-plX v).toNat) 2 z th1 mn1 SG1 VL1)) u.1 u.2.1 u.2.2.1 u.2.2.2.1 u.2.2.2.2.1 u.2.2.2.2.2) (BmetX8_real dC dI dA A am as_ av aw th mn sm wd lp mp re SG VL wf v) A
set_option maxHeartbeats 1000000 in
set_option maxRecDepth 100000 in
/-- real(v) -/
theorem metX8_real (l : Launch) (dC : Nat → ClassId) (dI : Nat → Nat → Nat) (dA : Nat → ClassId) (am : Nat) (as_ : Nat) (av : Nat) (aw : Nat) (sz : Nat) (th : Int) (mn : Int) (sm : Int) (wd : Int) (lp : Int) (mp : Int) (re : Int) (SG : Int → Int) (VL : Int → Int) (wf : Int → Int) (v : Int) (hW : Dg wf) (hI : MI mn SG VL) (hv : In6 v) : Met l yX8_real (ws_ yX8_real cX8_real 4 (some .int)) ({ frames := 4, cells := 0, slots := 0, locals := 160 }) (va_Pc [.ref am, .long (L6 v)] (fun U => U.heap.size = sz ∧ va_P (dC, dI) vwCl [(am, .inr (0, [.int (I3 th), .int (I3 mn), .ref as_, .ref av, .ref aw, .int (I3 sm), .int (I3 wd), .int (I3 lp), .int (I3 mp), .int (I3 re)])), (as_, .inl (dA 0, 60, .inl (iA SG))), (av, .inl (dA 1, 960, .inr (.inl (lA VL)))), (aw, .inl (dA 1, 1024, .inr (.inl (lA wf))))] U.heap ∧ va_K (dC, dI) vwCl (tyA dA) U ∧ va_D (fun _ => True) [(am, .inr (0, [.int (I3 th), .int (I3 mn), .ref as_, .ref av, .ref aw, .int (I3 sm), .int (I3 wd), .int (I3 lp), .int (I3 mp), .int (I3 re)])), (as_, .inl (dA 0, 60, .inl (iA SG))), (av, .inl (dA 1, 960, .inr (.inl (lA VL)))), (aw, .inl (dA 1, 1024, .inr (.inl (lA wf))))])) (QmetX8_real dC dI dA (va_A [(am, .inr (0, [.int (I3 th), .int (I3 mn), .ref as_, .ref av, .ref aw, .int (I3 sm), .int (I3 wd), .int (I3 lp), .int (I3 mp), .int (I3 re)])), (as_, .inl (dA 0, 60, .inl (iA SG))), (av, .inl (dA 1, 960, .inr (.inl (lA VL)))), (aw, .inl (dA 1, 1024, .inr (.inl (lA wf))))] sz) am as_ av aw th mn sm wd lp mp re SG VL wf v) 0 0 (va_A [(am, .inr (0, [.int (I3 th), .int (I3 mn), .ref as_, .ref av, .ref aw, .int (I3 sm), .int (I3 wd), .int (I3 lp), .int (I3 mp), .int (I3 re)])), (as_, .inl (dA 0, 60, .inl (iA SG))), (av, .inl (dA 1, 960, .inr (.inl (lA VL)))), (aw, .inl (dA 1, 1024, .inr (.inl (lA wf))))] sz) := by
  refine Met.ofW (cc := cX8_real) (maxL := 4) (ret := (some .int)) (by decide) rfl ?_
  intro p e s m args below meth c s₁ B hml hv
  obtain ⟨rfl, hsz, hP, hK, hD0⟩ := hv
  have hx := B.exec
  have hb := B.bytes
  have hr := B.returns
  have hts := atoms_spec (ws := (ws_ yX8_real cX8_real 4 (some .int))) B.pre
  have hts : ∀ w ∈ lw_all, w.before _ s = true := fun w h => hts w (List.mem_cons_of_mem _ h)
  have hown : s.vm.findClass RX8 = some m.cls := findClass_of_methodNamed B.named
  have hlocks := B.notSynchronized
  subst hsz
  have hD := hD0.self (sz := s.heap.size)
  generalize hAe : va_A [(am, .inr (0, [.int (I3 th), .int (I3 mn), .ref as_, .ref av, .ref aw, .int (I3 sm), .int (I3 wd), .int (I3 lp), .int (I3 mp), .int (I3 re)])), (as_, .inl (dA 0, 60, .inl (iA SG))), (av, .inl (dA 1, 960, .inr (.inl (lA VL)))), (aw, .inl (dA 1, 1024, .inr (.inl (lA wf))))] s.heap.size = A at hD ⊢
  have hA : ∀ q : Nat, s.heap.size ≤ q → A q := fun q h => by rw [← hAe]; exact Or.inr h
  have hS : va_S A s.heap s.heap [] := va_S.rf
  have hP : va_P (dC, dI) vwCl [(am, .inr (0, [.int (I3 th), .int (I3 mn), .ref as_, .ref av, .ref aw, .int (I3 sm), .int (I3 wd), .int (I3 lp), .int (I3 mp), .int (I3 re)])), (as_, .inl (dA 0, 60, .inl (iA SG))), (av, .inl (dA 1, 960, .inr (.inl (lA VL)))), (aw, .inl (dA 1, 1024, .inr (.inl (lA wf))))] s.heap := hP
  have hl := lv_entry ([.ref am, .long (L6 v)]) (n := 4) (Nat.le_of_ble_eq_true rfl)
  rw [lg_entry_eq]
  generalize (lg_sl ([.ref am, .long (L6 v)]) ++ List.replicate (4 - (lg_sl ([.ref am, .long (L6 v)])).length) Slot.unset).toArray = ls at hl ⊢
  have hl : lv_has ls 4 [(0, .ref am), (1, .long (L6 v))] := hl
  have hx_ := eX_r v
  have hf_ := fX_r v
  have hp_ := plX_r v
  have hs_ := sgX_3 v
  have hs0_ := sgX_0 v
  have hb53 : 2 ^ (-plX v).toNat < 2 ^ 1075 := Nat.pow_lt_pow_right (by decide) (by omega)
  obtain ⟨hmn, hV, hAll⟩ := id hI
  refine lv_lload_n hx hb dX8_real_0 rfl (lv_at hl 1 rfl) ?_
  have h_1 : In6 v := by first | assumption | omega | (constructor <;> omega)
  have hPc := hP.sub (ws' := []) [] rfl
  have hDc := hD.sub (ws' := []) [] (by decide) rfl
  have hFc := va_free (wc := []) hD hS hA [] rfl
  refine va_calli (va_runS (As := [.long (L6 v)]) (rest := []) ⟨hx, hb, hml, hown, hts⟩ (metX8_exponent l dC dI dA s.heap.size v h_1) (va_cwS 1 hts (lw_S q1028 q1029 q66 q1030) rfl rfl rfl (by decide +kernel) ⟨Nat.le_of_ble_eq_true rfl, Nat.le_of_ble_eq_true rfl⟩) ⟨fun a U g mk q => by obtain ⟨q0, q1, qP, qK, qD⟩ := q; exact ⟨q0, q1, qP, va_K.moved (u := U) (U := U.calling g mk a) (Vm.Alike.refl U.vm) qK, qD⟩, fun U hU hW => ⟨rfl, by rw [hU], by rw [hU]; exact hPc, va_K.moved hW.alike hK, hDc.weaken (fun _ _ _ _ => trivial)⟩⟩ rfl rfl hl.1 rfl (lv_room (Nat.le_of_ble_eq_true rfl)) dX8_real_1 ⟨Nat.le_of_ble_eq_true rfl, Nat.le_of_ble_eq_true rfl⟩) hS (fun q _ h => hFc q h) hFc (fun r_1 u t H1 locs ht hvm hw hB hz1 hk1 hS => ?_)
  obtain ⟨z_1, rfl⟩ : ∃ z, z = u := ⟨_, rfl⟩
  obtain ⟨rfl, p0_1⟩ : r_1 = I3 z_1 ∧ (z_1 = eX v) := hw
  obtain ⟨hP1, hK1, hD1⟩ := hB
  rw [ht] at hP1
  obtain ⟨hP, hD⟩ := va_join (wr := [(am, .inr (0, [.int (I3 th), .int (I3 mn), .ref as_, .ref av, .ref aw, .int (I3 sm), .int (I3 wd), .int (I3 lp), .int (I3 mp), .int (I3 re)])), (as_, .inl (dA 0, 60, .inl (iA SG))), (av, .inl (dA 1, 960, .inr (.inl (lA VL)))), (aw, .inl (dA 1, 1024, .inr (.inl (lA wf))))]) (w1 := []) hP hD [] [0, 1, 2, 3] rfl rfl (by decide) (by decide) hk1 hFc hP1 hD1
  generalize H1 = H at hP hS ⊢
  have hP : va_P (dC, dI) vwCl [(am, .inr (0, [.int (I3 th), .int (I3 mn), .ref as_, .ref av, .ref aw, .int (I3 sm), .int (I3 wd), .int (I3 lp), .int (I3 mp), .int (I3 re)])), (as_, .inl (dA 0, 60, .inl (iA SG))), (av, .inl (dA 1, 960, .inr (.inl (lA VL)))), (aw, .inl (dA 1, 1024, .inr (.inl (lA wf))))] H := hP
  have hD : va_D A [(am, .inr (0, [.int (I3 th), .int (I3 mn), .ref as_, .ref av, .ref aw, .int (I3 sm), .int (I3 wd), .int (I3 lp), .int (I3 mp), .int (I3 re)])), (as_, .inl (dA 0, 60, .inl (iA SG))), (av, .inl (dA 1, 960, .inr (.inl (lA VL)))), (aw, .inl (dA 1, 1024, .inr (.inl (lA wf))))] := hD
  refine lv_sipush (v := I3 (2047)) hx hb dX8_real_4 (by decide) ?_
  refine ix_icmp_ne (tgt := 16) hx hb (by first | decide | assumption | (constructor <;> omega)) (by first | decide | assumption | (constructor <;> omega)) dX8_real_7 (by decide) (fun c_7 => ?_) (fun c_7 => ?_)
  · skip
    refine lv_aload_n hx hb dX8_real_16 rfl (lv_at hl 0 rfl) ?_
    refine lv_iconst (v := I3 (0)) hx hb dX8_real_17 rfl ?_
    refine lv_lload_n hx hb dX8_real_18 rfl (lv_at hl 1 rfl) ?_
    have h_2 : In6 v := by first | assumption | omega | (constructor <;> omega)
    have hPc := hP.sub (ws' := []) [] rfl
    have hDc := hD.sub (ws' := []) [] (by decide) rfl
    have hFc := va_free (wc := []) hD hS hA [] rfl
    refine va_calll (va_runS (As := [.long (L6 v)]) (rest := [.int (I3 0), .ref am]) ⟨hx, hb, hml, hown, hts⟩ (metX8_factor l dC dI dA H.size v h_2) (va_cwS 1 hts (lw_S q1032 q1033 q66 q1034) rfl rfl rfl (by decide +kernel) ⟨Nat.le_of_ble_eq_true rfl, Nat.le_of_ble_eq_true rfl⟩) ⟨fun a U g mk q => by obtain ⟨q0, q1, qP, qK, qD⟩ := q; exact ⟨q0, q1, qP, va_K.moved (u := U) (U := U.calling g mk a) (Vm.Alike.refl U.vm) qK, qD⟩, fun U hU hW => ⟨rfl, by rw [hU], by rw [hU]; exact hPc, va_K.moved hW.alike hK, hDc.weaken (fun _ _ _ _ => trivial)⟩⟩ rfl rfl hl.1 rfl (lv_room (Nat.le_of_ble_eq_true rfl)) dX8_real_19 ⟨Nat.le_of_ble_eq_true rfl, Nat.le_of_ble_eq_true rfl⟩) hS (fun q _ h => hFc q h) hFc (fun r_19 u t H1 locs ht hvm hw hB hz1 hk1 hS => ?_)
    obtain ⟨z_19, rfl⟩ : ∃ z, z = u := ⟨_, rfl⟩
    obtain ⟨rfl, p0_19⟩ : r_19 = L6 z_19 ∧ (z_19 = fX v) := hw
    obtain ⟨hP1, hK1, hD1⟩ := hB
    rw [ht] at hP1
    obtain ⟨hP, hD⟩ := va_join (wr := [(am, .inr (0, [.int (I3 th), .int (I3 mn), .ref as_, .ref av, .ref aw, .int (I3 sm), .int (I3 wd), .int (I3 lp), .int (I3 mp), .int (I3 re)])), (as_, .inl (dA 0, 60, .inl (iA SG))), (av, .inl (dA 1, 960, .inr (.inl (lA VL)))), (aw, .inl (dA 1, 1024, .inr (.inl (lA wf))))]) (w1 := []) hP hD [] [0, 1, 2, 3] rfl rfl (by decide) (by decide) hk1 hFc hP1 hD1
    generalize H1 = H at hP hS ⊢
    have hP : va_P (dC, dI) vwCl [(am, .inr (0, [.int (I3 th), .int (I3 mn), .ref as_, .ref av, .ref aw, .int (I3 sm), .int (I3 wd), .int (I3 lp), .int (I3 mp), .int (I3 re)])), (as_, .inl (dA 0, 60, .inl (iA SG))), (av, .inl (dA 1, 960, .inr (.inl (lA VL)))), (aw, .inl (dA 1, 1024, .inr (.inl (lA wf))))] H := hP
    have hD : va_D A [(am, .inr (0, [.int (I3 th), .int (I3 mn), .ref as_, .ref av, .ref aw, .int (I3 sm), .int (I3 wd), .int (I3 lp), .int (I3 mp), .int (I3 re)])), (as_, .inl (dA 0, 60, .inl (iA SG))), (av, .inl (dA 1, 960, .inr (.inl (lA VL)))), (aw, .inl (dA 1, 1024, .inr (.inl (lA wf))))] := hD
    have h_3 : 0 ≤ (0 : Int) ∧ (0 : Int) < 16 := by first | assumption | omega | (constructor <;> omega)
    have h_4 : Dg wf := by first | assumption | omega | (constructor <;> omega)
    have hPc := hP.sub (ws' := [(am, .inr (0, [.int (I3 th), .int (I3 mn), .ref as_, .ref av, .ref aw, .int (I3 sm), .int (I3 wd), .int (I3 lp), .int (I3 mp), .int (I3 re)])), (as_, .inl (dA 0, 60, .inl (iA SG))), (av, .inl (dA 1, 960, .inr (.inl (lA VL)))), (aw, .inl (dA 1, 1024, .inr (.inl (lA wf))))]) [0, 1, 2, 3] rfl
    have hDc := hD.sub (ws' := [(am, .inr (0, [.int (I3 th), .int (I3 mn), .ref as_, .ref av, .ref aw, .int (I3 sm), .int (I3 wd), .int (I3 lp), .int (I3 mp), .int (I3 re)])), (as_, .inl (dA 0, 60, .inl (iA SG))), (av, .inl (dA 1, 960, .inr (.inl (lA VL)))), (aw, .inl (dA 1, 1024, .inr (.inl (lA wf))))]) [0, 1, 2, 3] (by decide) rfl
    have hFc := va_free (wc := [(am, .inr (0, [.int (I3 th), .int (I3 mn), .ref as_, .ref av, .ref aw, .int (I3 sm), .int (I3 wd), .int (I3 lp), .int (I3 mp), .int (I3 re)])), (as_, .inl (dA 0, 60, .inl (iA SG))), (av, .inl (dA 1, 960, .inr (.inl (lA VL)))), (aw, .inl (dA 1, 1024, .inr (.inl (lA wf))))]) hD hS hA [0, 1, 2, 3] rfl
    refine va_callv (va_runV (As := [.int (I3 0), .long (L6 z_19)]) (rest := []) ⟨hx, hb, hml, hown, hts⟩ (metX8_set l dC dI dA am as_ av aw H.size th mn sm wd lp mp re SG VL wf 0 z_19 h_3 h_4) (cwV 2 hts (lw_V q955 q957 qs19 q66 q958) rfl rfl rfl (by decide +kernel) ⟨Nat.le_of_ble_eq_true rfl, Nat.le_of_ble_eq_true rfl⟩) ⟨fun a U g mk q => by obtain ⟨q0, q1, qP, qK, qD⟩ := q; exact ⟨q0, q1, qP, va_K.moved (u := U) (U := U.calling g mk a) (Vm.Alike.refl U.vm) qK, qD⟩, va_recv hK hPc (ci := 0) (q0 := 0) rfl rfl, fun U hU hW => ⟨rfl, by rw [hU], by rw [hU]; exact hPc, va_K.moved hW.alike hK, hDc.weaken (fun _ _ _ _ => trivial)⟩⟩ rfl rfl hl.1 rfl (lv_room (Nat.le_of_ble_eq_true rfl)) dX8_real_22 ⟨Nat.le_of_ble_eq_true rfl, Nat.le_of_ble_eq_true rfl⟩) hS (fun q _ h => hFc q h) hFc (fun u t H1 locs ht hvm hw hB hz1 hk1 hS => ?_)
    obtain ⟨W1_22, rfl⟩ : ∃ z, z = u := ⟨_, rfl⟩
    obtain ⟨p0_22, p1_22, p2_22⟩ : (Dg W1_22) ∧ (Fr wf W1_22 (0 : Int)) ∧ (rv W1_22 (0 : Int) = (z_19 % 18446744073709551616).toNat) := hw
    obtain ⟨hP1, hK1, hD1⟩ := hB
    rw [ht] at hP1
    obtain ⟨hP, hD⟩ := va_join (wr := []) (w1 := [(am, .inr (0, [.int (I3 th), .int (I3 mn), .ref as_, .ref av, .ref aw, .int (I3 sm), .int (I3 wd), .int (I3 lp), .int (I3 mp), .int (I3 re)])), (as_, .inl (dA 0, 60, .inl (iA SG))), (av, .inl (dA 1, 960, .inr (.inl (lA VL)))), (aw, .inl (dA 1, 1024, .inr (.inl (lA W1_22))))]) hP hD [0, 1, 2, 3] [] rfl rfl (by decide) (by decide) hk1 hFc hP1 hD1
    generalize H1 = H at hP hS ⊢
    have hP : va_P (dC, dI) vwCl [(am, .inr (0, [.int (I3 th), .int (I3 mn), .ref as_, .ref av, .ref aw, .int (I3 sm), .int (I3 wd), .int (I3 lp), .int (I3 mp), .int (I3 re)])), (as_, .inl (dA 0, 60, .inl (iA SG))), (av, .inl (dA 1, 960, .inr (.inl (lA VL)))), (aw, .inl (dA 1, 1024, .inr (.inl (lA W1_22))))] H := hP
    have hD : va_D A [(am, .inr (0, [.int (I3 th), .int (I3 mn), .ref as_, .ref av, .ref aw, .int (I3 sm), .int (I3 wd), .int (I3 lp), .int (I3 mp), .int (I3 re)])), (as_, .inl (dA 0, 60, .inl (iA SG))), (av, .inl (dA 1, 960, .inr (.inl (lA VL)))), (aw, .inl (dA 1, 1024, .inr (.inl (lA W1_22))))] := hD
    refine lv_aload_n hx hb dX8_real_25 rfl (lv_at hl 0 rfl) ?_
    refine lv_iconst (v := I3 (1)) hx hb dX8_real_26 rfl ?_
    refine lv_lconst (v := L6 1) hx hb dX8_real_27 (by decide) ?_
    have h_5 : 0 ≤ (1 : Int) ∧ (1 : Int) < 16 := by first | assumption | omega | (constructor <;> omega)
    have h_6 : Dg W1_22 := by first | assumption | omega | (constructor <;> omega)
    have hPc := hP.sub (ws' := [(am, .inr (0, [.int (I3 th), .int (I3 mn), .ref as_, .ref av, .ref aw, .int (I3 sm), .int (I3 wd), .int (I3 lp), .int (I3 mp), .int (I3 re)])), (as_, .inl (dA 0, 60, .inl (iA SG))), (av, .inl (dA 1, 960, .inr (.inl (lA VL)))), (aw, .inl (dA 1, 1024, .inr (.inl (lA W1_22))))]) [0, 1, 2, 3] rfl
    have hDc := hD.sub (ws' := [(am, .inr (0, [.int (I3 th), .int (I3 mn), .ref as_, .ref av, .ref aw, .int (I3 sm), .int (I3 wd), .int (I3 lp), .int (I3 mp), .int (I3 re)])), (as_, .inl (dA 0, 60, .inl (iA SG))), (av, .inl (dA 1, 960, .inr (.inl (lA VL)))), (aw, .inl (dA 1, 1024, .inr (.inl (lA W1_22))))]) [0, 1, 2, 3] (by decide) rfl
    have hFc := va_free (wc := [(am, .inr (0, [.int (I3 th), .int (I3 mn), .ref as_, .ref av, .ref aw, .int (I3 sm), .int (I3 wd), .int (I3 lp), .int (I3 mp), .int (I3 re)])), (as_, .inl (dA 0, 60, .inl (iA SG))), (av, .inl (dA 1, 960, .inr (.inl (lA VL)))), (aw, .inl (dA 1, 1024, .inr (.inl (lA W1_22))))]) hD hS hA [0, 1, 2, 3] rfl
    refine va_callv (va_runV (As := [.int (I3 1), .long (L6 1)]) (rest := []) ⟨hx, hb, hml, hown, hts⟩ (metX8_set l dC dI dA am as_ av aw H.size th mn sm wd lp mp re SG VL W1_22 1 1 h_5 h_6) (cwV 2 hts (lw_V q955 q957 qs19 q66 q958) rfl rfl rfl (by decide +kernel) ⟨Nat.le_of_ble_eq_true rfl, Nat.le_of_ble_eq_true rfl⟩) ⟨fun a U g mk q => by obtain ⟨q0, q1, qP, qK, qD⟩ := q; exact ⟨q0, q1, qP, va_K.moved (u := U) (U := U.calling g mk a) (Vm.Alike.refl U.vm) qK, qD⟩, va_recv hK hPc (ci := 0) (q0 := 0) rfl rfl, fun U hU hW => ⟨rfl, by rw [hU], by rw [hU]; exact hPc, va_K.moved hW.alike hK, hDc.weaken (fun _ _ _ _ => trivial)⟩⟩ rfl rfl hl.1 rfl (lv_room (Nat.le_of_ble_eq_true rfl)) dX8_real_28 ⟨Nat.le_of_ble_eq_true rfl, Nat.le_of_ble_eq_true rfl⟩) hS (fun q _ h => hFc q h) hFc (fun u t H1 locs ht hvm hw hB hz1 hk1 hS => ?_)
    obtain ⟨W1_28, rfl⟩ : ∃ z, z = u := ⟨_, rfl⟩
    obtain ⟨p0_28, p1_28, p2_28⟩ : (Dg W1_28) ∧ (Fr W1_22 W1_28 (1 : Int)) ∧ (rv W1_28 (1 : Int) = ((1 : Int) % 18446744073709551616).toNat) := hw
    obtain ⟨hP1, hK1, hD1⟩ := hB
    rw [ht] at hP1
    obtain ⟨hP, hD⟩ := va_join (wr := []) (w1 := [(am, .inr (0, [.int (I3 th), .int (I3 mn), .ref as_, .ref av, .ref aw, .int (I3 sm), .int (I3 wd), .int (I3 lp), .int (I3 mp), .int (I3 re)])), (as_, .inl (dA 0, 60, .inl (iA SG))), (av, .inl (dA 1, 960, .inr (.inl (lA VL)))), (aw, .inl (dA 1, 1024, .inr (.inl (lA W1_28))))]) hP hD [0, 1, 2, 3] [] rfl rfl (by decide) (by decide) hk1 hFc hP1 hD1
    generalize H1 = H at hP hS ⊢
    have hP : va_P (dC, dI) vwCl [(am, .inr (0, [.int (I3 th), .int (I3 mn), .ref as_, .ref av, .ref aw, .int (I3 sm), .int (I3 wd), .int (I3 lp), .int (I3 mp), .int (I3 re)])), (as_, .inl (dA 0, 60, .inl (iA SG))), (av, .inl (dA 1, 960, .inr (.inl (lA VL)))), (aw, .inl (dA 1, 1024, .inr (.inl (lA W1_28))))] H := hP
    have hD : va_D A [(am, .inr (0, [.int (I3 th), .int (I3 mn), .ref as_, .ref av, .ref aw, .int (I3 sm), .int (I3 wd), .int (I3 lp), .int (I3 mp), .int (I3 re)])), (as_, .inl (dA 0, 60, .inl (iA SG))), (av, .inl (dA 1, 960, .inr (.inl (lA VL)))), (aw, .inl (dA 1, 1024, .inr (.inl (lA W1_28))))] := hD
    have f0 : rv W1_28 0 = (fX v).toNat := by rw [Fr_rv p1_28 (by decide), p2_22]; omega
    have f1 : rv W1_28 1 = 1 := by rw [p2_28]; rfl
    refine lv_lload_n hx hb dX8_real_31 rfl (lv_at hl 1 rfl) ?_
    have h_7 : In6 v := by first | assumption | omega | (constructor <;> omega)
    have hPc := hP.sub (ws' := []) [] rfl
    have hDc := hD.sub (ws' := []) [] (by decide) rfl
    have hFc := va_free (wc := []) hD hS hA [] rfl
    refine va_calli (va_runS (As := [.long (L6 v)]) (rest := []) ⟨hx, hb, hml, hown, hts⟩ (metX8_place l dC dI dA H.size v h_7) (va_cwS 1 hts (lw_S q1040 q1041 q66 q1042) rfl rfl rfl (by decide +kernel) ⟨Nat.le_of_ble_eq_true rfl, Nat.le_of_ble_eq_true rfl⟩) ⟨fun a U g mk q => by obtain ⟨q0, q1, qP, qK, qD⟩ := q; exact ⟨q0, q1, qP, va_K.moved (u := U) (U := U.calling g mk a) (Vm.Alike.refl U.vm) qK, qD⟩, fun U hU hW => ⟨rfl, by rw [hU], by rw [hU]; exact hPc, va_K.moved hW.alike hK, hDc.weaken (fun _ _ _ _ => trivial)⟩⟩ rfl rfl hl.1 rfl (lv_room (Nat.le_of_ble_eq_true rfl)) dX8_real_32 ⟨Nat.le_of_ble_eq_true rfl, Nat.le_of_ble_eq_true rfl⟩) hS (fun q _ h => hFc q h) hFc (fun r_32 u t H1 locs ht hvm hw hB hz1 hk1 hS => ?_)
    obtain ⟨z_32, rfl⟩ : ∃ z, z = u := ⟨_, rfl⟩
    obtain ⟨rfl, p0_32⟩ : r_32 = I3 z_32 ∧ (z_32 = plX v) := hw
    obtain ⟨hP1, hK1, hD1⟩ := hB
    rw [ht] at hP1
    obtain ⟨hP, hD⟩ := va_join (wr := [(am, .inr (0, [.int (I3 th), .int (I3 mn), .ref as_, .ref av, .ref aw, .int (I3 sm), .int (I3 wd), .int (I3 lp), .int (I3 mp), .int (I3 re)])), (as_, .inl (dA 0, 60, .inl (iA SG))), (av, .inl (dA 1, 960, .inr (.inl (lA VL)))), (aw, .inl (dA 1, 1024, .inr (.inl (lA W1_28))))]) (w1 := []) hP hD [] [0, 1, 2, 3] rfl rfl (by decide) (by decide) hk1 hFc hP1 hD1
    generalize H1 = H at hP hS ⊢
    have hP : va_P (dC, dI) vwCl [(am, .inr (0, [.int (I3 th), .int (I3 mn), .ref as_, .ref av, .ref aw, .int (I3 sm), .int (I3 wd), .int (I3 lp), .int (I3 mp), .int (I3 re)])), (as_, .inl (dA 0, 60, .inl (iA SG))), (av, .inl (dA 1, 960, .inr (.inl (lA VL)))), (aw, .inl (dA 1, 1024, .inr (.inl (lA W1_28))))] H := hP
    have hD : va_D A [(am, .inr (0, [.int (I3 th), .int (I3 mn), .ref as_, .ref av, .ref aw, .int (I3 sm), .int (I3 wd), .int (I3 lp), .int (I3 mp), .int (I3 re)])), (as_, .inl (dA 0, 60, .inl (iA SG))), (av, .inl (dA 1, 960, .inr (.inl (lA VL)))), (aw, .inl (dA 1, 1024, .inr (.inl (lA W1_28))))] := hD
    refine lv_istore_n (lv' := [(3, .int (I3 z_32)), (0, .ref am), (1, .long (L6 v))]) hx hb dX8_real_35 rfl hl (by decide) rfl (fun ls hl => ?_)
    refine lv_iload_n hx hb dX8_real_36 rfl (lv_at hl 0 rfl) ?_
    refine ix_if_le (tgt := 49) hx hb (by first | decide | assumption | (constructor <;> omega)) dX8_real_37 (by decide) (fun c_37 => ?_) (fun c_37 => ?_)
    · skip
      refine lv_aload_n hx hb dX8_real_49 rfl (lv_at hl 1 rfl) ?_
      refine lv_iconst (v := I3 (1)) hx hb dX8_real_50 rfl ?_
      refine lv_iload_n hx hb dX8_real_51 rfl (lv_at hl 0 rfl) ?_
      refine ix_ineg hx hb dX8_real_52 ?_
      have h_8 : 0 ≤ (1 : Int) ∧ (1 : Int) < 16 := by first | assumption | omega | (constructor <;> omega)
      have h_9 : 0 ≤ (-z_32) ∧ (-z_32) < 2048 := by first | assumption | omega | (constructor <;> omega)
      have h_10 : Dg W1_28 := by first | assumption | omega | (constructor <;> omega)
      have hPc := hP.sub (ws' := [(am, .inr (0, [.int (I3 th), .int (I3 mn), .ref as_, .ref av, .ref aw, .int (I3 sm), .int (I3 wd), .int (I3 lp), .int (I3 mp), .int (I3 re)])), (as_, .inl (dA 0, 60, .inl (iA SG))), (av, .inl (dA 1, 960, .inr (.inl (lA VL)))), (aw, .inl (dA 1, 1024, .inr (.inl (lA W1_28))))]) [0, 1, 2, 3] rfl
      have hDc := hD.sub (ws' := [(am, .inr (0, [.int (I3 th), .int (I3 mn), .ref as_, .ref av, .ref aw, .int (I3 sm), .int (I3 wd), .int (I3 lp), .int (I3 mp), .int (I3 re)])), (as_, .inl (dA 0, 60, .inl (iA SG))), (av, .inl (dA 1, 960, .inr (.inl (lA VL)))), (aw, .inl (dA 1, 1024, .inr (.inl (lA W1_28))))]) [0, 1, 2, 3] (by decide) rfl
      have hFc := va_free (wc := [(am, .inr (0, [.int (I3 th), .int (I3 mn), .ref as_, .ref av, .ref aw, .int (I3 sm), .int (I3 wd), .int (I3 lp), .int (I3 mp), .int (I3 re)])), (as_, .inl (dA 0, 60, .inl (iA SG))), (av, .inl (dA 1, 960, .inr (.inl (lA VL)))), (aw, .inl (dA 1, 1024, .inr (.inl (lA W1_28))))]) hD hS hA [0, 1, 2, 3] rfl
      refine va_callv (va_runV (As := [.int (I3 1), .int (I3 (-z_32))]) (rest := []) ⟨hx, hb, hml, hown, hts⟩ (metX8_up l dC dI dA am as_ av aw H.size th mn sm wd lp mp re SG VL W1_28 1 (-z_32) h_8 h_9 h_10) (cwV 2 hts (lw_V q1000 q1002 qs30 q66 q1003) rfl rfl rfl (by decide +kernel) ⟨Nat.le_of_ble_eq_true rfl, Nat.le_of_ble_eq_true rfl⟩) ⟨fun a U g mk q => by obtain ⟨q0, q1, qP, qK, qD⟩ := q; exact ⟨q0, q1, qP, va_K.moved (u := U) (U := U.calling g mk a) (Vm.Alike.refl U.vm) qK, qD⟩, va_recv hK hPc (ci := 0) (q0 := 0) rfl rfl, fun U hU hW => ⟨rfl, by rw [hU], by rw [hU]; exact hPc, va_K.moved hW.alike hK, hDc.weaken (fun _ _ _ _ => trivial)⟩⟩ rfl rfl hl.1 rfl (lv_room (Nat.le_of_ble_eq_true rfl)) dX8_real_53 ⟨Nat.le_of_ble_eq_true rfl, Nat.le_of_ble_eq_true rfl⟩) hS (fun q _ h => hFc q h) hFc (fun u t H1 locs ht hvm hw hB hz1 hk1 hS => ?_)
      obtain ⟨W1_53, rfl⟩ : ∃ z, z = u := ⟨_, rfl⟩
      obtain ⟨p0_53, p1_53, p2_53⟩ : (Dg W1_53) ∧ (Fr W1_28 W1_53 (1 : Int)) ∧ (rv W1_53 (1 : Int) = rv W1_28 (1 : Int) * 2 ^ (-z_32).toNat % BN) := hw
      obtain ⟨hP1, hK1, hD1⟩ := hB
      rw [ht] at hP1
      obtain ⟨hP, hD⟩ := va_join (wr := []) (w1 := [(am, .inr (0, [.int (I3 th), .int (I3 mn), .ref as_, .ref av, .ref aw, .int (I3 sm), .int (I3 wd), .int (I3 lp), .int (I3 mp), .int (I3 re)])), (as_, .inl (dA 0, 60, .inl (iA SG))), (av, .inl (dA 1, 960, .inr (.inl (lA VL)))), (aw, .inl (dA 1, 1024, .inr (.inl (lA W1_53))))]) hP hD [0, 1, 2, 3] [] rfl rfl (by decide) (by decide) hk1 hFc hP1 hD1
      generalize H1 = H at hP hS ⊢
      have hP : va_P (dC, dI) vwCl [(am, .inr (0, [.int (I3 th), .int (I3 mn), .ref as_, .ref av, .ref aw, .int (I3 sm), .int (I3 wd), .int (I3 lp), .int (I3 mp), .int (I3 re)])), (as_, .inl (dA 0, 60, .inl (iA SG))), (av, .inl (dA 1, 960, .inr (.inl (lA VL)))), (aw, .inl (dA 1, 1024, .inr (.inl (lA W1_53))))] H := hP
      have hD : va_D A [(am, .inr (0, [.int (I3 th), .int (I3 mn), .ref as_, .ref av, .ref aw, .int (I3 sm), .int (I3 wd), .int (I3 lp), .int (I3 mp), .int (I3 re)])), (as_, .inl (dA 0, 60, .inl (iA SG))), (av, .inl (dA 1, 960, .inr (.inl (lA VL)))), (aw, .inl (dA 1, 1024, .inr (.inl (lA W1_53))))] := hD
      have g1 : rv W1_53 1 = 2 ^ (-plX v).toNat := by rw [p2_53, f1, p0_32, Nat.one_mul]; exact mod_BN (by rw [← Nat.one_mul (2 ^ _)]; exact up_lt (k := 1) (by decide) (by omega))
      have g0 : rv W1_53 0 = (fX v).toNat * 2 ^ (plX v).toNat := by rw [Fr_rv p1_53 (by decide), f0, show (plX v).toNat = 0 by omega, Nat.pow_zero, Nat.mul_one]
      have g2 : 2 * 2 ^ (-plX v).toNat ≤ BN := Nat.le_of_lt (up_lt (x := 2) (k := 2) (by decide) (by omega))
      refine lv_aload_n hx hb dX8_real_56 rfl (lv_at hl 1 rfl) ?_
      refine lv_lload_n hx hb dX8_real_57 rfl (lv_at hl 2 rfl) ?_
      have h_11 : In6 v := by first | assumption | omega | (constructor <;> omega)
      have hPc := hP.sub (ws' := []) [] rfl
      have hDc := hD.sub (ws' := []) [] (by decide) rfl
      have hFc := va_free (wc := []) hD hS hA [] rfl
      refine va_calli (va_runS (As := [.long (L6 v)]) (rest := [.ref am]) ⟨hx, hb, hml, hown, hts⟩ (metX8_signOf l dC dI dA H.size v h_11) (va_cwS 1 hts (lw_S q1043 q1044 q66 q1045) rfl rfl rfl (by decide +kernel) ⟨Nat.le_of_ble_eq_true rfl, Nat.le_of_ble_eq_true rfl⟩) ⟨fun a U g mk q => by obtain ⟨q0, q1, qP, qK, qD⟩ := q; exact ⟨q0, q1, qP, va_K.moved (u := U) (U := U.calling g mk a) (Vm.Alike.refl U.vm) qK, qD⟩, fun U hU hW => ⟨rfl, by rw [hU], by rw [hU]; exact hPc, va_K.moved hW.alike hK, hDc.weaken (fun _ _ _ _ => trivial)⟩⟩ rfl rfl hl.1 rfl (lv_room (Nat.le_of_ble_eq_true rfl)) dX8_real_58 ⟨Nat.le_of_ble_eq_true rfl, Nat.le_of_ble_eq_true rfl⟩) hS (fun q _ h => hFc q h) hFc (fun r_58 u t H1 locs ht hvm hw hB hz1 hk1 hS => ?_)
      obtain ⟨z_58, rfl⟩ : ∃ z, z = u := ⟨_, rfl⟩
      obtain ⟨rfl, p0_58⟩ : r_58 = I3 z_58 ∧ (z_58 = sgX v) := hw
      obtain ⟨hP1, hK1, hD1⟩ := hB
      rw [ht] at hP1
      obtain ⟨hP, hD⟩ := va_join (wr := [(am, .inr (0, [.int (I3 th), .int (I3 mn), .ref as_, .ref av, .ref aw, .int (I3 sm), .int (I3 wd), .int (I3 lp), .int (I3 mp), .int (I3 re)])), (as_, .inl (dA 0, 60, .inl (iA SG))), (av, .inl (dA 1, 960, .inr (.inl (lA VL)))), (aw, .inl (dA 1, 1024, .inr (.inl (lA W1_53))))]) (w1 := []) hP hD [] [0, 1, 2, 3] rfl rfl (by decide) (by decide) hk1 hFc hP1 hD1
      generalize H1 = H at hP hS ⊢
      have hP : va_P (dC, dI) vwCl [(am, .inr (0, [.int (I3 th), .int (I3 mn), .ref as_, .ref av, .ref aw, .int (I3 sm), .int (I3 wd), .int (I3 lp), .int (I3 mp), .int (I3 re)])), (as_, .inl (dA 0, 60, .inl (iA SG))), (av, .inl (dA 1, 960, .inr (.inl (lA VL)))), (aw, .inl (dA 1, 1024, .inr (.inl (lA W1_53))))] H := hP
      have hD : va_D A [(am, .inr (0, [.int (I3 th), .int (I3 mn), .ref as_, .ref av, .ref aw, .int (I3 sm), .int (I3 wd), .int (I3 lp), .int (I3 mp), .int (I3 re)])), (as_, .inl (dA 0, 60, .inl (iA SG))), (av, .inl (dA 1, 960, .inr (.inl (lA VL)))), (aw, .inl (dA 1, 1024, .inr (.inl (lA W1_53))))] := hD
      refine lv_iconst (v := I3 (2)) hx hb dX8_real_61 rfl ?_
      have h_12 : Dg W1_53 := by first | assumption | omega | (constructor <;> omega)
      have h_13 : Dg VL := by exact hV
      have h_14 : 0 ≤ mn ∧ mn ≤ 60 := by exact hmn
      have h_15 : In3 z_58 := by constructor <;> omega
      have h_16 : In3 (2 : Int) := by first | assumption | omega | (constructor <;> omega)
      have h_17 : rv W1_53 1 ≠ 0 := by rw [g1]; exact Nat.ne_of_gt (Nat.two_pow_pos _)
      have h_18 : 2 * rv W1_53 1 ≤ BN := by have := BN_64; rw [g1]; omega
      have hPc := hP.sub (ws' := [(am, .inr (0, [.int (I3 th), .int (I3 mn), .ref as_, .ref av, .ref aw, .int (I3 sm), .int (I3 wd), .int (I3 lp), .int (I3 mp), .int (I3 re)])), (as_, .inl (dA 0, 60, .inl (iA SG))), (av, .inl (dA 1, 960, .inr (.inl (lA VL)))), (aw, .inl (dA 1, 1024, .inr (.inl (lA W1_53))))]) [0, 1, 2, 3] rfl
      have hDc := hD.sub (ws' := [(am, .inr (0, [.int (I3 th), .int (I3 mn), .ref as_, .ref av, .ref aw, .int (I3 sm), .int (I3 wd), .int (I3 lp), .int (I3 mp), .int (I3 re)])), (as_, .inl (dA 0, 60, .inl (iA SG))), (av, .inl (dA 1, 960, .inr (.inl (lA VL)))), (aw, .inl (dA 1, 1024, .inr (.inl (lA W1_53))))]) [0, 1, 2, 3] (by decide) rfl
      have hFc := va_free (wc := [(am, .inr (0, [.int (I3 th), .int (I3 mn), .ref as_, .ref av, .ref aw, .int (I3 sm), .int (I3 wd), .int (I3 lp), .int (I3 mp), .int (I3 re)])), (as_, .inl (dA 0, 60, .inl (iA SG))), (av, .inl (dA 1, 960, .inr (.inl (lA VL)))), (aw, .inl (dA 1, 1024, .inr (.inl (lA W1_53))))]) hD hS hA [0, 1, 2, 3] rfl
      refine va_calli (va_runV (As := [.int (I3 z_58), .int (I3 2)]) (rest := []) ⟨hx, hb, hml, hown, hts⟩ (metX8_make l dC dI dA am as_ av aw H.size th mn sm wd lp mp re SG VL W1_53 z_58 2 h_12 h_13 h_14 h_15 h_16 h_17 h_18) (cwV 2 hts (lw_V q964 q966 qs21 q66 q967) rfl rfl rfl (by decide +kernel) ⟨Nat.le_of_ble_eq_true rfl, Nat.le_of_ble_eq_true rfl⟩) ⟨fun a U g mk q => by obtain ⟨q0, q1, qP, qK, qD⟩ := q; exact ⟨q0, q1, qP, va_K.moved (u := U) (U := U.calling g mk a) (Vm.Alike.refl U.vm) qK, qD⟩, va_recv hK hPc (ci := 0) (q0 := 0) rfl rfl, fun U hU hW => ⟨rfl, by rw [hU], by rw [hU]; exact hPc, va_K.moved hW.alike hK, hDc.weaken (fun _ _ _ _ => trivial)⟩⟩ rfl rfl hl.1 rfl (lv_room (Nat.le_of_ble_eq_true rfl)) dX8_real_62 ⟨Nat.le_of_ble_eq_true rfl, Nat.le_of_ble_eq_true rfl⟩) hS (fun q _ h => hFc q h) hFc (fun r_62 u t H1 locs ht hvm hw hB hz1 hk1 hS => ?_)
      obtain ⟨z_62, th1_62, mn1_62, SG1_62, VL1_62, W1_62⟩ := u
      obtain ⟨rfl, p0_62, p1_62, p2_62, p3_62⟩ : r_62 = I3 z_62 ∧ (Dg W1_62) ∧ (Dg VL1_62) ∧ (0 ≤ mn1_62 ∧ mn1_62 ≤ 60) ∧ (Mde mn SG VL z_58 (rv W1_53 0) (rv W1_53 1) (2 : Int) z_62 th1_62 mn1_62 SG1_62 VL1_62) := hw
      obtain ⟨hP1, hK1, hD1⟩ := hB
      rw [ht] at hP1
      obtain ⟨hP, hD⟩ := va_join (wr := []) (w1 := [(am, .inr (0, [.int (I3 th1_62), .int (I3 mn1_62), .ref as_, .ref av, .ref aw, .int (I3 sm), .int (I3 wd), .int (I3 lp), .int (I3 mp), .int (I3 re)])), (as_, .inl (dA 0, 60, .inl (iA SG1_62))), (av, .inl (dA 1, 960, .inr (.inl (lA VL1_62)))), (aw, .inl (dA 1, 1024, .inr (.inl (lA W1_62))))]) hP hD [0, 1, 2, 3] [] rfl rfl (by decide) (by decide) hk1 hFc hP1 hD1
      generalize H1 = H at hP hS ⊢
      have hP : va_P (dC, dI) vwCl [(am, .inr (0, [.int (I3 th1_62), .int (I3 mn1_62), .ref as_, .ref av, .ref aw, .int (I3 sm), .int (I3 wd), .int (I3 lp), .int (I3 mp), .int (I3 re)])), (as_, .inl (dA 0, 60, .inl (iA SG1_62))), (av, .inl (dA 1, 960, .inr (.inl (lA VL1_62)))), (aw, .inl (dA 1, 1024, .inr (.inl (lA W1_62))))] H := hP
      have hD : va_D A [(am, .inr (0, [.int (I3 th1_62), .int (I3 mn1_62), .ref as_, .ref av, .ref aw, .int (I3 sm), .int (I3 wd), .int (I3 lp), .int (I3 mp), .int (I3 re)])), (as_, .inl (dA 0, 60, .inl (iA SG1_62))), (av, .inl (dA 1, 960, .inr (.inl (lA VL1_62)))), (aw, .inl (dA 1, 1024, .inr (.inl (lA W1_62))))] := hD
      have o_19 : Dg W1_62 := by first | assumption | omega | (constructor <;> omega)
      have o_20 : MI mn1_62 SG1_62 VL1_62 := by exact MI_Mde hI (by rw [g1]; exact Nat.ne_of_gt (Nat.two_pow_pos _)) (by omega) (fun q => by omega) p1_62 p2_62 p3_62
      have o_21 : eX v = 2047 → Fld mn SG VL 1 z_62 th1_62 mn1_62 SG1_62 VL1_62 := by intro q; omega
      have o_22 : eX v ≠ 2047 → Mde mn SG VL (sgX v) ((fX v).toNat * 2 ^ (plX v).toNat) (2 ^ (-plX v).toNat) 2 z_62 th1_62 mn1_62 SG1_62 VL1_62 := by intro q; rw [← p0_58, ← g0, ← g1]; exact p3_62
      exact W.iret (v := I3 z_62) hx hb hr (fun t ht hW => ⟨⟨I3 z_62, (z_62, th1_62, mn1_62, SG1_62, VL1_62, W1_62), rfl, ⟨rfl, ⟨o_19, o_20, o_21, o_22⟩⟩, by rw [ht]; exact hP, va_K.moved hW.alike hK, hD⟩, hS.F ht⟩) hS.2.2 dX8_real_65
    · skip
      refine lv_aload_n hx hb dX8_real_40 rfl (lv_at hl 1 rfl) ?_
      refine lv_iconst (v := I3 (0)) hx hb dX8_real_41 rfl ?_
      refine lv_iload_n hx hb dX8_real_42 rfl (lv_at hl 0 rfl) ?_
      have h_23 : 0 ≤ (0 : Int) ∧ (0 : Int) < 16 := by first | assumption | omega | (constructor <;> omega)
      have h_24 : 0 ≤ z_32 ∧ z_32 < 2048 := by first | assumption | omega | (constructor <;> omega)
      have h_25 : Dg W1_28 := by first | assumption | omega | (constructor <;> omega)
      have hPc := hP.sub (ws' := [(am, .inr (0, [.int (I3 th), .int (I3 mn), .ref as_, .ref av, .ref aw, .int (I3 sm), .int (I3 wd), .int (I3 lp), .int (I3 mp), .int (I3 re)])), (as_, .inl (dA 0, 60, .inl (iA SG))), (av, .inl (dA 1, 960, .inr (.inl (lA VL)))), (aw, .inl (dA 1, 1024, .inr (.inl (lA W1_28))))]) [0, 1, 2, 3] rfl
      have hDc := hD.sub (ws' := [(am, .inr (0, [.int (I3 th), .int (I3 mn), .ref as_, .ref av, .ref aw, .int (I3 sm), .int (I3 wd), .int (I3 lp), .int (I3 mp), .int (I3 re)])), (as_, .inl (dA 0, 60, .inl (iA SG))), (av, .inl (dA 1, 960, .inr (.inl (lA VL)))), (aw, .inl (dA 1, 1024, .inr (.inl (lA W1_28))))]) [0, 1, 2, 3] (by decide) rfl
      have hFc := va_free (wc := [(am, .inr (0, [.int (I3 th), .int (I3 mn), .ref as_, .ref av, .ref aw, .int (I3 sm), .int (I3 wd), .int (I3 lp), .int (I3 mp), .int (I3 re)])), (as_, .inl (dA 0, 60, .inl (iA SG))), (av, .inl (dA 1, 960, .inr (.inl (lA VL)))), (aw, .inl (dA 1, 1024, .inr (.inl (lA W1_28))))]) hD hS hA [0, 1, 2, 3] rfl
      refine va_callv (va_runV (As := [.int (I3 0), .int (I3 z_32)]) (rest := []) ⟨hx, hb, hml, hown, hts⟩ (metX8_up l dC dI dA am as_ av aw H.size th mn sm wd lp mp re SG VL W1_28 0 z_32 h_23 h_24 h_25) (cwV 2 hts (lw_V q1000 q1002 qs30 q66 q1003) rfl rfl rfl (by decide +kernel) ⟨Nat.le_of_ble_eq_true rfl, Nat.le_of_ble_eq_true rfl⟩) ⟨fun a U g mk q => by obtain ⟨q0, q1, qP, qK, qD⟩ := q; exact ⟨q0, q1, qP, va_K.moved (u := U) (U := U.calling g mk a) (Vm.Alike.refl U.vm) qK, qD⟩, va_recv hK hPc (ci := 0) (q0 := 0) rfl rfl, fun U hU hW => ⟨rfl, by rw [hU], by rw [hU]; exact hPc, va_K.moved hW.alike hK, hDc.weaken (fun _ _ _ _ => trivial)⟩⟩ rfl rfl hl.1 rfl (lv_room (Nat.le_of_ble_eq_true rfl)) dX8_real_43 ⟨Nat.le_of_ble_eq_true rfl, Nat.le_of_ble_eq_true rfl⟩) hS (fun q _ h => hFc q h) hFc (fun u t H1 locs ht hvm hw hB hz1 hk1 hS => ?_)
      obtain ⟨W1_43, rfl⟩ : ∃ z, z = u := ⟨_, rfl⟩
      obtain ⟨p0_43, p1_43, p2_43⟩ : (Dg W1_43) ∧ (Fr W1_28 W1_43 (0 : Int)) ∧ (rv W1_43 (0 : Int) = rv W1_28 (0 : Int) * 2 ^ z_32.toNat % BN) := hw
      obtain ⟨hP1, hK1, hD1⟩ := hB
      rw [ht] at hP1
      obtain ⟨hP, hD⟩ := va_join (wr := []) (w1 := [(am, .inr (0, [.int (I3 th), .int (I3 mn), .ref as_, .ref av, .ref aw, .int (I3 sm), .int (I3 wd), .int (I3 lp), .int (I3 mp), .int (I3 re)])), (as_, .inl (dA 0, 60, .inl (iA SG))), (av, .inl (dA 1, 960, .inr (.inl (lA VL)))), (aw, .inl (dA 1, 1024, .inr (.inl (lA W1_43))))]) hP hD [0, 1, 2, 3] [] rfl rfl (by decide) (by decide) hk1 hFc hP1 hD1
      generalize H1 = H at hP hS ⊢
      have hP : va_P (dC, dI) vwCl [(am, .inr (0, [.int (I3 th), .int (I3 mn), .ref as_, .ref av, .ref aw, .int (I3 sm), .int (I3 wd), .int (I3 lp), .int (I3 mp), .int (I3 re)])), (as_, .inl (dA 0, 60, .inl (iA SG))), (av, .inl (dA 1, 960, .inr (.inl (lA VL)))), (aw, .inl (dA 1, 1024, .inr (.inl (lA W1_43))))] H := hP
      have hD : va_D A [(am, .inr (0, [.int (I3 th), .int (I3 mn), .ref as_, .ref av, .ref aw, .int (I3 sm), .int (I3 wd), .int (I3 lp), .int (I3 mp), .int (I3 re)])), (as_, .inl (dA 0, 60, .inl (iA SG))), (av, .inl (dA 1, 960, .inr (.inl (lA VL)))), (aw, .inl (dA 1, 1024, .inr (.inl (lA W1_43))))] := hD
      have g0 : rv W1_43 0 = (fX v).toNat * 2 ^ (plX v).toNat := by rw [p2_43, f0, p0_32]; exact mod_BN (up_lt (k := 53) (by omega) (by omega))
      have g1 : rv W1_43 1 = 2 ^ (-plX v).toNat := by rw [Fr_rv p1_43 (by decide), f1, show (-plX v).toNat = 0 by omega]
      have g2 : 2 ^ (-plX v).toNat = 1 := by rw [show (-plX v).toNat = 0 by omega]
      refine lv_goto (tgt := 56) hx hb dX8_real_46 (by decide) ?_
      refine lv_aload_n hx hb dX8_real_56 rfl (lv_at hl 1 rfl) ?_
      refine lv_lload_n hx hb dX8_real_57 rfl (lv_at hl 2 rfl) ?_
      have h_26 : In6 v := by first | assumption | omega | (constructor <;> omega)
      have hPc := hP.sub (ws' := []) [] rfl
      have hDc := hD.sub (ws' := []) [] (by decide) rfl
      have hFc := va_free (wc := []) hD hS hA [] rfl
      refine va_calli (va_runS (As := [.long (L6 v)]) (rest := [.ref am]) ⟨hx, hb, hml, hown, hts⟩ (metX8_signOf l dC dI dA H.size v h_26) (va_cwS 1 hts (lw_S q1043 q1044 q66 q1045) rfl rfl rfl (by decide +kernel) ⟨Nat.le_of_ble_eq_true rfl, Nat.le_of_ble_eq_true rfl⟩) ⟨fun a U g mk q => by obtain ⟨q0, q1, qP, qK, qD⟩ := q; exact ⟨q0, q1, qP, va_K.moved (u := U) (U := U.calling g mk a) (Vm.Alike.refl U.vm) qK, qD⟩, fun U hU hW => ⟨rfl, by rw [hU], by rw [hU]; exact hPc, va_K.moved hW.alike hK, hDc.weaken (fun _ _ _ _ => trivial)⟩⟩ rfl rfl hl.1 rfl (lv_room (Nat.le_of_ble_eq_true rfl)) dX8_real_58 ⟨Nat.le_of_ble_eq_true rfl, Nat.le_of_ble_eq_true rfl⟩) hS (fun q _ h => hFc q h) hFc (fun r_58 u t H1 locs ht hvm hw hB hz1 hk1 hS => ?_)
      obtain ⟨z_58, rfl⟩ : ∃ z, z = u := ⟨_, rfl⟩
      obtain ⟨rfl, p0_58⟩ : r_58 = I3 z_58 ∧ (z_58 = sgX v) := hw
      obtain ⟨hP1, hK1, hD1⟩ := hB
      rw [ht] at hP1
      obtain ⟨hP, hD⟩ := va_join (wr := [(am, .inr (0, [.int (I3 th), .int (I3 mn), .ref as_, .ref av, .ref aw, .int (I3 sm), .int (I3 wd), .int (I3 lp), .int (I3 mp), .int (I3 re)])), (as_, .inl (dA 0, 60, .inl (iA SG))), (av, .inl (dA 1, 960, .inr (.inl (lA VL)))), (aw, .inl (dA 1, 1024, .inr (.inl (lA W1_43))))]) (w1 := []) hP hD [] [0, 1, 2, 3] rfl rfl (by decide) (by decide) hk1 hFc hP1 hD1
      generalize H1 = H at hP hS ⊢
      have hP : va_P (dC, dI) vwCl [(am, .inr (0, [.int (I3 th), .int (I3 mn), .ref as_, .ref av, .ref aw, .int (I3 sm), .int (I3 wd), .int (I3 lp), .int (I3 mp), .int (I3 re)])), (as_, .inl (dA 0, 60, .inl (iA SG))), (av, .inl (dA 1, 960, .inr (.inl (lA VL)))), (aw, .inl (dA 1, 1024, .inr (.inl (lA W1_43))))] H := hP
      have hD : va_D A [(am, .inr (0, [.int (I3 th), .int (I3 mn), .ref as_, .ref av, .ref aw, .int (I3 sm), .int (I3 wd), .int (I3 lp), .int (I3 mp), .int (I3 re)])), (as_, .inl (dA 0, 60, .inl (iA SG))), (av, .inl (dA 1, 960, .inr (.inl (lA VL)))), (aw, .inl (dA 1, 1024, .inr (.inl (lA W1_43))))] := hD
      refine lv_iconst (v := I3 (2)) hx hb dX8_real_61 rfl ?_
      have h_27 : Dg W1_43 := by first | assumption | omega | (constructor <;> omega)
      have h_28 : Dg VL := by exact hV
      have h_29 : 0 ≤ mn ∧ mn ≤ 60 := by exact hmn
      have h_30 : In3 z_58 := by constructor <;> omega
      have h_31 : In3 (2 : Int) := by first | assumption | omega | (constructor <;> omega)
      have h_32 : rv W1_43 1 ≠ 0 := by rw [g1]; exact Nat.ne_of_gt (Nat.two_pow_pos _)
      have h_33 : 2 * rv W1_43 1 ≤ BN := by have := BN_64; rw [g1]; omega
      have hPc := hP.sub (ws' := [(am, .inr (0, [.int (I3 th), .int (I3 mn), .ref as_, .ref av, .ref aw, .int (I3 sm), .int (I3 wd), .int (I3 lp), .int (I3 mp), .int (I3 re)])), (as_, .inl (dA 0, 60, .inl (iA SG))), (av, .inl (dA 1, 960, .inr (.inl (lA VL)))), (aw, .inl (dA 1, 1024, .inr (.inl (lA W1_43))))]) [0, 1, 2, 3] rfl
      have hDc := hD.sub (ws' := [(am, .inr (0, [.int (I3 th), .int (I3 mn), .ref as_, .ref av, .ref aw, .int (I3 sm), .int (I3 wd), .int (I3 lp), .int (I3 mp), .int (I3 re)])), (as_, .inl (dA 0, 60, .inl (iA SG))), (av, .inl (dA 1, 960, .inr (.inl (lA VL)))), (aw, .inl (dA 1, 1024, .inr (.inl (lA W1_43))))]) [0, 1, 2, 3] (by decide) rfl
      have hFc := va_free (wc := [(am, .inr (0, [.int (I3 th), .int (I3 mn), .ref as_, .ref av, .ref aw, .int (I3 sm), .int (I3 wd), .int (I3 lp), .int (I3 mp), .int (I3 re)])), (as_, .inl (dA 0, 60, .inl (iA SG))), (av, .inl (dA 1, 960, .inr (.inl (lA VL)))), (aw, .inl (dA 1, 1024, .inr (.inl (lA W1_43))))]) hD hS hA [0, 1, 2, 3] rfl
      refine va_calli (va_runV (As := [.int (I3 z_58), .int (I3 2)]) (rest := []) ⟨hx, hb, hml, hown, hts⟩ (metX8_make l dC dI dA am as_ av aw H.size th mn sm wd lp mp re SG VL W1_43 z_58 2 h_27 h_28 h_29 h_30 h_31 h_32 h_33) (cwV 2 hts (lw_V q964 q966 qs21 q66 q967) rfl rfl rfl (by decide +kernel) ⟨Nat.le_of_ble_eq_true rfl, Nat.le_of_ble_eq_true rfl⟩) ⟨fun a U g mk q => by obtain ⟨q0, q1, qP, qK, qD⟩ := q; exact ⟨q0, q1, qP, va_K.moved (u := U) (U := U.calling g mk a) (Vm.Alike.refl U.vm) qK, qD⟩, va_recv hK hPc (ci := 0) (q0 := 0) rfl rfl, fun U hU hW => ⟨rfl, by rw [hU], by rw [hU]; exact hPc, va_K.moved hW.alike hK, hDc.weaken (fun _ _ _ _ => trivial)⟩⟩ rfl rfl hl.1 rfl (lv_room (Nat.le_of_ble_eq_true rfl)) dX8_real_62 ⟨Nat.le_of_ble_eq_true rfl, Nat.le_of_ble_eq_true rfl⟩) hS (fun q _ h => hFc q h) hFc (fun r_62 u t H1 locs ht hvm hw hB hz1 hk1 hS => ?_)
      obtain ⟨z_62, th1_62, mn1_62, SG1_62, VL1_62, W1_62⟩ := u
      obtain ⟨rfl, p0_62, p1_62, p2_62, p3_62⟩ : r_62 = I3 z_62 ∧ (Dg W1_62) ∧ (Dg VL1_62) ∧ (0 ≤ mn1_62 ∧ mn1_62 ≤ 60) ∧ (Mde mn SG VL z_58 (rv W1_43 0) (rv W1_43 1) (2 : Int) z_62 th1_62 mn1_62 SG1_62 VL1_62) := hw
      obtain ⟨hP1, hK1, hD1⟩ := hB
      rw [ht] at hP1
      obtain ⟨hP, hD⟩ := va_join (wr := []) (w1 := [(am, .inr (0, [.int (I3 th1_62), .int (I3 mn1_62), .ref as_, .ref av, .ref aw, .int (I3 sm), .int (I3 wd), .int (I3 lp), .int (I3 mp), .int (I3 re)])), (as_, .inl (dA 0, 60, .inl (iA SG1_62))), (av, .inl (dA 1, 960, .inr (.inl (lA VL1_62)))), (aw, .inl (dA 1, 1024, .inr (.inl (lA W1_62))))]) hP hD [0, 1, 2, 3] [] rfl rfl (by decide) (by decide) hk1 hFc hP1 hD1
      generalize H1 = H at hP hS ⊢
      have hP : va_P (dC, dI) vwCl [(am, .inr (0, [.int (I3 th1_62), .int (I3 mn1_62), .ref as_, .ref av, .ref aw, .int (I3 sm), .int (I3 wd), .int (I3 lp), .int (I3 mp), .int (I3 re)])), (as_, .inl (dA 0, 60, .inl (iA SG1_62))), (av, .inl (dA 1, 960, .inr (.inl (lA VL1_62)))), (aw, .inl (dA 1, 1024, .inr (.inl (lA W1_62))))] H := hP
      have hD : va_D A [(am, .inr (0, [.int (I3 th1_62), .int (I3 mn1_62), .ref as_, .ref av, .ref aw, .int (I3 sm), .int (I3 wd), .int (I3 lp), .int (I3 mp), .int (I3 re)])), (as_, .inl (dA 0, 60, .inl (iA SG1_62))), (av, .inl (dA 1, 960, .inr (.inl (lA VL1_62)))), (aw, .inl (dA 1, 1024, .inr (.inl (lA W1_62))))] := hD
      have o_34 : Dg W1_62 := by first | assumption | omega | (constructor <;> omega)
      have o_35 : MI mn1_62 SG1_62 VL1_62 := by exact MI_Mde hI (by rw [g1]; exact Nat.ne_of_gt (Nat.two_pow_pos _)) (by omega) (fun q => by omega) p1_62 p2_62 p3_62
      have o_36 : eX v = 2047 → Fld mn SG VL 1 z_62 th1_62 mn1_62 SG1_62 VL1_62 := by intro q; omega
      have o_37 : eX v ≠ 2047 → Mde mn SG VL (sgX v) ((fX v).toNat * 2 ^ (plX v).toNat) (2 ^ (-plX v).toNat) 2 z_62 th1_62 mn1_62 SG1_62 VL1_62 := by intro q; rw [← p0_58, ← g0, ← g1]; exact p3_62
      exact W.iret (v := I3 z_62) hx hb hr (fun t ht hW => ⟨⟨I3 z_62, (z_62, th1_62, mn1_62, SG1_62, VL1_62, W1_62), rfl, ⟨rfl, ⟨o_34, o_35, o_36, o_37⟩⟩, by rw [ht]; exact hP, va_K.moved hW.alike hK, hD⟩, hS.F ht⟩) hS.2.2 dX8_real_65
  · skip
    refine lv_aload_n hx hb dX8_real_10 rfl (lv_at hl 0 rfl) ?_
    refine lv_iconst (v := I3 (1)) hx hb dX8_real_11 rfl ?_
    have h_38 : In3 (1 : Int) := by first | assumption | omega | (constructor <;> omega)
    have hPc := hP.sub (ws' := [(am, .inr (0, [.int (I3 th), .int (I3 mn), .ref as_, .ref av, .ref aw, .int (I3 sm), .int (I3 wd), .int (I3 lp), .int (I3 mp), .int (I3 re)])), (as_, .inl (dA 0, 60, .inl (iA SG))), (av, .inl (dA 1, 960, .inr (.inl (lA VL)))), (aw, .inl (dA 1, 1024, .inr (.inl (lA wf))))]) [0, 1, 2, 3] rfl
    have hDc := hD.sub (ws' := [(am, .inr (0, [.int (I3 th), .int (I3 mn), .ref as_, .ref av, .ref aw, .int (I3 sm), .int (I3 wd), .int (I3 lp), .int (I3 mp), .int (I3 re)])), (as_, .inl (dA 0, 60, .inl (iA SG))), (av, .inl (dA 1, 960, .inr (.inl (lA VL)))), (aw, .inl (dA 1, 1024, .inr (.inl (lA wf))))]) [0, 1, 2, 3] (by decide) rfl
    have hFc := va_free (wc := [(am, .inr (0, [.int (I3 th), .int (I3 mn), .ref as_, .ref av, .ref aw, .int (I3 sm), .int (I3 wd), .int (I3 lp), .int (I3 mp), .int (I3 re)])), (as_, .inl (dA 0, 60, .inl (iA SG))), (av, .inl (dA 1, 960, .inr (.inl (lA VL)))), (aw, .inl (dA 1, 1024, .inr (.inl (lA wf))))]) hD hS hA [0, 1, 2, 3] rfl
    refine va_calli (va_runV (As := [.int (I3 1)]) (rest := []) ⟨hx, hb, hml, hown, hts⟩ (metX8_fails l dC dI dA am as_ av aw H.size th mn sm wd lp mp re SG VL wf 1 h_38) (cwV 1 hts (lw_V q1016 q1018 qs34 q66 q1019) rfl rfl rfl (by decide +kernel) ⟨Nat.le_of_ble_eq_true rfl, Nat.le_of_ble_eq_true rfl⟩) ⟨fun a U g mk q => by obtain ⟨q0, q1, qP, qK, qD⟩ := q; exact ⟨q0, q1, qP, va_K.moved (u := U) (U := U.calling g mk a) (Vm.Alike.refl U.vm) qK, qD⟩, va_recv hK hPc (ci := 0) (q0 := 0) rfl rfl, fun U hU hW => ⟨rfl, by rw [hU], by rw [hU]; exact hPc, va_K.moved hW.alike hK, hDc.weaken (fun _ _ _ _ => trivial)⟩⟩ rfl rfl hl.1 rfl (lv_room (Nat.le_of_ble_eq_true rfl)) dX8_real_12 ⟨Nat.le_of_ble_eq_true rfl, Nat.le_of_ble_eq_true rfl⟩) hS (fun q _ h => hFc q h) hFc (fun r_12 u t H1 locs ht hvm hw hB hz1 hk1 hS => ?_)
    obtain ⟨z_12, th1_12⟩ := u
    obtain ⟨rfl, p0_12, p1_12⟩ : r_12 = I3 z_12 ∧ (z_12 = 0) ∧ (th1_12 = (1 : Int)) := hw
    obtain ⟨hP1, hK1, hD1⟩ := hB
    rw [ht] at hP1
    obtain ⟨hP, hD⟩ := va_join (wr := []) (w1 := [(am, .inr (0, [.int (I3 th1_12), .int (I3 mn), .ref as_, .ref av, .ref aw, .int (I3 sm), .int (I3 wd), .int (I3 lp), .int (I3 mp), .int (I3 re)])), (as_, .inl (dA 0, 60, .inl (iA SG))), (av, .inl (dA 1, 960, .inr (.inl (lA VL)))), (aw, .inl (dA 1, 1024, .inr (.inl (lA wf))))]) hP hD [0, 1, 2, 3] [] rfl rfl (by decide) (by decide) hk1 hFc hP1 hD1
    generalize H1 = H at hP hS ⊢
    have hP : va_P (dC, dI) vwCl [(am, .inr (0, [.int (I3 th1_12), .int (I3 mn), .ref as_, .ref av, .ref aw, .int (I3 sm), .int (I3 wd), .int (I3 lp), .int (I3 mp), .int (I3 re)])), (as_, .inl (dA 0, 60, .inl (iA SG))), (av, .inl (dA 1, 960, .inr (.inl (lA VL)))), (aw, .inl (dA 1, 1024, .inr (.inl (lA wf))))] H := hP
    have hD : va_D A [(am, .inr (0, [.int (I3 th1_12), .int (I3 mn), .ref as_, .ref av, .ref aw, .int (I3 sm), .int (I3 wd), .int (I3 lp), .int (I3 mp), .int (I3 re)])), (as_, .inl (dA 0, 60, .inl (iA SG))), (av, .inl (dA 1, 960, .inr (.inl (lA VL)))), (aw, .inl (dA 1, 1024, .inr (.inl (lA wf))))] := hD
    have o_39 : Dg wf := by first | assumption | omega | (constructor <;> omega)
    have o_40 : MI mn SG VL := by exact hI
    have o_41 : eX v = 2047 → Fld mn SG VL 1 z_12 th1_12 mn SG VL := by intro q; exact ⟨p0_12, p1_12, rfl, rfl, rfl⟩
    have o_42 : eX v ≠ 2047 → Mde mn SG VL (sgX v) ((fX v).toNat * 2 ^ (plX v).toNat) (2 ^ (-plX v).toNat) 2 z_12 th1_12 mn SG VL := by intro q; omega
    exact W.iret (v := I3 z_12) hx hb hr (fun t ht hW => ⟨⟨I3 z_12, (z_12, th1_12, mn, SG, VL, wf), rfl, ⟨rfl, ⟨o_39, o_40, o_41, o_42⟩⟩, by rw [ht]; exact hP, va_K.moved hW.alike hK, hD⟩, hS.F ht⟩) hS.2.2 dX8_real_15
