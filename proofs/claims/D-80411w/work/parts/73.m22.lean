/-! the model: floatBits -/
set_option maxRecDepth 100000
abbrev BmetX8_floatBits (dC : Nat → ClassId) (dI : Nat → Nat → Nat) (dA : Nat → ClassId) (A : Nat → Prop) (am : Nat) (as_ : Nat) (av : Nat) (aw : Nat) (th : Int) (mn : Int) (sm : Int) (wd : Int) (lp : Int) (mp : Int) (re : Int) (SG : Int → Int) (VL : Int → Int) (wf : Int → Int) (v : Int) : Int × (Int → Int) × Int × Int × Int → State → Prop := fun u t => (fun (u : Int × (Int → Int) × Int × Int × Int) => (fun (z : Int) (W1 : Int → Int) (wd1 : Int) (lp1 : Int) (mp1 : Int) => va_P (dC, dI) vwCl [(am, .inr (0, [.int (I3 th), .int (I3 mn), .ref as_, .ref av, .ref aw, .int (I3 sm), .int (I3 wd1), .int (I3 lp1), .int (I3 mp1), .int (I3 re)])), (as_, .inl (dA 0, 60, .inl (iA SG))), (av, .inl (dA 1, 960, .inr (.inl (lA VL)))), (aw, .inl (dA 1, 1024, .inr (.inl (lA W1))))] t.heap ∧ va_K (dC, dI) vwCl (tyA dA) t ∧ va_D A [(am, .inr (0, [.int (I3 th), .int (I3 mn), .ref as_, .ref av, .ref aw, .int (I3 sm), .int (I3 wd1), .int (I3 lp1), .int (I3 mp1), .int (I3 re)])), (as_, .inl (dA 0, 60, .inl (iA SG))), (av, .inl (dA 1, 960, .inr (.inl (lA VL)))), (aw, .inl (dA 1, 1024, .inr (.inl (lA W1))))]) u.1 u.2.1 u.2.2.1 u.2.2.2.1 u.2.2.2.2) u
abbrev QmetX8_floatBits (dC : Nat → ClassId) (dI : Nat → Nat → Nat) (dA : Nat → ClassId) (A : Nat → Prop) (am : Nat) (as_ : Nat) (av : Nat) (aw : Nat) (th : Int) (mn : Int) (sm : Int) (wd : Int) (lp : Int) (mp : Int) (re : Int) (SG : Int → Int) (VL : Int → Int) (wf : Int → Int) (v : Int) := va_Ql (fun (rt_ : Int64) => fun (u : Int × (Int → Int) × Int × Int × Int) => (fun (z : Int) (W1 : Int → Int) (wd1 : Int) (lp1 : Int) (mp1 : Int) => rt_ = L6 z ∧ (Dg W1) ∧ (fbX v z)) u.1 u.2.1 u.2.2.1 u.2.2.2.1 u.2.2.2.2) (BmetX8_floatBits dC dI dA A am as_ av aw th mn sm wd lp mp re SG VL wf v) A
set_option maxHeartbeats 1000000 in
set_option maxRecDepth 100000 in
/-- floatBits -/
theorem metX8_floatBits (l : Launch) (dC : Nat → ClassId) (dI : Nat → Nat → Nat) (dA : Nat → ClassId) (am : Nat) (as_ : Nat) (av : Nat) (aw : Nat) (sz : Nat) (th : Int) (mn : Int) (sm : Int) (wd : Int) (lp : Int) (mp : Int) (re : Int) (SG : Int → Int) (VL : Int → Int) (wf : Int → Int) (v : Int) (hW : Dg wf) (hv : In6 v) : Met l yX8_floatBits (ws_ yX8_floatBits cX8_floatBits 5 (some .long)) ({ frames := 5, cells := 0, slots := 0, locals := 200 }) (va_Pc [.ref am, .long (L6 v)] (fun U => U.heap.size = sz ∧ va_P (dC, dI) vwCl [(am, .inr (0, [.int (I3 th), .int (I3 mn), .ref as_, .ref av, .ref aw, .int (I3 sm), .int (I3 wd), .int (I3 lp), .int (I3 mp), .int (I3 re)])), (as_, .inl (dA 0, 60, .inl (iA SG))), (av, .inl (dA 1, 960, .inr (.inl (lA VL)))), (aw, .inl (dA 1, 1024, .inr (.inl (lA wf))))] U.heap ∧ va_K (dC, dI) vwCl (tyA dA) U ∧ va_D (fun _ => True) [(am, .inr (0, [.int (I3 th), .int (I3 mn), .ref as_, .ref av, .ref aw, .int (I3 sm), .int (I3 wd), .int (I3 lp), .int (I3 mp), .int (I3 re)])), (as_, .inl (dA 0, 60, .inl (iA SG))), (av, .inl (dA 1, 960, .inr (.inl (lA VL)))), (aw, .inl (dA 1, 1024, .inr (.inl (lA wf))))])) (QmetX8_floatBits dC dI dA (va_A [(am, .inr (0, [.int (I3 th), .int (I3 mn), .ref as_, .ref av, .ref aw, .int (I3 sm), .int (I3 wd), .int (I3 lp), .int (I3 mp), .int (I3 re)])), (as_, .inl (dA 0, 60, .inl (iA SG))), (av, .inl (dA 1, 960, .inr (.inl (lA VL)))), (aw, .inl (dA 1, 1024, .inr (.inl (lA wf))))] sz) am as_ av aw th mn sm wd lp mp re SG VL wf v) 0 0 (va_A [(am, .inr (0, [.int (I3 th), .int (I3 mn), .ref as_, .ref av, .ref aw, .int (I3 sm), .int (I3 wd), .int (I3 lp), .int (I3 mp), .int (I3 re)])), (as_, .inl (dA 0, 60, .inl (iA SG))), (av, .inl (dA 1, 960, .inr (.inl (lA VL)))), (aw, .inl (dA 1, 1024, .inr (.inl (lA wf))))] sz) := by
  refine Met.ofW (cc := cX8_floatBits) (maxL := 5) (ret := (some .long)) (by decide) rfl ?_
  intro p e s m args below meth c s₁ B hml hv
  obtain ⟨rfl, hsz, hP, hK, hD0⟩ := hv
  have hx := B.exec
  have hb := B.bytes
  have hr := B.returns
  have hts := atoms_spec (ws := (ws_ yX8_floatBits cX8_floatBits 5 (some .long))) B.pre
  have hts : ∀ w ∈ lw_all, w.before _ s = true := fun w h => hts w (List.mem_cons_of_mem _ h)
  have hown : s.vm.findClass RX8 = some m.cls := findClass_of_methodNamed B.named
  have hlocks := B.notSynchronized
  subst hsz
  have hD := hD0.self (sz := s.heap.size)
  generalize hAe : va_A [(am, .inr (0, [.int (I3 th), .int (I3 mn), .ref as_, .ref av, .ref aw, .int (I3 sm), .int (I3 wd), .int (I3 lp), .int (I3 mp), .int (I3 re)])), (as_, .inl (dA 0, 60, .inl (iA SG))), (av, .inl (dA 1, 960, .inr (.inl (lA VL)))), (aw, .inl (dA 1, 1024, .inr (.inl (lA wf))))] s.heap.size = A at hD ⊢
  have hA : ∀ q : Nat, s.heap.size ≤ q → A q := fun q h => by rw [← hAe]; exact Or.inr h
  have hS : va_S A s.heap s.heap [] := va_S.rf
  have hP : va_P (dC, dI) vwCl [(am, .inr (0, [.int (I3 th), .int (I3 mn), .ref as_, .ref av, .ref aw, .int (I3 sm), .int (I3 wd), .int (I3 lp), .int (I3 mp), .int (I3 re)])), (as_, .inl (dA 0, 60, .inl (iA SG))), (av, .inl (dA 1, 960, .inr (.inl (lA VL)))), (aw, .inl (dA 1, 1024, .inr (.inl (lA wf))))] s.heap := hP
  have hl := lv_entry ([.ref am, .long (L6 v)]) (n := 5) (Nat.le_of_ble_eq_true rfl)
  rw [lg_entry_eq]
  generalize (lg_sl ([.ref am, .long (L6 v)]) ++ List.replicate (5 - (lg_sl ([.ref am, .long (L6 v)])).length) Slot.unset).toArray = ls at hl ⊢
  have hl : lv_has ls 5 [(0, .ref am), (1, .long (L6 v))] := hl
  have cut_24 : ∀ (tt : Int), (¬ (eX v = 2047 ∧ pX v ≠ 0)) → (tt = if v < 0 then 2147483648 else 0) → ∀ (H : Heap) (locs : List Loc), va_P (dC, dI) vwCl [(am, .inr (0, [.int (I3 th), .int (I3 mn), .ref as_, .ref av, .ref aw, .int (I3 sm), .int (I3 wd), .int (I3 lp), .int (I3 mp), .int (I3 re)])), (as_, .inl (dA 0, 60, .inl (iA SG))), (av, .inl (dA 1, 960, .inr (.inl (lA VL)))), (aw, .inl (dA 1, 1024, .inr (.inl (lA wf))))] H → va_D A [(am, .inr (0, [.int (I3 th), .int (I3 mn), .ref as_, .ref av, .ref aw, .int (I3 sm), .int (I3 wd), .int (I3 lp), .int (I3 mp), .int (I3 re)])), (as_, .inl (dA 0, 60, .inl (iA SG))), (av, .inl (dA 1, 960, .inr (.inl (lA VL)))), (aw, .inl (dA 1, 1024, .inr (.inl (lA wf))))] → va_S A s.heap H locs → ∀ (ls : Array Slot), lv_has ls 5 [(0, .ref am), (1, .long (L6 v))] → W p l e (headSpec (ws_ yX8_floatBits cX8_floatBits 5 (some .long)) ({ frames := 5, cells := 0, slots := 0, locals := 200 })).room s m ([.ref am, .long (L6 v)] : List Value).toArray below meth c H locs 0 0 (MQ below (QmetX8_floatBits dC dI dA A am as_ av aw th mn sm wd lp mp re SG VL wf v) ([.ref am, .long (L6 v)] : List Value).toArray s 0 0 A) (F0 m 24 ls [.long (L6 tt)]) := by
    intro tt hno htt H locs hP hD hS ls hl
    have hx_ := eX_r v
    have hf_ := fX_r v
    have hp_ := plX_r v
    have hq_ := pX_r v
    refine lv_lstore_n (lv' := [(3, .long (L6 tt)), (0, .ref am), (1, .long (L6 v))]) hx hb dX8_floatBits_24 rfl hl (by decide) rfl (fun ls hl => ?_)
    refine lv_lload_n hx hb dX8_floatBits_25 rfl (lv_at hl 2 rfl) ?_
    have h_1 : In6 v := by first | assumption | omega | (constructor <;> omega)
    have hPc := hP.sub (ws' := []) [] rfl
    have hDc := hD.sub (ws' := []) [] (by decide) rfl
    have hFc := va_free (wc := []) hD hS hA [] rfl
    refine va_calli (va_runS (As := [.long (L6 v)]) (rest := []) ⟨hx, hb, hml, hown, hts⟩ (metX8_isInfinite l dC dI dA H.size v h_1) (va_cwS 1 hts (lw_S q1130 q1131 q66 q1132) rfl rfl rfl (by decide +kernel) ⟨Nat.le_of_ble_eq_true rfl, Nat.le_of_ble_eq_true rfl⟩) ⟨fun a U g mk q => by obtain ⟨q0, q1, qP, qK, qD⟩ := q; exact ⟨q0, q1, qP, va_K.moved (u := U) (U := U.calling g mk a) (Vm.Alike.refl U.vm) qK, qD⟩, fun U hU hW => ⟨rfl, by rw [hU], by rw [hU]; exact hPc, va_K.moved hW.alike hK, hDc.weaken (fun _ _ _ _ => trivial)⟩⟩ rfl rfl hl.1 rfl (lv_room (Nat.le_of_ble_eq_true rfl)) dX8_floatBits_26 ⟨Nat.le_of_ble_eq_true rfl, Nat.le_of_ble_eq_true rfl⟩) hS (fun q _ h => hFc q h) hFc (fun r_26 u t H1 locs ht hvm hw hB hz1 hk1 hS => ?_)
    obtain ⟨z_26, rfl⟩ : ∃ z, z = u := ⟨_, rfl⟩
    obtain ⟨rfl, p0_26⟩ : r_26 = I3 z_26 ∧ (z_26 = if eX v = 2047 ∧ pX v = 0 then 1 else 0) := hw
    obtain ⟨hP1, hK1, hD1⟩ := hB
    rw [ht] at hP1
    obtain ⟨hP, hD⟩ := va_join (wr := [(am, .inr (0, [.int (I3 th), .int (I3 mn), .ref as_, .ref av, .ref aw, .int (I3 sm), .int (I3 wd), .int (I3 lp), .int (I3 mp), .int (I3 re)])), (as_, .inl (dA 0, 60, .inl (iA SG))), (av, .inl (dA 1, 960, .inr (.inl (lA VL)))), (aw, .inl (dA 1, 1024, .inr (.inl (lA wf))))]) (w1 := []) hP hD [] [0, 1, 2, 3] rfl rfl (by decide) (by decide) hk1 hFc hP1 hD1
    generalize H1 = H at hP hS ⊢
    have hP : va_P (dC, dI) vwCl [(am, .inr (0, [.int (I3 th), .int (I3 mn), .ref as_, .ref av, .ref aw, .int (I3 sm), .int (I3 wd), .int (I3 lp), .int (I3 mp), .int (I3 re)])), (as_, .inl (dA 0, 60, .inl (iA SG))), (av, .inl (dA 1, 960, .inr (.inl (lA VL)))), (aw, .inl (dA 1, 1024, .inr (.inl (lA wf))))] H := hP
    have hD : va_D A [(am, .inr (0, [.int (I3 th), .int (I3 mn), .ref as_, .ref av, .ref aw, .int (I3 sm), .int (I3 wd), .int (I3 lp), .int (I3 mp), .int (I3 re)])), (as_, .inl (dA 0, 60, .inl (iA SG))), (av, .inl (dA 1, 960, .inr (.inl (lA VL)))), (aw, .inl (dA 1, 1024, .inr (.inl (lA wf))))] := hD
    have y_26 := b01 p0_26
    refine ix_if_eq (tgt := 40) hx hb (by first | assumption | decide | (constructor <;> omega)) dX8_floatBits_29 (by decide) (fun c_29 => ?_) (fun c_29 => ?_)
    · skip
      refine lv_aload_n hx hb dX8_floatBits_40 rfl (lv_at hl 1 rfl) ?_
      refine lv_lload_n hx hb dX8_floatBits_41 rfl (lv_at hl 2 rfl) ?_
      have h_2 : In6 v := by first | assumption | omega | (constructor <;> omega)
      have hPc := hP.sub (ws' := []) [] rfl
      have hDc := hD.sub (ws' := []) [] (by decide) rfl
      have hFc := va_free (wc := []) hD hS hA [] rfl
      refine va_calll (va_runS (As := [.long (L6 v)]) (rest := [.ref am]) ⟨hx, hb, hml, hown, hts⟩ (metX8_factor l dC dI dA H.size v h_2) (va_cwS 1 hts (lw_S q1032 q1033 q66 q1034) rfl rfl rfl (by decide +kernel) ⟨Nat.le_of_ble_eq_true rfl, Nat.le_of_ble_eq_true rfl⟩) ⟨fun a U g mk q => by obtain ⟨q0, q1, qP, qK, qD⟩ := q; exact ⟨q0, q1, qP, va_K.moved (u := U) (U := U.calling g mk a) (Vm.Alike.refl U.vm) qK, qD⟩, fun U hU hW => ⟨rfl, by rw [hU], by rw [hU]; exact hPc, va_K.moved hW.alike hK, hDc.weaken (fun _ _ _ _ => trivial)⟩⟩ rfl rfl hl.1 rfl (lv_room (Nat.le_of_ble_eq_true rfl)) dX8_floatBits_42 ⟨Nat.le_of_ble_eq_true rfl, Nat.le_of_ble_eq_true rfl⟩) hS (fun q _ h => hFc q h) hFc (fun r_42 u t H1 locs ht hvm hw hB hz1 hk1 hS => ?_)
      obtain ⟨z_42, rfl⟩ : ∃ z, z = u := ⟨_, rfl⟩
      obtain ⟨rfl, p0_42⟩ : r_42 = L6 z_42 ∧ (z_42 = fX v) := hw
      obtain ⟨hP1, hK1, hD1⟩ := hB
      rw [ht] at hP1
      obtain ⟨hP, hD⟩ := va_join (wr := [(am, .inr (0, [.int (I3 th), .int (I3 mn), .ref as_, .ref av, .ref aw, .int (I3 sm), .int (I3 wd), .int (I3 lp), .int (I3 mp), .int (I3 re)])), (as_, .inl (dA 0, 60, .inl (iA SG))), (av, .inl (dA 1, 960, .inr (.inl (lA VL)))), (aw, .inl (dA 1, 1024, .inr (.inl (lA wf))))]) (w1 := []) hP hD [] [0, 1, 2, 3] rfl rfl (by decide) (by decide) hk1 hFc hP1 hD1
      generalize H1 = H at hP hS ⊢
      have hP : va_P (dC, dI) vwCl [(am, .inr (0, [.int (I3 th), .int (I3 mn), .ref as_, .ref av, .ref aw, .int (I3 sm), .int (I3 wd), .int (I3 lp), .int (I3 mp), .int (I3 re)])), (as_, .inl (dA 0, 60, .inl (iA SG))), (av, .inl (dA 1, 960, .inr (.inl (lA VL)))), (aw, .inl (dA 1, 1024, .inr (.inl (lA wf))))] H := hP
      have hD : va_D A [(am, .inr (0, [.int (I3 th), .int (I3 mn), .ref as_, .ref av, .ref aw, .int (I3 sm), .int (I3 wd), .int (I3 lp), .int (I3 mp), .int (I3 re)])), (as_, .inl (dA 0, 60, .inl (iA SG))), (av, .inl (dA 1, 960, .inr (.inl (lA VL)))), (aw, .inl (dA 1, 1024, .inr (.inl (lA wf))))] := hD
      refine lv_lload_n hx hb dX8_floatBits_45 rfl (lv_at hl 2 rfl) ?_
      have h_3 : In6 v := by first | assumption | omega | (constructor <;> omega)
      have hPc := hP.sub (ws' := []) [] rfl
      have hDc := hD.sub (ws' := []) [] (by decide) rfl
      have hFc := va_free (wc := []) hD hS hA [] rfl
      refine va_calli (va_runS (As := [.long (L6 v)]) (rest := [.long (L6 z_42), .ref am]) ⟨hx, hb, hml, hown, hts⟩ (metX8_place l dC dI dA H.size v h_3) (va_cwS 1 hts (lw_S q1040 q1041 q66 q1042) rfl rfl rfl (by decide +kernel) ⟨Nat.le_of_ble_eq_true rfl, Nat.le_of_ble_eq_true rfl⟩) ⟨fun a U g mk q => by obtain ⟨q0, q1, qP, qK, qD⟩ := q; exact ⟨q0, q1, qP, va_K.moved (u := U) (U := U.calling g mk a) (Vm.Alike.refl U.vm) qK, qD⟩, fun U hU hW => ⟨rfl, by rw [hU], by rw [hU]; exact hPc, va_K.moved hW.alike hK, hDc.weaken (fun _ _ _ _ => trivial)⟩⟩ rfl rfl hl.1 rfl (lv_room (Nat.le_of_ble_eq_true rfl)) dX8_floatBits_46 ⟨Nat.le_of_ble_eq_true rfl, Nat.le_of_ble_eq_true rfl⟩) hS (fun q _ h => hFc q h) hFc (fun r_46 u t H1 locs ht hvm hw hB hz1 hk1 hS => ?_)
      obtain ⟨z_46, rfl⟩ : ∃ z, z = u := ⟨_, rfl⟩
      obtain ⟨rfl, p0_46⟩ : r_46 = I3 z_46 ∧ (z_46 = plX v) := hw
      obtain ⟨hP1, hK1, hD1⟩ := hB
      rw [ht] at hP1
      obtain ⟨hP, hD⟩ := va_join (wr := [(am, .inr (0, [.int (I3 th), .int (I3 mn), .ref as_, .ref av, .ref aw, .int (I3 sm), .int (I3 wd), .int (I3 lp), .int (I3 mp), .int (I3 re)])), (as_, .inl (dA 0, 60, .inl (iA SG))), (av, .inl (dA 1, 960, .inr (.inl (lA VL)))), (aw, .inl (dA 1, 1024, .inr (.inl (lA wf))))]) (w1 := []) hP hD [] [0, 1, 2, 3] rfl rfl (by decide) (by decide) hk1 hFc hP1 hD1
      generalize H1 = H at hP hS ⊢
      have hP : va_P (dC, dI) vwCl [(am, .inr (0, [.int (I3 th), .int (I3 mn), .ref as_, .ref av, .ref aw, .int (I3 sm), .int (I3 wd), .int (I3 lp), .int (I3 mp), .int (I3 re)])), (as_, .inl (dA 0, 60, .inl (iA SG))), (av, .inl (dA 1, 960, .inr (.inl (lA VL)))), (aw, .inl (dA 1, 1024, .inr (.inl (lA wf))))] H := hP
      have hD : va_D A [(am, .inr (0, [.int (I3 th), .int (I3 mn), .ref as_, .ref av, .ref aw, .int (I3 sm), .int (I3 wd), .int (I3 lp), .int (I3 mp), .int (I3 re)])), (as_, .inl (dA 0, 60, .inl (iA SG))), (av, .inl (dA 1, 960, .inr (.inl (lA VL)))), (aw, .inl (dA 1, 1024, .inr (.inl (lA wf))))] := hD
      refine lv_iconst (v := I3 (0)) hx hb dX8_floatBits_49 rfl ?_
      have h_4 : Dg wf := by first | assumption | omega | (constructor <;> omega)
      have h_5 : 0 ≤ z_42 ∧ z_42 < 9223372036854775808 := by constructor <;> omega
      have h_6 : -100000 ≤ z_46 ∧ z_46 ≤ 100000 := by constructor <;> omega
      have h_7 : (0 : Int) = 0 ∨ (0 : Int) = 1 := by first | assumption | omega | (constructor <;> omega)
      have hPc := hP.sub (ws' := [(am, .inr (0, [.int (I3 th), .int (I3 mn), .ref as_, .ref av, .ref aw, .int (I3 sm), .int (I3 wd), .int (I3 lp), .int (I3 mp), .int (I3 re)])), (as_, .inl (dA 0, 60, .inl (iA SG))), (av, .inl (dA 1, 960, .inr (.inl (lA VL)))), (aw, .inl (dA 1, 1024, .inr (.inl (lA wf))))]) [0, 1, 2, 3] rfl
      have hDc := hD.sub (ws' := [(am, .inr (0, [.int (I3 th), .int (I3 mn), .ref as_, .ref av, .ref aw, .int (I3 sm), .int (I3 wd), .int (I3 lp), .int (I3 mp), .int (I3 re)])), (as_, .inl (dA 0, 60, .inl (iA SG))), (av, .inl (dA 1, 960, .inr (.inl (lA VL)))), (aw, .inl (dA 1, 1024, .inr (.inl (lA wf))))]) [0, 1, 2, 3] (by decide) rfl
      have hFc := va_free (wc := [(am, .inr (0, [.int (I3 th), .int (I3 mn), .ref as_, .ref av, .ref aw, .int (I3 sm), .int (I3 wd), .int (I3 lp), .int (I3 mp), .int (I3 re)])), (as_, .inl (dA 0, 60, .inl (iA SG))), (av, .inl (dA 1, 960, .inr (.inl (lA VL)))), (aw, .inl (dA 1, 1024, .inr (.inl (lA wf))))]) hD hS hA [0, 1, 2, 3] rfl
      refine va_calll (va_runV (As := [.long (L6 z_42), .int (I3 z_46), .int (I3 0)]) (rest := []) ⟨hx, hb, hml, hown, hts⟩ (metX8_scaled l dC dI dA am as_ av aw H.size th mn sm wd lp mp re SG VL wf z_42 z_46 0 h_4 h_5 h_6 h_7) (cwV 3 hts (lw_V q1169 q1171 qs51 q66 q1172) rfl rfl rfl (by decide +kernel) ⟨Nat.le_of_ble_eq_true rfl, Nat.le_of_ble_eq_true rfl⟩) ⟨fun a U g mk q => by obtain ⟨q0, q1, qP, qK, qD⟩ := q; exact ⟨q0, q1, qP, va_K.moved (u := U) (U := U.calling g mk a) (Vm.Alike.refl U.vm) qK, qD⟩, va_recv hK hPc (ci := 0) (q0 := 0) rfl rfl, fun U hU hW => ⟨rfl, by rw [hU], by rw [hU]; exact hPc, va_K.moved hW.alike hK, hDc.weaken (fun _ _ _ _ => trivial)⟩⟩ rfl rfl hl.1 rfl (lv_room (Nat.le_of_ble_eq_true rfl)) dX8_floatBits_50 ⟨Nat.le_of_ble_eq_true rfl, Nat.le_of_ble_eq_true rfl⟩) hS (fun q _ h => hFc q h) hFc (fun r_50 u t H1 locs ht hvm hw hB hz1 hk1 hS => ?_)
      obtain ⟨z_50, W1_50, wd1_50, lp1_50, mp1_50⟩ := u
      obtain ⟨rfl, p0_50, p1_50, p2_50, p3_50, p4_50, p5_50⟩ : r_50 = L6 z_50 ∧ (Dg W1_50) ∧ (z_42 = 0 → z_50 = 0) ∧ (z_42 ≠ 0 → (0 : Int) = 1 → rnB 64 (z_42.toNat * 2 ^ z_46.toNat) (2 ^ (-z_46).toNat) 0 1 z_50) ∧ (z_42 ≠ 0 → (0 : Int) = 0 → rnB 32 (z_42.toNat * 2 ^ z_46.toNat) (2 ^ (-z_46).toNat) 0 1 z_50) ∧ (0 ≤ z_50 ∧ z_50 ≤ 9218868437227405312) ∧ ((0 : Int) = 0 → z_50 ≤ 2139095040) := hw
      obtain ⟨hP1, hK1, hD1⟩ := hB
      rw [ht] at hP1
      obtain ⟨hP, hD⟩ := va_join (wr := []) (w1 := [(am, .inr (0, [.int (I3 th), .int (I3 mn), .ref as_, .ref av, .ref aw, .int (I3 sm), .int (I3 wd1_50), .int (I3 lp1_50), .int (I3 mp1_50), .int (I3 re)])), (as_, .inl (dA 0, 60, .inl (iA SG))), (av, .inl (dA 1, 960, .inr (.inl (lA VL)))), (aw, .inl (dA 1, 1024, .inr (.inl (lA W1_50))))]) hP hD [0, 1, 2, 3] [] rfl rfl (by decide) (by decide) hk1 hFc hP1 hD1
      generalize H1 = H at hP hS ⊢
      have hP : va_P (dC, dI) vwCl [(am, .inr (0, [.int (I3 th), .int (I3 mn), .ref as_, .ref av, .ref aw, .int (I3 sm), .int (I3 wd1_50), .int (I3 lp1_50), .int (I3 mp1_50), .int (I3 re)])), (as_, .inl (dA 0, 60, .inl (iA SG))), (av, .inl (dA 1, 960, .inr (.inl (lA VL)))), (aw, .inl (dA 1, 1024, .inr (.inl (lA W1_50))))] H := hP
      have hD : va_D A [(am, .inr (0, [.int (I3 th), .int (I3 mn), .ref as_, .ref av, .ref aw, .int (I3 sm), .int (I3 wd1_50), .int (I3 lp1_50), .int (I3 mp1_50), .int (I3 re)])), (as_, .inl (dA 0, 60, .inl (iA SG))), (av, .inl (dA 1, 960, .inr (.inl (lA VL)))), (aw, .inl (dA 1, 1024, .inr (.inl (lA W1_50))))] := hD
      have hz50 := p5_50 rfl
      refine lv_lload_n hx hb dX8_floatBits_53 rfl (lv_at hl 0 rfl) ?_
      refine ix_lor hx hb dX8_floatBits_54 ?_
      refine ix_l2i hx hb dX8_floatBits_55 ?_
      refine ix_ci (y := sgf v z_50) (by exact sgf_or (by omega) htt) ?_
      refine ix_i2l hx hb (by unfold sgf; split <;> constructor <;> omega) dX8_floatBits_56 ?_
      have o_8 : Dg W1_50 := by first | assumption | omega | (constructor <;> omega)
      have o_9 : fbX v (sgf v z_50) := by refine ⟨fun q => absurd q hno, fun q => by exfalso; omega, fun _ => ⟨z_50, ⟨fun q => p1_50 (by omega), fun q => ?_⟩, rfl⟩⟩; have h9 := p3_50 (by omega) rfl; rw [p0_42, p0_46] at h9; exact h9
      exact W.lret (v := L6 (sgf v z_50)) hx hb hr (fun t ht hW => ⟨⟨L6 (sgf v z_50), ((sgf v z_50), W1_50, wd1_50, lp1_50, mp1_50), rfl, ⟨rfl, ⟨o_8, o_9⟩⟩, by rw [ht]; exact hP, va_K.moved hW.alike hK, hD⟩, hS.F ht⟩) hS.2.2 dX8_floatBits_57
    · skip
      refine lv_ldc2 hx hb hown (hts _ q1209) dX8_floatBits_32 ?_
      refine ix_vl (x := (2139095040)) (by decide) ?_
      refine lv_lload_n hx hb dX8_floatBits_35 rfl (lv_at hl 0 rfl) ?_
      refine ix_lor hx hb dX8_floatBits_36 ?_
      refine ix_l2i hx hb dX8_floatBits_37 ?_
      refine ix_ci (y := sgf v 2139095040) (by exact sgf_or (by decide) htt) ?_
      refine ix_i2l hx hb (by unfold sgf; split <;> decide) dX8_floatBits_38 ?_
      have o_10 : Dg wf := by first | assumption | omega | (constructor <;> omega)
      have o_11 : fbX v (sgf v 2139095040) := by exact ⟨fun q => absurd q hno, fun _ => rfl, fun q => by exfalso; omega⟩
      exact W.lret (v := L6 (sgf v 2139095040)) hx hb hr (fun t ht hW => ⟨⟨L6 (sgf v 2139095040), ((sgf v 2139095040), wf, wd, lp, mp), rfl, ⟨rfl, ⟨o_10, o_11⟩⟩, by rw [ht]; exact hP, va_K.moved hW.alike hK, hD⟩, hS.F ht⟩) hS.2.2 dX8_floatBits_39
  have hx_ := eX_r v
  have hf_ := fX_r v
  have hp_ := plX_r v
  have hq_ := pX_r v
  refine lv_lload_n hx hb dX8_floatBits_0 rfl (lv_at hl 1 rfl) ?_
  have h_12 : In6 v := by first | assumption | omega | (constructor <;> omega)
  have hPc := hP.sub (ws' := []) [] rfl
  have hDc := hD.sub (ws' := []) [] (by decide) rfl
  have hFc := va_free (wc := []) hD hS hA [] rfl
  refine va_calli (va_runS (As := [.long (L6 v)]) (rest := []) ⟨hx, hb, hml, hown, hts⟩ (metX8_isNo l dC dI dA s.heap.size v h_12) (va_cwS 1 hts (lw_S q1127 q1128 q66 q1129) rfl rfl rfl (by decide +kernel) ⟨Nat.le_of_ble_eq_true rfl, Nat.le_of_ble_eq_true rfl⟩) ⟨fun a U g mk q => by obtain ⟨q0, q1, qP, qK, qD⟩ := q; exact ⟨q0, q1, qP, va_K.moved (u := U) (U := U.calling g mk a) (Vm.Alike.refl U.vm) qK, qD⟩, fun U hU hW => ⟨rfl, by rw [hU], by rw [hU]; exact hPc, va_K.moved hW.alike hK, hDc.weaken (fun _ _ _ _ => trivial)⟩⟩ rfl rfl hl.1 rfl (lv_room (Nat.le_of_ble_eq_true rfl)) dX8_floatBits_1 ⟨Nat.le_of_ble_eq_true rfl, Nat.le_of_ble_eq_true rfl⟩) hS (fun q _ h => hFc q h) hFc (fun r_1 u t H1 locs ht hvm hw hB hz1 hk1 hS => ?_)
  obtain ⟨z_1, rfl⟩ : ∃ z, z = u := ⟨_, rfl⟩
  obtain ⟨rfl, p0_1⟩ : r_1 = I3 z_1 ∧ (z_1 = if eX v = 2047 ∧ pX v ≠ 0 then 1 else 0) := hw
  obtain ⟨hP1, hK1, hD1⟩ := hB
  rw [ht] at hP1
  obtain ⟨hP, hD⟩ := va_join (wr := [(am, .inr (0, [.int (I3 th), .int (I3 mn), .ref as_, .ref av, .ref aw, .int (I3 sm), .int (I3 wd), .int (I3 lp), .int (I3 mp), .int (I3 re)])), (as_, .inl (dA 0, 60, .inl (iA SG))), (av, .inl (dA 1, 960, .inr (.inl (lA VL)))), (aw, .inl (dA 1, 1024, .inr (.inl (lA wf))))]) (w1 := []) hP hD [] [0, 1, 2, 3] rfl rfl (by decide) (by decide) hk1 hFc hP1 hD1
  generalize H1 = H at hP hS ⊢
  have hP : va_P (dC, dI) vwCl [(am, .inr (0, [.int (I3 th), .int (I3 mn), .ref as_, .ref av, .ref aw, .int (I3 sm), .int (I3 wd), .int (I3 lp), .int (I3 mp), .int (I3 re)])), (as_, .inl (dA 0, 60, .inl (iA SG))), (av, .inl (dA 1, 960, .inr (.inl (lA VL)))), (aw, .inl (dA 1, 1024, .inr (.inl (lA wf))))] H := hP
  have hD : va_D A [(am, .inr (0, [.int (I3 th), .int (I3 mn), .ref as_, .ref av, .ref aw, .int (I3 sm), .int (I3 wd), .int (I3 lp), .int (I3 mp), .int (I3 re)])), (as_, .inl (dA 0, 60, .inl (iA SG))), (av, .inl (dA 1, 960, .inr (.inl (lA VL)))), (aw, .inl (dA 1, 1024, .inr (.inl (lA wf))))] := hD
  have y_1 := b01 p0_1
  refine ix_if_eq (tgt := 11) hx hb (by first | assumption | decide | (constructor <;> omega)) dX8_floatBits_4 (by decide) (fun c_4 => ?_) (fun c_4 => ?_)
  · skip
    refine lv_lload_n hx hb dX8_floatBits_11 rfl (lv_at hl 1 rfl) ?_
    refine lv_lconst (v := L6 0) hx hb dX8_floatBits_12 (by decide) ?_
    refine ix_lcmp_ge (tgt := 23) hx hb (by first | assumption | decide | (constructor <;> omega)) (by first | assumption | decide | (constructor <;> omega)) dX8_floatBits_13 dX8_floatBits_14 (by decide) (fun c_13 => ?_) (fun c_13 => ?_)
    · skip
      refine lv_lconst (v := L6 0) hx hb dX8_floatBits_23 (by decide) ?_
      have e_13 : ¬ (eX v = 2047 ∧ pX v ≠ 0) := by first | assumption | omega | (constructor <;> omega)
      have e_14 : (0 : Int) = if v < 0 then 2147483648 else 0 := by first | (rw [if_pos (by omega)]; done) | (rw [if_neg (by omega)]; done)
      exact cut_24 0 e_13 e_14 _ _ hP hD hS ls (lv_sub hl [0, 1] rfl)
    · skip
      refine lv_ldc2 hx hb hown (hts _ q1158) dX8_floatBits_17 ?_
      refine ix_vl (x := (2147483648)) (by decide) ?_
      refine lv_goto (tgt := 24) hx hb dX8_floatBits_20 (by decide) ?_
      have e_15 : ¬ (eX v = 2047 ∧ pX v ≠ 0) := by first | assumption | omega | (constructor <;> omega)
      have e_16 : (2147483648 : Int) = if v < 0 then 2147483648 else 0 := by first | (rw [if_pos (by omega)]; done) | (rw [if_neg (by omega)]; done)
      exact cut_24 2147483648 e_15 e_16 _ _ hP hD hS ls (lv_sub hl [0, 1] rfl)
  · skip
    refine lv_ldc2 hx hb hown (hts _ q1208) dX8_floatBits_7 ?_
    refine ix_vl (x := (2143289344)) (by decide) ?_
    have o_17 : Dg wf := by first | assumption | omega | (constructor <;> omega)
    have o_18 : fbX v (2143289344 : Int) := by exact ⟨fun _ => rfl, fun q => by exfalso; omega, fun q => by exfalso; omega⟩
    exact W.lret (v := L6 2143289344) hx hb hr (fun t ht hW => ⟨⟨L6 2143289344, (2143289344, wf, wd, lp, mp), rfl, ⟨rfl, ⟨o_17, o_18⟩⟩, by rw [ht]; exact hP, va_K.moved hW.alike hK, hD⟩, hS.F ht⟩) hS.2.2 dX8_floatBits_10
