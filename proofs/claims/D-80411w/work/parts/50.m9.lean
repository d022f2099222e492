/-! the model: what is told -/
set_option maxRecDepth 100000
abbrev BmetX8_word (dC : Nat → ClassId) (dI : Nat → Nat → Nat) (dA : Nat → ClassId) (A : Nat → Prop) (am : Nat) (as_ : Nat) (av : Nat) (aw : Nat) (th : Int) (mn : Int) (sm : Int) (wd : Int) (lp : Int) (mp : Int) (re : Int) (SG : Int → Int) (VL : Int → Int) (wf : Int → Int) (a : Int) (k : Int) : Int × Int → State → Prop := fun u t => (fun (u : Int × Int) => (fun (z : Int) (th1 : Int) => va_P (dC, dI) vwCl [(am, .inr (0, [.int (I3 th1), .int (I3 mn), .ref as_, .ref av, .ref aw, .int (I3 sm), .int (I3 wd), .int (I3 lp), .int (I3 mp), .int (I3 re)])), (as_, .inl (dA 0, 60, .inl (iA SG))), (av, .inl (dA 1, 960, .inr (.inl (lA VL)))), (aw, .inl (dA 1, 1024, .inr (.inl (lA wf))))] t.heap ∧ va_K (dC, dI) vwCl (tyA dA) t ∧ va_D A [(am, .inr (0, [.int (I3 th1), .int (I3 mn), .ref as_, .ref av, .ref aw, .int (I3 sm), .int (I3 wd), .int (I3 lp), .int (I3 mp), .int (I3 re)])), (as_, .inl (dA 0, 60, .inl (iA SG))), (av, .inl (dA 1, 960, .inr (.inl (lA VL)))), (aw, .inl (dA 1, 1024, .inr (.inl (lA wf))))]) u.1 u.2) u
abbrev QmetX8_word (dC : Nat → ClassId) (dI : Nat → Nat → Nat) (dA : Nat → ClassId) (A : Nat → Prop) (am : Nat) (as_ : Nat) (av : Nat) (aw : Nat) (th : Int) (mn : Int) (sm : Int) (wd : Int) (lp : Int) (mp : Int) (re : Int) (SG : Int → Int) (VL : Int → Int) (wf : Int → Int) (a : Int) (k : Int) := va_Ql (fun (rt_ : Int64) => fun (u : Int × Int) => (fun (z : Int) (th1 : Int) => rt_ = L6 z ∧ (z = if (0 ≤ a ∧ a < mn) ∧ 0 ≤ k ∧ k ≤ 15 then VL (16 * a + k) else 0) ∧ (th1 = if (0 ≤ a ∧ a < mn) ∧ 0 ≤ k ∧ k ≤ 15 then 0 else 1)) u.1 u.2) (BmetX8_word dC dI dA A am as_ av aw th mn sm wd lp mp re SG VL wf a k) A
set_option maxHeartbeats 1000000 in
set_option maxRecDepth 100000 in
theorem metX8_word (l : Launch) (dC : Nat → ClassId) (dI : Nat → Nat → Nat) (dA : Nat → ClassId) (am : Nat) (as_ : Nat) (av : Nat) (aw : Nat) (sz : Nat) (th : Int) (mn : Int) (sm : Int) (wd : Int) (lp : Int) (mp : Int) (re : Int) (SG : Int → Int) (VL : Int → Int) (wf : Int → Int) (a : Int) (k : Int) (hW : Dg wf) (hI : MI mn SG VL) (ha : In3 a) (hk : In3 k) : Met l yX8_word (ws_ yX8_word cX8_word 3 (some .long)) ({ frames := 2, cells := 0, slots := 0, locals := 80 }) (va_Pc [.ref am, .int (I3 a), .int (I3 k)] (fun U => U.heap.size = sz ∧ va_P (dC, dI) vwCl [(am, .inr (0, [.int (I3 th), .int (I3 mn), .ref as_, .ref av, .ref aw, .int (I3 sm), .int (I3 wd), .int (I3 lp), .int (I3 mp), .int (I3 re)])), (as_, .inl (dA 0, 60, .inl (iA SG))), (av, .inl (dA 1, 960, .inr (.inl (lA VL)))), (aw, .inl (dA 1, 1024, .inr (.inl (lA wf))))] U.heap ∧ va_K (dC, dI) vwCl (tyA dA) U ∧ va_D (fun _ => True) [(am, .inr (0, [.int (I3 th), .int (I3 mn), .ref as_, .ref av, .ref aw, .int (I3 sm), .int (I3 wd), .int (I3 lp), .int (I3 mp), .int (I3 re)])), (as_, .inl (dA 0, 60, .inl (iA SG))), (av, .inl (dA 1, 960, .inr (.inl (lA VL)))), (aw, .inl (dA 1, 1024, .inr (.inl (lA wf))))])) (QmetX8_word dC dI dA (va_A [(am, .inr (0, [.int (I3 th), .int (I3 mn), .ref as_, .ref av, .ref aw, .int (I3 sm), .int (I3 wd), .int (I3 lp), .int (I3 mp), .int (I3 re)])), (as_, .inl (dA 0, 60, .inl (iA SG))), (av, .inl (dA 1, 960, .inr (.inl (lA VL)))), (aw, .inl (dA 1, 1024, .inr (.inl (lA wf))))] sz) am as_ av aw th mn sm wd lp mp re SG VL wf a k) 0 0 (va_A [(am, .inr (0, [.int (I3 th), .int (I3 mn), .ref as_, .ref av, .ref aw, .int (I3 sm), .int (I3 wd), .int (I3 lp), .int (I3 mp), .int (I3 re)])), (as_, .inl (dA 0, 60, .inl (iA SG))), (av, .inl (dA 1, 960, .inr (.inl (lA VL)))), (aw, .inl (dA 1, 1024, .inr (.inl (lA wf))))] sz) := by
  refine Met.ofW (cc := cX8_word) (maxL := 3) (ret := (some .long)) (by decide) rfl ?_
  intro p e s m args below meth c s₁ B hml hv
  obtain ⟨rfl, hsz, hP, hK, hD0⟩ := hv
  have hx := B.exec
  have hb := B.bytes
  have hr := B.returns
  have hts := atoms_spec (ws := (ws_ yX8_word cX8_word 3 (some .long))) B.pre
  have hts : ∀ w ∈ lw_all, w.before _ s = true := fun w h => hts w (List.mem_cons_of_mem _ h)
  have hown : s.vm.findClass RX8 = some m.cls := findClass_of_methodNamed B.named
  have hlocks := B.notSynchronized
  subst hsz
  have hD := hD0.self (sz := s.heap.size)
  generalize hAe : va_A [(am, .inr (0, [.int (I3 th), .int (I3 mn), .ref as_, .ref av, .ref aw, .int (I3 sm), .int (I3 wd), .int (I3 lp), .int (I3 mp), .int (I3 re)])), (as_, .inl (dA 0, 60, .inl (iA SG))), (av, .inl (dA 1, 960, .inr (.inl (lA VL)))), (aw, .inl (dA 1, 1024, .inr (.inl (lA wf))))] s.heap.size = A at hD ⊢
  have hA : ∀ q : Nat, s.heap.size ≤ q → A q := fun q h => by rw [← hAe]; exact Or.inr h
  have hS : va_S A s.heap s.heap [] := va_S.rf
  have hP : va_P (dC, dI) vwCl [(am, .inr (0, [.int (I3 th), .int (I3 mn), .ref as_, .ref av, .ref aw, .int (I3 sm), .int (I3 wd), .int (I3 lp), .int (I3 mp), .int (I3 re)])), (as_, .inl (dA 0, 60, .inl (iA SG))), (av, .inl (dA 1, 960, .inr (.inl (lA VL)))), (aw, .inl (dA 1, 1024, .inr (.inl (lA wf))))] s.heap := hP
  have hl := lv_entry ([.ref am, .int (I3 a), .int (I3 k)]) (n := 3) (Nat.le_of_ble_eq_true rfl)
  rw [lg_entry_eq]
  generalize (lg_sl ([.ref am, .int (I3 a), .int (I3 k)]) ++ List.replicate (3 - (lg_sl ([.ref am, .int (I3 a), .int (I3 k)])).length) Slot.unset).toArray = ls at hl ⊢
  have hl : lv_has ls 3 [(0, .ref am), (1, .int (I3 a)), (2, .int (I3 k))] := hl
  obtain ⟨hmn, hV, hAll⟩ := id hI
  refine lv_aload_n hx hb dX8_word_0 rfl (lv_at hl 0 rfl) ?_
  refine lv_iload_n hx hb dX8_word_1 rfl (lv_at hl 1 rfl) ?_
  have h_1 : In3 a := by first | assumption | omega | (constructor <;> omega)
  have h_2 : In3 mn := by first | assumption | omega | (constructor <;> omega)
  have hPc := hP.sub (ws' := [(am, .inr (0, [.int (I3 th), .int (I3 mn), .ref as_, .ref av, .ref aw, .int (I3 sm), .int (I3 wd), .int (I3 lp), .int (I3 mp), .int (I3 re)])), (as_, .inl (dA 0, 60, .inl (iA SG))), (av, .inl (dA 1, 960, .inr (.inl (lA VL)))), (aw, .inl (dA 1, 1024, .inr (.inl (lA wf))))]) [0, 1, 2, 3] rfl
  have hDc := hD.sub (ws' := [(am, .inr (0, [.int (I3 th), .int (I3 mn), .ref as_, .ref av, .ref aw, .int (I3 sm), .int (I3 wd), .int (I3 lp), .int (I3 mp), .int (I3 re)])), (as_, .inl (dA 0, 60, .inl (iA SG))), (av, .inl (dA 1, 960, .inr (.inl (lA VL)))), (aw, .inl (dA 1, 1024, .inr (.inl (lA wf))))]) [0, 1, 2, 3] (by decide) rfl
  have hFc := va_free (wc := [(am, .inr (0, [.int (I3 th), .int (I3 mn), .ref as_, .ref av, .ref aw, .int (I3 sm), .int (I3 wd), .int (I3 lp), .int (I3 mp), .int (I3 re)])), (as_, .inl (dA 0, 60, .inl (iA SG))), (av, .inl (dA 1, 960, .inr (.inl (lA VL)))), (aw, .inl (dA 1, 1024, .inr (.inl (lA wf))))]) hD hS hA [0, 1, 2, 3] rfl
  refine va_calli (va_runV (As := [.int (I3 a)]) (rest := []) ⟨hx, hb, hml, hown, hts⟩ (metX8_isNumber l dC dI dA am as_ av aw s.heap.size th mn sm wd lp mp re SG VL wf a h_1 h_2) (cwV 1 hts (lw_V q1050 q1052 qs35 q66 q1053) rfl rfl rfl (by decide +kernel) ⟨Nat.le_of_ble_eq_true rfl, Nat.le_of_ble_eq_true rfl⟩) ⟨fun a U g mk q => by obtain ⟨q0, q1, qP, qK, qD⟩ := q; exact ⟨q0, q1, qP, va_K.moved (u := U) (U := U.calling g mk a) (Vm.Alike.refl U.vm) qK, qD⟩, va_recv hK hPc (ci := 0) (q0 := 0) rfl rfl, fun U hU hW => ⟨rfl, by rw [hU], by rw [hU]; exact hPc, va_K.moved hW.alike hK, hDc.weaken (fun _ _ _ _ => trivial)⟩⟩ rfl rfl hl.1 rfl (lv_room (Nat.le_of_ble_eq_true rfl)) dX8_word_2 ⟨Nat.le_of_ble_eq_true rfl, Nat.le_of_ble_eq_true rfl⟩) hS (fun q _ h => hFc q h) hFc (fun r_2 u t H1 locs ht hvm hw hB hz1 hk1 hS => ?_)
  obtain ⟨z_2, rfl⟩ : ∃ z, z = u := ⟨_, rfl⟩
  obtain ⟨rfl, p0_2⟩ : r_2 = I3 z_2 ∧ (z_2 = if 0 ≤ a ∧ a < mn then 1 else 0) := hw
  obtain ⟨hP1, hK1, hD1⟩ := hB
  rw [ht] at hP1
  obtain ⟨hP, hD⟩ := va_join (wr := []) (w1 := [(am, .inr (0, [.int (I3 th), .int (I3 mn), .ref as_, .ref av, .ref aw, .int (I3 sm), .int (I3 wd), .int (I3 lp), .int (I3 mp), .int (I3 re)])), (as_, .inl (dA 0, 60, .inl (iA SG))), (av, .inl (dA 1, 960, .inr (.inl (lA VL)))), (aw, .inl (dA 1, 1024, .inr (.inl (lA wf))))]) hP hD [0, 1, 2, 3] [] rfl rfl (by decide) (by decide) hk1 hFc hP1 hD1
  generalize H1 = H at hP hS ⊢
  have hP : va_P (dC, dI) vwCl [(am, .inr (0, [.int (I3 th), .int (I3 mn), .ref as_, .ref av, .ref aw, .int (I3 sm), .int (I3 wd), .int (I3 lp), .int (I3 mp), .int (I3 re)])), (as_, .inl (dA 0, 60, .inl (iA SG))), (av, .inl (dA 1, 960, .inr (.inl (lA VL)))), (aw, .inl (dA 1, 1024, .inr (.inl (lA wf))))] H := hP
  have hD : va_D A [(am, .inr (0, [.int (I3 th), .int (I3 mn), .ref as_, .ref av, .ref aw, .int (I3 sm), .int (I3 wd), .int (I3 lp), .int (I3 mp), .int (I3 re)])), (as_, .inl (dA 0, 60, .inl (iA SG))), (av, .inl (dA 1, 960, .inr (.inl (lA VL)))), (aw, .inl (dA 1, 1024, .inr (.inl (lA wf))))] := hD
  have y_2 := b01 p0_2
  refine ix_if_eq (tgt := 18) hx hb (by first | decide | assumption | (constructor <;> omega)) dX8_word_5 (by decide) (fun c_5 => ?_) (fun c_5 => ?_)
  · skip
    refine lv_aload_n hx hb dX8_word_18 rfl (lv_at hl 0 rfl) ?_
    refine lv_iconst (v := I3 (1)) hx hb dX8_word_19 rfl ?_
    have h_3 : In3 (1 : Int) := by first | assumption | omega | (constructor <;> omega)
    have hPc := hP.sub (ws' := [(am, .inr (0, [.int (I3 th), .int (I3 mn), .ref as_, .ref av, .ref aw, .int (I3 sm), .int (I3 wd), .int (I3 lp), .int (I3 mp), .int (I3 re)])), (as_, .inl (dA 0, 60, .inl (iA SG))), (av, .inl (dA 1, 960, .inr (.inl (lA VL)))), (aw, .inl (dA 1, 1024, .inr (.inl (lA wf))))]) [0, 1, 2, 3] rfl
    have hDc := hD.sub (ws' := [(am, .inr (0, [.int (I3 th), .int (I3 mn), .ref as_, .ref av, .ref aw, .int (I3 sm), .int (I3 wd), .int (I3 lp), .int (I3 mp), .int (I3 re)])), (as_, .inl (dA 0, 60, .inl (iA SG))), (av, .inl (dA 1, 960, .inr (.inl (lA VL)))), (aw, .inl (dA 1, 1024, .inr (.inl (lA wf))))]) [0, 1, 2, 3] (by decide) rfl
    have hFc := va_free (wc := [(am, .inr (0, [.int (I3 th), .int (I3 mn), .ref as_, .ref av, .ref aw, .int (I3 sm), .int (I3 wd), .int (I3 lp), .int (I3 mp), .int (I3 re)])), (as_, .inl (dA 0, 60, .inl (iA SG))), (av, .inl (dA 1, 960, .inr (.inl (lA VL)))), (aw, .inl (dA 1, 1024, .inr (.inl (lA wf))))]) hD hS hA [0, 1, 2, 3] rfl
    refine va_calli (va_runV (As := [.int (I3 1)]) (rest := []) ⟨hx, hb, hml, hown, hts⟩ (metX8_fails l dC dI dA am as_ av aw H.size th mn sm wd lp mp re SG VL wf 1 h_3) (cwV 1 hts (lw_V q1016 q1018 qs34 q66 q1019) rfl rfl rfl (by decide +kernel) ⟨Nat.le_of_ble_eq_true rfl, Nat.le_of_ble_eq_true rfl⟩) ⟨fun a U g mk q => by obtain ⟨q0, q1, qP, qK, qD⟩ := q; exact ⟨q0, q1, qP, va_K.moved (u := U) (U := U.calling g mk a) (Vm.Alike.refl U.vm) qK, qD⟩, va_recv hK hPc (ci := 0) (q0 := 0) rfl rfl, fun U hU hW => ⟨rfl, by rw [hU], by rw [hU]; exact hPc, va_K.moved hW.alike hK, hDc.weaken (fun _ _ _ _ => trivial)⟩⟩ rfl rfl hl.1 rfl (lv_room (Nat.le_of_ble_eq_true rfl)) dX8_word_20 ⟨Nat.le_of_ble_eq_true rfl, Nat.le_of_ble_eq_true rfl⟩) hS (fun q _ h => hFc q h) hFc (fun r_20 u t H1 locs ht hvm hw hB hz1 hk1 hS => ?_)
    obtain ⟨z_20, th1_20⟩ := u
    obtain ⟨rfl, p0_20, p1_20⟩ : r_20 = I3 z_20 ∧ (z_20 = 0) ∧ (th1_20 = (1 : Int)) := hw
    obtain ⟨hP1, hK1, hD1⟩ := hB
    rw [ht] at hP1
    obtain ⟨hP, hD⟩ := va_join (wr := []) (w1 := [(am, .inr (0, [.int (I3 th1_20), .int (I3 mn), .ref as_, .ref av, .ref aw, .int (I3 sm), .int (I3 wd), .int (I3 lp), .int (I3 mp), .int (I3 re)])), (as_, .inl (dA 0, 60, .inl (iA SG))), (av, .inl (dA 1, 960, .inr (.inl (lA VL)))), (aw, .inl (dA 1, 1024, .inr (.inl (lA wf))))]) hP hD [0, 1, 2, 3] [] rfl rfl (by decide) (by decide) hk1 hFc hP1 hD1
    generalize H1 = H at hP hS ⊢
    have hP : va_P (dC, dI) vwCl [(am, .inr (0, [.int (I3 th1_20), .int (I3 mn), .ref as_, .ref av, .ref aw, .int (I3 sm), .int (I3 wd), .int (I3 lp), .int (I3 mp), .int (I3 re)])), (as_, .inl (dA 0, 60, .inl (iA SG))), (av, .inl (dA 1, 960, .inr (.inl (lA VL)))), (aw, .inl (dA 1, 1024, .inr (.inl (lA wf))))] H := hP
    have hD : va_D A [(am, .inr (0, [.int (I3 th1_20), .int (I3 mn), .ref as_, .ref av, .ref aw, .int (I3 sm), .int (I3 wd), .int (I3 lp), .int (I3 mp), .int (I3 re)])), (as_, .inl (dA 0, 60, .inl (iA SG))), (av, .inl (dA 1, 960, .inr (.inl (lA VL)))), (aw, .inl (dA 1, 1024, .inr (.inl (lA wf))))] := hD
    refine ix_i2l hx hb (by first | decide | assumption | (constructor <;> omega)) dX8_word_23 ?_
    have o_4 : z_20 = if (0 ≤ a ∧ a < mn) ∧ 0 ≤ k ∧ k ≤ 15 then VL (16 * a + k) else 0 := by rw [if_neg (by omega)]; exact p0_20
    have o_5 : th1_20 = if (0 ≤ a ∧ a < mn) ∧ 0 ≤ k ∧ k ≤ 15 then 0 else 1 := by rw [if_neg (by omega)]; exact p1_20
    exact W.lret (v := L6 z_20) hx hb hr (fun t ht hW => ⟨⟨L6 z_20, (z_20, th1_20), rfl, ⟨rfl, ⟨o_4, o_5⟩⟩, by rw [ht]; exact hP, va_K.moved hW.alike hK, hD⟩, hS.F ht⟩) hS.2.2 dX8_word_24
  · skip
    refine lv_iload_n hx hb dX8_word_8 rfl (lv_at hl 2 rfl) ?_
    refine ix_if_lt (tgt := 18) hx hb (by first | decide | assumption | (constructor <;> omega)) dX8_word_9 (by decide) (fun c_9 => ?_) (fun c_9 => ?_)
    · skip
      refine lv_aload_n hx hb dX8_word_18 rfl (lv_at hl 0 rfl) ?_
      refine lv_iconst (v := I3 (1)) hx hb dX8_word_19 rfl ?_
      have h_6 : In3 (1 : Int) := by first | assumption | omega | (constructor <;> omega)
      have hPc := hP.sub (ws' := [(am, .inr (0, [.int (I3 th), .int (I3 mn), .ref as_, .ref av, .ref aw, .int (I3 sm), .int (I3 wd), .int (I3 lp), .int (I3 mp), .int (I3 re)])), (as_, .inl (dA 0, 60, .inl (iA SG))), (av, .inl (dA 1, 960, .inr (.inl (lA VL)))), (aw, .inl (dA 1, 1024, .inr (.inl (lA wf))))]) [0, 1, 2, 3] rfl
      have hDc := hD.sub (ws' := [(am, .inr (0, [.int (I3 th), .int (I3 mn), .ref as_, .ref av, .ref aw, .int (I3 sm), .int (I3 wd), .int (I3 lp), .int (I3 mp), .int (I3 re)])), (as_, .inl (dA 0, 60, .inl (iA SG))), (av, .inl (dA 1, 960, .inr (.inl (lA VL)))), (aw, .inl (dA 1, 1024, .inr (.inl (lA wf))))]) [0, 1, 2, 3] (by decide) rfl
      have hFc := va_free (wc := [(am, .inr (0, [.int (I3 th), .int (I3 mn), .ref as_, .ref av, .ref aw, .int (I3 sm), .int (I3 wd), .int (I3 lp), .int (I3 mp), .int (I3 re)])), (as_, .inl (dA 0, 60, .inl (iA SG))), (av, .inl (dA 1, 960, .inr (.inl (lA VL)))), (aw, .inl (dA 1, 1024, .inr (.inl (lA wf))))]) hD hS hA [0, 1, 2, 3] rfl
      refine va_calli (va_runV (As := [.int (I3 1)]) (rest := []) ⟨hx, hb, hml, hown, hts⟩ (metX8_fails l dC dI dA am as_ av aw H.size th mn sm wd lp mp re SG VL wf 1 h_6) (cwV 1 hts (lw_V q1016 q1018 qs34 q66 q1019) rfl rfl rfl (by decide +kernel) ⟨Nat.le_of_ble_eq_true rfl, Nat.le_of_ble_eq_true rfl⟩) ⟨fun a U g mk q => by obtain ⟨q0, q1, qP, qK, qD⟩ := q; exact ⟨q0, q1, qP, va_K.moved (u := U) (U := U.calling g mk a) (Vm.Alike.refl U.vm) qK, qD⟩, va_recv hK hPc (ci := 0) (q0 := 0) rfl rfl, fun U hU hW => ⟨rfl, by rw [hU], by rw [hU]; exact hPc, va_K.moved hW.alike hK, hDc.weaken (fun _ _ _ _ => trivial)⟩⟩ rfl rfl hl.1 rfl (lv_room (Nat.le_of_ble_eq_true rfl)) dX8_word_20 ⟨Nat.le_of_ble_eq_true rfl, Nat.le_of_ble_eq_true rfl⟩) hS (fun q _ h => hFc q h) hFc (fun r_20 u t H1 locs ht hvm hw hB hz1 hk1 hS => ?_)
      obtain ⟨z_20, th1_20⟩ := u
      obtain ⟨rfl, p0_20, p1_20⟩ : r_20 = I3 z_20 ∧ (z_20 = 0) ∧ (th1_20 = (1 : Int)) := hw
      obtain ⟨hP1, hK1, hD1⟩ := hB
      rw [ht] at hP1
      obtain ⟨hP, hD⟩ := va_join (wr := []) (w1 := [(am, .inr (0, [.int (I3 th1_20), .int (I3 mn), .ref as_, .ref av, .ref aw, .int (I3 sm), .int (I3 wd), .int (I3 lp), .int (I3 mp), .int (I3 re)])), (as_, .inl (dA 0, 60, .inl (iA SG))), (av, .inl (dA 1, 960, .inr (.inl (lA VL)))), (aw, .inl (dA 1, 1024, .inr (.inl (lA wf))))]) hP hD [0, 1, 2, 3] [] rfl rfl (by decide) (by decide) hk1 hFc hP1 hD1
      generalize H1 = H at hP hS ⊢
      have hP : va_P (dC, dI) vwCl [(am, .inr (0, [.int (I3 th1_20), .int (I3 mn), .ref as_, .ref av, .ref aw, .int (I3 sm), .int (I3 wd), .int (I3 lp), .int (I3 mp), .int (I3 re)])), (as_, .inl (dA 0, 60, .inl (iA SG))), (av, .inl (dA 1, 960, .inr (.inl (lA VL)))), (aw, .inl (dA 1, 1024, .inr (.inl (lA wf))))] H := hP
      have hD : va_D A [(am, .inr (0, [.int (I3 th1_20), .int (I3 mn), .ref as_, .ref av, .ref aw, .int (I3 sm), .int (I3 wd), .int (I3 lp), .int (I3 mp), .int (I3 re)])), (as_, .inl (dA 0, 60, .inl (iA SG))), (av, .inl (dA 1, 960, .inr (.inl (lA VL)))), (aw, .inl (dA 1, 1024, .inr (.inl (lA wf))))] := hD
      refine ix_i2l hx hb (by first | decide | assumption | (constructor <;> omega)) dX8_word_23 ?_
      have o_7 : z_20 = if (0 ≤ a ∧ a < mn) ∧ 0 ≤ k ∧ k ≤ 15 then VL (16 * a + k) else 0 := by rw [if_neg (by omega)]; exact p0_20
      have o_8 : th1_20 = if (0 ≤ a ∧ a < mn) ∧ 0 ≤ k ∧ k ≤ 15 then 0 else 1 := by rw [if_neg (by omega)]; exact p1_20
      exact W.lret (v := L6 z_20) hx hb hr (fun t ht hW => ⟨⟨L6 z_20, (z_20, th1_20), rfl, ⟨rfl, ⟨o_7, o_8⟩⟩, by rw [ht]; exact hP, va_K.moved hW.alike hK, hD⟩, hS.F ht⟩) hS.2.2 dX8_word_24
    · skip
      refine lv_iload_n hx hb dX8_word_12 rfl (lv_at hl 2 rfl) ?_
      refine lv_bipush (v := I3 (15)) hx hb dX8_word_13 (by decide) ?_
      refine ix_icmp_le (tgt := 25) hx hb (by first | decide | assumption | (constructor <;> omega)) (by first | decide | assumption | (constructor <;> omega)) dX8_word_15 (by decide) (fun c_15 => ?_) (fun c_15 => ?_)
      · skip
        refine lv_aload_n hx hb dX8_word_25 rfl (lv_at hl 0 rfl) ?_
        refine lv_iconst (v := I3 (0)) hx hb dX8_word_26 rfl ?_
        refine va_put (D := (dC, dI)) (ci := 0) (v := .int (I3 0)) (ty := .int) (C := RX8) (T := TX8) (N := 10) hx hb hts in_X8 tyX8 tyX8_ok nmX8 hown hK hP hD hS 0 rfl rfl 0 (by decide) (hts _ q913) (fun _ h9 => h9) rfl (by decide +kernel) rfl rfl (Nat.le_of_ble_eq_true rfl) dX8_word_27 (fun H locs hP hD hS => ?_)
        have hP : va_P (dC, dI) vwCl [(am, .inr (0, [.int (I3 0), .int (I3 mn), .ref as_, .ref av, .ref aw, .int (I3 sm), .int (I3 wd), .int (I3 lp), .int (I3 mp), .int (I3 re)])), (as_, .inl (dA 0, 60, .inl (iA SG))), (av, .inl (dA 1, 960, .inr (.inl (lA VL)))), (aw, .inl (dA 1, 1024, .inr (.inl (lA wf))))] H := hP
        have hD : va_D A [(am, .inr (0, [.int (I3 0), .int (I3 mn), .ref as_, .ref av, .ref aw, .int (I3 sm), .int (I3 wd), .int (I3 lp), .int (I3 mp), .int (I3 re)])), (as_, .inl (dA 0, 60, .inl (iA SG))), (av, .inl (dA 1, 960, .inr (.inl (lA VL)))), (aw, .inl (dA 1, 1024, .inr (.inl (lA wf))))] := hD
        refine lv_aload_n hx hb dX8_word_30 rfl (lv_at hl 0 rfl) ?_
        refine va_get (D := (dC, dI)) (ci := 0) (v := .ref av) (C := RX8) (T := TX8) (N := 10) hx hb hts in_X8 hown hK hP 0 rfl rfl 3 (by decide) (hts _ q916) (fun _ h9 => h9) rfl dX8_word_31 ?_
        refine lv_bipush (v := I3 (16)) hx hb dX8_word_34 (by decide) ?_
        refine lv_iload_n hx hb dX8_word_36 rfl (lv_at hl 1 rfl) ?_
        refine ix_imul hx hb dX8_word_37 ?_
        refine lv_iload_n hx hb dX8_word_38 rfl (lv_at hl 2 rfl) ?_
        refine ix_iadd hx hb dX8_word_39 ?_
        refine ix_lald hx hb hK hP 2 1 rfl rfl (Nat.le_of_ble_eq_true rfl) (by omega) dX8_word_40 ?_
        have o_9 : (VL ((16 * a) + k)) = if (0 ≤ a ∧ a < mn) ∧ 0 ≤ k ∧ k ≤ 15 then VL (16 * a + k) else 0 := by rw [if_pos (by omega)]
        have o_10 : (0 : Int) = if (0 ≤ a ∧ a < mn) ∧ 0 ≤ k ∧ k ≤ 15 then 0 else 1 := by rw [if_pos (by omega)]
        exact W.lret (v := L6 (VL ((16 * a) + k))) hx hb hr (fun t ht hW => ⟨⟨L6 (VL ((16 * a) + k)), ((VL ((16 * a) + k)), 0), rfl, ⟨rfl, ⟨o_9, o_10⟩⟩, by rw [ht]; exact hP, va_K.moved hW.alike hK, hD⟩, hS.F ht⟩) hS.2.2 dX8_word_41
      · skip
        refine lv_aload_n hx hb dX8_word_18 rfl (lv_at hl 0 rfl) ?_
        refine lv_iconst (v := I3 (1)) hx hb dX8_word_19 rfl ?_
        have h_11 : In3 (1 : Int) := by first | assumption | omega | (constructor <;> omega)
        have hPc := hP.sub (ws' := [(am, .inr (0, [.int (I3 th), .int (I3 mn), .ref as_, .ref av, .ref aw, .int (I3 sm), .int (I3 wd), .int (I3 lp), .int (I3 mp), .int (I3 re)])), (as_, .inl (dA 0, 60, .inl (iA SG))), (av, .inl (dA 1, 960, .inr (.inl (lA VL)))), (aw, .inl (dA 1, 1024, .inr (.inl (lA wf))))]) [0, 1, 2, 3] rfl
        have hDc := hD.sub (ws' := [(am, .inr (0, [.int (I3 th), .int (I3 mn), .ref as_, .ref av, .ref aw, .int (I3 sm), .int (I3 wd), .int (I3 lp), .int (I3 mp), .int (I3 re)])), (as_, .inl (dA 0, 60, .inl (iA SG))), (av, .inl (dA 1, 960, .inr (.inl (lA VL)))), (aw, .inl (dA 1, 1024, .inr (.inl (lA wf))))]) [0, 1, 2, 3] (by decide) rfl
        have hFc := va_free (wc := [(am, .inr (0, [.int (I3 th), .int (I3 mn), .ref as_, .ref av, .ref aw, .int (I3 sm), .int (I3 wd), .int (I3 lp), .int (I3 mp), .int (I3 re)])), (as_, .inl (dA 0, 60, .inl (iA SG))), (av, .inl (dA 1, 960, .inr (.inl (lA VL)))), (aw, .inl (dA 1, 1024, .inr (.inl (lA wf))))]) hD hS hA [0, 1, 2, 3] rfl
        refine va_calli (va_runV (As := [.int (I3 1)]) (rest := []) ⟨hx, hb, hml, hown, hts⟩ (metX8_fails l dC dI dA am as_ av aw H.size th mn sm wd lp mp re SG VL wf 1 h_11) (cwV 1 hts (lw_V q1016 q1018 qs34 q66 q1019) rfl rfl rfl (by decide +kernel) ⟨Nat.le_of_ble_eq_true rfl, Nat.le_of_ble_eq_true rfl⟩) ⟨fun a U g mk q => by obtain ⟨q0, q1, qP, qK, qD⟩ := q; exact ⟨q0, q1, qP, va_K.moved (u := U) (U := U.calling g mk a) (Vm.Alike.refl U.vm) qK, qD⟩, va_recv hK hPc (ci := 0) (q0 := 0) rfl rfl, fun U hU hW => ⟨rfl, by rw [hU], by rw [hU]; exact hPc, va_K.moved hW.alike hK, hDc.weaken (fun _ _ _ _ => trivial)⟩⟩ rfl rfl hl.1 rfl (lv_room (Nat.le_of_ble_eq_true rfl)) dX8_word_20 ⟨Nat.le_of_ble_eq_true rfl, Nat.le_of_ble_eq_true rfl⟩) hS (fun q _ h => hFc q h) hFc (fun r_20 u t H1 locs ht hvm hw hB hz1 hk1 hS => ?_)
        obtain ⟨z_20, th1_20⟩ := u
        obtain ⟨rfl, p0_20, p1_20⟩ : r_20 = I3 z_20 ∧ (z_20 = 0) ∧ (th1_20 = (1 : Int)) := hw
        obtain ⟨hP1, hK1, hD1⟩ := hB
        rw [ht] at hP1
        obtain ⟨hP, hD⟩ := va_join (wr := []) (w1 := [(am, .inr (0, [.int (I3 th1_20), .int (I3 mn), .ref as_, .ref av, .ref aw, .int (I3 sm), .int (I3 wd), .int (I3 lp), .int (I3 mp), .int (I3 re)])), (as_, .inl (dA 0, 60, .inl (iA SG))), (av, .inl (dA 1, 960, .inr (.inl (lA VL)))), (aw, .inl (dA 1, 1024, .inr (.inl (lA wf))))]) hP hD [0, 1, 2, 3] [] rfl rfl (by decide) (by decide) hk1 hFc hP1 hD1
        generalize H1 = H at hP hS ⊢
        have hP : va_P (dC, dI) vwCl [(am, .inr (0, [.int (I3 th1_20), .int (I3 mn), .ref as_, .ref av, .ref aw, .int (I3 sm), .int (I3 wd), .int (I3 lp), .int (I3 mp), .int (I3 re)])), (as_, .inl (dA 0, 60, .inl (iA SG))), (av, .inl (dA 1, 960, .inr (.inl (lA VL)))), (aw, .inl (dA 1, 1024, .inr (.inl (lA wf))))] H := hP
        have hD : va_D A [(am, .inr (0, [.int (I3 th1_20), .int (I3 mn), .ref as_, .ref av, .ref aw, .int (I3 sm), .int (I3 wd), .int (I3 lp), .int (I3 mp), .int (I3 re)])), (as_, .inl (dA 0, 60, .inl (iA SG))), (av, .inl (dA 1, 960, .inr (.inl (lA VL)))), (aw, .inl (dA 1, 1024, .inr (.inl (lA wf))))] := hD
        refine ix_i2l hx hb (by first | decide | assumption | (constructor <;> omega)) dX8_word_23 ?_
        have o_12 : z_20 = if (0 ≤ a ∧ a < mn) ∧ 0 ≤ k ∧ k ≤ 15 then VL (16 * a + k) else 0 := by rw [if_neg (by omega)]; exact p0_20
        have o_13 : th1_20 = if (0 ≤ a ∧ a < mn) ∧ 0 ≤ k ∧ k ≤ 15 then 0 else 1 := by rw [if_neg (by omega)]; exact p1_20
        exact W.lret (v := L6 z_20) hx hb hr (fun t ht hW => ⟨⟨L6 z_20, (z_20, th1_20), rfl, ⟨rfl, ⟨o_12, o_13⟩⟩, by rw [ht]; exact hP, va_K.moved hW.alike hK, hD⟩, hS.F ht⟩) hS.2.2 dX8_word_24
abbrev BmetX8_sign (dC : Nat → ClassId) (dI : Nat → Nat → Nat) (dA : Nat → ClassId) (A : Nat → Prop) (am : Nat) (as_ : Nat) (av : Nat) (aw : Nat) (th : Int) (mn : Int) (sm : Int) (wd : Int) (lp : Int) (mp : Int) (re : Int) (SG : Int → Int) (VL : Int → Int) (wf : Int → Int) (a : Int) : Int × Int → State → Prop := fun u t => (fun (u : Int × Int) => (fun (z : Int) (th1 : Int) => va_P (dC, dI) vwCl [(am, .inr (0, [.int (I3 th1), .int (I3 mn), .ref as_, .ref av, .ref aw, .int (I3 sm), .int (I3 wd), .int (I3 lp), .int (I3 mp), .int (I3 re)])), (as_, .inl (dA 0, 60, .inl (iA SG))), (av, .inl (dA 1, 960, .inr (.inl (lA VL)))), (aw, .inl (dA 1, 1024, .inr (.inl (lA wf))))] t.heap ∧ va_K (dC, dI) vwCl (tyA dA) t ∧ va_D A [(am, .inr (0, [.int (I3 th1), .int (I3 mn), .ref as_, .ref av, .ref aw, .int (I3 sm), .int (I3 wd), .int (I3 lp), .int (I3 mp), .int (I3 re)])), (as_, .inl (dA 0, 60, .inl (iA SG))), (av, .inl (dA 1, 960, .inr (.inl (lA VL)))), (aw, .inl (dA 1, 1024, .inr (.inl (lA wf))))]) u.1 u.2) u
abbrev QmetX8_sign (dC : Nat → ClassId) (dI : Nat → Nat → Nat) (dA : Nat → ClassId) (A : Nat → Prop) (am : Nat) (as_ : Nat) (av : Nat) (aw : Nat) (th : Int) (mn : Int) (sm : Int) (wd : Int) (lp : Int) (mp : Int) (re : Int) (SG : Int → Int) (VL : Int → Int) (wf : Int → Int) (a : Int) := va_Qi (fun (rt_ : Int32) => fun (u : Int × Int) => (fun (z : Int) (th1 : Int) => rt_ = I3 z ∧ (z = if 0 ≤ a ∧ a < mn then SG a else 0) ∧ (th1 = if 0 ≤ a ∧ a < mn then 0 else 1)) u.1 u.2) (BmetX8_sign dC dI dA A am as_ av aw th mn sm wd lp mp re SG VL wf a) A
set_option maxHeartbeats 1000000 in
set_option maxRecDepth 100000 in
theorem metX8_sign (l : Launch) (dC : Nat → ClassId) (dI : Nat → Nat → Nat) (dA : Nat → ClassId) (am : Nat) (as_ : Nat) (av : Nat) (aw : Nat) (sz : Nat) (th : Int) (mn : Int) (sm : Int) (wd : Int) (lp : Int) (mp : Int) (re : Int) (SG : Int → Int) (VL : Int → Int) (wf : Int → Int) (a : Int) (hW : Dg wf) (hI : MI mn SG VL) (ha : In3 a) : Met l yX8_sign (ws_ yX8_sign cX8_sign 2 (some .int)) ({ frames := 2, cells := 0, slots := 0, locals := 80 }) (va_Pc [.ref am, .int (I3 a)] (fun U => U.heap.size = sz ∧ va_P (dC, dI) vwCl [(am, .inr (0, [.int (I3 th), .int (I3 mn), .ref as_, .ref av, .ref aw, .int (I3 sm), .int (I3 wd), .int (I3 lp), .int (I3 mp), .int (I3 re)])), (as_, .inl (dA 0, 60, .inl (iA SG))), (av, .inl (dA 1, 960, .inr (.inl (lA VL)))), (aw, .inl (dA 1, 1024, .inr (.inl (lA wf))))] U.heap ∧ va_K (dC, dI) vwCl (tyA dA) U ∧ va_D (fun _ => True) [(am, .inr (0, [.int (I3 th), .int (I3 mn), .ref as_, .ref av, .ref aw, .int (I3 sm), .int (I3 wd), .int (I3 lp), .int (I3 mp), .int (I3 re)])), (as_, .inl (dA 0, 60, .inl (iA SG))), (av, .inl (dA 1, 960, .inr (.inl (lA VL)))), (aw, .inl (dA 1, 1024, .inr (.inl (lA wf))))])) (QmetX8_sign dC dI dA (va_A [(am, .inr (0, [.int (I3 th), .int (I3 mn), .ref as_, .ref av, .ref aw, .int (I3 sm), .int (I3 wd), .int (I3 lp), .int (I3 mp), .int (I3 re)])), (as_, .inl (dA 0, 60, .inl (iA SG))), (av, .inl (dA 1, 960, .inr (.inl (lA VL)))), (aw, .inl (dA 1, 1024, .inr (.inl (lA wf))))] sz) am as_ av aw th mn sm wd lp mp re SG VL wf a) 0 0 (va_A [(am, .inr (0, [.int (I3 th), .int (I3 mn), .ref as_, .ref av, .ref aw, .int (I3 sm), .int (I3 wd), .int (I3 lp), .int (I3 mp), .int (I3 re)])), (as_, .inl (dA 0, 60, .inl (iA SG))), (av, .inl (dA 1, 960, .inr (.inl (lA VL)))), (aw, .inl (dA 1, 1024, .inr (.inl (lA wf))))] sz) := by
  refine Met.ofW (cc := cX8_sign) (maxL := 2) (ret := (some .int)) (by decide) rfl ?_
  intro p e s m args below meth c s₁ B hml hv
  obtain ⟨rfl, hsz, hP, hK, hD0⟩ := hv
  have hx := B.exec
  have hb := B.bytes
  have hr := B.returns
  have hts := atoms_spec (ws := (ws_ yX8_sign cX8_sign 2 (some .int))) B.pre
  have hts : ∀ w ∈ lw_all, w.before _ s = true := fun w h => hts w (List.mem_cons_of_mem _ h)
  have hown : s.vm.findClass RX8 = some m.cls := findClass_of_methodNamed B.named
  have hlocks := B.notSynchronized
  subst hsz
  have hD := hD0.self (sz := s.heap.size)
  generalize hAe : va_A [(am, .inr (0, [.int (I3 th), .int (I3 mn), .ref as_, .ref av, .ref aw, .int (I3 sm), .int (I3 wd), .int (I3 lp), .int (I3 mp), .int (I3 re)])), (as_, .inl (dA 0, 60, .inl (iA SG))), (av, .inl (dA 1, 960, .inr (.inl (lA VL)))), (aw, .inl (dA 1, 1024, .inr (.inl (lA wf))))] s.heap.size = A at hD ⊢
  have hA : ∀ q : Nat, s.heap.size ≤ q → A q := fun q h => by rw [← hAe]; exact Or.inr h
  have hS : va_S A s.heap s.heap [] := va_S.rf
  have hP : va_P (dC, dI) vwCl [(am, .inr (0, [.int (I3 th), .int (I3 mn), .ref as_, .ref av, .ref aw, .int (I3 sm), .int (I3 wd), .int (I3 lp), .int (I3 mp), .int (I3 re)])), (as_, .inl (dA 0, 60, .inl (iA SG))), (av, .inl (dA 1, 960, .inr (.inl (lA VL)))), (aw, .inl (dA 1, 1024, .inr (.inl (lA wf))))] s.heap := hP
  have hl := lv_entry ([.ref am, .int (I3 a)]) (n := 2) (Nat.le_of_ble_eq_true rfl)
  rw [lg_entry_eq]
  generalize (lg_sl ([.ref am, .int (I3 a)]) ++ List.replicate (2 - (lg_sl ([.ref am, .int (I3 a)])).length) Slot.unset).toArray = ls at hl ⊢
  have hl : lv_has ls 2 [(0, .ref am), (1, .int (I3 a))] := hl
  obtain ⟨hmn, hV, hAll⟩ := id hI
  refine lv_aload_n hx hb dX8_sign_0 rfl (lv_at hl 0 rfl) ?_
  refine lv_iload_n hx hb dX8_sign_1 rfl (lv_at hl 1 rfl) ?_
  have h_1 : In3 a := by first | assumption | omega | (constructor <;> omega)
  have h_2 : In3 mn := by first | assumption | omega | (constructor <;> omega)
  have hPc := hP.sub (ws' := [(am, .inr (0, [.int (I3 th), .int (I3 mn), .ref as_, .ref av, .ref aw, .int (I3 sm), .int (I3 wd), .int (I3 lp), .int (I3 mp), .int (I3 re)])), (as_, .inl (dA 0, 60, .inl (iA SG))), (av, .inl (dA 1, 960, .inr (.inl (lA VL)))), (aw, .inl (dA 1, 1024, .inr (.inl (lA wf))))]) [0, 1, 2, 3] rfl
  have hDc := hD.sub (ws' := [(am, .inr (0, [.int (I3 th), .int (I3 mn), .ref as_, .ref av, .ref aw, .int (I3 sm), .int (I3 wd), .int (I3 lp), .int (I3 mp), .int (I3 re)])), (as_, .inl (dA 0, 60, .inl (iA SG))), (av, .inl (dA 1, 960, .inr (.inl (lA VL)))), (aw, .inl (dA 1, 1024, .inr (.inl (lA wf))))]) [0, 1, 2, 3] (by decide) rfl
  have hFc := va_free (wc := [(am, .inr (0, [.int (I3 th), .int (I3 mn), .ref as_, .ref av, .ref aw, .int (I3 sm), .int (I3 wd), .int (I3 lp), .int (I3 mp), .int (I3 re)])), (as_, .inl (dA 0, 60, .inl (iA SG))), (av, .inl (dA 1, 960, .inr (.inl (lA VL)))), (aw, .inl (dA 1, 1024, .inr (.inl (lA wf))))]) hD hS hA [0, 1, 2, 3] rfl
  refine va_calli (va_runV (As := [.int (I3 a)]) (rest := []) ⟨hx, hb, hml, hown, hts⟩ (metX8_isNumber l dC dI dA am as_ av aw s.heap.size th mn sm wd lp mp re SG VL wf a h_1 h_2) (cwV 1 hts (lw_V q1050 q1052 qs35 q66 q1053) rfl rfl rfl (by decide +kernel) ⟨Nat.le_of_ble_eq_true rfl, Nat.le_of_ble_eq_true rfl⟩) ⟨fun a U g mk q => by obtain ⟨q0, q1, qP, qK, qD⟩ := q; exact ⟨q0, q1, qP, va_K.moved (u := U) (U := U.calling g mk a) (Vm.Alike.refl U.vm) qK, qD⟩, va_recv hK hPc (ci := 0) (q0 := 0) rfl rfl, fun U hU hW => ⟨rfl, by rw [hU], by rw [hU]; exact hPc, va_K.moved hW.alike hK, hDc.weaken (fun _ _ _ _ => trivial)⟩⟩ rfl rfl hl.1 rfl (lv_room (Nat.le_of_ble_eq_true rfl)) dX8_sign_2 ⟨Nat.le_of_ble_eq_true rfl, Nat.le_of_ble_eq_true rfl⟩) hS (fun q _ h => hFc q h) hFc (fun r_2 u t H1 locs ht hvm hw hB hz1 hk1 hS => ?_)
  obtain ⟨z_2, rfl⟩ : ∃ z, z = u := ⟨_, rfl⟩
  obtain ⟨rfl, p0_2⟩ : r_2 = I3 z_2 ∧ (z_2 = if 0 ≤ a ∧ a < mn then 1 else 0) := hw
  obtain ⟨hP1, hK1, hD1⟩ := hB
  rw [ht] at hP1
  obtain ⟨hP, hD⟩ := va_join (wr := []) (w1 := [(am, .inr (0, [.int (I3 th), .int (I3 mn), .ref as_, .ref av, .ref aw, .int (I3 sm), .int (I3 wd), .int (I3 lp), .int (I3 mp), .int (I3 re)])), (as_, .inl (dA 0, 60, .inl (iA SG))), (av, .inl (dA 1, 960, .inr (.inl (lA VL)))), (aw, .inl (dA 1, 1024, .inr (.inl (lA wf))))]) hP hD [0, 1, 2, 3] [] rfl rfl (by decide) (by decide) hk1 hFc hP1 hD1
  generalize H1 = H at hP hS ⊢
  have hP : va_P (dC, dI) vwCl [(am, .inr (0, [.int (I3 th), .int (I3 mn), .ref as_, .ref av, .ref aw, .int (I3 sm), .int (I3 wd), .int (I3 lp), .int (I3 mp), .int (I3 re)])), (as_, .inl (dA 0, 60, .inl (iA SG))), (av, .inl (dA 1, 960, .inr (.inl (lA VL)))), (aw, .inl (dA 1, 1024, .inr (.inl (lA wf))))] H := hP
  have hD : va_D A [(am, .inr (0, [.int (I3 th), .int (I3 mn), .ref as_, .ref av, .ref aw, .int (I3 sm), .int (I3 wd), .int (I3 lp), .int (I3 mp), .int (I3 re)])), (as_, .inl (dA 0, 60, .inl (iA SG))), (av, .inl (dA 1, 960, .inr (.inl (lA VL)))), (aw, .inl (dA 1, 1024, .inr (.inl (lA wf))))] := hD
  have y_2 := b01 p0_2
  refine ix_if_ne (tgt := 14) hx hb (by first | decide | assumption | (constructor <;> omega)) dX8_sign_5 (by decide) (fun c_5 => ?_) (fun c_5 => ?_)
  · skip
    refine lv_aload_n hx hb dX8_sign_14 rfl (lv_at hl 0 rfl) ?_
    refine lv_iconst (v := I3 (0)) hx hb dX8_sign_15 rfl ?_
    refine va_put (D := (dC, dI)) (ci := 0) (v := .int (I3 0)) (ty := .int) (C := RX8) (T := TX8) (N := 10) hx hb hts in_X8 tyX8 tyX8_ok nmX8 hown hK hP hD hS 0 rfl rfl 0 (by decide) (hts _ q913) (fun _ h9 => h9) rfl (by decide +kernel) rfl rfl (Nat.le_of_ble_eq_true rfl) dX8_sign_16 (fun H locs hP hD hS => ?_)
    have hP : va_P (dC, dI) vwCl [(am, .inr (0, [.int (I3 0), .int (I3 mn), .ref as_, .ref av, .ref aw, .int (I3 sm), .int (I3 wd), .int (I3 lp), .int (I3 mp), .int (I3 re)])), (as_, .inl (dA 0, 60, .inl (iA SG))), (av, .inl (dA 1, 960, .inr (.inl (lA VL)))), (aw, .inl (dA 1, 1024, .inr (.inl (lA wf))))] H := hP
    have hD : va_D A [(am, .inr (0, [.int (I3 0), .int (I3 mn), .ref as_, .ref av, .ref aw, .int (I3 sm), .int (I3 wd), .int (I3 lp), .int (I3 mp), .int (I3 re)])), (as_, .inl (dA 0, 60, .inl (iA SG))), (av, .inl (dA 1, 960, .inr (.inl (lA VL)))), (aw, .inl (dA 1, 1024, .inr (.inl (lA wf))))] := hD
    refine lv_aload_n hx hb dX8_sign_19 rfl (lv_at hl 0 rfl) ?_
    refine va_get (D := (dC, dI)) (ci := 0) (v := .ref as_) (C := RX8) (T := TX8) (N := 10) hx hb hts in_X8 hown hK hP 0 rfl rfl 2 (by decide) (hts _ q915) (fun _ h9 => h9) rfl dX8_sign_20 ?_
    refine lv_iload_n hx hb dX8_sign_23 rfl (lv_at hl 1 rfl) ?_
    refine ix_iald hx hb hK hP 1 0 rfl rfl (Nat.le_of_ble_eq_true rfl) (by omega) dX8_sign_24 ?_
    have o_3 : (SG a) = if 0 ≤ a ∧ a < mn then SG a else 0 := by rw [if_pos (by omega)]
    have o_4 : (0 : Int) = if 0 ≤ a ∧ a < mn then 0 else 1 := by rw [if_pos (by omega)]
    exact W.iret (v := I3 (SG a)) hx hb hr (fun t ht hW => ⟨⟨I3 (SG a), ((SG a), 0), rfl, ⟨rfl, ⟨o_3, o_4⟩⟩, by rw [ht]; exact hP, va_K.moved hW.alike hK, hD⟩, hS.F ht⟩) hS.2.2 dX8_sign_25
  · skip
    refine lv_aload_n hx hb dX8_sign_8 rfl (lv_at hl 0 rfl) ?_
    refine lv_iconst (v := I3 (1)) hx hb dX8_sign_9 rfl ?_
    have h_5 : In3 (1 : Int) := by first | assumption | omega | (constructor <;> omega)
    have hPc := hP.sub (ws' := [(am, .inr (0, [.int (I3 th), .int (I3 mn), .ref as_, .ref av, .ref aw, .int (I3 sm), .int (I3 wd), .int (I3 lp), .int (I3 mp), .int (I3 re)])), (as_, .inl (dA 0, 60, .inl (iA SG))), (av, .inl (dA 1, 960, .inr (.inl (lA VL)))), (aw, .inl (dA 1, 1024, .inr (.inl (lA wf))))]) [0, 1, 2, 3] rfl
    have hDc := hD.sub (ws' := [(am, .inr (0, [.int (I3 th), .int (I3 mn), .ref as_, .ref av, .ref aw, .int (I3 sm), .int (I3 wd), .int (I3 lp), .int (I3 mp), .int (I3 re)])), (as_, .inl (dA 0, 60, .inl (iA SG))), (av, .inl (dA 1, 960, .inr (.inl (lA VL)))), (aw, .inl (dA 1, 1024, .inr (.inl (lA wf))))]) [0, 1, 2, 3] (by decide) rfl
    have hFc := va_free (wc := [(am, .inr (0, [.int (I3 th), .int (I3 mn), .ref as_, .ref av, .ref aw, .int (I3 sm), .int (I3 wd), .int (I3 lp), .int (I3 mp), .int (I3 re)])), (as_, .inl (dA 0, 60, .inl (iA SG))), (av, .inl (dA 1, 960, .inr (.inl (lA VL)))), (aw, .inl (dA 1, 1024, .inr (.inl (lA wf))))]) hD hS hA [0, 1, 2, 3] rfl
    refine va_calli (va_runV (As := [.int (I3 1)]) (rest := []) ⟨hx, hb, hml, hown, hts⟩ (metX8_fails l dC dI dA am as_ av aw H.size th mn sm wd lp mp re SG VL wf 1 h_5) (cwV 1 hts (lw_V q1016 q1018 qs34 q66 q1019) rfl rfl rfl (by decide +kernel) ⟨Nat.le_of_ble_eq_true rfl, Nat.le_of_ble_eq_true rfl⟩) ⟨fun a U g mk q => by obtain ⟨q0, q1, qP, qK, qD⟩ := q; exact ⟨q0, q1, qP, va_K.moved (u := U) (U := U.calling g mk a) (Vm.Alike.refl U.vm) qK, qD⟩, va_recv hK hPc (ci := 0) (q0 := 0) rfl rfl, fun U hU hW => ⟨rfl, by rw [hU], by rw [hU]; exact hPc, va_K.moved hW.alike hK, hDc.weaken (fun _ _ _ _ => trivial)⟩⟩ rfl rfl hl.1 rfl (lv_room (Nat.le_of_ble_eq_true rfl)) dX8_sign_10 ⟨Nat.le_of_ble_eq_true rfl, Nat.le_of_ble_eq_true rfl⟩) hS (fun q _ h => hFc q h) hFc (fun r_10 u t H1 locs ht hvm hw hB hz1 hk1 hS => ?_)
    obtain ⟨z_10, th1_10⟩ := u
    obtain ⟨rfl, p0_10, p1_10⟩ : r_10 = I3 z_10 ∧ (z_10 = 0) ∧ (th1_10 = (1 : Int)) := hw
    obtain ⟨hP1, hK1, hD1⟩ := hB
    rw [ht] at hP1
    obtain ⟨hP, hD⟩ := va_join (wr := []) (w1 := [(am, .inr (0, [.int (I3 th1_10), .int (I3 mn), .ref as_, .ref av, .ref aw, .int (I3 sm), .int (I3 wd), .int (I3 lp), .int (I3 mp), .int (I3 re)])), (as_, .inl (dA 0, 60, .inl (iA SG))), (av, .inl (dA 1, 960, .inr (.inl (lA VL)))), (aw, .inl (dA 1, 1024, .inr (.inl (lA wf))))]) hP hD [0, 1, 2, 3] [] rfl rfl (by decide) (by decide) hk1 hFc hP1 hD1
    generalize H1 = H at hP hS ⊢
    have hP : va_P (dC, dI) vwCl [(am, .inr (0, [.int (I3 th1_10), .int (I3 mn), .ref as_, .ref av, .ref aw, .int (I3 sm), .int (I3 wd), .int (I3 lp), .int (I3 mp), .int (I3 re)])), (as_, .inl (dA 0, 60, .inl (iA SG))), (av, .inl (dA 1, 960, .inr (.inl (lA VL)))), (aw, .inl (dA 1, 1024, .inr (.inl (lA wf))))] H := hP
    have hD : va_D A [(am, .inr (0, [.int (I3 th1_10), .int (I3 mn), .ref as_, .ref av, .ref aw, .int (I3 sm), .int (I3 wd), .int (I3 lp), .int (I3 mp), .int (I3 re)])), (as_, .inl (dA 0, 60, .inl (iA SG))), (av, .inl (dA 1, 960, .inr (.inl (lA VL)))), (aw, .inl (dA 1, 1024, .inr (.inl (lA wf))))] := hD
    have o_6 : z_10 = if 0 ≤ a ∧ a < mn then SG a else 0 := by rw [if_neg (by omega)]; exact p0_10
    have o_7 : th1_10 = if 0 ≤ a ∧ a < mn then 0 else 1 := by rw [if_neg (by omega)]; exact p1_10
    exact W.iret (v := I3 z_10) hx hb hr (fun t ht hW => ⟨⟨I3 z_10, (z_10, th1_10), rfl, ⟨rfl, ⟨o_6, o_7⟩⟩, by rw [ht]; exact hP, va_K.moved hW.alike hK, hD⟩, hS.F ht⟩) hS.2.2 dX8_sign_13
abbrev BmetX8_bits (dC : Nat → ClassId) (dI : Nat → Nat → Nat) (dA : Nat → ClassId) (A : Nat → Prop) (am : Nat) (as_ : Nat) (av : Nat) (aw : Nat) (th : Int) (mn : Int) (sm : Int) (wd : Int) (lp : Int) (mp : Int) (re : Int) (SG : Int → Int) (VL : Int → Int) (wf : Int → Int) (a : Int) (o : Int) : Int × Int × (Int → Int) → State → Prop := fun u t => (fun (u : Int × Int × (Int → Int)) => (fun (z : Int) (th1 : Int) (W1 : Int → Int) => va_P (dC, dI) vwCl [(am, .inr (0, [.int (I3 th1), .int (I3 mn), .ref as_, .ref av, .ref aw, .int (I3 sm), .int (I3 wd), .int (I3 lp), .int (I3 mp), .int (I3 re)])), (as_, .inl (dA 0, 60, .inl (iA SG))), (av, .inl (dA 1, 960, .inr (.inl (lA VL)))), (aw, .inl (dA 1, 1024, .inr (.inl (lA W1))))] t.heap ∧ va_K (dC, dI) vwCl (tyA dA) t ∧ va_D A [(am, .inr (0, [.int (I3 th1), .int (I3 mn), .ref as_, .ref av, .ref aw, .int (I3 sm), .int (I3 wd), .int (I3 lp), .int (I3 mp), .int (I3 re)])), (as_, .inl (dA 0, 60, .inl (iA SG))), (av, .inl (dA 1, 960, .inr (.inl (lA VL)))), (aw, .inl (dA 1, 1024, .inr (.inl (lA W1))))]) u.1 u.2.1 u.2.2) u
abbrev QmetX8_bits (dC : Nat → ClassId) (dI : Nat → Nat → Nat) (dA : Nat → ClassId) (A : Nat → Prop) (am : Nat) (as_ : Nat) (av : Nat) (aw : Nat) (th : Int) (mn : Int) (sm : Int) (wd : Int) (lp : Int) (mp : Int) (re : Int) (SG : Int → Int) (VL : Int → Int) (wf : Int → Int) (a : Int) (o : Int) := va_Qi (fun (rt_ : Int32) => fun (u : Int × Int × (Int → Int)) => (fun (z : Int) (th1 : Int) (W1 : Int → Int) => rt_ = I3 z ∧ (Dg W1) ∧ (z = if 0 ≤ a ∧ a < mn then ((bl (if o = 0 then qv VL a else pv VL a) : Nat) : Int) else 0) ∧ (th1 = if 0 ≤ a ∧ a < mn then 0 else 1)) u.1 u.2.1 u.2.2) (BmetX8_bits dC dI dA A am as_ av aw th mn sm wd lp mp re SG VL wf a o) A
set_option maxHeartbeats 1000000 in
set_option maxRecDepth 100000 in
theorem metX8_bits (l : Launch) (dC : Nat → ClassId) (dI : Nat → Nat → Nat) (dA : Nat → ClassId) (am : Nat) (as_ : Nat) (av : Nat) (aw : Nat) (sz : Nat) (th : Int) (mn : Int) (sm : Int) (wd : Int) (lp : Int) (mp : Int) (re : Int) (SG : Int → Int) (VL : Int → Int) (wf : Int → Int) (a : Int) (o : Int) (hW : Dg wf) (hI : MI mn SG VL) (ha : In3 a) (ho : o = 0 ∨ o = 1) : Met l yX8_bits (ws_ yX8_bits cX8_bits 3 (some .int)) ({ frames := 3, cells := 0, slots := 0, locals := 120 }) (va_Pc [.ref am, .int (I3 a), .int (I3 o)] (fun U => U.heap.size = sz ∧ va_P (dC, dI) vwCl [(am, .inr (0, [.int (I3 th), .int (I3 mn), .ref as_, .ref av, .ref aw, .int (I3 sm), .int (I3 wd), .int (I3 lp), .int (I3 mp), .int (I3 re)])), (as_, .inl (dA 0, 60, .inl (iA SG))), (av, .inl (dA 1, 960, .inr (.inl (lA VL)))), (aw, .inl (dA 1, 1024, .inr (.inl (lA wf))))] U.heap ∧ va_K (dC, dI) vwCl (tyA dA) U ∧ va_D (fun _ => True) [(am, .inr (0, [.int (I3 th), .int (I3 mn), .ref as_, .ref av, .ref aw, .int (I3 sm), .int (I3 wd), .int (I3 lp), .int (I3 mp), .int (I3 re)])), (as_, .inl (dA 0, 60, .inl (iA SG))), (av, .inl (dA 1, 960, .inr (.inl (lA VL)))), (aw, .inl (dA 1, 1024, .inr (.inl (lA wf))))])) (QmetX8_bits dC dI dA (va_A [(am, .inr (0, [.int (I3 th), .int (I3 mn), .ref as_, .ref av, .ref aw, .int (I3 sm), .int (I3 wd), .int (I3 lp), .int (I3 mp), .int (I3 re)])), (as_, .inl (dA 0, 60, .inl (iA SG))), (av, .inl (dA 1, 960, .inr (.inl (lA VL)))), (aw, .inl (dA 1, 1024, .inr (.inl (lA wf))))] sz) am as_ av aw th mn sm wd lp mp re SG VL wf a o) 0 0 (va_A [(am, .inr (0, [.int (I3 th), .int (I3 mn), .ref as_, .ref av, .ref aw, .int (I3 sm), .int (I3 wd), .int (I3 lp), .int (I3 mp), .int (I3 re)])), (as_, .inl (dA 0, 60, .inl (iA SG))), (av, .inl (dA 1, 960, .inr (.inl (lA VL)))), (aw, .inl (dA 1, 1024, .inr (.inl (lA wf))))] sz) := by
  refine Met.ofW (cc := cX8_bits) (maxL := 3) (ret := (some .int)) (by decide) rfl ?_
  intro p e s m args below meth c s₁ B hml hv
  obtain ⟨rfl, hsz, hP, hK, hD0⟩ := hv
  have hx := B.exec
  have hb := B.bytes
  have hr := B.returns
  have hts := atoms_spec (ws := (ws_ yX8_bits cX8_bits 3 (some .int))) B.pre
  have hts : ∀ w ∈ lw_all, w.before _ s = true := fun w h => hts w (List.mem_cons_of_mem _ h)
  have hown : s.vm.findClass RX8 = some m.cls := findClass_of_methodNamed B.named
  have hlocks := B.notSynchronized
  subst hsz
  have hD := hD0.self (sz := s.heap.size)
  generalize hAe : va_A [(am, .inr (0, [.int (I3 th), .int (I3 mn), .ref as_, .ref av, .ref aw, .int (I3 sm), .int (I3 wd), .int (I3 lp), .int (I3 mp), .int (I3 re)])), (as_, .inl (dA 0, 60, .inl (iA SG))), (av, .inl (dA 1, 960, .inr (.inl (lA VL)))), (aw, .inl (dA 1, 1024, .inr (.inl (lA wf))))] s.heap.size = A at hD ⊢
  have hA : ∀ q : Nat, s.heap.size ≤ q → A q := fun q h => by rw [← hAe]; exact Or.inr h
  have hS : va_S A s.heap s.heap [] := va_S.rf
  have hP : va_P (dC, dI) vwCl [(am, .inr (0, [.int (I3 th), .int (I3 mn), .ref as_, .ref av, .ref aw, .int (I3 sm), .int (I3 wd), .int (I3 lp), .int (I3 mp), .int (I3 re)])), (as_, .inl (dA 0, 60, .inl (iA SG))), (av, .inl (dA 1, 960, .inr (.inl (lA VL)))), (aw, .inl (dA 1, 1024, .inr (.inl (lA wf))))] s.heap := hP
  have hl := lv_entry ([.ref am, .int (I3 a), .int (I3 o)]) (n := 3) (Nat.le_of_ble_eq_true rfl)
  rw [lg_entry_eq]
  generalize (lg_sl ([.ref am, .int (I3 a), .int (I3 o)]) ++ List.replicate (3 - (lg_sl ([.ref am, .int (I3 a), .int (I3 o)])).length) Slot.unset).toArray = ls at hl ⊢
  have hl : lv_has ls 3 [(0, .ref am), (1, .int (I3 a)), (2, .int (I3 o))] := hl
  obtain ⟨hmn, hV, hAll⟩ := id hI
  refine lv_aload_n hx hb dX8_bits_0 rfl (lv_at hl 0 rfl) ?_
  refine lv_iload_n hx hb dX8_bits_1 rfl (lv_at hl 1 rfl) ?_
  have h_1 : In3 a := by first | assumption | omega | (constructor <;> omega)
  have h_2 : In3 mn := by first | assumption | omega | (constructor <;> omega)
  have hPc := hP.sub (ws' := [(am, .inr (0, [.int (I3 th), .int (I3 mn), .ref as_, .ref av, .ref aw, .int (I3 sm), .int (I3 wd), .int (I3 lp), .int (I3 mp), .int (I3 re)])), (as_, .inl (dA 0, 60, .inl (iA SG))), (av, .inl (dA 1, 960, .inr (.inl (lA VL)))), (aw, .inl (dA 1, 1024, .inr (.inl (lA wf))))]) [0, 1, 2, 3] rfl
  have hDc := hD.sub (ws' := [(am, .inr (0, [.int (I3 th), .int (I3 mn), .ref as_, .ref av, .ref aw, .int (I3 sm), .int (I3 wd), .int (I3 lp), .int (I3 mp), .int (I3 re)])), (as_, .inl (dA 0, 60, .inl (iA SG))), (av, .inl (dA 1, 960, .inr (.inl (lA VL)))), (aw, .inl (dA 1, 1024, .inr (.inl (lA wf))))]) [0, 1, 2, 3] (by decide) rfl
  have hFc := va_free (wc := [(am, .inr (0, [.int (I3 th), .int (I3 mn), .ref as_, .ref av, .ref aw, .int (I3 sm), .int (I3 wd), .int (I3 lp), .int (I3 mp), .int (I3 re)])), (as_, .inl (dA 0, 60, .inl (iA SG))), (av, .inl (dA 1, 960, .inr (.inl (lA VL)))), (aw, .inl (dA 1, 1024, .inr (.inl (lA wf))))]) hD hS hA [0, 1, 2, 3] rfl
  refine va_calli (va_runV (As := [.int (I3 a)]) (rest := []) ⟨hx, hb, hml, hown, hts⟩ (metX8_isNumber l dC dI dA am as_ av aw s.heap.size th mn sm wd lp mp re SG VL wf a h_1 h_2) (cwV 1 hts (lw_V q1050 q1052 qs35 q66 q1053) rfl rfl rfl (by decide +kernel) ⟨Nat.le_of_ble_eq_true rfl, Nat.le_of_ble_eq_true rfl⟩) ⟨fun a U g mk q => by obtain ⟨q0, q1, qP, qK, qD⟩ := q; exact ⟨q0, q1, qP, va_K.moved (u := U) (U := U.calling g mk a) (Vm.Alike.refl U.vm) qK, qD⟩, va_recv hK hPc (ci := 0) (q0 := 0) rfl rfl, fun U hU hW => ⟨rfl, by rw [hU], by rw [hU]; exact hPc, va_K.moved hW.alike hK, hDc.weaken (fun _ _ _ _ => trivial)⟩⟩ rfl rfl hl.1 rfl (lv_room (Nat.le_of_ble_eq_true rfl)) dX8_bits_2 ⟨Nat.le_of_ble_eq_true rfl, Nat.le_of_ble_eq_true rfl⟩) hS (fun q _ h => hFc q h) hFc (fun r_2 u t H1 locs ht hvm hw hB hz1 hk1 hS => ?_)
  obtain ⟨z_2, rfl⟩ : ∃ z, z = u := ⟨_, rfl⟩
  obtain ⟨rfl, p0_2⟩ : r_2 = I3 z_2 ∧ (z_2 = if 0 ≤ a ∧ a < mn then 1 else 0) := hw
  obtain ⟨hP1, hK1, hD1⟩ := hB
  rw [ht] at hP1
  obtain ⟨hP, hD⟩ := va_join (wr := []) (w1 := [(am, .inr (0, [.int (I3 th), .int (I3 mn), .ref as_, .ref av, .ref aw, .int (I3 sm), .int (I3 wd), .int (I3 lp), .int (I3 mp), .int (I3 re)])), (as_, .inl (dA 0, 60, .inl (iA SG))), (av, .inl (dA 1, 960, .inr (.inl (lA VL)))), (aw, .inl (dA 1, 1024, .inr (.inl (lA wf))))]) hP hD [0, 1, 2, 3] [] rfl rfl (by decide) (by decide) hk1 hFc hP1 hD1
  generalize H1 = H at hP hS ⊢
  have hP : va_P (dC, dI) vwCl [(am, .inr (0, [.int (I3 th), .int (I3 mn), .ref as_, .ref av, .ref aw, .int (I3 sm), .int (I3 wd), .int (I3 lp), .int (I3 mp), .int (I3 re)])), (as_, .inl (dA 0, 60, .inl (iA SG))), (av, .inl (dA 1, 960, .inr (.inl (lA VL)))), (aw, .inl (dA 1, 1024, .inr (.inl (lA wf))))] H := hP
  have hD : va_D A [(am, .inr (0, [.int (I3 th), .int (I3 mn), .ref as_, .ref av, .ref aw, .int (I3 sm), .int (I3 wd), .int (I3 lp), .int (I3 mp), .int (I3 re)])), (as_, .inl (dA 0, 60, .inl (iA SG))), (av, .inl (dA 1, 960, .inr (.inl (lA VL)))), (aw, .inl (dA 1, 1024, .inr (.inl (lA wf))))] := hD
  have y_2 := b01 p0_2
  refine ix_if_ne (tgt := 14) hx hb (by first | decide | assumption | (constructor <;> omega)) dX8_bits_5 (by decide) (fun c_5 => ?_) (fun c_5 => ?_)
  · skip
    refine lv_aload_n hx hb dX8_bits_14 rfl (lv_at hl 0 rfl) ?_
    refine lv_iconst (v := I3 (0)) hx hb dX8_bits_15 rfl ?_
    refine va_put (D := (dC, dI)) (ci := 0) (v := .int (I3 0)) (ty := .int) (C := RX8) (T := TX8) (N := 10) hx hb hts in_X8 tyX8 tyX8_ok nmX8 hown hK hP hD hS 0 rfl rfl 0 (by decide) (hts _ q913) (fun _ h9 => h9) rfl (by decide +kernel) rfl rfl (Nat.le_of_ble_eq_true rfl) dX8_bits_16 (fun H locs hP hD hS => ?_)
    have hP : va_P (dC, dI) vwCl [(am, .inr (0, [.int (I3 0), .int (I3 mn), .ref as_, .ref av, .ref aw, .int (I3 sm), .int (I3 wd), .int (I3 lp), .int (I3 mp), .int (I3 re)])), (as_, .inl (dA 0, 60, .inl (iA SG))), (av, .inl (dA 1, 960, .inr (.inl (lA VL)))), (aw, .inl (dA 1, 1024, .inr (.inl (lA wf))))] H := hP
    have hD : va_D A [(am, .inr (0, [.int (I3 0), .int (I3 mn), .ref as_, .ref av, .ref aw, .int (I3 sm), .int (I3 wd), .int (I3 lp), .int (I3 mp), .int (I3 re)])), (as_, .inl (dA 0, 60, .inl (iA SG))), (av, .inl (dA 1, 960, .inr (.inl (lA VL)))), (aw, .inl (dA 1, 1024, .inr (.inl (lA wf))))] := hD
    refine lv_iload_n hx hb dX8_bits_19 rfl (lv_at hl 2 rfl) ?_
    refine ix_if_eq (tgt := 32) hx hb (by first | decide | assumption | (constructor <;> omega)) dX8_bits_20 (by decide) (fun c_20 => ?_) (fun c_20 => ?_)
    · skip
      refine lv_aload_n hx hb dX8_bits_32 rfl (lv_at hl 0 rfl) ?_
      refine lv_iload_n hx hb dX8_bits_33 rfl (lv_at hl 1 rfl) ?_
      refine lv_iconst (v := I3 (2)) hx hb dX8_bits_34 rfl ?_
      have h_3 : 0 ≤ a ∧ a < 60 := by first | assumption | omega | (constructor <;> omega)
      have h_4 : 0 ≤ (2 : Int) ∧ (2 : Int) < 16 := by first | assumption | omega | (constructor <;> omega)
      have h_5 : Dg wf := by first | assumption | omega | (constructor <;> omega)
      have h_6 : Dg VL := by first | assumption | omega | (constructor <;> omega)
      have hPc := hP.sub (ws' := [(am, .inr (0, [.int (I3 ((0 : Int))), .int (I3 mn), .ref as_, .ref av, .ref aw, .int (I3 sm), .int (I3 wd), .int (I3 lp), .int (I3 mp), .int (I3 re)])), (as_, .inl (dA 0, 60, .inl (iA SG))), (av, .inl (dA 1, 960, .inr (.inl (lA VL)))), (aw, .inl (dA 1, 1024, .inr (.inl (lA wf))))]) [0, 1, 2, 3] rfl
      have hDc := hD.sub (ws' := [(am, .inr (0, [.int (I3 ((0 : Int))), .int (I3 mn), .ref as_, .ref av, .ref aw, .int (I3 sm), .int (I3 wd), .int (I3 lp), .int (I3 mp), .int (I3 re)])), (as_, .inl (dA 0, 60, .inl (iA SG))), (av, .inl (dA 1, 960, .inr (.inl (lA VL)))), (aw, .inl (dA 1, 1024, .inr (.inl (lA wf))))]) [0, 1, 2, 3] (by decide) rfl
      have hFc := va_free (wc := [(am, .inr (0, [.int (I3 ((0 : Int))), .int (I3 mn), .ref as_, .ref av, .ref aw, .int (I3 sm), .int (I3 wd), .int (I3 lp), .int (I3 mp), .int (I3 re)])), (as_, .inl (dA 0, 60, .inl (iA SG))), (av, .inl (dA 1, 960, .inr (.inl (lA VL)))), (aw, .inl (dA 1, 1024, .inr (.inl (lA wf))))]) hD hS hA [0, 1, 2, 3] rfl
      refine va_callv (va_runV (As := [.int (I3 a), .int (I3 2)]) (rest := []) ⟨hx, hb, hml, hown, hts⟩ (metX8_loadQ l dC dI dA am as_ av aw H.size 0 mn sm wd lp mp re SG VL wf a 2 h_3 h_4 h_5 h_6) (cwV 2 hts (lw_V q1070 q1072 qs40 q66 q1073) rfl rfl rfl (by decide +kernel) ⟨Nat.le_of_ble_eq_true rfl, Nat.le_of_ble_eq_true rfl⟩) ⟨fun a U g mk q => by obtain ⟨q0, q1, qP, qK, qD⟩ := q; exact ⟨q0, q1, qP, va_K.moved (u := U) (U := U.calling g mk a) (Vm.Alike.refl U.vm) qK, qD⟩, va_recv hK hPc (ci := 0) (q0 := 0) rfl rfl, fun U hU hW => ⟨rfl, by rw [hU], by rw [hU]; exact hPc, va_K.moved hW.alike hK, hDc.weaken (fun _ _ _ _ => trivial)⟩⟩ rfl rfl hl.1 rfl (lv_room (Nat.le_of_ble_eq_true rfl)) dX8_bits_35 ⟨Nat.le_of_ble_eq_true rfl, Nat.le_of_ble_eq_true rfl⟩) hS (fun q _ h => hFc q h) hFc (fun u t H1 locs ht hvm hw hB hz1 hk1 hS => ?_)
      obtain ⟨W1_35, rfl⟩ : ∃ z, z = u := ⟨_, rfl⟩
      obtain ⟨p0_35, p1_35, p2_35⟩ : (Dg W1_35) ∧ (Fr wf W1_35 (2 : Int)) ∧ (rv W1_35 (2 : Int) = qv VL a) := hw
      obtain ⟨hP1, hK1, hD1⟩ := hB
      rw [ht] at hP1
      obtain ⟨hP, hD⟩ := va_join (wr := []) (w1 := [(am, .inr (0, [.int (I3 ((0 : Int))), .int (I3 mn), .ref as_, .ref av, .ref aw, .int (I3 sm), .int (I3 wd), .int (I3 lp), .int (I3 mp), .int (I3 re)])), (as_, .inl (dA 0, 60, .inl (iA SG))), (av, .inl (dA 1, 960, .inr (.inl (lA VL)))), (aw, .inl (dA 1, 1024, .inr (.inl (lA W1_35))))]) hP hD [0, 1, 2, 3] [] rfl rfl (by decide) (by decide) hk1 hFc hP1 hD1
      generalize H1 = H at hP hS ⊢
      have hP : va_P (dC, dI) vwCl [(am, .inr (0, [.int (I3 ((0 : Int))), .int (I3 mn), .ref as_, .ref av, .ref aw, .int (I3 sm), .int (I3 wd), .int (I3 lp), .int (I3 mp), .int (I3 re)])), (as_, .inl (dA 0, 60, .inl (iA SG))), (av, .inl (dA 1, 960, .inr (.inl (lA VL)))), (aw, .inl (dA 1, 1024, .inr (.inl (lA W1_35))))] H := hP
      have hD : va_D A [(am, .inr (0, [.int (I3 ((0 : Int))), .int (I3 mn), .ref as_, .ref av, .ref aw, .int (I3 sm), .int (I3 wd), .int (I3 lp), .int (I3 mp), .int (I3 re)])), (as_, .inl (dA 0, 60, .inl (iA SG))), (av, .inl (dA 1, 960, .inr (.inl (lA VL)))), (aw, .inl (dA 1, 1024, .inr (.inl (lA W1_35))))] := hD
      refine lv_aload_n hx hb dX8_bits_38 rfl (lv_at hl 0 rfl) ?_
      refine lv_iconst (v := I3 (2)) hx hb dX8_bits_39 rfl ?_
      have h_7 : 0 ≤ (2 : Int) ∧ (2 : Int) < 16 := by first | assumption | omega | (constructor <;> omega)
      have h_8 : Dg W1_35 := by first | assumption | omega | (constructor <;> omega)
      have hPc := hP.sub (ws' := [(am, .inr (0, [.int (I3 (((0 : Int)))), .int (I3 mn), .ref as_, .ref av, .ref aw, .int (I3 sm), .int (I3 wd), .int (I3 lp), .int (I3 mp), .int (I3 re)])), (as_, .inl (dA 0, 60, .inl (iA SG))), (av, .inl (dA 1, 960, .inr (.inl (lA VL)))), (aw, .inl (dA 1, 1024, .inr (.inl (lA W1_35))))]) [0, 1, 2, 3] rfl
      have hDc := hD.sub (ws' := [(am, .inr (0, [.int (I3 (((0 : Int)))), .int (I3 mn), .ref as_, .ref av, .ref aw, .int (I3 sm), .int (I3 wd), .int (I3 lp), .int (I3 mp), .int (I3 re)])), (as_, .inl (dA 0, 60, .inl (iA SG))), (av, .inl (dA 1, 960, .inr (.inl (lA VL)))), (aw, .inl (dA 1, 1024, .inr (.inl (lA W1_35))))]) [0, 1, 2, 3] (by decide) rfl
      have hFc := va_free (wc := [(am, .inr (0, [.int (I3 (((0 : Int)))), .int (I3 mn), .ref as_, .ref av, .ref aw, .int (I3 sm), .int (I3 wd), .int (I3 lp), .int (I3 mp), .int (I3 re)])), (as_, .inl (dA 0, 60, .inl (iA SG))), (av, .inl (dA 1, 960, .inr (.inl (lA VL)))), (aw, .inl (dA 1, 1024, .inr (.inl (lA W1_35))))]) hD hS hA [0, 1, 2, 3] rfl
      refine va_calli (va_runV (As := [.int (I3 2)]) (rest := []) ⟨hx, hb, hml, hown, hts⟩ (metX8_length l dC dI dA am as_ av aw H.size ((0 : Int)) mn sm wd lp mp re SG VL W1_35 2 h_7 h_8) (cwV 1 hts (lw_V q1008 q1010 qs32 q66 q1011) rfl rfl rfl (by decide +kernel) ⟨Nat.le_of_ble_eq_true rfl, Nat.le_of_ble_eq_true rfl⟩) ⟨fun a U g mk q => by obtain ⟨q0, q1, qP, qK, qD⟩ := q; exact ⟨q0, q1, qP, va_K.moved (u := U) (U := U.calling g mk a) (Vm.Alike.refl U.vm) qK, qD⟩, va_recv hK hPc (ci := 0) (q0 := 0) rfl rfl, fun U hU hW => ⟨rfl, by rw [hU], by rw [hU]; exact hPc, va_K.moved hW.alike hK, hDc.weaken (fun _ _ _ _ => trivial)⟩⟩ rfl rfl hl.1 rfl (lv_room (Nat.le_of_ble_eq_true rfl)) dX8_bits_40 ⟨Nat.le_of_ble_eq_true rfl, Nat.le_of_ble_eq_true rfl⟩) hS (fun q _ h => hFc q h) hFc (fun r_40 u t H1 locs ht hvm hw hB hz1 hk1 hS => ?_)
      obtain ⟨z_40, rfl⟩ : ∃ z, z = u := ⟨_, rfl⟩
      obtain ⟨rfl, p0_40⟩ : r_40 = I3 z_40 ∧ (z_40 = ((bl (rv W1_35 (2 : Int)) : Nat) : Int)) := hw
      obtain ⟨hP1, hK1, hD1⟩ := hB
      rw [ht] at hP1
      obtain ⟨hP, hD⟩ := va_join (wr := []) (w1 := [(am, .inr (0, [.int (I3 (((0 : Int)))), .int (I3 mn), .ref as_, .ref av, .ref aw, .int (I3 sm), .int (I3 wd), .int (I3 lp), .int (I3 mp), .int (I3 re)])), (as_, .inl (dA 0, 60, .inl (iA SG))), (av, .inl (dA 1, 960, .inr (.inl (lA VL)))), (aw, .inl (dA 1, 1024, .inr (.inl (lA W1_35))))]) hP hD [0, 1, 2, 3] [] rfl rfl (by decide) (by decide) hk1 hFc hP1 hD1
      generalize H1 = H at hP hS ⊢
      have hP : va_P (dC, dI) vwCl [(am, .inr (0, [.int (I3 (((0 : Int)))), .int (I3 mn), .ref as_, .ref av, .ref aw, .int (I3 sm), .int (I3 wd), .int (I3 lp), .int (I3 mp), .int (I3 re)])), (as_, .inl (dA 0, 60, .inl (iA SG))), (av, .inl (dA 1, 960, .inr (.inl (lA VL)))), (aw, .inl (dA 1, 1024, .inr (.inl (lA W1_35))))] H := hP
      have hD : va_D A [(am, .inr (0, [.int (I3 (((0 : Int)))), .int (I3 mn), .ref as_, .ref av, .ref aw, .int (I3 sm), .int (I3 wd), .int (I3 lp), .int (I3 mp), .int (I3 re)])), (as_, .inl (dA 0, 60, .inl (iA SG))), (av, .inl (dA 1, 960, .inr (.inl (lA VL)))), (aw, .inl (dA 1, 1024, .inr (.inl (lA W1_35))))] := hD
      have o_9 : Dg W1_35 := by first | assumption | omega | (constructor <;> omega)
      have o_10 : z_40 = if 0 ≤ a ∧ a < mn then ((bl (if o = 0 then qv VL a else pv VL a) : Nat) : Int) else 0 := by rw [if_pos (by omega), if_pos (by omega), ← p2_35]; exact p0_40
      have o_11 : (((0 : Int))) = if 0 ≤ a ∧ a < mn then 0 else 1 := by rw [if_pos (by omega)]
      exact W.iret (v := I3 z_40) hx hb hr (fun t ht hW => ⟨⟨I3 z_40, (z_40, (((0 : Int))), W1_35), rfl, ⟨rfl, ⟨o_9, o_10, o_11⟩⟩, by rw [ht]; exact hP, va_K.moved hW.alike hK, hD⟩, hS.F ht⟩) hS.2.2 dX8_bits_43
    · skip
      refine lv_aload_n hx hb dX8_bits_23 rfl (lv_at hl 0 rfl) ?_
      refine lv_iload_n hx hb dX8_bits_24 rfl (lv_at hl 1 rfl) ?_
      refine lv_iconst (v := I3 (2)) hx hb dX8_bits_25 rfl ?_
      have h_12 : 0 ≤ a ∧ a < 60 := by first | assumption | omega | (constructor <;> omega)
      have h_13 : 0 ≤ (2 : Int) ∧ (2 : Int) < 16 := by first | assumption | omega | (constructor <;> omega)
      have h_14 : Dg wf := by first | assumption | omega | (constructor <;> omega)
      have h_15 : Dg VL := by first | assumption | omega | (constructor <;> omega)
      have hPc := hP.sub (ws' := [(am, .inr (0, [.int (I3 ((0 : Int))), .int (I3 mn), .ref as_, .ref av, .ref aw, .int (I3 sm), .int (I3 wd), .int (I3 lp), .int (I3 mp), .int (I3 re)])), (as_, .inl (dA 0, 60, .inl (iA SG))), (av, .inl (dA 1, 960, .inr (.inl (lA VL)))), (aw, .inl (dA 1, 1024, .inr (.inl (lA wf))))]) [0, 1, 2, 3] rfl
      have hDc := hD.sub (ws' := [(am, .inr (0, [.int (I3 ((0 : Int))), .int (I3 mn), .ref as_, .ref av, .ref aw, .int (I3 sm), .int (I3 wd), .int (I3 lp), .int (I3 mp), .int (I3 re)])), (as_, .inl (dA 0, 60, .inl (iA SG))), (av, .inl (dA 1, 960, .inr (.inl (lA VL)))), (aw, .inl (dA 1, 1024, .inr (.inl (lA wf))))]) [0, 1, 2, 3] (by decide) rfl
      have hFc := va_free (wc := [(am, .inr (0, [.int (I3 ((0 : Int))), .int (I3 mn), .ref as_, .ref av, .ref aw, .int (I3 sm), .int (I3 wd), .int (I3 lp), .int (I3 mp), .int (I3 re)])), (as_, .inl (dA 0, 60, .inl (iA SG))), (av, .inl (dA 1, 960, .inr (.inl (lA VL)))), (aw, .inl (dA 1, 1024, .inr (.inl (lA wf))))]) hD hS hA [0, 1, 2, 3] rfl
      refine va_callv (va_runV (As := [.int (I3 a), .int (I3 2)]) (rest := []) ⟨hx, hb, hml, hown, hts⟩ (metX8_loadP l dC dI dA am as_ av aw H.size 0 mn sm wd lp mp re SG VL wf a 2 h_12 h_13 h_14 h_15) (cwV 2 hts (lw_V q1066 q1068 qs39 q66 q1069) rfl rfl rfl (by decide +kernel) ⟨Nat.le_of_ble_eq_true rfl, Nat.le_of_ble_eq_true rfl⟩) ⟨fun a U g mk q => by obtain ⟨q0, q1, qP, qK, qD⟩ := q; exact ⟨q0, q1, qP, va_K.moved (u := U) (U := U.calling g mk a) (Vm.Alike.refl U.vm) qK, qD⟩, va_recv hK hPc (ci := 0) (q0 := 0) rfl rfl, fun U hU hW => ⟨rfl, by rw [hU], by rw [hU]; exact hPc, va_K.moved hW.alike hK, hDc.weaken (fun _ _ _ _ => trivial)⟩⟩ rfl rfl hl.1 rfl (lv_room (Nat.le_of_ble_eq_true rfl)) dX8_bits_26 ⟨Nat.le_of_ble_eq_true rfl, Nat.le_of_ble_eq_true rfl⟩) hS (fun q _ h => hFc q h) hFc (fun u t H1 locs ht hvm hw hB hz1 hk1 hS => ?_)
      obtain ⟨W1_26, rfl⟩ : ∃ z, z = u := ⟨_, rfl⟩
      obtain ⟨p0_26, p1_26, p2_26⟩ : (Dg W1_26) ∧ (Fr wf W1_26 (2 : Int)) ∧ (rv W1_26 (2 : Int) = pv VL a) := hw
      obtain ⟨hP1, hK1, hD1⟩ := hB
      rw [ht] at hP1
      obtain ⟨hP, hD⟩ := va_join (wr := []) (w1 := [(am, .inr (0, [.int (I3 ((0 : Int))), .int (I3 mn), .ref as_, .ref av, .ref aw, .int (I3 sm), .int (I3 wd), .int (I3 lp), .int (I3 mp), .int (I3 re)])), (as_, .inl (dA 0, 60, .inl (iA SG))), (av, .inl (dA 1, 960, .inr (.inl (lA VL)))), (aw, .inl (dA 1, 1024, .inr (.inl (lA W1_26))))]) hP hD [0, 1, 2, 3] [] rfl rfl (by decide) (by decide) hk1 hFc hP1 hD1
      generalize H1 = H at hP hS ⊢
      have hP : va_P (dC, dI) vwCl [(am, .inr (0, [.int (I3 ((0 : Int))), .int (I3 mn), .ref as_, .ref av, .ref aw, .int (I3 sm), .int (I3 wd), .int (I3 lp), .int (I3 mp), .int (I3 re)])), (as_, .inl (dA 0, 60, .inl (iA SG))), (av, .inl (dA 1, 960, .inr (.inl (lA VL)))), (aw, .inl (dA 1, 1024, .inr (.inl (lA W1_26))))] H := hP
      have hD : va_D A [(am, .inr (0, [.int (I3 ((0 : Int))), .int (I3 mn), .ref as_, .ref av, .ref aw, .int (I3 sm), .int (I3 wd), .int (I3 lp), .int (I3 mp), .int (I3 re)])), (as_, .inl (dA 0, 60, .inl (iA SG))), (av, .inl (dA 1, 960, .inr (.inl (lA VL)))), (aw, .inl (dA 1, 1024, .inr (.inl (lA W1_26))))] := hD
      refine lv_goto (tgt := 38) hx hb dX8_bits_29 (by decide) ?_
      refine lv_aload_n hx hb dX8_bits_38 rfl (lv_at hl 0 rfl) ?_
      refine lv_iconst (v := I3 (2)) hx hb dX8_bits_39 rfl ?_
      have h_16 : 0 ≤ (2 : Int) ∧ (2 : Int) < 16 := by first | assumption | omega | (constructor <;> omega)
      have h_17 : Dg W1_26 := by first | assumption | omega | (constructor <;> omega)
      have hPc := hP.sub (ws' := [(am, .inr (0, [.int (I3 (((0 : Int)))), .int (I3 mn), .ref as_, .ref av, .ref aw, .int (I3 sm), .int (I3 wd), .int (I3 lp), .int (I3 mp), .int (I3 re)])), (as_, .inl (dA 0, 60, .inl (iA SG))), (av, .inl (dA 1, 960, .inr (.inl (lA VL)))), (aw, .inl (dA 1, 1024, .inr (.inl (lA W1_26))))]) [0, 1, 2, 3] rfl
      have hDc := hD.sub (ws' := [(am, .inr (0, [.int (I3 (((0 : Int)))), .int (I3 mn), .ref as_, .ref av, .ref aw, .int (I3 sm), .int (I3 wd), .int (I3 lp), .int (I3 mp), .int (I3 re)])), (as_, .inl (dA 0, 60, .inl (iA SG))), (av, .inl (dA 1, 960, .inr (.inl (lA VL)))), (aw, .inl (dA 1, 1024, .inr (.inl (lA W1_26))))]) [0, 1, 2, 3] (by decide) rfl
      have hFc := va_free (wc := [(am, .inr (0, [.int (I3 (((0 : Int)))), .int (I3 mn), .ref as_, .ref av, .ref aw, .int (I3 sm), .int (I3 wd), .int (I3 lp), .int (I3 mp), .int (I3 re)])), (as_, .inl (dA 0, 60, .inl (iA SG))), (av, .inl (dA 1, 960, .inr (.inl (lA VL)))), (aw, .inl (dA 1, 1024, .inr (.inl (lA W1_26))))]) hD hS hA [0, 1, 2, 3] rfl
      refine va_calli (va_runV (As := [.int (I3 2)]) (rest := []) ⟨hx, hb, hml, hown, hts⟩ (metX8_length l dC dI dA am as_ av aw H.size ((0 : Int)) mn sm wd lp mp re SG VL W1_26 2 h_16 h_17) (cwV 1 hts (lw_V q1008 q1010 qs32 q66 q1011) rfl rfl rfl (by decide +kernel) ⟨Nat.le_of_ble_eq_true rfl, Nat.le_of_ble_eq_true rfl⟩) ⟨fun a U g mk q => by obtain ⟨q0, q1, qP, qK, qD⟩ := q; exact ⟨q0, q1, qP, va_K.moved (u := U) (U := U.calling g mk a) (Vm.Alike.refl U.vm) qK, qD⟩, va_recv hK hPc (ci := 0) (q0 := 0) rfl rfl, fun U hU hW => ⟨rfl, by rw [hU], by rw [hU]; exact hPc, va_K.moved hW.alike hK, hDc.weaken (fun _ _ _ _ => trivial)⟩⟩ rfl rfl hl.1 rfl (lv_room (Nat.le_of_ble_eq_true rfl)) dX8_bits_40 ⟨Nat.le_of_ble_eq_true rfl, Nat.le_of_ble_eq_true rfl⟩) hS (fun q _ h => hFc q h) hFc (fun r_40 u t H1 locs ht hvm hw hB hz1 hk1 hS => ?_)
      obtain ⟨z_40, rfl⟩ : ∃ z, z = u := ⟨_, rfl⟩
      obtain ⟨rfl, p0_40⟩ : r_40 = I3 z_40 ∧ (z_40 = ((bl (rv W1_26 (2 : Int)) : Nat) : Int)) := hw
      obtain ⟨hP1, hK1, hD1⟩ := hB
      rw [ht] at hP1
      obtain ⟨hP, hD⟩ := va_join (wr := []) (w1 := [(am, .inr (0, [.int (I3 (((0 : Int)))), .int (I3 mn), .ref as_, .ref av, .ref aw, .int (I3 sm), .int (I3 wd), .int (I3 lp), .int (I3 mp), .int (I3 re)])), (as_, .inl (dA 0, 60, .inl (iA SG))), (av, .inl (dA 1, 960, .inr (.inl (lA VL)))), (aw, .inl (dA 1, 1024, .inr (.inl (lA W1_26))))]) hP hD [0, 1, 2, 3] [] rfl rfl (by decide) (by decide) hk1 hFc hP1 hD1
      generalize H1 = H at hP hS ⊢
      have hP : va_P (dC, dI) vwCl [(am, .inr (0, [.int (I3 (((0 : Int)))), .int (I3 mn), .ref as_, .ref av, .ref aw, .int (I3 sm), .int (I3 wd), .int (I3 lp), .int (I3 mp), .int (I3 re)])), (as_, .inl (dA 0, 60, .inl (iA SG))), (av, .inl (dA 1, 960, .inr (.inl (lA VL)))), (aw, .inl (dA 1, 1024, .inr (.inl (lA W1_26))))] H := hP
      have hD : va_D A [(am, .inr (0, [.int (I3 (((0 : Int)))), .int (I3 mn), .ref as_, .ref av, .ref aw, .int (I3 sm), .int (I3 wd), .int (I3 lp), .int (I3 mp), .int (I3 re)])), (as_, .inl (dA 0, 60, .inl (iA SG))), (av, .inl (dA 1, 960, .inr (.inl (lA VL)))), (aw, .inl (dA 1, 1024, .inr (.inl (lA W1_26))))] := hD
      have o_18 : Dg W1_26 := by first | assumption | omega | (constructor <;> omega)
      have o_19 : z_40 = if 0 ≤ a ∧ a < mn then ((bl (if o = 0 then qv VL a else pv VL a) : Nat) : Int) else 0 := by rw [if_pos (by omega), if_neg (by omega), ← p2_26]; exact p0_40
      have o_20 : (((0 : Int))) = if 0 ≤ a ∧ a < mn then 0 else 1 := by rw [if_pos (by omega)]
      exact W.iret (v := I3 z_40) hx hb hr (fun t ht hW => ⟨⟨I3 z_40, (z_40, (((0 : Int))), W1_26), rfl, ⟨rfl, ⟨o_18, o_19, o_20⟩⟩, by rw [ht]; exact hP, va_K.moved hW.alike hK, hD⟩, hS.F ht⟩) hS.2.2 dX8_bits_43
  · skip
    refine lv_aload_n hx hb dX8_bits_8 rfl (lv_at hl 0 rfl) ?_
    refine lv_iconst (v := I3 (1)) hx hb dX8_bits_9 rfl ?_
    have h_21 : In3 (1 : Int) := by first | assumption | omega | (constructor <;> omega)
    have hPc := hP.sub (ws' := [(am, .inr (0, [.int (I3 th), .int (I3 mn), .ref as_, .ref av, .ref aw, .int (I3 sm), .int (I3 wd), .int (I3 lp), .int (I3 mp), .int (I3 re)])), (as_, .inl (dA 0, 60, .inl (iA SG))), (av, .inl (dA 1, 960, .inr (.inl (lA VL)))), (aw, .inl (dA 1, 1024, .inr (.inl (lA wf))))]) [0, 1, 2, 3] rfl
    have hDc := hD.sub (ws' := [(am, .inr (0, [.int (I3 th), .int (I3 mn), .ref as_, .ref av, .ref aw, .int (I3 sm), .int (I3 wd), .int (I3 lp), .int (I3 mp), .int (I3 re)])), (as_, .inl (dA 0, 60, .inl (iA SG))), (av, .inl (dA 1, 960, .inr (.inl (lA VL)))), (aw, .inl (dA 1, 1024, .inr (.inl (lA wf))))]) [0, 1, 2, 3] (by decide) rfl
    have hFc := va_free (wc := [(am, .inr (0, [.int (I3 th), .int (I3 mn), .ref as_, .ref av, .ref aw, .int (I3 sm), .int (I3 wd), .int (I3 lp), .int (I3 mp), .int (I3 re)])), (as_, .inl (dA 0, 60, .inl (iA SG))), (av, .inl (dA 1, 960, .inr (.inl (lA VL)))), (aw, .inl (dA 1, 1024, .inr (.inl (lA wf))))]) hD hS hA [0, 1, 2, 3] rfl
    refine va_calli (va_runV (As := [.int (I3 1)]) (rest := []) ⟨hx, hb, hml, hown, hts⟩ (metX8_fails l dC dI dA am as_ av aw H.size th mn sm wd lp mp re SG VL wf 1 h_21) (cwV 1 hts (lw_V q1016 q1018 qs34 q66 q1019) rfl rfl rfl (by decide +kernel) ⟨Nat.le_of_ble_eq_true rfl, Nat.le_of_ble_eq_true rfl⟩) ⟨fun a U g mk q => by obtain ⟨q0, q1, qP, qK, qD⟩ := q; exact ⟨q0, q1, qP, va_K.moved (u := U) (U := U.calling g mk a) (Vm.Alike.refl U.vm) qK, qD⟩, va_recv hK hPc (ci := 0) (q0 := 0) rfl rfl, fun U hU hW => ⟨rfl, by rw [hU], by rw [hU]; exact hPc, va_K.moved hW.alike hK, hDc.weaken (fun _ _ _ _ => trivial)⟩⟩ rfl rfl hl.1 rfl (lv_room (Nat.le_of_ble_eq_true rfl)) dX8_bits_10 ⟨Nat.le_of_ble_eq_true rfl, Nat.le_of_ble_eq_true rfl⟩) hS (fun q _ h => hFc q h) hFc (fun r_10 u t H1 locs ht hvm hw hB hz1 hk1 hS => ?_)
    obtain ⟨z_10, th1_10⟩ := u
    obtain ⟨rfl, p0_10, p1_10⟩ : r_10 = I3 z_10 ∧ (z_10 = 0) ∧ (th1_10 = (1 : Int)) := hw
    obtain ⟨hP1, hK1, hD1⟩ := hB
    rw [ht] at hP1
    obtain ⟨hP, hD⟩ := va_join (wr := []) (w1 := [(am, .inr (0, [.int (I3 th1_10), .int (I3 mn), .ref as_, .ref av, .ref aw, .int (I3 sm), .int (I3 wd), .int (I3 lp), .int (I3 mp), .int (I3 re)])), (as_, .inl (dA 0, 60, .inl (iA SG))), (av, .inl (dA 1, 960, .inr (.inl (lA VL)))), (aw, .inl (dA 1, 1024, .inr (.inl (lA wf))))]) hP hD [0, 1, 2, 3] [] rfl rfl (by decide) (by decide) hk1 hFc hP1 hD1
    generalize H1 = H at hP hS ⊢
    have hP : va_P (dC, dI) vwCl [(am, .inr (0, [.int (I3 th1_10), .int (I3 mn), .ref as_, .ref av, .ref aw, .int (I3 sm), .int (I3 wd), .int (I3 lp), .int (I3 mp), .int (I3 re)])), (as_, .inl (dA 0, 60, .inl (iA SG))), (av, .inl (dA 1, 960, .inr (.inl (lA VL)))), (aw, .inl (dA 1, 1024, .inr (.inl (lA wf))))] H := hP
    have hD : va_D A [(am, .inr (0, [.int (I3 th1_10), .int (I3 mn), .ref as_, .ref av, .ref aw, .int (I3 sm), .int (I3 wd), .int (I3 lp), .int (I3 mp), .int (I3 re)])), (as_, .inl (dA 0, 60, .inl (iA SG))), (av, .inl (dA 1, 960, .inr (.inl (lA VL)))), (aw, .inl (dA 1, 1024, .inr (.inl (lA wf))))] := hD
    have o_22 : Dg wf := by first | assumption | omega | (constructor <;> omega)
    have o_23 : z_10 = if 0 ≤ a ∧ a < mn then ((bl (if o = 0 then qv VL a else pv VL a) : Nat) : Int) else 0 := by rw [if_neg (by omega)]; exact p0_10
    have o_24 : th1_10 = if 0 ≤ a ∧ a < mn then 0 else 1 := by rw [if_neg (by omega)]; exact p1_10
    exact W.iret (v := I3 z_10) hx hb hr (fun t ht hW => ⟨⟨I3 z_10, (z_10, th1_10, wf), rfl, ⟨rfl, ⟨o_22, o_23, o_24⟩⟩, by rw [ht]; exact hP, va_K.moved hW.alike hK, hD⟩, hS.F ht⟩) hS.2.2 dX8_bits_13
abbrev BmetX8_level (dC : Nat → ClassId) (dI : Nat → Nat → Nat) (dA : Nat → ClassId) (A : Nat → Prop) (am : Nat) (as_ : Nat) (av : Nat) (aw : Nat) (th : Int) (mn : Int) (sm : Int) (wd : Int) (lp : Int) (mp : Int) (re : Int) (SG : Int → Int) (VL : Int → Int) (wf : Int → Int) (a : Int) (b : Int) : (Int → Int) → State → Prop := fun u t => (fun (u : (Int → Int)) => (fun (W1 : Int → Int) => va_P (dC, dI) vwCl [(am, .inr (0, [.int (I3 th), .int (I3 mn), .ref as_, .ref av, .ref aw, .int (I3 sm), .int (I3 wd), .int (I3 lp), .int (I3 mp), .int (I3 re)])), (as_, .inl (dA 0, 60, .inl (iA SG))), (av, .inl (dA 1, 960, .inr (.inl (lA VL)))), (aw, .inl (dA 1, 1024, .inr (.inl (lA W1))))] t.heap ∧ va_K (dC, dI) vwCl (tyA dA) t ∧ va_D A [(am, .inr (0, [.int (I3 th), .int (I3 mn), .ref as_, .ref av, .ref aw, .int (I3 sm), .int (I3 wd), .int (I3 lp), .int (I3 mp), .int (I3 re)])), (as_, .inl (dA 0, 60, .inl (iA SG))), (av, .inl (dA 1, 960, .inr (.inl (lA VL)))), (aw, .inl (dA 1, 1024, .inr (.inl (lA W1))))]) u) u
abbrev QmetX8_level (dC : Nat → ClassId) (dI : Nat → Nat → Nat) (dA : Nat → ClassId) (A : Nat → Prop) (am : Nat) (as_ : Nat) (av : Nat) (aw : Nat) (th : Int) (mn : Int) (sm : Int) (wd : Int) (lp : Int) (mp : Int) (re : Int) (SG : Int → Int) (VL : Int → Int) (wf : Int → Int) (a : Int) (b : Int) := va_Qv (fun (u : (Int → Int)) => (fun (W1 : Int → Int) => (Dg W1) ∧ (rv W1 4 = pv VL a * qv VL b) ∧ (rv W1 5 = pv VL b * qv VL a) ∧ (rv W1 6 = qv VL a * qv VL b)) u) (BmetX8_level dC dI dA A am as_ av aw th mn sm wd lp mp re SG VL wf a b) A
set_option maxHeartbeats 1000000 in
set_option maxRecDepth 100000 in
theorem metX8_level (l : Launch) (dC : Nat → ClassId) (dI : Nat → Nat → Nat) (dA : Nat → ClassId) (am : Nat) (as_ : Nat) (av : Nat) (aw : Nat) (sz : Nat) (th : Int) (mn : Int) (sm : Int) (wd : Int) (lp : Int) (mp : Int) (re : Int) (SG : Int → Int) (VL : Int → Int) (wf : Int → Int) (a : Int) (b : Int) (hW : Dg wf) (hV : Dg VL) (ha : 0 ≤ a ∧ a < 60) (hb_ : 0 ≤ b ∧ b < 60) : Met l yX8_level (ws_ yX8_level cX8_level 3 none) ({ frames := 3, cells := 0, slots := 0, locals := 120 }) (va_Pc [.ref am, .int (I3 a), .int (I3 b)] (fun U => U.heap.size = sz ∧ va_P (dC, dI) vwCl [(am, .inr (0, [.int (I3 th), .int (I3 mn), .ref as_, .ref av, .ref aw, .int (I3 sm), .int (I3 wd), .int (I3 lp), .int (I3 mp), .int (I3 re)])), (as_, .inl (dA 0, 60, .inl (iA SG))), (av, .inl (dA 1, 960, .inr (.inl (lA VL)))), (aw, .inl (dA 1, 1024, .inr (.inl (lA wf))))] U.heap ∧ va_K (dC, dI) vwCl (tyA dA) U ∧ va_D (fun _ => True) [(am, .inr (0, [.int (I3 th), .int (I3 mn), .ref as_, .ref av, .ref aw, .int (I3 sm), .int (I3 wd), .int (I3 lp), .int (I3 mp), .int (I3 re)])), (as_, .inl (dA 0, 60, .inl (iA SG))), (av, .inl (dA 1, 960, .inr (.inl (lA VL)))), (aw, .inl (dA 1, 1024, .inr (.inl (lA wf))))])) (QmetX8_level dC dI dA (va_A [(am, .inr (0, [.int (I3 th), .int (I3 mn), .ref as_, .ref av, .ref aw, .int (I3 sm), .int (I3 wd), .int (I3 lp), .int (I3 mp), .int (I3 re)])), (as_, .inl (dA 0, 60, .inl (iA SG))), (av, .inl (dA 1, 960, .inr (.inl (lA VL)))), (aw, .inl (dA 1, 1024, .inr (.inl (lA wf))))] sz) am as_ av aw th mn sm wd lp mp re SG VL wf a b) 0 0 (va_A [(am, .inr (0, [.int (I3 th), .int (I3 mn), .ref as_, .ref av, .ref aw, .int (I3 sm), .int (I3 wd), .int (I3 lp), .int (I3 mp), .int (I3 re)])), (as_, .inl (dA 0, 60, .inl (iA SG))), (av, .inl (dA 1, 960, .inr (.inl (lA VL)))), (aw, .inl (dA 1, 1024, .inr (.inl (lA wf))))] sz) := by
  refine Met.ofW (cc := cX8_level) (maxL := 3) (ret := none) (by decide) rfl ?_
  intro p e s m args below meth c s₁ B hml hv
  obtain ⟨rfl, hsz, hP, hK, hD0⟩ := hv
  have hx := B.exec
  have hb := B.bytes
  have hr := B.returns
  have hts := atoms_spec (ws := (ws_ yX8_level cX8_level 3 none)) B.pre
  have hts : ∀ w ∈ lw_all, w.before _ s = true := fun w h => hts w (List.mem_cons_of_mem _ h)
  have hown : s.vm.findClass RX8 = some m.cls := findClass_of_methodNamed B.named
  have hlocks := B.notSynchronized
  subst hsz
  have hD := hD0.self (sz := s.heap.size)
  generalize hAe : va_A [(am, .inr (0, [.int (I3 th), .int (I3 mn), .ref as_, .ref av, .ref aw, .int (I3 sm), .int (I3 wd), .int (I3 lp), .int (I3 mp), .int (I3 re)])), (as_, .inl (dA 0, 60, .inl (iA SG))), (av, .inl (dA 1, 960, .inr (.inl (lA VL)))), (aw, .inl (dA 1, 1024, .inr (.inl (lA wf))))] s.heap.size = A at hD ⊢
  have hA : ∀ q : Nat, s.heap.size ≤ q → A q := fun q h => by rw [← hAe]; exact Or.inr h
  have hS : va_S A s.heap s.heap [] := va_S.rf
  have hP : va_P (dC, dI) vwCl [(am, .inr (0, [.int (I3 th), .int (I3 mn), .ref as_, .ref av, .ref aw, .int (I3 sm), .int (I3 wd), .int (I3 lp), .int (I3 mp), .int (I3 re)])), (as_, .inl (dA 0, 60, .inl (iA SG))), (av, .inl (dA 1, 960, .inr (.inl (lA VL)))), (aw, .inl (dA 1, 1024, .inr (.inl (lA wf))))] s.heap := hP
  have hl := lv_entry ([.ref am, .int (I3 a), .int (I3 b)]) (n := 3) (Nat.le_of_ble_eq_true rfl)
  rw [lg_entry_eq]
  generalize (lg_sl ([.ref am, .int (I3 a), .int (I3 b)]) ++ List.replicate (3 - (lg_sl ([.ref am, .int (I3 a), .int (I3 b)])).length) Slot.unset).toArray = ls at hl ⊢
  have hl : lv_has ls 3 [(0, .ref am), (1, .int (I3 a)), (2, .int (I3 b))] := hl
  have la := pv_lt hV a
  have lb := pv_lt hV b
  have ma := qv_lt hV a
  have mb := qv_lt hV b
  have hBB := BB_BN
  have t1 := mul_B8 la mb
  have t2 := mul_B8 lb ma
  have t3 := mul_B8 ma mb
  refine lv_aload_n hx hb dX8_level_0 rfl (lv_at hl 0 rfl) ?_
  refine lv_iload_n hx hb dX8_level_1 rfl (lv_at hl 1 rfl) ?_
  refine lv_iconst (v := I3 (2)) hx hb dX8_level_2 rfl ?_
  have h_1 : 0 ≤ a ∧ a < 60 := by first | assumption | omega | (constructor <;> omega)
  have h_2 : 0 ≤ (2 : Int) ∧ (2 : Int) < 16 := by first | assumption | omega | (constructor <;> omega)
  have h_3 : Dg wf := by first | assumption | omega | (constructor <;> omega)
  have h_4 : Dg VL := by first | assumption | omega | (constructor <;> omega)
  have hPc := hP.sub (ws' := [(am, .inr (0, [.int (I3 th), .int (I3 mn), .ref as_, .ref av, .ref aw, .int (I3 sm), .int (I3 wd), .int (I3 lp), .int (I3 mp), .int (I3 re)])), (as_, .inl (dA 0, 60, .inl (iA SG))), (av, .inl (dA 1, 960, .inr (.inl (lA VL)))), (aw, .inl (dA 1, 1024, .inr (.inl (lA wf))))]) [0, 1, 2, 3] rfl
  have hDc := hD.sub (ws' := [(am, .inr (0, [.int (I3 th), .int (I3 mn), .ref as_, .ref av, .ref aw, .int (I3 sm), .int (I3 wd), .int (I3 lp), .int (I3 mp), .int (I3 re)])), (as_, .inl (dA 0, 60, .inl (iA SG))), (av, .inl (dA 1, 960, .inr (.inl (lA VL)))), (aw, .inl (dA 1, 1024, .inr (.inl (lA wf))))]) [0, 1, 2, 3] (by decide) rfl
  have hFc := va_free (wc := [(am, .inr (0, [.int (I3 th), .int (I3 mn), .ref as_, .ref av, .ref aw, .int (I3 sm), .int (I3 wd), .int (I3 lp), .int (I3 mp), .int (I3 re)])), (as_, .inl (dA 0, 60, .inl (iA SG))), (av, .inl (dA 1, 960, .inr (.inl (lA VL)))), (aw, .inl (dA 1, 1024, .inr (.inl (lA wf))))]) hD hS hA [0, 1, 2, 3] rfl
  refine va_callv (va_runV (As := [.int (I3 a), .int (I3 2)]) (rest := []) ⟨hx, hb, hml, hown, hts⟩ (metX8_loadP l dC dI dA am as_ av aw s.heap.size th mn sm wd lp mp re SG VL wf a 2 h_1 h_2 h_3 h_4) (cwV 2 hts (lw_V q1066 q1068 qs39 q66 q1069) rfl rfl rfl (by decide +kernel) ⟨Nat.le_of_ble_eq_true rfl, Nat.le_of_ble_eq_true rfl⟩) ⟨fun a U g mk q => by obtain ⟨q0, q1, qP, qK, qD⟩ := q; exact ⟨q0, q1, qP, va_K.moved (u := U) (U := U.calling g mk a) (Vm.Alike.refl U.vm) qK, qD⟩, va_recv hK hPc (ci := 0) (q0 := 0) rfl rfl, fun U hU hW => ⟨rfl, by rw [hU], by rw [hU]; exact hPc, va_K.moved hW.alike hK, hDc.weaken (fun _ _ _ _ => trivial)⟩⟩ rfl rfl hl.1 rfl (lv_room (Nat.le_of_ble_eq_true rfl)) dX8_level_3 ⟨Nat.le_of_ble_eq_true rfl, Nat.le_of_ble_eq_true rfl⟩) hS (fun q _ h => hFc q h) hFc (fun u t H1 locs ht hvm hw hB hz1 hk1 hS => ?_)
  obtain ⟨W1_3, rfl⟩ : ∃ z, z = u := ⟨_, rfl⟩
  obtain ⟨p0_3, p1_3, p2_3⟩ : (Dg W1_3) ∧ (Fr wf W1_3 (2 : Int)) ∧ (rv W1_3 (2 : Int) = pv VL a) := hw
  obtain ⟨hP1, hK1, hD1⟩ := hB
  rw [ht] at hP1
  obtain ⟨hP, hD⟩ := va_join (wr := []) (w1 := [(am, .inr (0, [.int (I3 th), .int (I3 mn), .ref as_, .ref av, .ref aw, .int (I3 sm), .int (I3 wd), .int (I3 lp), .int (I3 mp), .int (I3 re)])), (as_, .inl (dA 0, 60, .inl (iA SG))), (av, .inl (dA 1, 960, .inr (.inl (lA VL)))), (aw, .inl (dA 1, 1024, .inr (.inl (lA W1_3))))]) hP hD [0, 1, 2, 3] [] rfl rfl (by decide) (by decide) hk1 hFc hP1 hD1
  generalize H1 = H at hP hS ⊢
  have hP : va_P (dC, dI) vwCl [(am, .inr (0, [.int (I3 th), .int (I3 mn), .ref as_, .ref av, .ref aw, .int (I3 sm), .int (I3 wd), .int (I3 lp), .int (I3 mp), .int (I3 re)])), (as_, .inl (dA 0, 60, .inl (iA SG))), (av, .inl (dA 1, 960, .inr (.inl (lA VL)))), (aw, .inl (dA 1, 1024, .inr (.inl (lA W1_3))))] H := hP
  have hD : va_D A [(am, .inr (0, [.int (I3 th), .int (I3 mn), .ref as_, .ref av, .ref aw, .int (I3 sm), .int (I3 wd), .int (I3 lp), .int (I3 mp), .int (I3 re)])), (as_, .inl (dA 0, 60, .inl (iA SG))), (av, .inl (dA 1, 960, .inr (.inl (lA VL)))), (aw, .inl (dA 1, 1024, .inr (.inl (lA W1_3))))] := hD
  refine lv_aload_n hx hb dX8_level_6 rfl (lv_at hl 0 rfl) ?_
  refine lv_iload_n hx hb dX8_level_7 rfl (lv_at hl 2 rfl) ?_
  refine lv_iconst (v := I3 (3)) hx hb dX8_level_8 rfl ?_
  have h_5 : 0 ≤ b ∧ b < 60 := by first | assumption | omega | (constructor <;> omega)
  have h_6 : 0 ≤ (3 : Int) ∧ (3 : Int) < 16 := by first | assumption | omega | (constructor <;> omega)
  have h_7 : Dg W1_3 := by first | assumption | omega | (constructor <;> omega)
  have h_8 : Dg VL := by first | assumption | omega | (constructor <;> omega)
  have hPc := hP.sub (ws' := [(am, .inr (0, [.int (I3 th), .int (I3 mn), .ref as_, .ref av, .ref aw, .int (I3 sm), .int (I3 wd), .int (I3 lp), .int (I3 mp), .int (I3 re)])), (as_, .inl (dA 0, 60, .inl (iA SG))), (av, .inl (dA 1, 960, .inr (.inl (lA VL)))), (aw, .inl (dA 1, 1024, .inr (.inl (lA W1_3))))]) [0, 1, 2, 3] rfl
  have hDc := hD.sub (ws' := [(am, .inr (0, [.int (I3 th), .int (I3 mn), .ref as_, .ref av, .ref aw, .int (I3 sm), .int (I3 wd), .int (I3 lp), .int (I3 mp), .int (I3 re)])), (as_, .inl (dA 0, 60, .inl (iA SG))), (av, .inl (dA 1, 960, .inr (.inl (lA VL)))), (aw, .inl (dA 1, 1024, .inr (.inl (lA W1_3))))]) [0, 1, 2, 3] (by decide) rfl
  have hFc := va_free (wc := [(am, .inr (0, [.int (I3 th), .int (I3 mn), .ref as_, .ref av, .ref aw, .int (I3 sm), .int (I3 wd), .int (I3 lp), .int (I3 mp), .int (I3 re)])), (as_, .inl (dA 0, 60, .inl (iA SG))), (av, .inl (dA 1, 960, .inr (.inl (lA VL)))), (aw, .inl (dA 1, 1024, .inr (.inl (lA W1_3))))]) hD hS hA [0, 1, 2, 3] rfl
  refine va_callv (va_runV (As := [.int (I3 b), .int (I3 3)]) (rest := []) ⟨hx, hb, hml, hown, hts⟩ (metX8_loadQ l dC dI dA am as_ av aw H.size th mn sm wd lp mp re SG VL W1_3 b 3 h_5 h_6 h_7 h_8) (cwV 2 hts (lw_V q1070 q1072 qs40 q66 q1073) rfl rfl rfl (by decide +kernel) ⟨Nat.le_of_ble_eq_true rfl, Nat.le_of_ble_eq_true rfl⟩) ⟨fun a U g mk q => by obtain ⟨q0, q1, qP, qK, qD⟩ := q; exact ⟨q0, q1, qP, va_K.moved (u := U) (U := U.calling g mk a) (Vm.Alike.refl U.vm) qK, qD⟩, va_recv hK hPc (ci := 0) (q0 := 0) rfl rfl, fun U hU hW => ⟨rfl, by rw [hU], by rw [hU]; exact hPc, va_K.moved hW.alike hK, hDc.weaken (fun _ _ _ _ => trivial)⟩⟩ rfl rfl hl.1 rfl (lv_room (Nat.le_of_ble_eq_true rfl)) dX8_level_9 ⟨Nat.le_of_ble_eq_true rfl, Nat.le_of_ble_eq_true rfl⟩) hS (fun q _ h => hFc q h) hFc (fun u t H1 locs ht hvm hw hB hz1 hk1 hS => ?_)
  obtain ⟨W1_9, rfl⟩ : ∃ z, z = u := ⟨_, rfl⟩
  obtain ⟨p0_9, p1_9, p2_9⟩ : (Dg W1_9) ∧ (Fr W1_3 W1_9 (3 : Int)) ∧ (rv W1_9 (3 : Int) = qv VL b) := hw
  obtain ⟨hP1, hK1, hD1⟩ := hB
  rw [ht] at hP1
  obtain ⟨hP, hD⟩ := va_join (wr := []) (w1 := [(am, .inr (0, [.int (I3 th), .int (I3 mn), .ref as_, .ref av, .ref aw, .int (I3 sm), .int (I3 wd), .int (I3 lp), .int (I3 mp), .int (I3 re)])), (as_, .inl (dA 0, 60, .inl (iA SG))), (av, .inl (dA 1, 960, .inr (.inl (lA VL)))), (aw, .inl (dA 1, 1024, .inr (.inl (lA W1_9))))]) hP hD [0, 1, 2, 3] [] rfl rfl (by decide) (by decide) hk1 hFc hP1 hD1
  generalize H1 = H at hP hS ⊢
  have hP : va_P (dC, dI) vwCl [(am, .inr (0, [.int (I3 th), .int (I3 mn), .ref as_, .ref av, .ref aw, .int (I3 sm), .int (I3 wd), .int (I3 lp), .int (I3 mp), .int (I3 re)])), (as_, .inl (dA 0, 60, .inl (iA SG))), (av, .inl (dA 1, 960, .inr (.inl (lA VL)))), (aw, .inl (dA 1, 1024, .inr (.inl (lA W1_9))))] H := hP
  have hD : va_D A [(am, .inr (0, [.int (I3 th), .int (I3 mn), .ref as_, .ref av, .ref aw, .int (I3 sm), .int (I3 wd), .int (I3 lp), .int (I3 mp), .int (I3 re)])), (as_, .inl (dA 0, 60, .inl (iA SG))), (av, .inl (dA 1, 960, .inr (.inl (lA VL)))), (aw, .inl (dA 1, 1024, .inr (.inl (lA W1_9))))] := hD
  refine lv_aload_n hx hb dX8_level_12 rfl (lv_at hl 0 rfl) ?_
  refine lv_iconst (v := I3 (2)) hx hb dX8_level_13 rfl ?_
  refine lv_iconst (v := I3 (3)) hx hb dX8_level_14 rfl ?_
  refine lv_iconst (v := I3 (4)) hx hb dX8_level_15 rfl ?_
  have h_9 : 0 ≤ (2 : Int) ∧ (2 : Int) < 16 := by first | assumption | omega | (constructor <;> omega)
  have h_10 : 0 ≤ (3 : Int) ∧ (3 : Int) < 16 := by first | assumption | omega | (constructor <;> omega)
  have h_11 : 0 ≤ (4 : Int) ∧ (4 : Int) < 16 := by first | assumption | omega | (constructor <;> omega)
  have h_12 : (2 : Int) ≠ (4 : Int) := by first | assumption | omega | (constructor <;> omega)
  have h_13 : (3 : Int) ≠ (4 : Int) := by first | assumption | omega | (constructor <;> omega)
  have h_14 : Dg W1_9 := by first | assumption | omega | (constructor <;> omega)
  have hPc := hP.sub (ws' := [(am, .inr (0, [.int (I3 th), .int (I3 mn), .ref as_, .ref av, .ref aw, .int (I3 sm), .int (I3 wd), .int (I3 lp), .int (I3 mp), .int (I3 re)])), (as_, .inl (dA 0, 60, .inl (iA SG))), (av, .inl (dA 1, 960, .inr (.inl (lA VL)))), (aw, .inl (dA 1, 1024, .inr (.inl (lA W1_9))))]) [0, 1, 2, 3] rfl
  have hDc := hD.sub (ws' := [(am, .inr (0, [.int (I3 th), .int (I3 mn), .ref as_, .ref av, .ref aw, .int (I3 sm), .int (I3 wd), .int (I3 lp), .int (I3 mp), .int (I3 re)])), (as_, .inl (dA 0, 60, .inl (iA SG))), (av, .inl (dA 1, 960, .inr (.inl (lA VL)))), (aw, .inl (dA 1, 1024, .inr (.inl (lA W1_9))))]) [0, 1, 2, 3] (by decide) rfl
  have hFc := va_free (wc := [(am, .inr (0, [.int (I3 th), .int (I3 mn), .ref as_, .ref av, .ref aw, .int (I3 sm), .int (I3 wd), .int (I3 lp), .int (I3 mp), .int (I3 re)])), (as_, .inl (dA 0, 60, .inl (iA SG))), (av, .inl (dA 1, 960, .inr (.inl (lA VL)))), (aw, .inl (dA 1, 1024, .inr (.inl (lA W1_9))))]) hD hS hA [0, 1, 2, 3] rfl
  refine va_callv (va_runV (As := [.int (I3 2), .int (I3 3), .int (I3 4)]) (rest := []) ⟨hx, hb, hml, hown, hts⟩ (metX8_times l dC dI dA am as_ av aw H.size th mn sm wd lp mp re SG VL W1_9 2 3 4 h_9 h_10 h_11 h_12 h_13 h_14) (cwV 3 hts (lw_V q1074 q1076 qs41 q66 q1077) rfl rfl rfl (by decide +kernel) ⟨Nat.le_of_ble_eq_true rfl, Nat.le_of_ble_eq_true rfl⟩) ⟨fun a U g mk q => by obtain ⟨q0, q1, qP, qK, qD⟩ := q; exact ⟨q0, q1, qP, va_K.moved (u := U) (U := U.calling g mk a) (Vm.Alike.refl U.vm) qK, qD⟩, va_recv hK hPc (ci := 0) (q0 := 0) rfl rfl, fun U hU hW => ⟨rfl, by rw [hU], by rw [hU]; exact hPc, va_K.moved hW.alike hK, hDc.weaken (fun _ _ _ _ => trivial)⟩⟩ rfl rfl hl.1 rfl (lv_room (Nat.le_of_ble_eq_true rfl)) dX8_level_16 ⟨Nat.le_of_ble_eq_true rfl, Nat.le_of_ble_eq_true rfl⟩) hS (fun q _ h => hFc q h) hFc (fun u t H1 locs ht hvm hw hB hz1 hk1 hS => ?_)
  obtain ⟨W1_16, rfl⟩ : ∃ z, z = u := ⟨_, rfl⟩
  obtain ⟨p0_16, p1_16, p2_16⟩ : (Dg W1_16) ∧ (Fr W1_9 W1_16 (4 : Int)) ∧ (rv W1_16 (4 : Int) = rv W1_9 (2 : Int) * rv W1_9 (3 : Int) % BN) := hw
  obtain ⟨hP1, hK1, hD1⟩ := hB
  rw [ht] at hP1
  obtain ⟨hP, hD⟩ := va_join (wr := []) (w1 := [(am, .inr (0, [.int (I3 th), .int (I3 mn), .ref as_, .ref av, .ref aw, .int (I3 sm), .int (I3 wd), .int (I3 lp), .int (I3 mp), .int (I3 re)])), (as_, .inl (dA 0, 60, .inl (iA SG))), (av, .inl (dA 1, 960, .inr (.inl (lA VL)))), (aw, .inl (dA 1, 1024, .inr (.inl (lA W1_16))))]) hP hD [0, 1, 2, 3] [] rfl rfl (by decide) (by decide) hk1 hFc hP1 hD1
  generalize H1 = H at hP hS ⊢
  have hP : va_P (dC, dI) vwCl [(am, .inr (0, [.int (I3 th), .int (I3 mn), .ref as_, .ref av, .ref aw, .int (I3 sm), .int (I3 wd), .int (I3 lp), .int (I3 mp), .int (I3 re)])), (as_, .inl (dA 0, 60, .inl (iA SG))), (av, .inl (dA 1, 960, .inr (.inl (lA VL)))), (aw, .inl (dA 1, 1024, .inr (.inl (lA W1_16))))] H := hP
  have hD : va_D A [(am, .inr (0, [.int (I3 th), .int (I3 mn), .ref as_, .ref av, .ref aw, .int (I3 sm), .int (I3 wd), .int (I3 lp), .int (I3 mp), .int (I3 re)])), (as_, .inl (dA 0, 60, .inl (iA SG))), (av, .inl (dA 1, 960, .inr (.inl (lA VL)))), (aw, .inl (dA 1, 1024, .inr (.inl (lA W1_16))))] := hD
  have f4 : rv W1_16 4 = pv VL a * qv VL b := by rw [p2_16, p2_9, Fr_rv p1_9 (by decide), p2_3]; exact mod_BN (by omega)
  refine lv_aload_n hx hb dX8_level_19 rfl (lv_at hl 0 rfl) ?_
  refine lv_iload_n hx hb dX8_level_20 rfl (lv_at hl 2 rfl) ?_
  refine lv_iconst (v := I3 (2)) hx hb dX8_level_21 rfl ?_
  have h_15 : 0 ≤ b ∧ b < 60 := by first | assumption | omega | (constructor <;> omega)
  have h_16 : 0 ≤ (2 : Int) ∧ (2 : Int) < 16 := by first | assumption | omega | (constructor <;> omega)
  have h_17 : Dg W1_16 := by first | assumption | omega | (constructor <;> omega)
  have h_18 : Dg VL := by first | assumption | omega | (constructor <;> omega)
  have hPc := hP.sub (ws' := [(am, .inr (0, [.int (I3 th), .int (I3 mn), .ref as_, .ref av, .ref aw, .int (I3 sm), .int (I3 wd), .int (I3 lp), .int (I3 mp), .int (I3 re)])), (as_, .inl (dA 0, 60, .inl (iA SG))), (av, .inl (dA 1, 960, .inr (.inl (lA VL)))), (aw, .inl (dA 1, 1024, .inr (.inl (lA W1_16))))]) [0, 1, 2, 3] rfl
  have hDc := hD.sub (ws' := [(am, .inr (0, [.int (I3 th), .int (I3 mn), .ref as_, .ref av, .ref aw, .int (I3 sm), .int (I3 wd), .int (I3 lp), .int (I3 mp), .int (I3 re)])), (as_, .inl (dA 0, 60, .inl (iA SG))), (av, .inl (dA 1, 960, .inr (.inl (lA VL)))), (aw, .inl (dA 1, 1024, .inr (.inl (lA W1_16))))]) [0, 1, 2, 3] (by decide) rfl
  have hFc := va_free (wc := [(am, .inr (0, [.int (I3 th), .int (I3 mn), .ref as_, .ref av, .ref aw, .int (I3 sm), .int (I3 wd), .int (I3 lp), .int (I3 mp), .int (I3 re)])), (as_, .inl (dA 0, 60, .inl (iA SG))), (av, .inl (dA 1, 960, .inr (.inl (lA VL)))), (aw, .inl (dA 1, 1024, .inr (.inl (lA W1_16))))]) hD hS hA [0, 1, 2, 3] rfl
  refine va_callv (va_runV (As := [.int (I3 b), .int (I3 2)]) (rest := []) ⟨hx, hb, hml, hown, hts⟩ (metX8_loadP l dC dI dA am as_ av aw H.size th mn sm wd lp mp re SG VL W1_16 b 2 h_15 h_16 h_17 h_18) (cwV 2 hts (lw_V q1066 q1068 qs39 q66 q1069) rfl rfl rfl (by decide +kernel) ⟨Nat.le_of_ble_eq_true rfl, Nat.le_of_ble_eq_true rfl⟩) ⟨fun a U g mk q => by obtain ⟨q0, q1, qP, qK, qD⟩ := q; exact ⟨q0, q1, qP, va_K.moved (u := U) (U := U.calling g mk a) (Vm.Alike.refl U.vm) qK, qD⟩, va_recv hK hPc (ci := 0) (q0 := 0) rfl rfl, fun U hU hW => ⟨rfl, by rw [hU], by rw [hU]; exact hPc, va_K.moved hW.alike hK, hDc.weaken (fun _ _ _ _ => trivial)⟩⟩ rfl rfl hl.1 rfl (lv_room (Nat.le_of_ble_eq_true rfl)) dX8_level_22 ⟨Nat.le_of_ble_eq_true rfl, Nat.le_of_ble_eq_true rfl⟩) hS (fun q _ h => hFc q h) hFc (fun u t H1 locs ht hvm hw hB hz1 hk1 hS => ?_)
  obtain ⟨W1_22, rfl⟩ : ∃ z, z = u := ⟨_, rfl⟩
  obtain ⟨p0_22, p1_22, p2_22⟩ : (Dg W1_22) ∧ (Fr W1_16 W1_22 (2 : Int)) ∧ (rv W1_22 (2 : Int) = pv VL b) := hw
  obtain ⟨hP1, hK1, hD1⟩ := hB
  rw [ht] at hP1
  obtain ⟨hP, hD⟩ := va_join (wr := []) (w1 := [(am, .inr (0, [.int (I3 th), .int (I3 mn), .ref as_, .ref av, .ref aw, .int (I3 sm), .int (I3 wd), .int (I3 lp), .int (I3 mp), .int (I3 re)])), (as_, .inl (dA 0, 60, .inl (iA SG))), (av, .inl (dA 1, 960, .inr (.inl (lA VL)))), (aw, .inl (dA 1, 1024, .inr (.inl (lA W1_22))))]) hP hD [0, 1, 2, 3] [] rfl rfl (by decide) (by decide) hk1 hFc hP1 hD1
  generalize H1 = H at hP hS ⊢
  have hP : va_P (dC, dI) vwCl [(am, .inr (0, [.int (I3 th), .int (I3 mn), .ref as_, .ref av, .ref aw, .int (I3 sm), .int (I3 wd), .int (I3 lp), .int (I3 mp), .int (I3 re)])), (as_, .inl (dA 0, 60, .inl (iA SG))), (av, .inl (dA 1, 960, .inr (.inl (lA VL)))), (aw, .inl (dA 1, 1024, .inr (.inl (lA W1_22))))] H := hP
  have hD : va_D A [(am, .inr (0, [.int (I3 th), .int (I3 mn), .ref as_, .ref av, .ref aw, .int (I3 sm), .int (I3 wd), .int (I3 lp), .int (I3 mp), .int (I3 re)])), (as_, .inl (dA 0, 60, .inl (iA SG))), (av, .inl (dA 1, 960, .inr (.inl (lA VL)))), (aw, .inl (dA 1, 1024, .inr (.inl (lA W1_22))))] := hD
  refine lv_aload_n hx hb dX8_level_25 rfl (lv_at hl 0 rfl) ?_
  refine lv_iload_n hx hb dX8_level_26 rfl (lv_at hl 1 rfl) ?_
  refine lv_iconst (v := I3 (3)) hx hb dX8_level_27 rfl ?_
  have h_19 : 0 ≤ a ∧ a < 60 := by first | assumption | omega | (constructor <;> omega)
  have h_20 : 0 ≤ (3 : Int) ∧ (3 : Int) < 16 := by first | assumption | omega | (constructor <;> omega)
  have h_21 : Dg W1_22 := by first | assumption | omega | (constructor <;> omega)
  have h_22 : Dg VL := by first | assumption | omega | (constructor <;> omega)
  have hPc := hP.sub (ws' := [(am, .inr (0, [.int (I3 th), .int (I3 mn), .ref as_, .ref av, .ref aw, .int (I3 sm), .int (I3 wd), .int (I3 lp), .int (I3 mp), .int (I3 re)])), (as_, .inl (dA 0, 60, .inl (iA SG))), (av, .inl (dA 1, 960, .inr (.inl (lA VL)))), (aw, .inl (dA 1, 1024, .inr (.inl (lA W1_22))))]) [0, 1, 2, 3] rfl
  have hDc := hD.sub (ws' := [(am, .inr (0, [.int (I3 th), .int (I3 mn), .ref as_, .ref av, .ref aw, .int (I3 sm), .int (I3 wd), .int (I3 lp), .int (I3 mp), .int (I3 re)])), (as_, .inl (dA 0, 60, .inl (iA SG))), (av, .inl (dA 1, 960, .inr (.inl (lA VL)))), (aw, .inl (dA 1, 1024, .inr (.inl (lA W1_22))))]) [0, 1, 2, 3] (by decide) rfl
  have hFc := va_free (wc := [(am, .inr (0, [.int (I3 th), .int (I3 mn), .ref as_, .ref av, .ref aw, .int (I3 sm), .int (I3 wd), .int (I3 lp), .int (I3 mp), .int (I3 re)])), (as_, .inl (dA 0, 60, .inl (iA SG))), (av, .inl (dA 1, 960, .inr (.inl (lA VL)))), (aw, .inl (dA 1, 1024, .inr (.inl (lA W1_22))))]) hD hS hA [0, 1, 2, 3] rfl
  refine va_callv (va_runV (As := [.int (I3 a), .int (I3 3)]) (rest := []) ⟨hx, hb, hml, hown, hts⟩ (metX8_loadQ l dC dI dA am as_ av aw H.size th mn sm wd lp mp re SG VL W1_22 a 3 h_19 h_20 h_21 h_22) (cwV 2 hts (lw_V q1070 q1072 qs40 q66 q1073) rfl rfl rfl (by decide +kernel) ⟨Nat.le_of_ble_eq_true rfl, Nat.le_of_ble_eq_true rfl⟩) ⟨fun a U g mk q => by obtain ⟨q0, q1, qP, qK, qD⟩ := q; exact ⟨q0, q1, qP, va_K.moved (u := U) (U := U.calling g mk a) (Vm.Alike.refl U.vm) qK, qD⟩, va_recv hK hPc (ci := 0) (q0 := 0) rfl rfl, fun U hU hW => ⟨rfl, by rw [hU], by rw [hU]; exact hPc, va_K.moved hW.alike hK, hDc.weaken (fun _ _ _ _ => trivial)⟩⟩ rfl rfl hl.1 rfl (lv_room (Nat.le_of_ble_eq_true rfl)) dX8_level_28 ⟨Nat.le_of_ble_eq_true rfl, Nat.le_of_ble_eq_true rfl⟩) hS (fun q _ h => hFc q h) hFc (fun u t H1 locs ht hvm hw hB hz1 hk1 hS => ?_)
  obtain ⟨W1_28, rfl⟩ : ∃ z, z = u := ⟨_, rfl⟩
  obtain ⟨p0_28, p1_28, p2_28⟩ : (Dg W1_28) ∧ (Fr W1_22 W1_28 (3 : Int)) ∧ (rv W1_28 (3 : Int) = qv VL a) := hw
  obtain ⟨hP1, hK1, hD1⟩ := hB
  rw [ht] at hP1
  obtain ⟨hP, hD⟩ := va_join (wr := []) (w1 := [(am, .inr (0, [.int (I3 th), .int (I3 mn), .ref as_, .ref av, .ref aw, .int (I3 sm), .int (I3 wd), .int (I3 lp), .int (I3 mp), .int (I3 re)])), (as_, .inl (dA 0, 60, .inl (iA SG))), (av, .inl (dA 1, 960, .inr (.inl (lA VL)))), (aw, .inl (dA 1, 1024, .inr (.inl (lA W1_28))))]) hP hD [0, 1, 2, 3] [] rfl rfl (by decide) (by decide) hk1 hFc hP1 hD1
  generalize H1 = H at hP hS ⊢
  have hP : va_P (dC, dI) vwCl [(am, .inr (0, [.int (I3 th), .int (I3 mn), .ref as_, .ref av, .ref aw, .int (I3 sm), .int (I3 wd), .int (I3 lp), .int (I3 mp), .int (I3 re)])), (as_, .inl (dA 0, 60, .inl (iA SG))), (av, .inl (dA 1, 960, .inr (.inl (lA VL)))), (aw, .inl (dA 1, 1024, .inr (.inl (lA W1_28))))] H := hP
  have hD : va_D A [(am, .inr (0, [.int (I3 th), .int (I3 mn), .ref as_, .ref av, .ref aw, .int (I3 sm), .int (I3 wd), .int (I3 lp), .int (I3 mp), .int (I3 re)])), (as_, .inl (dA 0, 60, .inl (iA SG))), (av, .inl (dA 1, 960, .inr (.inl (lA VL)))), (aw, .inl (dA 1, 1024, .inr (.inl (lA W1_28))))] := hD
  refine lv_aload_n hx hb dX8_level_31 rfl (lv_at hl 0 rfl) ?_
  refine lv_iconst (v := I3 (2)) hx hb dX8_level_32 rfl ?_
  refine lv_iconst (v := I3 (3)) hx hb dX8_level_33 rfl ?_
  refine lv_iconst (v := I3 (5)) hx hb dX8_level_34 rfl ?_
  have h_23 : 0 ≤ (2 : Int) ∧ (2 : Int) < 16 := by first | assumption | omega | (constructor <;> omega)
  have h_24 : 0 ≤ (3 : Int) ∧ (3 : Int) < 16 := by first | assumption | omega | (constructor <;> omega)
  have h_25 : 0 ≤ (5 : Int) ∧ (5 : Int) < 16 := by first | assumption | omega | (constructor <;> omega)
  have h_26 : (2 : Int) ≠ (5 : Int) := by first | assumption | omega | (constructor <;> omega)
  have h_27 : (3 : Int) ≠ (5 : Int) := by first | assumption | omega | (constructor <;> omega)
  have h_28 : Dg W1_28 := by first | assumption | omega | (constructor <;> omega)
  have hPc := hP.sub (ws' := [(am, .inr (0, [.int (I3 th), .int (I3 mn), .ref as_, .ref av, .ref aw, .int (I3 sm), .int (I3 wd), .int (I3 lp), .int (I3 mp), .int (I3 re)])), (as_, .inl (dA 0, 60, .inl (iA SG))), (av, .inl (dA 1, 960, .inr (.inl (lA VL)))), (aw, .inl (dA 1, 1024, .inr (.inl (lA W1_28))))]) [0, 1, 2, 3] rfl
  have hDc := hD.sub (ws' := [(am, .inr (0, [.int (I3 th), .int (I3 mn), .ref as_, .ref av, .ref aw, .int (I3 sm), .int (I3 wd), .int (I3 lp), .int (I3 mp), .int (I3 re)])), (as_, .inl (dA 0, 60, .inl (iA SG))), (av, .inl (dA 1, 960, .inr (.inl (lA VL)))), (aw, .inl (dA 1, 1024, .inr (.inl (lA W1_28))))]) [0, 1, 2, 3] (by decide) rfl
  have hFc := va_free (wc := [(am, .inr (0, [.int (I3 th), .int (I3 mn), .ref as_, .ref av, .ref aw, .int (I3 sm), .int (I3 wd), .int (I3 lp), .int (I3 mp), .int (I3 re)])), (as_, .inl (dA 0, 60, .inl (iA SG))), (av, .inl (dA 1, 960, .inr (.inl (lA VL)))), (aw, .inl (dA 1, 1024, .inr (.inl (lA W1_28))))]) hD hS hA [0, 1, 2, 3] rfl
  refine va_callv (va_runV (As := [.int (I3 2), .int (I3 3), .int (I3 5)]) (rest := []) ⟨hx, hb, hml, hown, hts⟩ (metX8_times l dC dI dA am as_ av aw H.size th mn sm wd lp mp re SG VL W1_28 2 3 5 h_23 h_24 h_25 h_26 h_27 h_28) (cwV 3 hts (lw_V q1074 q1076 qs41 q66 q1077) rfl rfl rfl (by decide +kernel) ⟨Nat.le_of_ble_eq_true rfl, Nat.le_of_ble_eq_true rfl⟩) ⟨fun a U g mk q => by obtain ⟨q0, q1, qP, qK, qD⟩ := q; exact ⟨q0, q1, qP, va_K.moved (u := U) (U := U.calling g mk a) (Vm.Alike.refl U.vm) qK, qD⟩, va_recv hK hPc (ci := 0) (q0 := 0) rfl rfl, fun U hU hW => ⟨rfl, by rw [hU], by rw [hU]; exact hPc, va_K.moved hW.alike hK, hDc.weaken (fun _ _ _ _ => trivial)⟩⟩ rfl rfl hl.1 rfl (lv_room (Nat.le_of_ble_eq_true rfl)) dX8_level_35 ⟨Nat.le_of_ble_eq_true rfl, Nat.le_of_ble_eq_true rfl⟩) hS (fun q _ h => hFc q h) hFc (fun u t H1 locs ht hvm hw hB hz1 hk1 hS => ?_)
  obtain ⟨W1_35, rfl⟩ : ∃ z, z = u := ⟨_, rfl⟩
  obtain ⟨p0_35, p1_35, p2_35⟩ : (Dg W1_35) ∧ (Fr W1_28 W1_35 (5 : Int)) ∧ (rv W1_35 (5 : Int) = rv W1_28 (2 : Int) * rv W1_28 (3 : Int) % BN) := hw
  obtain ⟨hP1, hK1, hD1⟩ := hB
  rw [ht] at hP1
  obtain ⟨hP, hD⟩ := va_join (wr := []) (w1 := [(am, .inr (0, [.int (I3 th), .int (I3 mn), .ref as_, .ref av, .ref aw, .int (I3 sm), .int (I3 wd), .int (I3 lp), .int (I3 mp), .int (I3 re)])), (as_, .inl (dA 0, 60, .inl (iA SG))), (av, .inl (dA 1, 960, .inr (.inl (lA VL)))), (aw, .inl (dA 1, 1024, .inr (.inl (lA W1_35))))]) hP hD [0, 1, 2, 3] [] rfl rfl (by decide) (by decide) hk1 hFc hP1 hD1
  generalize H1 = H at hP hS ⊢
  have hP : va_P (dC, dI) vwCl [(am, .inr (0, [.int (I3 th), .int (I3 mn), .ref as_, .ref av, .ref aw, .int (I3 sm), .int (I3 wd), .int (I3 lp), .int (I3 mp), .int (I3 re)])), (as_, .inl (dA 0, 60, .inl (iA SG))), (av, .inl (dA 1, 960, .inr (.inl (lA VL)))), (aw, .inl (dA 1, 1024, .inr (.inl (lA W1_35))))] H := hP
  have hD : va_D A [(am, .inr (0, [.int (I3 th), .int (I3 mn), .ref as_, .ref av, .ref aw, .int (I3 sm), .int (I3 wd), .int (I3 lp), .int (I3 mp), .int (I3 re)])), (as_, .inl (dA 0, 60, .inl (iA SG))), (av, .inl (dA 1, 960, .inr (.inl (lA VL)))), (aw, .inl (dA 1, 1024, .inr (.inl (lA W1_35))))] := hD
  have f5 : rv W1_35 5 = pv VL b * qv VL a := by rw [p2_35, p2_28, Fr_rv p1_28 (by decide), p2_22]; exact mod_BN (by omega)
  have g4 : rv W1_35 4 = pv VL a * qv VL b := by rw [Fr_rv p1_35 (by decide), Fr_rv p1_28 (by decide), Fr_rv p1_22 (by decide)]; exact f4
  refine lv_aload_n hx hb dX8_level_38 rfl (lv_at hl 0 rfl) ?_
  refine lv_iload_n hx hb dX8_level_39 rfl (lv_at hl 1 rfl) ?_
  refine lv_iconst (v := I3 (2)) hx hb dX8_level_40 rfl ?_
  have h_29 : 0 ≤ a ∧ a < 60 := by first | assumption | omega | (constructor <;> omega)
  have h_30 : 0 ≤ (2 : Int) ∧ (2 : Int) < 16 := by first | assumption | omega | (constructor <;> omega)
  have h_31 : Dg W1_35 := by first | assumption | omega | (constructor <;> omega)
  have h_32 : Dg VL := by first | assumption | omega | (constructor <;> omega)
  have hPc := hP.sub (ws' := [(am, .inr (0, [.int (I3 th), .int (I3 mn), .ref as_, .ref av, .ref aw, .int (I3 sm), .int (I3 wd), .int (I3 lp), .int (I3 mp), .int (I3 re)])), (as_, .inl (dA 0, 60, .inl (iA SG))), (av, .inl (dA 1, 960, .inr (.inl (lA VL)))), (aw, .inl (dA 1, 1024, .inr (.inl (lA W1_35))))]) [0, 1, 2, 3] rfl
  have hDc := hD.sub (ws' := [(am, .inr (0, [.int (I3 th), .int (I3 mn), .ref as_, .ref av, .ref aw, .int (I3 sm), .int (I3 wd), .int (I3 lp), .int (I3 mp), .int (I3 re)])), (as_, .inl (dA 0, 60, .inl (iA SG))), (av, .inl (dA 1, 960, .inr (.inl (lA VL)))), (aw, .inl (dA 1, 1024, .inr (.inl (lA W1_35))))]) [0, 1, 2, 3] (by decide) rfl
  have hFc := va_free (wc := [(am, .inr (0, [.int (I3 th), .int (I3 mn), .ref as_, .ref av, .ref aw, .int (I3 sm), .int (I3 wd), .int (I3 lp), .int (I3 mp), .int (I3 re)])), (as_, .inl (dA 0, 60, .inl (iA SG))), (av, .inl (dA 1, 960, .inr (.inl (lA VL)))), (aw, .inl (dA 1, 1024, .inr (.inl (lA W1_35))))]) hD hS hA [0, 1, 2, 3] rfl
  refine va_callv (va_runV (As := [.int (I3 a), .int (I3 2)]) (rest := []) ⟨hx, hb, hml, hown, hts⟩ (metX8_loadQ l dC dI dA am as_ av aw H.size th mn sm wd lp mp re SG VL W1_35 a 2 h_29 h_30 h_31 h_32) (cwV 2 hts (lw_V q1070 q1072 qs40 q66 q1073) rfl rfl rfl (by decide +kernel) ⟨Nat.le_of_ble_eq_true rfl, Nat.le_of_ble_eq_true rfl⟩) ⟨fun a U g mk q => by obtain ⟨q0, q1, qP, qK, qD⟩ := q; exact ⟨q0, q1, qP, va_K.moved (u := U) (U := U.calling g mk a) (Vm.Alike.refl U.vm) qK, qD⟩, va_recv hK hPc (ci := 0) (q0 := 0) rfl rfl, fun U hU hW => ⟨rfl, by rw [hU], by rw [hU]; exact hPc, va_K.moved hW.alike hK, hDc.weaken (fun _ _ _ _ => trivial)⟩⟩ rfl rfl hl.1 rfl (lv_room (Nat.le_of_ble_eq_true rfl)) dX8_level_41 ⟨Nat.le_of_ble_eq_true rfl, Nat.le_of_ble_eq_true rfl⟩) hS (fun q _ h => hFc q h) hFc (fun u t H1 locs ht hvm hw hB hz1 hk1 hS => ?_)
  obtain ⟨W1_41, rfl⟩ : ∃ z, z = u := ⟨_, rfl⟩
  obtain ⟨p0_41, p1_41, p2_41⟩ : (Dg W1_41) ∧ (Fr W1_35 W1_41 (2 : Int)) ∧ (rv W1_41 (2 : Int) = qv VL a) := hw
  obtain ⟨hP1, hK1, hD1⟩ := hB
  rw [ht] at hP1
  obtain ⟨hP, hD⟩ := va_join (wr := []) (w1 := [(am, .inr (0, [.int (I3 th), .int (I3 mn), .ref as_, .ref av, .ref aw, .int (I3 sm), .int (I3 wd), .int (I3 lp), .int (I3 mp), .int (I3 re)])), (as_, .inl (dA 0, 60, .inl (iA SG))), (av, .inl (dA 1, 960, .inr (.inl (lA VL)))), (aw, .inl (dA 1, 1024, .inr (.inl (lA W1_41))))]) hP hD [0, 1, 2, 3] [] rfl rfl (by decide) (by decide) hk1 hFc hP1 hD1
  generalize H1 = H at hP hS ⊢
  have hP : va_P (dC, dI) vwCl [(am, .inr (0, [.int (I3 th), .int (I3 mn), .ref as_, .ref av, .ref aw, .int (I3 sm), .int (I3 wd), .int (I3 lp), .int (I3 mp), .int (I3 re)])), (as_, .inl (dA 0, 60, .inl (iA SG))), (av, .inl (dA 1, 960, .inr (.inl (lA VL)))), (aw, .inl (dA 1, 1024, .inr (.inl (lA W1_41))))] H := hP
  have hD : va_D A [(am, .inr (0, [.int (I3 th), .int (I3 mn), .ref as_, .ref av, .ref aw, .int (I3 sm), .int (I3 wd), .int (I3 lp), .int (I3 mp), .int (I3 re)])), (as_, .inl (dA 0, 60, .inl (iA SG))), (av, .inl (dA 1, 960, .inr (.inl (lA VL)))), (aw, .inl (dA 1, 1024, .inr (.inl (lA W1_41))))] := hD
  refine lv_aload_n hx hb dX8_level_44 rfl (lv_at hl 0 rfl) ?_
  refine lv_iload_n hx hb dX8_level_45 rfl (lv_at hl 2 rfl) ?_
  refine lv_iconst (v := I3 (3)) hx hb dX8_level_46 rfl ?_
  have h_33 : 0 ≤ b ∧ b < 60 := by first | assumption | omega | (constructor <;> omega)
  have h_34 : 0 ≤ (3 : Int) ∧ (3 : Int) < 16 := by first | assumption | omega | (constructor <;> omega)
  have h_35 : Dg W1_41 := by first | assumption | omega | (constructor <;> omega)
  have h_36 : Dg VL := by first | assumption | omega | (constructor <;> omega)
  have hPc := hP.sub (ws' := [(am, .inr (0, [.int (I3 th), .int (I3 mn), .ref as_, .ref av, .ref aw, .int (I3 sm), .int (I3 wd), .int (I3 lp), .int (I3 mp), .int (I3 re)])), (as_, .inl (dA 0, 60, .inl (iA SG))), (av, .inl (dA 1, 960, .inr (.inl (lA VL)))), (aw, .inl (dA 1, 1024, .inr (.inl (lA W1_41))))]) [0, 1, 2, 3] rfl
  have hDc := hD.sub (ws' := [(am, .inr (0, [.int (I3 th), .int (I3 mn), .ref as_, .ref av, .ref aw, .int (I3 sm), .int (I3 wd), .int (I3 lp), .int (I3 mp), .int (I3 re)])), (as_, .inl (dA 0, 60, .inl (iA SG))), (av, .inl (dA 1, 960, .inr (.inl (lA VL)))), (aw, .inl (dA 1, 1024, .inr (.inl (lA W1_41))))]) [0, 1, 2, 3] (by decide) rfl
  have hFc := va_free (wc := [(am, .inr (0, [.int (I3 th), .int (I3 mn), .ref as_, .ref av, .ref aw, .int (I3 sm), .int (I3 wd), .int (I3 lp), .int (I3 mp), .int (I3 re)])), (as_, .inl (dA 0, 60, .inl (iA SG))), (av, .inl (dA 1, 960, .inr (.inl (lA VL)))), (aw, .inl (dA 1, 1024, .inr (.inl (lA W1_41))))]) hD hS hA [0, 1, 2, 3] rfl
  refine va_callv (va_runV (As := [.int (I3 b), .int (I3 3)]) (rest := []) ⟨hx, hb, hml, hown, hts⟩ (metX8_loadQ l dC dI dA am as_ av aw H.size th mn sm wd lp mp re SG VL W1_41 b 3 h_33 h_34 h_35 h_36) (cwV 2 hts (lw_V q1070 q1072 qs40 q66 q1073) rfl rfl rfl (by decide +kernel) ⟨Nat.le_of_ble_eq_true rfl, Nat.le_of_ble_eq_true rfl⟩) ⟨fun a U g mk q => by obtain ⟨q0, q1, qP, qK, qD⟩ := q; exact ⟨q0, q1, qP, va_K.moved (u := U) (U := U.calling g mk a) (Vm.Alike.refl U.vm) qK, qD⟩, va_recv hK hPc (ci := 0) (q0 := 0) rfl rfl, fun U hU hW => ⟨rfl, by rw [hU], by rw [hU]; exact hPc, va_K.moved hW.alike hK, hDc.weaken (fun _ _ _ _ => trivial)⟩⟩ rfl rfl hl.1 rfl (lv_room (Nat.le_of_ble_eq_true rfl)) dX8_level_47 ⟨Nat.le_of_ble_eq_true rfl, Nat.le_of_ble_eq_true rfl⟩) hS (fun q _ h => hFc q h) hFc (fun u t H1 locs ht hvm hw hB hz1 hk1 hS => ?_)
  obtain ⟨W1_47, rfl⟩ : ∃ z, z = u := ⟨_, rfl⟩
  obtain ⟨p0_47, p1_47, p2_47⟩ : (Dg W1_47) ∧ (Fr W1_41 W1_47 (3 : Int)) ∧ (rv W1_47 (3 : Int) = qv VL b) := hw
  obtain ⟨hP1, hK1, hD1⟩ := hB
  rw [ht] at hP1
  obtain ⟨hP, hD⟩ := va_join (wr := []) (w1 := [(am, .inr (0, [.int (I3 th), .int (I3 mn), .ref as_, .ref av, .ref aw, .int (I3 sm), .int (I3 wd), .int (I3 lp), .int (I3 mp), .int (I3 re)])), (as_, .inl (dA 0, 60, .inl (iA SG))), (av, .inl (dA 1, 960, .inr (.inl (lA VL)))), (aw, .inl (dA 1, 1024, .inr (.inl (lA W1_47))))]) hP hD [0, 1, 2, 3] [] rfl rfl (by decide) (by decide) hk1 hFc hP1 hD1
  generalize H1 = H at hP hS ⊢
  have hP : va_P (dC, dI) vwCl [(am, .inr (0, [.int (I3 th), .int (I3 mn), .ref as_, .ref av, .ref aw, .int (I3 sm), .int (I3 wd), .int (I3 lp), .int (I3 mp), .int (I3 re)])), (as_, .inl (dA 0, 60, .inl (iA SG))), (av, .inl (dA 1, 960, .inr (.inl (lA VL)))), (aw, .inl (dA 1, 1024, .inr (.inl (lA W1_47))))] H := hP
  have hD : va_D A [(am, .inr (0, [.int (I3 th), .int (I3 mn), .ref as_, .ref av, .ref aw, .int (I3 sm), .int (I3 wd), .int (I3 lp), .int (I3 mp), .int (I3 re)])), (as_, .inl (dA 0, 60, .inl (iA SG))), (av, .inl (dA 1, 960, .inr (.inl (lA VL)))), (aw, .inl (dA 1, 1024, .inr (.inl (lA W1_47))))] := hD
  refine lv_aload_n hx hb dX8_level_50 rfl (lv_at hl 0 rfl) ?_
  refine lv_iconst (v := I3 (2)) hx hb dX8_level_51 rfl ?_
  refine lv_iconst (v := I3 (3)) hx hb dX8_level_52 rfl ?_
  refine lv_bipush (v := I3 (6)) hx hb dX8_level_53 (by decide) ?_
  have h_37 : 0 ≤ (2 : Int) ∧ (2 : Int) < 16 := by first | assumption | omega | (constructor <;> omega)
  have h_38 : 0 ≤ (3 : Int) ∧ (3 : Int) < 16 := by first | assumption | omega | (constructor <;> omega)
  have h_39 : 0 ≤ (6 : Int) ∧ (6 : Int) < 16 := by first | assumption | omega | (constructor <;> omega)
  have h_40 : (2 : Int) ≠ (6 : Int) := by first | assumption | omega | (constructor <;> omega)
  have h_41 : (3 : Int) ≠ (6 : Int) := by first | assumption | omega | (constructor <;> omega)
  have h_42 : Dg W1_47 := by first | assumption | omega | (constructor <;> omega)
  have hPc := hP.sub (ws' := [(am, .inr (0, [.int (I3 th), .int (I3 mn), .ref as_, .ref av, .ref aw, .int (I3 sm), .int (I3 wd), .int (I3 lp), .int (I3 mp), .int (I3 re)])), (as_, .inl (dA 0, 60, .inl (iA SG))), (av, .inl (dA 1, 960, .inr (.inl (lA VL)))), (aw, .inl (dA 1, 1024, .inr (.inl (lA W1_47))))]) [0, 1, 2, 3] rfl
  have hDc := hD.sub (ws' := [(am, .inr (0, [.int (I3 th), .int (I3 mn), .ref as_, .ref av, .ref aw, .int (I3 sm), .int (I3 wd), .int (I3 lp), .int (I3 mp), .int (I3 re)])), (as_, .inl (dA 0, 60, .inl (iA SG))), (av, .inl (dA 1, 960, .inr (.inl (lA VL)))), (aw, .inl (dA 1, 1024, .inr (.inl (lA W1_47))))]) [0, 1, 2, 3] (by decide) rfl
  have hFc := va_free (wc := [(am, .inr (0, [.int (I3 th), .int (I3 mn), .ref as_, .ref av, .ref aw, .int (I3 sm), .int (I3 wd), .int (I3 lp), .int (I3 mp), .int (I3 re)])), (as_, .inl (dA 0, 60, .inl (iA SG))), (av, .inl (dA 1, 960, .inr (.inl (lA VL)))), (aw, .inl (dA 1, 1024, .inr (.inl (lA W1_47))))]) hD hS hA [0, 1, 2, 3] rfl
  refine va_callv (va_runV (As := [.int (I3 2), .int (I3 3), .int (I3 6)]) (rest := []) ⟨hx, hb, hml, hown, hts⟩ (metX8_times l dC dI dA am as_ av aw H.size th mn sm wd lp mp re SG VL W1_47 2 3 6 h_37 h_38 h_39 h_40 h_41 h_42) (cwV 3 hts (lw_V q1074 q1076 qs41 q66 q1077) rfl rfl rfl (by decide +kernel) ⟨Nat.le_of_ble_eq_true rfl, Nat.le_of_ble_eq_true rfl⟩) ⟨fun a U g mk q => by obtain ⟨q0, q1, qP, qK, qD⟩ := q; exact ⟨q0, q1, qP, va_K.moved (u := U) (U := U.calling g mk a) (Vm.Alike.refl U.vm) qK, qD⟩, va_recv hK hPc (ci := 0) (q0 := 0) rfl rfl, fun U hU hW => ⟨rfl, by rw [hU], by rw [hU]; exact hPc, va_K.moved hW.alike hK, hDc.weaken (fun _ _ _ _ => trivial)⟩⟩ rfl rfl hl.1 rfl (lv_room (Nat.le_of_ble_eq_true rfl)) dX8_level_55 ⟨Nat.le_of_ble_eq_true rfl, Nat.le_of_ble_eq_true rfl⟩) hS (fun q _ h => hFc q h) hFc (fun u t H1 locs ht hvm hw hB hz1 hk1 hS => ?_)
  obtain ⟨W1_55, rfl⟩ : ∃ z, z = u := ⟨_, rfl⟩
  obtain ⟨p0_55, p1_55, p2_55⟩ : (Dg W1_55) ∧ (Fr W1_47 W1_55 (6 : Int)) ∧ (rv W1_55 (6 : Int) = rv W1_47 (2 : Int) * rv W1_47 (3 : Int) % BN) := hw
  obtain ⟨hP1, hK1, hD1⟩ := hB
  rw [ht] at hP1
  obtain ⟨hP, hD⟩ := va_join (wr := []) (w1 := [(am, .inr (0, [.int (I3 th), .int (I3 mn), .ref as_, .ref av, .ref aw, .int (I3 sm), .int (I3 wd), .int (I3 lp), .int (I3 mp), .int (I3 re)])), (as_, .inl (dA 0, 60, .inl (iA SG))), (av, .inl (dA 1, 960, .inr (.inl (lA VL)))), (aw, .inl (dA 1, 1024, .inr (.inl (lA W1_55))))]) hP hD [0, 1, 2, 3] [] rfl rfl (by decide) (by decide) hk1 hFc hP1 hD1
  generalize H1 = H at hP hS ⊢
  have hP : va_P (dC, dI) vwCl [(am, .inr (0, [.int (I3 th), .int (I3 mn), .ref as_, .ref av, .ref aw, .int (I3 sm), .int (I3 wd), .int (I3 lp), .int (I3 mp), .int (I3 re)])), (as_, .inl (dA 0, 60, .inl (iA SG))), (av, .inl (dA 1, 960, .inr (.inl (lA VL)))), (aw, .inl (dA 1, 1024, .inr (.inl (lA W1_55))))] H := hP
  have hD : va_D A [(am, .inr (0, [.int (I3 th), .int (I3 mn), .ref as_, .ref av, .ref aw, .int (I3 sm), .int (I3 wd), .int (I3 lp), .int (I3 mp), .int (I3 re)])), (as_, .inl (dA 0, 60, .inl (iA SG))), (av, .inl (dA 1, 960, .inr (.inl (lA VL)))), (aw, .inl (dA 1, 1024, .inr (.inl (lA W1_55))))] := hD
  have o_43 : Dg W1_55 := by first | assumption | omega | (constructor <;> omega)
  have o_44 : rv W1_55 4 = pv VL a * qv VL b := by rw [Fr_rv p1_55 (by decide), Fr_rv p1_47 (by decide), Fr_rv p1_41 (by decide)]; exact g4
  have o_45 : rv W1_55 5 = pv VL b * qv VL a := by rw [Fr_rv p1_55 (by decide), Fr_rv p1_47 (by decide), Fr_rv p1_41 (by decide)]; exact f5
  have o_46 : rv W1_55 6 = qv VL a * qv VL b := by rw [p2_55, p2_47, Fr_rv p1_47 (by decide), p2_41]; exact mod_BN (by omega)
  exact W.vret hx hb hr (fun t ht hW => ⟨⟨W1_55, rfl, ⟨o_43, o_44, o_45, o_46⟩, by rw [ht]; exact hP, va_K.moved hW.alike hK, hD⟩, hS.F ht⟩) hS.2.2 dX8_level_58
abbrev BmetX8_order (dC : Nat → ClassId) (dI : Nat → Nat → Nat) (dA : Nat → ClassId) (A : Nat → Prop) (am : Nat) (as_ : Nat) (av : Nat) (aw : Nat) (th : Int) (mn : Int) (sm : Int) (wd : Int) (lp : Int) (mp : Int) (re : Int) (SG : Int → Int) (VL : Int → Int) (wf : Int → Int) (a : Int) (b : Int) : Int × Int × (Int → Int) → State → Prop := fun u t => (fun (u : Int × Int × (Int → Int)) => (fun (z : Int) (th1 : Int) (W1 : Int → Int) => va_P (dC, dI) vwCl [(am, .inr (0, [.int (I3 th1), .int (I3 mn), .ref as_, .ref av, .ref aw, .int (I3 sm), .int (I3 wd), .int (I3 lp), .int (I3 mp), .int (I3 re)])), (as_, .inl (dA 0, 60, .inl (iA SG))), (av, .inl (dA 1, 960, .inr (.inl (lA VL)))), (aw, .inl (dA 1, 1024, .inr (.inl (lA W1))))] t.heap ∧ va_K (dC, dI) vwCl (tyA dA) t ∧ va_D A [(am, .inr (0, [.int (I3 th1), .int (I3 mn), .ref as_, .ref av, .ref aw, .int (I3 sm), .int (I3 wd), .int (I3 lp), .int (I3 mp), .int (I3 re)])), (as_, .inl (dA 0, 60, .inl (iA SG))), (av, .inl (dA 1, 960, .inr (.inl (lA VL)))), (aw, .inl (dA 1, 1024, .inr (.inl (lA W1))))]) u.1 u.2.1 u.2.2) u
abbrev QmetX8_order (dC : Nat → ClassId) (dI : Nat → Nat → Nat) (dA : Nat → ClassId) (A : Nat → Prop) (am : Nat) (as_ : Nat) (av : Nat) (aw : Nat) (th : Int) (mn : Int) (sm : Int) (wd : Int) (lp : Int) (mp : Int) (re : Int) (SG : Int → Int) (VL : Int → Int) (wf : Int → Int) (a : Int) (b : Int) := va_Qi (fun (rt_ : Int32) => fun (u : Int × Int × (Int → Int)) => (fun (z : Int) (th1 : Int) (W1 : Int → Int) => rt_ = I3 z ∧ (Dg W1) ∧ (z = if (0 ≤ a ∧ a < mn) ∧ 0 ≤ b ∧ b < mn then ordS SG VL a b else 0) ∧ (th1 = if (0 ≤ a ∧ a < mn) ∧ 0 ≤ b ∧ b < mn then 0 else 1)) u.1 u.2.1 u.2.2) (BmetX8_order dC dI dA A am as_ av aw th mn sm wd lp mp re SG VL wf a b) A
set_option maxHeartbeats 1000000 in
set_option maxRecDepth 100000 in
theorem metX8_order (l : Launch) (dC : Nat → ClassId) (dI : Nat → Nat → Nat) (dA : Nat → ClassId) (am : Nat) (as_ : Nat) (av : Nat) (aw : Nat) (sz : Nat) (th : Int) (mn : Int) (sm : Int) (wd : Int) (lp : Int) (mp : Int) (re : Int) (SG : Int → Int) (VL : Int → Int) (wf : Int → Int) (a : Int) (b : Int) (hW : Dg wf) (hI : MI mn SG VL) (ha : In3 a) (hb_ : In3 b) : Met l yX8_order (ws_ yX8_order cX8_order 3 (some .int)) ({ frames := 4, cells := 0, slots := 0, locals := 160 }) (va_Pc [.ref am, .int (I3 a), .int (I3 b)] (fun U => U.heap.size = sz ∧ va_P (dC, dI) vwCl [(am, .inr (0, [.int (I3 th), .int (I3 mn), .ref as_, .ref av, .ref aw, .int (I3 sm), .int (I3 wd), .int (I3 lp), .int (I3 mp), .int (I3 re)])), (as_, .inl (dA 0, 60, .inl (iA SG))), (av, .inl (dA 1, 960, .inr (.inl (lA VL)))), (aw, .inl (dA 1, 1024, .inr (.inl (lA wf))))] U.heap ∧ va_K (dC, dI) vwCl (tyA dA) U ∧ va_D (fun _ => True) [(am, .inr (0, [.int (I3 th), .int (I3 mn), .ref as_, .ref av, .ref aw, .int (I3 sm), .int (I3 wd), .int (I3 lp), .int (I3 mp), .int (I3 re)])), (as_, .inl (dA 0, 60, .inl (iA SG))), (av, .inl (dA 1, 960, .inr (.inl (lA VL)))), (aw, .inl (dA 1, 1024, .inr (.inl (lA wf))))])) (QmetX8_order dC dI dA (va_A [(am, .inr (0, [.int (I3 th), .int (I3 mn), .ref as_, .ref av, .ref aw, .int (I3 sm), .int (I3 wd), .int (I3 lp), .int (I3 mp), .int (I3 re)])), (as_, .inl (dA 0, 60, .inl (iA SG))), (av, .inl (dA 1, 960, .inr (.inl (lA VL)))), (aw, .inl (dA 1, 1024, .inr (.inl (lA wf))))] sz) am as_ av aw th mn sm wd lp mp re SG VL wf a b) 0 0 (va_A [(am, .inr (0, [.int (I3 th), .int (I3 mn), .ref as_, .ref av, .ref aw, .int (I3 sm), .int (I3 wd), .int (I3 lp), .int (I3 mp), .int (I3 re)])), (as_, .inl (dA 0, 60, .inl (iA SG))), (av, .inl (dA 1, 960, .inr (.inl (lA VL)))), (aw, .inl (dA 1, 1024, .inr (.inl (lA wf))))] sz) := by
  refine Met.ofW (cc := cX8_order) (maxL := 3) (ret := (some .int)) (by decide) rfl ?_
  intro p e s m args below meth c s₁ B hml hv
  obtain ⟨rfl, hsz, hP, hK, hD0⟩ := hv
  have hx := B.exec
  have hb := B.bytes
  have hr := B.returns
  have hts := atoms_spec (ws := (ws_ yX8_order cX8_order 3 (some .int))) B.pre
  have hts : ∀ w ∈ lw_all, w.before _ s = true := fun w h => hts w (List.mem_cons_of_mem _ h)
  have hown : s.vm.findClass RX8 = some m.cls := findClass_of_methodNamed B.named
  have hlocks := B.notSynchronized
  subst hsz
  have hD := hD0.self (sz := s.heap.size)
  generalize hAe : va_A [(am, .inr (0, [.int (I3 th), .int (I3 mn), .ref as_, .ref av, .ref aw, .int (I3 sm), .int (I3 wd), .int (I3 lp), .int (I3 mp), .int (I3 re)])), (as_, .inl (dA 0, 60, .inl (iA SG))), (av, .inl (dA 1, 960, .inr (.inl (lA VL)))), (aw, .inl (dA 1, 1024, .inr (.inl (lA wf))))] s.heap.size = A at hD ⊢
  have hA : ∀ q : Nat, s.heap.size ≤ q → A q := fun q h => by rw [← hAe]; exact Or.inr h
  have hS : va_S A s.heap s.heap [] := va_S.rf
  have hP : va_P (dC, dI) vwCl [(am, .inr (0, [.int (I3 th), .int (I3 mn), .ref as_, .ref av, .ref aw, .int (I3 sm), .int (I3 wd), .int (I3 lp), .int (I3 mp), .int (I3 re)])), (as_, .inl (dA 0, 60, .inl (iA SG))), (av, .inl (dA 1, 960, .inr (.inl (lA VL)))), (aw, .inl (dA 1, 1024, .inr (.inl (lA wf))))] s.heap := hP
  have hl := lv_entry ([.ref am, .int (I3 a), .int (I3 b)]) (n := 3) (Nat.le_of_ble_eq_true rfl)
  rw [lg_entry_eq]
  generalize (lg_sl ([.ref am, .int (I3 a), .int (I3 b)]) ++ List.replicate (3 - (lg_sl ([.ref am, .int (I3 a), .int (I3 b)])).length) Slot.unset).toArray = ls at hl ⊢
  have hl : lv_has ls 3 [(0, .ref am), (1, .int (I3 a)), (2, .int (I3 b))] := hl
  obtain ⟨hmn, hV, hAll⟩ := id hI
  refine lv_aload_n hx hb dX8_order_0 rfl (lv_at hl 0 rfl) ?_
  refine lv_iload_n hx hb dX8_order_1 rfl (lv_at hl 1 rfl) ?_
  have h_1 : In3 a := by first | assumption | omega | (constructor <;> omega)
  have h_2 : In3 mn := by first | assumption | omega | (constructor <;> omega)
  have hPc := hP.sub (ws' := [(am, .inr (0, [.int (I3 th), .int (I3 mn), .ref as_, .ref av, .ref aw, .int (I3 sm), .int (I3 wd), .int (I3 lp), .int (I3 mp), .int (I3 re)])), (as_, .inl (dA 0, 60, .inl (iA SG))), (av, .inl (dA 1, 960, .inr (.inl (lA VL)))), (aw, .inl (dA 1, 1024, .inr (.inl (lA wf))))]) [0, 1, 2, 3] rfl
  have hDc := hD.sub (ws' := [(am, .inr (0, [.int (I3 th), .int (I3 mn), .ref as_, .ref av, .ref aw, .int (I3 sm), .int (I3 wd), .int (I3 lp), .int (I3 mp), .int (I3 re)])), (as_, .inl (dA 0, 60, .inl (iA SG))), (av, .inl (dA 1, 960, .inr (.inl (lA VL)))), (aw, .inl (dA 1, 1024, .inr (.inl (lA wf))))]) [0, 1, 2, 3] (by decide) rfl
  have hFc := va_free (wc := [(am, .inr (0, [.int (I3 th), .int (I3 mn), .ref as_, .ref av, .ref aw, .int (I3 sm), .int (I3 wd), .int (I3 lp), .int (I3 mp), .int (I3 re)])), (as_, .inl (dA 0, 60, .inl (iA SG))), (av, .inl (dA 1, 960, .inr (.inl (lA VL)))), (aw, .inl (dA 1, 1024, .inr (.inl (lA wf))))]) hD hS hA [0, 1, 2, 3] rfl
  refine va_calli (va_runV (As := [.int (I3 a)]) (rest := []) ⟨hx, hb, hml, hown, hts⟩ (metX8_isNumber l dC dI dA am as_ av aw s.heap.size th mn sm wd lp mp re SG VL wf a h_1 h_2) (cwV 1 hts (lw_V q1050 q1052 qs35 q66 q1053) rfl rfl rfl (by decide +kernel) ⟨Nat.le_of_ble_eq_true rfl, Nat.le_of_ble_eq_true rfl⟩) ⟨fun a U g mk q => by obtain ⟨q0, q1, qP, qK, qD⟩ := q; exact ⟨q0, q1, qP, va_K.moved (u := U) (U := U.calling g mk a) (Vm.Alike.refl U.vm) qK, qD⟩, va_recv hK hPc (ci := 0) (q0 := 0) rfl rfl, fun U hU hW => ⟨rfl, by rw [hU], by rw [hU]; exact hPc, va_K.moved hW.alike hK, hDc.weaken (fun _ _ _ _ => trivial)⟩⟩ rfl rfl hl.1 rfl (lv_room (Nat.le_of_ble_eq_true rfl)) dX8_order_2 ⟨Nat.le_of_ble_eq_true rfl, Nat.le_of_ble_eq_true rfl⟩) hS (fun q _ h => hFc q h) hFc (fun r_2 u t H1 locs ht hvm hw hB hz1 hk1 hS => ?_)
  obtain ⟨z_2, rfl⟩ : ∃ z, z = u := ⟨_, rfl⟩
  obtain ⟨rfl, p0_2⟩ : r_2 = I3 z_2 ∧ (z_2 = if 0 ≤ a ∧ a < mn then 1 else 0) := hw
  obtain ⟨hP1, hK1, hD1⟩ := hB
  rw [ht] at hP1
  obtain ⟨hP, hD⟩ := va_join (wr := []) (w1 := [(am, .inr (0, [.int (I3 th), .int (I3 mn), .ref as_, .ref av, .ref aw, .int (I3 sm), .int (I3 wd), .int (I3 lp), .int (I3 mp), .int (I3 re)])), (as_, .inl (dA 0, 60, .inl (iA SG))), (av, .inl (dA 1, 960, .inr (.inl (lA VL)))), (aw, .inl (dA 1, 1024, .inr (.inl (lA wf))))]) hP hD [0, 1, 2, 3] [] rfl rfl (by decide) (by decide) hk1 hFc hP1 hD1
  generalize H1 = H at hP hS ⊢
  have hP : va_P (dC, dI) vwCl [(am, .inr (0, [.int (I3 th), .int (I3 mn), .ref as_, .ref av, .ref aw, .int (I3 sm), .int (I3 wd), .int (I3 lp), .int (I3 mp), .int (I3 re)])), (as_, .inl (dA 0, 60, .inl (iA SG))), (av, .inl (dA 1, 960, .inr (.inl (lA VL)))), (aw, .inl (dA 1, 1024, .inr (.inl (lA wf))))] H := hP
  have hD : va_D A [(am, .inr (0, [.int (I3 th), .int (I3 mn), .ref as_, .ref av, .ref aw, .int (I3 sm), .int (I3 wd), .int (I3 lp), .int (I3 mp), .int (I3 re)])), (as_, .inl (dA 0, 60, .inl (iA SG))), (av, .inl (dA 1, 960, .inr (.inl (lA VL)))), (aw, .inl (dA 1, 1024, .inr (.inl (lA wf))))] := hD
  have y_2 := b01 p0_2
  refine ix_if_eq (tgt := 16) hx hb (by first | decide | assumption | (constructor <;> omega)) dX8_order_5 (by decide) (fun c_5 => ?_) (fun c_5 => ?_)
  · skip
    refine lv_aload_n hx hb dX8_order_16 rfl (lv_at hl 0 rfl) ?_
    refine lv_iconst (v := I3 (1)) hx hb dX8_order_17 rfl ?_
    have h_3 : In3 (1 : Int) := by first | assumption | omega | (constructor <;> omega)
    have hPc := hP.sub (ws' := [(am, .inr (0, [.int (I3 th), .int (I3 mn), .ref as_, .ref av, .ref aw, .int (I3 sm), .int (I3 wd), .int (I3 lp), .int (I3 mp), .int (I3 re)])), (as_, .inl (dA 0, 60, .inl (iA SG))), (av, .inl (dA 1, 960, .inr (.inl (lA VL)))), (aw, .inl (dA 1, 1024, .inr (.inl (lA wf))))]) [0, 1, 2, 3] rfl
    have hDc := hD.sub (ws' := [(am, .inr (0, [.int (I3 th), .int (I3 mn), .ref as_, .ref av, .ref aw, .int (I3 sm), .int (I3 wd), .int (I3 lp), .int (I3 mp), .int (I3 re)])), (as_, .inl (dA 0, 60, .inl (iA SG))), (av, .inl (dA 1, 960, .inr (.inl (lA VL)))), (aw, .inl (dA 1, 1024, .inr (.inl (lA wf))))]) [0, 1, 2, 3] (by decide) rfl
    have hFc := va_free (wc := [(am, .inr (0, [.int (I3 th), .int (I3 mn), .ref as_, .ref av, .ref aw, .int (I3 sm), .int (I3 wd), .int (I3 lp), .int (I3 mp), .int (I3 re)])), (as_, .inl (dA 0, 60, .inl (iA SG))), (av, .inl (dA 1, 960, .inr (.inl (lA VL)))), (aw, .inl (dA 1, 1024, .inr (.inl (lA wf))))]) hD hS hA [0, 1, 2, 3] rfl
    refine va_calli (va_runV (As := [.int (I3 1)]) (rest := []) ⟨hx, hb, hml, hown, hts⟩ (metX8_fails l dC dI dA am as_ av aw H.size th mn sm wd lp mp re SG VL wf 1 h_3) (cwV 1 hts (lw_V q1016 q1018 qs34 q66 q1019) rfl rfl rfl (by decide +kernel) ⟨Nat.le_of_ble_eq_true rfl, Nat.le_of_ble_eq_true rfl⟩) ⟨fun a U g mk q => by obtain ⟨q0, q1, qP, qK, qD⟩ := q; exact ⟨q0, q1, qP, va_K.moved (u := U) (U := U.calling g mk a) (Vm.Alike.refl U.vm) qK, qD⟩, va_recv hK hPc (ci := 0) (q0 := 0) rfl rfl, fun U hU hW => ⟨rfl, by rw [hU], by rw [hU]; exact hPc, va_K.moved hW.alike hK, hDc.weaken (fun _ _ _ _ => trivial)⟩⟩ rfl rfl hl.1 rfl (lv_room (Nat.le_of_ble_eq_true rfl)) dX8_order_18 ⟨Nat.le_of_ble_eq_true rfl, Nat.le_of_ble_eq_true rfl⟩) hS (fun q _ h => hFc q h) hFc (fun r_18 u t H1 locs ht hvm hw hB hz1 hk1 hS => ?_)
    obtain ⟨z_18, th1_18⟩ := u
    obtain ⟨rfl, p0_18, p1_18⟩ : r_18 = I3 z_18 ∧ (z_18 = 0) ∧ (th1_18 = (1 : Int)) := hw
    obtain ⟨hP1, hK1, hD1⟩ := hB
    rw [ht] at hP1
    obtain ⟨hP, hD⟩ := va_join (wr := []) (w1 := [(am, .inr (0, [.int (I3 th1_18), .int (I3 mn), .ref as_, .ref av, .ref aw, .int (I3 sm), .int (I3 wd), .int (I3 lp), .int (I3 mp), .int (I3 re)])), (as_, .inl (dA 0, 60, .inl (iA SG))), (av, .inl (dA 1, 960, .inr (.inl (lA VL)))), (aw, .inl (dA 1, 1024, .inr (.inl (lA wf))))]) hP hD [0, 1, 2, 3] [] rfl rfl (by decide) (by decide) hk1 hFc hP1 hD1
    generalize H1 = H at hP hS ⊢
    have hP : va_P (dC, dI) vwCl [(am, .inr (0, [.int (I3 th1_18), .int (I3 mn), .ref as_, .ref av, .ref aw, .int (I3 sm), .int (I3 wd), .int (I3 lp), .int (I3 mp), .int (I3 re)])), (as_, .inl (dA 0, 60, .inl (iA SG))), (av, .inl (dA 1, 960, .inr (.inl (lA VL)))), (aw, .inl (dA 1, 1024, .inr (.inl (lA wf))))] H := hP
    have hD : va_D A [(am, .inr (0, [.int (I3 th1_18), .int (I3 mn), .ref as_, .ref av, .ref aw, .int (I3 sm), .int (I3 wd), .int (I3 lp), .int (I3 mp), .int (I3 re)])), (as_, .inl (dA 0, 60, .inl (iA SG))), (av, .inl (dA 1, 960, .inr (.inl (lA VL)))), (aw, .inl (dA 1, 1024, .inr (.inl (lA wf))))] := hD
    have o_4 : Dg wf := by first | assumption | omega | (constructor <;> omega)
    have o_5 : z_18 = if (0 ≤ a ∧ a < mn) ∧ 0 ≤ b ∧ b < mn then ordS SG VL a b else 0 := by rw [if_neg (by omega)]; exact p0_18
    have o_6 : th1_18 = if (0 ≤ a ∧ a < mn) ∧ 0 ≤ b ∧ b < mn then 0 else 1 := by rw [if_neg (by omega)]; exact p1_18
    exact W.iret (v := I3 z_18) hx hb hr (fun t ht hW => ⟨⟨I3 z_18, (z_18, th1_18, wf), rfl, ⟨rfl, ⟨o_4, o_5, o_6⟩⟩, by rw [ht]; exact hP, va_K.moved hW.alike hK, hD⟩, hS.F ht⟩) hS.2.2 dX8_order_21
  · skip
    refine lv_aload_n hx hb dX8_order_8 rfl (lv_at hl 0 rfl) ?_
    refine lv_iload_n hx hb dX8_order_9 rfl (lv_at hl 2 rfl) ?_
    have h_7 : In3 b := by first | assumption | omega | (constructor <;> omega)
    have h_8 : In3 mn := by first | assumption | omega | (constructor <;> omega)
    have hPc := hP.sub (ws' := [(am, .inr (0, [.int (I3 th), .int (I3 mn), .ref as_, .ref av, .ref aw, .int (I3 sm), .int (I3 wd), .int (I3 lp), .int (I3 mp), .int (I3 re)])), (as_, .inl (dA 0, 60, .inl (iA SG))), (av, .inl (dA 1, 960, .inr (.inl (lA VL)))), (aw, .inl (dA 1, 1024, .inr (.inl (lA wf))))]) [0, 1, 2, 3] rfl
    have hDc := hD.sub (ws' := [(am, .inr (0, [.int (I3 th), .int (I3 mn), .ref as_, .ref av, .ref aw, .int (I3 sm), .int (I3 wd), .int (I3 lp), .int (I3 mp), .int (I3 re)])), (as_, .inl (dA 0, 60, .inl (iA SG))), (av, .inl (dA 1, 960, .inr (.inl (lA VL)))), (aw, .inl (dA 1, 1024, .inr (.inl (lA wf))))]) [0, 1, 2, 3] (by decide) rfl
    have hFc := va_free (wc := [(am, .inr (0, [.int (I3 th), .int (I3 mn), .ref as_, .ref av, .ref aw, .int (I3 sm), .int (I3 wd), .int (I3 lp), .int (I3 mp), .int (I3 re)])), (as_, .inl (dA 0, 60, .inl (iA SG))), (av, .inl (dA 1, 960, .inr (.inl (lA VL)))), (aw, .inl (dA 1, 1024, .inr (.inl (lA wf))))]) hD hS hA [0, 1, 2, 3] rfl
    refine va_calli (va_runV (As := [.int (I3 b)]) (rest := []) ⟨hx, hb, hml, hown, hts⟩ (metX8_isNumber l dC dI dA am as_ av aw H.size th mn sm wd lp mp re SG VL wf b h_7 h_8) (cwV 1 hts (lw_V q1050 q1052 qs35 q66 q1053) rfl rfl rfl (by decide +kernel) ⟨Nat.le_of_ble_eq_true rfl, Nat.le_of_ble_eq_true rfl⟩) ⟨fun a U g mk q => by obtain ⟨q0, q1, qP, qK, qD⟩ := q; exact ⟨q0, q1, qP, va_K.moved (u := U) (U := U.calling g mk a) (Vm.Alike.refl U.vm) qK, qD⟩, va_recv hK hPc (ci := 0) (q0 := 0) rfl rfl, fun U hU hW => ⟨rfl, by rw [hU], by rw [hU]; exact hPc, va_K.moved hW.alike hK, hDc.weaken (fun _ _ _ _ => trivial)⟩⟩ rfl rfl hl.1 rfl (lv_room (Nat.le_of_ble_eq_true rfl)) dX8_order_10 ⟨Nat.le_of_ble_eq_true rfl, Nat.le_of_ble_eq_true rfl⟩) hS (fun q _ h => hFc q h) hFc (fun r_10 u t H1 locs ht hvm hw hB hz1 hk1 hS => ?_)
    obtain ⟨z_10, rfl⟩ : ∃ z, z = u := ⟨_, rfl⟩
    obtain ⟨rfl, p0_10⟩ : r_10 = I3 z_10 ∧ (z_10 = if 0 ≤ b ∧ b < mn then 1 else 0) := hw
    obtain ⟨hP1, hK1, hD1⟩ := hB
    rw [ht] at hP1
    obtain ⟨hP, hD⟩ := va_join (wr := []) (w1 := [(am, .inr (0, [.int (I3 th), .int (I3 mn), .ref as_, .ref av, .ref aw, .int (I3 sm), .int (I3 wd), .int (I3 lp), .int (I3 mp), .int (I3 re)])), (as_, .inl (dA 0, 60, .inl (iA SG))), (av, .inl (dA 1, 960, .inr (.inl (lA VL)))), (aw, .inl (dA 1, 1024, .inr (.inl (lA wf))))]) hP hD [0, 1, 2, 3] [] rfl rfl (by decide) (by decide) hk1 hFc hP1 hD1
    generalize H1 = H at hP hS ⊢
    have hP : va_P (dC, dI) vwCl [(am, .inr (0, [.int (I3 th), .int (I3 mn), .ref as_, .ref av, .ref aw, .int (I3 sm), .int (I3 wd), .int (I3 lp), .int (I3 mp), .int (I3 re)])), (as_, .inl (dA 0, 60, .inl (iA SG))), (av, .inl (dA 1, 960, .inr (.inl (lA VL)))), (aw, .inl (dA 1, 1024, .inr (.inl (lA wf))))] H := hP
    have hD : va_D A [(am, .inr (0, [.int (I3 th), .int (I3 mn), .ref as_, .ref av, .ref aw, .int (I3 sm), .int (I3 wd), .int (I3 lp), .int (I3 mp), .int (I3 re)])), (as_, .inl (dA 0, 60, .inl (iA SG))), (av, .inl (dA 1, 960, .inr (.inl (lA VL)))), (aw, .inl (dA 1, 1024, .inr (.inl (lA wf))))] := hD
    have y_10 := b01 p0_10
    refine ix_if_ne (tgt := 22) hx hb (by first | decide | assumption | (constructor <;> omega)) dX8_order_13 (by decide) (fun c_13 => ?_) (fun c_13 => ?_)
    · skip
      have sa := (hAll a (by omega) (by omega)).1
      have sb := (hAll b (by omega) (by omega)).1
      refine lv_aload_n hx hb dX8_order_22 rfl (lv_at hl 0 rfl) ?_
      refine lv_iconst (v := I3 (0)) hx hb dX8_order_23 rfl ?_
      refine va_put (D := (dC, dI)) (ci := 0) (v := .int (I3 0)) (ty := .int) (C := RX8) (T := TX8) (N := 10) hx hb hts in_X8 tyX8 tyX8_ok nmX8 hown hK hP hD hS 0 rfl rfl 0 (by decide) (hts _ q913) (fun _ h9 => h9) rfl (by decide +kernel) rfl rfl (Nat.le_of_ble_eq_true rfl) dX8_order_24 (fun H locs hP hD hS => ?_)
      have hP : va_P (dC, dI) vwCl [(am, .inr (0, [.int (I3 0), .int (I3 mn), .ref as_, .ref av, .ref aw, .int (I3 sm), .int (I3 wd), .int (I3 lp), .int (I3 mp), .int (I3 re)])), (as_, .inl (dA 0, 60, .inl (iA SG))), (av, .inl (dA 1, 960, .inr (.inl (lA VL)))), (aw, .inl (dA 1, 1024, .inr (.inl (lA wf))))] H := hP
      have hD : va_D A [(am, .inr (0, [.int (I3 0), .int (I3 mn), .ref as_, .ref av, .ref aw, .int (I3 sm), .int (I3 wd), .int (I3 lp), .int (I3 mp), .int (I3 re)])), (as_, .inl (dA 0, 60, .inl (iA SG))), (av, .inl (dA 1, 960, .inr (.inl (lA VL)))), (aw, .inl (dA 1, 1024, .inr (.inl (lA wf))))] := hD
      refine lv_aload_n hx hb dX8_order_27 rfl (lv_at hl 0 rfl) ?_
      refine va_get (D := (dC, dI)) (ci := 0) (v := .ref as_) (C := RX8) (T := TX8) (N := 10) hx hb hts in_X8 hown hK hP 0 rfl rfl 2 (by decide) (hts _ q915) (fun _ h9 => h9) rfl dX8_order_28 ?_
      refine lv_iload_n hx hb dX8_order_31 rfl (lv_at hl 1 rfl) ?_
      refine ix_iald hx hb hK hP 1 0 rfl rfl (Nat.le_of_ble_eq_true rfl) (by omega) dX8_order_32 ?_
      refine lv_aload_n hx hb dX8_order_33 rfl (lv_at hl 0 rfl) ?_
      refine va_get (D := (dC, dI)) (ci := 0) (v := .ref as_) (C := RX8) (T := TX8) (N := 10) hx hb hts in_X8 hown hK hP 0 rfl rfl 2 (by decide) (hts _ q915) (fun _ h9 => h9) rfl dX8_order_34 ?_
      refine lv_iload_n hx hb dX8_order_37 rfl (lv_at hl 2 rfl) ?_
      refine ix_iald hx hb hK hP 1 0 rfl rfl (Nat.le_of_ble_eq_true rfl) (by omega) dX8_order_38 ?_
      refine ix_icmp_eq (tgt := 63) hx hb (by first | decide | assumption | (constructor <;> omega)) (by first | decide | assumption | (constructor <;> omega)) dX8_order_39 (by decide) (fun c_39 => ?_) (fun c_39 => ?_)
      · skip
        refine lv_aload_n hx hb dX8_order_63 rfl (lv_at hl 0 rfl) ?_
        refine lv_iload_n hx hb dX8_order_64 rfl (lv_at hl 1 rfl) ?_
        refine lv_iload_n hx hb dX8_order_65 rfl (lv_at hl 2 rfl) ?_
        have h_9 : Dg wf := by first | assumption | omega | (constructor <;> omega)
        have h_10 : Dg VL := by first | assumption | omega | (constructor <;> omega)
        have h_11 : 0 ≤ a ∧ a < 60 := by first | assumption | omega | (constructor <;> omega)
        have h_12 : 0 ≤ b ∧ b < 60 := by first | assumption | omega | (constructor <;> omega)
        have hPc := hP.sub (ws' := [(am, .inr (0, [.int (I3 ((0 : Int))), .int (I3 mn), .ref as_, .ref av, .ref aw, .int (I3 sm), .int (I3 wd), .int (I3 lp), .int (I3 mp), .int (I3 re)])), (as_, .inl (dA 0, 60, .inl (iA SG))), (av, .inl (dA 1, 960, .inr (.inl (lA VL)))), (aw, .inl (dA 1, 1024, .inr (.inl (lA wf))))]) [0, 1, 2, 3] rfl
        have hDc := hD.sub (ws' := [(am, .inr (0, [.int (I3 ((0 : Int))), .int (I3 mn), .ref as_, .ref av, .ref aw, .int (I3 sm), .int (I3 wd), .int (I3 lp), .int (I3 mp), .int (I3 re)])), (as_, .inl (dA 0, 60, .inl (iA SG))), (av, .inl (dA 1, 960, .inr (.inl (lA VL)))), (aw, .inl (dA 1, 1024, .inr (.inl (lA wf))))]) [0, 1, 2, 3] (by decide) rfl
        have hFc := va_free (wc := [(am, .inr (0, [.int (I3 ((0 : Int))), .int (I3 mn), .ref as_, .ref av, .ref aw, .int (I3 sm), .int (I3 wd), .int (I3 lp), .int (I3 mp), .int (I3 re)])), (as_, .inl (dA 0, 60, .inl (iA SG))), (av, .inl (dA 1, 960, .inr (.inl (lA VL)))), (aw, .inl (dA 1, 1024, .inr (.inl (lA wf))))]) hD hS hA [0, 1, 2, 3] rfl
        refine va_callv (va_runV (As := [.int (I3 a), .int (I3 b)]) (rest := []) ⟨hx, hb, hml, hown, hts⟩ (metX8_level l dC dI dA am as_ av aw H.size 0 mn sm wd lp mp re SG VL wf a b h_9 h_10 h_11 h_12) (cwV 2 hts (lw_V q1082 q1084 qs42 q66 q1085) rfl rfl rfl (by decide +kernel) ⟨Nat.le_of_ble_eq_true rfl, Nat.le_of_ble_eq_true rfl⟩) ⟨fun a U g mk q => by obtain ⟨q0, q1, qP, qK, qD⟩ := q; exact ⟨q0, q1, qP, va_K.moved (u := U) (U := U.calling g mk a) (Vm.Alike.refl U.vm) qK, qD⟩, va_recv hK hPc (ci := 0) (q0 := 0) rfl rfl, fun U hU hW => ⟨rfl, by rw [hU], by rw [hU]; exact hPc, va_K.moved hW.alike hK, hDc.weaken (fun _ _ _ _ => trivial)⟩⟩ rfl rfl hl.1 rfl (lv_room (Nat.le_of_ble_eq_true rfl)) dX8_order_66 ⟨Nat.le_of_ble_eq_true rfl, Nat.le_of_ble_eq_true rfl⟩) hS (fun q _ h => hFc q h) hFc (fun u t H1 locs ht hvm hw hB hz1 hk1 hS => ?_)
        obtain ⟨W1_66, rfl⟩ : ∃ z, z = u := ⟨_, rfl⟩
        obtain ⟨p0_66, p1_66, p2_66, p3_66⟩ : (Dg W1_66) ∧ (rv W1_66 4 = pv VL a * qv VL b) ∧ (rv W1_66 5 = pv VL b * qv VL a) ∧ (rv W1_66 6 = qv VL a * qv VL b) := hw
        obtain ⟨hP1, hK1, hD1⟩ := hB
        rw [ht] at hP1
        obtain ⟨hP, hD⟩ := va_join (wr := []) (w1 := [(am, .inr (0, [.int (I3 ((0 : Int))), .int (I3 mn), .ref as_, .ref av, .ref aw, .int (I3 sm), .int (I3 wd), .int (I3 lp), .int (I3 mp), .int (I3 re)])), (as_, .inl (dA 0, 60, .inl (iA SG))), (av, .inl (dA 1, 960, .inr (.inl (lA VL)))), (aw, .inl (dA 1, 1024, .inr (.inl (lA W1_66))))]) hP hD [0, 1, 2, 3] [] rfl rfl (by decide) (by decide) hk1 hFc hP1 hD1
        generalize H1 = H at hP hS ⊢
        have hP : va_P (dC, dI) vwCl [(am, .inr (0, [.int (I3 ((0 : Int))), .int (I3 mn), .ref as_, .ref av, .ref aw, .int (I3 sm), .int (I3 wd), .int (I3 lp), .int (I3 mp), .int (I3 re)])), (as_, .inl (dA 0, 60, .inl (iA SG))), (av, .inl (dA 1, 960, .inr (.inl (lA VL)))), (aw, .inl (dA 1, 1024, .inr (.inl (lA W1_66))))] H := hP
        have hD : va_D A [(am, .inr (0, [.int (I3 ((0 : Int))), .int (I3 mn), .ref as_, .ref av, .ref aw, .int (I3 sm), .int (I3 wd), .int (I3 lp), .int (I3 mp), .int (I3 re)])), (as_, .inl (dA 0, 60, .inl (iA SG))), (av, .inl (dA 1, 960, .inr (.inl (lA VL)))), (aw, .inl (dA 1, 1024, .inr (.inl (lA W1_66))))] := hD
        refine lv_aload_n hx hb dX8_order_69 rfl (lv_at hl 0 rfl) ?_
        refine va_get (D := (dC, dI)) (ci := 0) (v := .ref as_) (C := RX8) (T := TX8) (N := 10) hx hb hts in_X8 hown hK hP 0 rfl rfl 2 (by decide) (hts _ q915) (fun _ h9 => h9) rfl dX8_order_70 ?_
        refine lv_iload_n hx hb dX8_order_73 rfl (lv_at hl 1 rfl) ?_
        refine ix_iald hx hb hK hP 1 0 rfl rfl (Nat.le_of_ble_eq_true rfl) (by omega) dX8_order_74 ?_
        refine lv_aload_n hx hb dX8_order_75 rfl (lv_at hl 0 rfl) ?_
        refine lv_iconst (v := I3 (4)) hx hb dX8_order_76 rfl ?_
        refine lv_iconst (v := I3 (5)) hx hb dX8_order_77 rfl ?_
        have h_13 : 0 ≤ (4 : Int) ∧ (4 : Int) < 16 := by first | assumption | omega | (constructor <;> omega)
        have h_14 : 0 ≤ (5 : Int) ∧ (5 : Int) < 16 := by first | assumption | omega | (constructor <;> omega)
        have h_15 : Dg W1_66 := by first | assumption | omega | (constructor <;> omega)
        have hPc := hP.sub (ws' := [(am, .inr (0, [.int (I3 (((0 : Int)))), .int (I3 mn), .ref as_, .ref av, .ref aw, .int (I3 sm), .int (I3 wd), .int (I3 lp), .int (I3 mp), .int (I3 re)])), (as_, .inl (dA 0, 60, .inl (iA SG))), (av, .inl (dA 1, 960, .inr (.inl (lA VL)))), (aw, .inl (dA 1, 1024, .inr (.inl (lA W1_66))))]) [0, 1, 2, 3] rfl
        have hDc := hD.sub (ws' := [(am, .inr (0, [.int (I3 (((0 : Int)))), .int (I3 mn), .ref as_, .ref av, .ref aw, .int (I3 sm), .int (I3 wd), .int (I3 lp), .int (I3 mp), .int (I3 re)])), (as_, .inl (dA 0, 60, .inl (iA SG))), (av, .inl (dA 1, 960, .inr (.inl (lA VL)))), (aw, .inl (dA 1, 1024, .inr (.inl (lA W1_66))))]) [0, 1, 2, 3] (by decide) rfl
        have hFc := va_free (wc := [(am, .inr (0, [.int (I3 (((0 : Int)))), .int (I3 mn), .ref as_, .ref av, .ref aw, .int (I3 sm), .int (I3 wd), .int (I3 lp), .int (I3 mp), .int (I3 re)])), (as_, .inl (dA 0, 60, .inl (iA SG))), (av, .inl (dA 1, 960, .inr (.inl (lA VL)))), (aw, .inl (dA 1, 1024, .inr (.inl (lA W1_66))))]) hD hS hA [0, 1, 2, 3] rfl
        refine va_calli (va_runV (As := [.int (I3 4), .int (I3 5)]) (rest := [.int (I3 (SG a))]) ⟨hx, hb, hml, hown, hts⟩ (metX8_compare l dC dI dA am as_ av aw H.size ((0 : Int)) mn sm wd lp mp re SG VL W1_66 4 5 h_13 h_14 h_15) (cwV 2 hts (lw_V q988 q990 qs27 q66 q991) rfl rfl rfl (by decide +kernel) ⟨Nat.le_of_ble_eq_true rfl, Nat.le_of_ble_eq_true rfl⟩) ⟨fun a U g mk q => by obtain ⟨q0, q1, qP, qK, qD⟩ := q; exact ⟨q0, q1, qP, va_K.moved (u := U) (U := U.calling g mk a) (Vm.Alike.refl U.vm) qK, qD⟩, va_recv hK hPc (ci := 0) (q0 := 0) rfl rfl, fun U hU hW => ⟨rfl, by rw [hU], by rw [hU]; exact hPc, va_K.moved hW.alike hK, hDc.weaken (fun _ _ _ _ => trivial)⟩⟩ rfl rfl hl.1 rfl (lv_room (Nat.le_of_ble_eq_true rfl)) dX8_order_78 ⟨Nat.le_of_ble_eq_true rfl, Nat.le_of_ble_eq_true rfl⟩) hS (fun q _ h => hFc q h) hFc (fun r_78 u t H1 locs ht hvm hw hB hz1 hk1 hS => ?_)
        obtain ⟨z_78, rfl⟩ : ∃ z, z = u := ⟨_, rfl⟩
        obtain ⟨rfl, p0_78⟩ : r_78 = I3 z_78 ∧ (z_78 = cmpN (rv W1_66 (4 : Int)) (rv W1_66 (5 : Int))) := hw
        obtain ⟨hP1, hK1, hD1⟩ := hB
        rw [ht] at hP1
        obtain ⟨hP, hD⟩ := va_join (wr := []) (w1 := [(am, .inr (0, [.int (I3 (((0 : Int)))), .int (I3 mn), .ref as_, .ref av, .ref aw, .int (I3 sm), .int (I3 wd), .int (I3 lp), .int (I3 mp), .int (I3 re)])), (as_, .inl (dA 0, 60, .inl (iA SG))), (av, .inl (dA 1, 960, .inr (.inl (lA VL)))), (aw, .inl (dA 1, 1024, .inr (.inl (lA W1_66))))]) hP hD [0, 1, 2, 3] [] rfl rfl (by decide) (by decide) hk1 hFc hP1 hD1
        generalize H1 = H at hP hS ⊢
        have hP : va_P (dC, dI) vwCl [(am, .inr (0, [.int (I3 (((0 : Int)))), .int (I3 mn), .ref as_, .ref av, .ref aw, .int (I3 sm), .int (I3 wd), .int (I3 lp), .int (I3 mp), .int (I3 re)])), (as_, .inl (dA 0, 60, .inl (iA SG))), (av, .inl (dA 1, 960, .inr (.inl (lA VL)))), (aw, .inl (dA 1, 1024, .inr (.inl (lA W1_66))))] H := hP
        have hD : va_D A [(am, .inr (0, [.int (I3 (((0 : Int)))), .int (I3 mn), .ref as_, .ref av, .ref aw, .int (I3 sm), .int (I3 wd), .int (I3 lp), .int (I3 mp), .int (I3 re)])), (as_, .inl (dA 0, 60, .inl (iA SG))), (av, .inl (dA 1, 960, .inr (.inl (lA VL)))), (aw, .inl (dA 1, 1024, .inr (.inl (lA W1_66))))] := hD
        refine ix_imul hx hb dX8_order_81 ?_
        have o_16 : Dg W1_66 := by first | assumption | omega | (constructor <;> omega)
        have o_17 : ((SG a) * z_78) = if (0 ≤ a ∧ a < mn) ∧ 0 ≤ b ∧ b < mn then ordS SG VL a b else 0 := by rw [if_pos (by omega)]; unfold ordS; rw [if_pos (by omega), p0_78, p1_66, p2_66]
        have o_18 : (((0 : Int))) = if (0 ≤ a ∧ a < mn) ∧ 0 ≤ b ∧ b < mn then 0 else 1 := by rw [if_pos (by omega)]
        exact W.iret (v := I3 ((SG a) * z_78)) hx hb hr (fun t ht hW => ⟨⟨I3 ((SG a) * z_78), (((SG a) * z_78), (((0 : Int))), W1_66), rfl, ⟨rfl, ⟨o_16, o_17, o_18⟩⟩, by rw [ht]; exact hP, va_K.moved hW.alike hK, hD⟩, hS.F ht⟩) hS.2.2 dX8_order_82
      · skip
        refine lv_aload_n hx hb dX8_order_42 rfl (lv_at hl 0 rfl) ?_
        refine va_get (D := (dC, dI)) (ci := 0) (v := .ref as_) (C := RX8) (T := TX8) (N := 10) hx hb hts in_X8 hown hK hP 0 rfl rfl 2 (by decide) (hts _ q915) (fun _ h9 => h9) rfl dX8_order_43 ?_
        refine lv_iload_n hx hb dX8_order_46 rfl (lv_at hl 1 rfl) ?_
        refine ix_iald hx hb hK hP 1 0 rfl rfl (Nat.le_of_ble_eq_true rfl) (by omega) dX8_order_47 ?_
        refine lv_aload_n hx hb dX8_order_48 rfl (lv_at hl 0 rfl) ?_
        refine va_get (D := (dC, dI)) (ci := 0) (v := .ref as_) (C := RX8) (T := TX8) (N := 10) hx hb hts in_X8 hown hK hP 0 rfl rfl 2 (by decide) (hts _ q915) (fun _ h9 => h9) rfl dX8_order_49 ?_
        refine lv_iload_n hx hb dX8_order_52 rfl (lv_at hl 2 rfl) ?_
        refine ix_iald hx hb hK hP 1 0 rfl rfl (Nat.le_of_ble_eq_true rfl) (by omega) dX8_order_53 ?_
        refine ix_icmp_ge (tgt := 61) hx hb (by first | decide | assumption | (constructor <;> omega)) (by first | decide | assumption | (constructor <;> omega)) dX8_order_54 (by decide) (fun c_54 => ?_) (fun c_54 => ?_)
        · skip
          refine lv_iconst (v := I3 (1)) hx hb dX8_order_61 rfl ?_
          have o_19 : Dg wf := by first | assumption | omega | (constructor <;> omega)
          have o_20 : (1 : Int) = if (0 ≤ a ∧ a < mn) ∧ 0 ≤ b ∧ b < mn then ordS SG VL a b else 0 := by rw [if_pos (by omega)]; unfold ordS; rw [if_neg (by omega)]; first | (rw [if_pos (by omega)]; done) | (rw [if_neg (by omega)]; done)
          have o_21 : (0 : Int) = if (0 ≤ a ∧ a < mn) ∧ 0 ≤ b ∧ b < mn then 0 else 1 := by rw [if_pos (by omega)]
          exact W.iret (v := I3 1) hx hb hr (fun t ht hW => ⟨⟨I3 1, (1, 0, wf), rfl, ⟨rfl, ⟨o_19, o_20, o_21⟩⟩, by rw [ht]; exact hP, va_K.moved hW.alike hK, hD⟩, hS.F ht⟩) hS.2.2 dX8_order_62
        · skip
          refine lv_iconst (v := I3 (-1)) hx hb dX8_order_57 rfl ?_
          refine lv_goto (tgt := 62) hx hb dX8_order_58 (by decide) ?_
          have o_22 : Dg wf := by first | assumption | omega | (constructor <;> omega)
          have o_23 : (-1 : Int) = if (0 ≤ a ∧ a < mn) ∧ 0 ≤ b ∧ b < mn then ordS SG VL a b else 0 := by rw [if_pos (by omega)]; unfold ordS; rw [if_neg (by omega)]; first | (rw [if_pos (by omega)]; done) | (rw [if_neg (by omega)]; done)
          have o_24 : (0 : Int) = if (0 ≤ a ∧ a < mn) ∧ 0 ≤ b ∧ b < mn then 0 else 1 := by rw [if_pos (by omega)]
          exact W.iret (v := I3 (-1)) hx hb hr (fun t ht hW => ⟨⟨I3 (-1), ((-1), 0, wf), rfl, ⟨rfl, ⟨o_22, o_23, o_24⟩⟩, by rw [ht]; exact hP, va_K.moved hW.alike hK, hD⟩, hS.F ht⟩) hS.2.2 dX8_order_62
    · skip
      refine lv_aload_n hx hb dX8_order_16 rfl (lv_at hl 0 rfl) ?_
      refine lv_iconst (v := I3 (1)) hx hb dX8_order_17 rfl ?_
      have h_25 : In3 (1 : Int) := by first | assumption | omega | (constructor <;> omega)
      have hPc := hP.sub (ws' := [(am, .inr (0, [.int (I3 th), .int (I3 mn), .ref as_, .ref av, .ref aw, .int (I3 sm), .int (I3 wd), .int (I3 lp), .int (I3 mp), .int (I3 re)])), (as_, .inl (dA 0, 60, .inl (iA SG))), (av, .inl (dA 1, 960, .inr (.inl (lA VL)))), (aw, .inl (dA 1, 1024, .inr (.inl (lA wf))))]) [0, 1, 2, 3] rfl
      have hDc := hD.sub (ws' := [(am, .inr (0, [.int (I3 th), .int (I3 mn), .ref as_, .ref av, .ref aw, .int (I3 sm), .int (I3 wd), .int (I3 lp), .int (I3 mp), .int (I3 re)])), (as_, .inl (dA 0, 60, .inl (iA SG))), (av, .inl (dA 1, 960, .inr (.inl (lA VL)))), (aw, .inl (dA 1, 1024, .inr (.inl (lA wf))))]) [0, 1, 2, 3] (by decide) rfl
      have hFc := va_free (wc := [(am, .inr (0, [.int (I3 th), .int (I3 mn), .ref as_, .ref av, .ref aw, .int (I3 sm), .int (I3 wd), .int (I3 lp), .int (I3 mp), .int (I3 re)])), (as_, .inl (dA 0, 60, .inl (iA SG))), (av, .inl (dA 1, 960, .inr (.inl (lA VL)))), (aw, .inl (dA 1, 1024, .inr (.inl (lA wf))))]) hD hS hA [0, 1, 2, 3] rfl
      refine va_calli (va_runV (As := [.int (I3 1)]) (rest := []) ⟨hx, hb, hml, hown, hts⟩ (metX8_fails l dC dI dA am as_ av aw H.size th mn sm wd lp mp re SG VL wf 1 h_25) (cwV 1 hts (lw_V q1016 q1018 qs34 q66 q1019) rfl rfl rfl (by decide +kernel) ⟨Nat.le_of_ble_eq_true rfl, Nat.le_of_ble_eq_true rfl⟩) ⟨fun a U g mk q => by obtain ⟨q0, q1, qP, qK, qD⟩ := q; exact ⟨q0, q1, qP, va_K.moved (u := U) (U := U.calling g mk a) (Vm.Alike.refl U.vm) qK, qD⟩, va_recv hK hPc (ci := 0) (q0 := 0) rfl rfl, fun U hU hW => ⟨rfl, by rw [hU], by rw [hU]; exact hPc, va_K.moved hW.alike hK, hDc.weaken (fun _ _ _ _ => trivial)⟩⟩ rfl rfl hl.1 rfl (lv_room (Nat.le_of_ble_eq_true rfl)) dX8_order_18 ⟨Nat.le_of_ble_eq_true rfl, Nat.le_of_ble_eq_true rfl⟩) hS (fun q _ h => hFc q h) hFc (fun r_18 u t H1 locs ht hvm hw hB hz1 hk1 hS => ?_)
      obtain ⟨z_18, th1_18⟩ := u
      obtain ⟨rfl, p0_18, p1_18⟩ : r_18 = I3 z_18 ∧ (z_18 = 0) ∧ (th1_18 = (1 : Int)) := hw
      obtain ⟨hP1, hK1, hD1⟩ := hB
      rw [ht] at hP1
      obtain ⟨hP, hD⟩ := va_join (wr := []) (w1 := [(am, .inr (0, [.int (I3 th1_18), .int (I3 mn), .ref as_, .ref av, .ref aw, .int (I3 sm), .int (I3 wd), .int (I3 lp), .int (I3 mp), .int (I3 re)])), (as_, .inl (dA 0, 60, .inl (iA SG))), (av, .inl (dA 1, 960, .inr (.inl (lA VL)))), (aw, .inl (dA 1, 1024, .inr (.inl (lA wf))))]) hP hD [0, 1, 2, 3] [] rfl rfl (by decide) (by decide) hk1 hFc hP1 hD1
      generalize H1 = H at hP hS ⊢
      have hP : va_P (dC, dI) vwCl [(am, .inr (0, [.int (I3 th1_18), .int (I3 mn), .ref as_, .ref av, .ref aw, .int (I3 sm), .int (I3 wd), .int (I3 lp), .int (I3 mp), .int (I3 re)])), (as_, .inl (dA 0, 60, .inl (iA SG))), (av, .inl (dA 1, 960, .inr (.inl (lA VL)))), (aw, .inl (dA 1, 1024, .inr (.inl (lA wf))))] H := hP
      have hD : va_D A [(am, .inr (0, [.int (I3 th1_18), .int (I3 mn), .ref as_, .ref av, .ref aw, .int (I3 sm), .int (I3 wd), .int (I3 lp), .int (I3 mp), .int (I3 re)])), (as_, .inl (dA 0, 60, .inl (iA SG))), (av, .inl (dA 1, 960, .inr (.inl (lA VL)))), (aw, .inl (dA 1, 1024, .inr (.inl (lA wf))))] := hD
      have o_26 : Dg wf := by first | assumption | omega | (constructor <;> omega)
      have o_27 : z_18 = if (0 ≤ a ∧ a < mn) ∧ 0 ≤ b ∧ b < mn then ordS SG VL a b else 0 := by rw [if_neg (by omega)]; exact p0_18
      have o_28 : th1_18 = if (0 ≤ a ∧ a < mn) ∧ 0 ≤ b ∧ b < mn then 0 else 1 := by rw [if_neg (by omega)]; exact p1_18
      exact W.iret (v := I3 z_18) hx hb hr (fun t ht hW => ⟨⟨I3 z_18, (z_18, th1_18, wf), rfl, ⟨rfl, ⟨o_26, o_27, o_28⟩⟩, by rw [ht]; exact hP, va_K.moved hW.alike hK, hD⟩, hS.F ht⟩) hS.2.2 dX8_order_21
