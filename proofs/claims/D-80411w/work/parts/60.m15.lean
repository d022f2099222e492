/-! the model: meets, form, encode -/
set_option maxRecDepth 100000
abbrev BmetX8_meets (dC : Nat → ClassId) (dI : Nat → Nat → Nat) (dA : Nat → ClassId) (A : Nat → Prop) (am : Nat) (as_ : Nat) (av : Nat) (aw : Nat) (th : Int) (mn : Int) (sm : Int) (wd : Int) (lp : Int) (mp : Int) (re : Int) (SG : Int → Int) (VL : Int → Int) (wf : Int → Int) (a : Int) (v : Int) : Int × Int × (Int → Int) → State → Prop := fun u t => (fun (u : Int × Int × (Int → Int)) => (fun (z : Int) (th1 : Int) (W1 : Int → Int) => va_P (dC, dI) vwCl [(am, .inr (0, [.int (I3 th1), .int (I3 mn), .ref as_, .ref av, .ref aw, .int (I3 sm), .int (I3 wd), .int (I3 lp), .int (I3 mp), .int (I3 re)])), (as_, .inl (dA 0, 60, .inl (iA SG))), (av, .inl (dA 1, 960, .inr (.inl (lA VL)))), (aw, .inl (dA 1, 1024, .inr (.inl (lA W1))))] t.heap ∧ va_K (dC, dI) vwCl (tyA dA) t ∧ va_D A [(am, .inr (0, [.int (I3 th1), .int (I3 mn), .ref as_, .ref av, .ref aw, .int (I3 sm), .int (I3 wd), .int (I3 lp), .int (I3 mp), .int (I3 re)])), (as_, .inl (dA 0, 60, .inl (iA SG))), (av, .inl (dA 1, 960, .inr (.inl (lA VL)))), (aw, .inl (dA 1, 1024, .inr (.inl (lA W1))))]) u.1 u.2.1 u.2.2) u
abbrev QmetX8_meets (dC : Nat → ClassId) (dI : Nat → Nat → Nat) (dA : Nat → ClassId) (A : Nat → Prop) (am : Nat) (as_ : Nat) (av : Nat) (aw : Nat) (th : Int) (mn : Int) (sm : Int) (wd : Int) (lp : Int) (mp : Int) (re : Int) (SG : Int → Int) (VL : Int → Int) (wf : Int → Int) (a : Int) (v : Int) := va_Qi (fun (rt_ : Int32) => fun (u : Int × Int × (Int → Int)) => (fun (z : Int) (th1 : Int) (W1 : Int → Int) => rt_ = I3 z ∧ (Dg W1) ∧ (z = if 0 ≤ a ∧ a < mn then meS SG VL a v else 0) ∧ (th1 = if 0 ≤ a ∧ a < mn then 0 else 1)) u.1 u.2.1 u.2.2) (BmetX8_meets dC dI dA A am as_ av aw th mn sm wd lp mp re SG VL wf a v) A
set_option maxHeartbeats 1000000 in
set_option maxRecDepth 100000 in
/-- meets -/
theorem metX8_meets (l : Launch) (dC : Nat → ClassId) (dI : Nat → Nat → Nat) (dA : Nat → ClassId) (am : Nat) (as_ : Nat) (av : Nat) (aw : Nat) (sz : Nat) (th : Int) (mn : Int) (sm : Int) (wd : Int) (lp : Int) (mp : Int) (re : Int) (SG : Int → Int) (VL : Int → Int) (wf : Int → Int) (a : Int) (v : Int) (hW : Dg wf) (hI : MI mn SG VL) (ha : In3 a) (hv : In6 v) : Met l yX8_meets (ws_ yX8_meets cX8_meets 6 (some .int)) ({ frames := 3, cells := 0, slots := 0, locals := 120 }) (va_Pc [.ref am, .int (I3 a), .long (L6 v)] (fun U => U.heap.size = sz ∧ va_P (dC, dI) vwCl [(am, .inr (0, [.int (I3 th), .int (I3 mn), .ref as_, .ref av, .ref aw, .int (I3 sm), .int (I3 wd), .int (I3 lp), .int (I3 mp), .int (I3 re)])), (as_, .inl (dA 0, 60, .inl (iA SG))), (av, .inl (dA 1, 960, .inr (.inl (lA VL)))), (aw, .inl (dA 1, 1024, .inr (.inl (lA wf))))] U.heap ∧ va_K (dC, dI) vwCl (tyA dA) U ∧ va_D (fun _ => True) [(am, .inr (0, [.int (I3 th), .int (I3 mn), .ref as_, .ref av, .ref aw, .int (I3 sm), .int (I3 wd), .int (I3 lp), .int (I3 mp), .int (I3 re)])), (as_, .inl (dA 0, 60, .inl (iA SG))), (av, .inl (dA 1, 960, .inr (.inl (lA VL)))), (aw, .inl (dA 1, 1024, .inr (.inl (lA wf))))])) (QmetX8_meets dC dI dA (va_A [(am, .inr (0, [.int (I3 th), .int (I3 mn), .ref as_, .ref av, .ref aw, .int (I3 sm), .int (I3 wd), .int (I3 lp), .int (I3 mp), .int (I3 re)])), (as_, .inl (dA 0, 60, .inl (iA SG))), (av, .inl (dA 1, 960, .inr (.inl (lA VL)))), (aw, .inl (dA 1, 1024, .inr (.inl (lA wf))))] sz) am as_ av aw th mn sm wd lp mp re SG VL wf a v) 0 0 (va_A [(am, .inr (0, [.int (I3 th), .int (I3 mn), .ref as_, .ref av, .ref aw, .int (I3 sm), .int (I3 wd), .int (I3 lp), .int (I3 mp), .int (I3 re)])), (as_, .inl (dA 0, 60, .inl (iA SG))), (av, .inl (dA 1, 960, .inr (.inl (lA VL)))), (aw, .inl (dA 1, 1024, .inr (.inl (lA wf))))] sz) := by
  refine Met.ofW (cc := cX8_meets) (maxL := 6) (ret := (some .int)) (by decide) rfl ?_
  intro p e s m args below meth c s₁ B hml hv
  obtain ⟨rfl, hsz, hP, hK, hD0⟩ := hv
  have hx := B.exec
  have hb := B.bytes
  have hr := B.returns
  have hts := atoms_spec (ws := (ws_ yX8_meets cX8_meets 6 (some .int))) B.pre
  have hts : ∀ w ∈ lw_all, w.before _ s = true := fun w h => hts w (List.mem_cons_of_mem _ h)
  have hown : s.vm.findClass RX8 = some m.cls := findClass_of_methodNamed B.named
  have hlocks := B.notSynchronized
  subst hsz
  have hD := hD0.self (sz := s.heap.size)
  generalize hAe : va_A [(am, .inr (0, [.int (I3 th), .int (I3 mn), .ref as_, .ref av, .ref aw, .int (I3 sm), .int (I3 wd), .int (I3 lp), .int (I3 mp), .int (I3 re)])), (as_, .inl (dA 0, 60, .inl (iA SG))), (av, .inl (dA 1, 960, .inr (.inl (lA VL)))), (aw, .inl (dA 1, 1024, .inr (.inl (lA wf))))] s.heap.size = A at hD ⊢
  have hA : ∀ q : Nat, s.heap.size ≤ q → A q := fun q h => by rw [← hAe]; exact Or.inr h
  have hS : va_S A s.heap s.heap [] := va_S.rf
  have hP : va_P (dC, dI) vwCl [(am, .inr (0, [.int (I3 th), .int (I3 mn), .ref as_, .ref av, .ref aw, .int (I3 sm), .int (I3 wd), .int (I3 lp), .int (I3 mp), .int (I3 re)])), (as_, .inl (dA 0, 60, .inl (iA SG))), (av, .inl (dA 1, 960, .inr (.inl (lA VL)))), (aw, .inl (dA 1, 1024, .inr (.inl (lA wf))))] s.heap := hP
  have hl := lv_entry ([.ref am, .int (I3 a), .long (L6 v)]) (n := 6) (Nat.le_of_ble_eq_true rfl)
  rw [lg_entry_eq]
  generalize (lg_sl ([.ref am, .int (I3 a), .long (L6 v)]) ++ List.replicate (6 - (lg_sl ([.ref am, .int (I3 a), .long (L6 v)])).length) Slot.unset).toArray = ls at hl ⊢
  have hl : lv_has ls 6 [(0, .ref am), (1, .int (I3 a)), (2, .long (L6 v))] := hl
  have cut_58 : ∀ (y : Int), (0 ≤ a ∧ a < mn) → (eX v ≠ 2047) → (y = (if fX v = 0 then 0 else sgX v)) → ∀ (H : Heap) (locs : List Loc), va_P (dC, dI) vwCl [(am, .inr (0, [.int (I3 0), .int (I3 mn), .ref as_, .ref av, .ref aw, .int (I3 sm), .int (I3 wd), .int (I3 lp), .int (I3 mp), .int (I3 re)])), (as_, .inl (dA 0, 60, .inl (iA SG))), (av, .inl (dA 1, 960, .inr (.inl (lA VL)))), (aw, .inl (dA 1, 1024, .inr (.inl (lA wf))))] H → va_D A [(am, .inr (0, [.int (I3 0), .int (I3 mn), .ref as_, .ref av, .ref aw, .int (I3 sm), .int (I3 wd), .int (I3 lp), .int (I3 mp), .int (I3 re)])), (as_, .inl (dA 0, 60, .inl (iA SG))), (av, .inl (dA 1, 960, .inr (.inl (lA VL)))), (aw, .inl (dA 1, 1024, .inr (.inl (lA wf))))] → va_S A s.heap H locs → ∀ (ls : Array Slot), lv_has ls 6 [(0, .ref am), (1, .int (I3 a)), (2, .long (L6 v))] → W p l e (headSpec (ws_ yX8_meets cX8_meets 6 (some .int)) ({ frames := 3, cells := 0, slots := 0, locals := 120 })).room s m ([.ref am, .int (I3 a), .long (L6 v)] : List Value).toArray below meth c H locs 0 0 (MQ below (QmetX8_meets dC dI dA A am as_ av aw th mn sm wd lp mp re SG VL wf a v) ([.ref am, .int (I3 a), .long (L6 v)] : List Value).toArray s 0 0 A) (F0 m 58 ls [.int (I3 y)]) := by
    intro y hg he hy H locs hP hD hS ls hl
    obtain ⟨hmn, hV, hAll⟩ := id hI
    have hx_ := eX_r v
    have hf_ := fX_r v
    have hp_ := plX_r v
    have hs_ := sgX_3 v
    have hq_ := pX_r v
    have sa := (hAll a (by omega) (by omega)).1
    have i_s : In3 (SG a) := ⟨by omega, by omega⟩
    have i_y : In3 y := by rw [hy]; split <;> constructor <;> omega
    have la := pv_lt hV a
    have lb := qv_lt hV a
    have hfn : (fX v).toNat < 2 ^ 53 := by omega
    refine lv_istore (lv' := [(4, .int (I3 y)), (0, .ref am), (1, .int (I3 a)), (2, .long (L6 v))]) hx hb dX8_meets_58 hl (by decide) rfl (fun ls hl => ?_)
    refine lv_aload_n hx hb dX8_meets_60 rfl (lv_at hl 1 rfl) ?_
    refine va_get (D := (dC, dI)) (ci := 0) (v := .ref as_) (C := RX8) (T := TX8) (N := 10) hx hb hts in_X8 hown hK hP 0 rfl rfl 2 (by decide) (hts _ q915) (fun _ h9 => h9) rfl dX8_meets_61 ?_
    refine lv_iload_n hx hb dX8_meets_64 rfl (lv_at hl 2 rfl) ?_
    refine ix_iald hx hb hK hP 1 0 rfl rfl (Nat.le_of_ble_eq_true rfl) (by omega) dX8_meets_65 ?_
    refine lv_iload hx hb dX8_meets_66 (lv_at hl 0 rfl) ?_
    refine ix_icmp_eq (tgt := 88) hx hb (by first | assumption | decide | (constructor <;> omega)) (by first | assumption | decide | (constructor <;> omega)) dX8_meets_68 (by decide) (fun c_68 => ?_) (fun c_68 => ?_)
    · skip
      refine lv_aload_n hx hb dX8_meets_88 rfl (lv_at hl 1 rfl) ?_
      refine lv_iload_n hx hb dX8_meets_89 rfl (lv_at hl 2 rfl) ?_
      refine lv_iconst (v := I3 (2)) hx hb dX8_meets_90 rfl ?_
      have h_1 : 0 ≤ a ∧ a < 60 := by first | assumption | omega | (constructor <;> omega)
      have h_2 : 0 ≤ (2 : Int) ∧ (2 : Int) < 16 := by decide
      have h_3 : Dg wf := by first | assumption | omega | (constructor <;> omega)
      have h_4 : Dg VL := by first | assumption | omega | (constructor <;> omega)
      have hPc := hP.sub (ws' := [(am, .inr (0, [.int (I3 ((0 : Int))), .int (I3 mn), .ref as_, .ref av, .ref aw, .int (I3 sm), .int (I3 wd), .int (I3 lp), .int (I3 mp), .int (I3 re)])), (as_, .inl (dA 0, 60, .inl (iA SG))), (av, .inl (dA 1, 960, .inr (.inl (lA VL)))), (aw, .inl (dA 1, 1024, .inr (.inl (lA wf))))]) [0, 1, 2, 3] rfl
      have hDc := hD.sub (ws' := [(am, .inr (0, [.int (I3 ((0 : Int))), .int (I3 mn), .ref as_, .ref av, .ref aw, .int (I3 sm), .int (I3 wd), .int (I3 lp), .int (I3 mp), .int (I3 re)])), (as_, .inl (dA 0, 60, .inl (iA SG))), (av, .inl (dA 1, 960, .inr (.inl (lA VL)))), (aw, .inl (dA 1, 1024, .inr (.inl (lA wf))))]) [0, 1, 2, 3] (by decide) rfl
      have hFc := va_free (wc := [(am, .inr (0, [.int (I3 ((0 : Int))), .int (I3 mn), .ref as_, .ref av, .ref aw, .int (I3 sm), .int (I3 wd), .int (I3 lp), .int (I3 mp), .int (I3 re)])), (as_, .inl (dA 0, 60, .inl (iA SG))), (av, .inl (dA 1, 960, .inr (.inl (lA VL)))), (aw, .inl (dA 1, 1024, .inr (.inl (lA wf))))]) hD hS hA [0, 1, 2, 3] rfl
      refine va_callv (va_runV (As := [.int (I3 a), .int (I3 2)]) (rest := []) ⟨hx, hb, hml, hown, hts⟩ (metX8_loadP l dC dI dA am as_ av aw H.size 0 mn sm wd lp mp re SG VL wf a 2 h_1 h_2 h_3 h_4) (cwV 2 hts (lw_V q1066 q1068 qs39 q66 q1069) rfl rfl rfl (by decide +kernel) ⟨Nat.le_of_ble_eq_true rfl, Nat.le_of_ble_eq_true rfl⟩) ⟨fun a U g mk q => by obtain ⟨q0, q1, qP, qK, qD⟩ := q; exact ⟨q0, q1, qP, va_K.moved (u := U) (U := U.calling g mk a) (Vm.Alike.refl U.vm) qK, qD⟩, va_recv hK hPc (ci := 0) (q0 := 0) rfl rfl, fun U hU hW => ⟨rfl, by rw [hU], by rw [hU]; exact hPc, va_K.moved hW.alike hK, hDc.weaken (fun _ _ _ _ => trivial)⟩⟩ rfl rfl hl.1 rfl (lv_room (Nat.le_of_ble_eq_true rfl)) dX8_meets_91 ⟨Nat.le_of_ble_eq_true rfl, Nat.le_of_ble_eq_true rfl⟩) hS (fun q _ h => hFc q h) hFc (fun u t H1 locs ht hvm hw hB hz1 hk1 hS => ?_)
      obtain ⟨W1_91, rfl⟩ : ∃ z, z = u := ⟨_, rfl⟩
      obtain ⟨p0_91, p1_91, p2_91⟩ : (Dg W1_91) ∧ (Fr wf W1_91 (2 : Int)) ∧ (rv W1_91 (2 : Int) = pv VL a) := hw
      obtain ⟨hP1, hK1, hD1⟩ := hB
      rw [ht] at hP1
      obtain ⟨hP, hD⟩ := va_join (wr := []) (w1 := [(am, .inr (0, [.int (I3 ((0 : Int))), .int (I3 mn), .ref as_, .ref av, .ref aw, .int (I3 sm), .int (I3 wd), .int (I3 lp), .int (I3 mp), .int (I3 re)])), (as_, .inl (dA 0, 60, .inl (iA SG))), (av, .inl (dA 1, 960, .inr (.inl (lA VL)))), (aw, .inl (dA 1, 1024, .inr (.inl (lA W1_91))))]) hP hD [0, 1, 2, 3] [] rfl rfl (by decide) (by decide) hk1 hFc hP1 hD1
      generalize H1 = H at hP hS ⊢
      have hP : va_P (dC, dI) vwCl [(am, .inr (0, [.int (I3 ((0 : Int))), .int (I3 mn), .ref as_, .ref av, .ref aw, .int (I3 sm), .int (I3 wd), .int (I3 lp), .int (I3 mp), .int (I3 re)])), (as_, .inl (dA 0, 60, .inl (iA SG))), (av, .inl (dA 1, 960, .inr (.inl (lA VL)))), (aw, .inl (dA 1, 1024, .inr (.inl (lA W1_91))))] H := hP
      have hD : va_D A [(am, .inr (0, [.int (I3 ((0 : Int))), .int (I3 mn), .ref as_, .ref av, .ref aw, .int (I3 sm), .int (I3 wd), .int (I3 lp), .int (I3 mp), .int (I3 re)])), (as_, .inl (dA 0, 60, .inl (iA SG))), (av, .inl (dA 1, 960, .inr (.inl (lA VL)))), (aw, .inl (dA 1, 1024, .inr (.inl (lA W1_91))))] := hD
      refine lv_aload_n hx hb dX8_meets_94 rfl (lv_at hl 1 rfl) ?_
      refine lv_iload_n hx hb dX8_meets_95 rfl (lv_at hl 2 rfl) ?_
      refine lv_iconst (v := I3 (3)) hx hb dX8_meets_96 rfl ?_
      have h_5 : 0 ≤ a ∧ a < 60 := by first | assumption | omega | (constructor <;> omega)
      have h_6 : 0 ≤ (3 : Int) ∧ (3 : Int) < 16 := by decide
      have h_7 : Dg W1_91 := by first | assumption | omega | (constructor <;> omega)
      have h_8 : Dg VL := by first | assumption | omega | (constructor <;> omega)
      have hPc := hP.sub (ws' := [(am, .inr (0, [.int (I3 (((0 : Int)))), .int (I3 mn), .ref as_, .ref av, .ref aw, .int (I3 sm), .int (I3 wd), .int (I3 lp), .int (I3 mp), .int (I3 re)])), (as_, .inl (dA 0, 60, .inl (iA SG))), (av, .inl (dA 1, 960, .inr (.inl (lA VL)))), (aw, .inl (dA 1, 1024, .inr (.inl (lA W1_91))))]) [0, 1, 2, 3] rfl
      have hDc := hD.sub (ws' := [(am, .inr (0, [.int (I3 (((0 : Int)))), .int (I3 mn), .ref as_, .ref av, .ref aw, .int (I3 sm), .int (I3 wd), .int (I3 lp), .int (I3 mp), .int (I3 re)])), (as_, .inl (dA 0, 60, .inl (iA SG))), (av, .inl (dA 1, 960, .inr (.inl (lA VL)))), (aw, .inl (dA 1, 1024, .inr (.inl (lA W1_91))))]) [0, 1, 2, 3] (by decide) rfl
      have hFc := va_free (wc := [(am, .inr (0, [.int (I3 (((0 : Int)))), .int (I3 mn), .ref as_, .ref av, .ref aw, .int (I3 sm), .int (I3 wd), .int (I3 lp), .int (I3 mp), .int (I3 re)])), (as_, .inl (dA 0, 60, .inl (iA SG))), (av, .inl (dA 1, 960, .inr (.inl (lA VL)))), (aw, .inl (dA 1, 1024, .inr (.inl (lA W1_91))))]) hD hS hA [0, 1, 2, 3] rfl
      refine va_callv (va_runV (As := [.int (I3 a), .int (I3 3)]) (rest := []) ⟨hx, hb, hml, hown, hts⟩ (metX8_loadQ l dC dI dA am as_ av aw H.size ((0 : Int)) mn sm wd lp mp re SG VL W1_91 a 3 h_5 h_6 h_7 h_8) (cwV 2 hts (lw_V q1070 q1072 qs40 q66 q1073) rfl rfl rfl (by decide +kernel) ⟨Nat.le_of_ble_eq_true rfl, Nat.le_of_ble_eq_true rfl⟩) ⟨fun a U g mk q => by obtain ⟨q0, q1, qP, qK, qD⟩ := q; exact ⟨q0, q1, qP, va_K.moved (u := U) (U := U.calling g mk a) (Vm.Alike.refl U.vm) qK, qD⟩, va_recv hK hPc (ci := 0) (q0 := 0) rfl rfl, fun U hU hW => ⟨rfl, by rw [hU], by rw [hU]; exact hPc, va_K.moved hW.alike hK, hDc.weaken (fun _ _ _ _ => trivial)⟩⟩ rfl rfl hl.1 rfl (lv_room (Nat.le_of_ble_eq_true rfl)) dX8_meets_97 ⟨Nat.le_of_ble_eq_true rfl, Nat.le_of_ble_eq_true rfl⟩) hS (fun q _ h => hFc q h) hFc (fun u t H1 locs ht hvm hw hB hz1 hk1 hS => ?_)
      obtain ⟨W1_97, rfl⟩ : ∃ z, z = u := ⟨_, rfl⟩
      obtain ⟨p0_97, p1_97, p2_97⟩ : (Dg W1_97) ∧ (Fr W1_91 W1_97 (3 : Int)) ∧ (rv W1_97 (3 : Int) = qv VL a) := hw
      obtain ⟨hP1, hK1, hD1⟩ := hB
      rw [ht] at hP1
      obtain ⟨hP, hD⟩ := va_join (wr := []) (w1 := [(am, .inr (0, [.int (I3 (((0 : Int)))), .int (I3 mn), .ref as_, .ref av, .ref aw, .int (I3 sm), .int (I3 wd), .int (I3 lp), .int (I3 mp), .int (I3 re)])), (as_, .inl (dA 0, 60, .inl (iA SG))), (av, .inl (dA 1, 960, .inr (.inl (lA VL)))), (aw, .inl (dA 1, 1024, .inr (.inl (lA W1_97))))]) hP hD [0, 1, 2, 3] [] rfl rfl (by decide) (by decide) hk1 hFc hP1 hD1
      generalize H1 = H at hP hS ⊢
      have hP : va_P (dC, dI) vwCl [(am, .inr (0, [.int (I3 (((0 : Int)))), .int (I3 mn), .ref as_, .ref av, .ref aw, .int (I3 sm), .int (I3 wd), .int (I3 lp), .int (I3 mp), .int (I3 re)])), (as_, .inl (dA 0, 60, .inl (iA SG))), (av, .inl (dA 1, 960, .inr (.inl (lA VL)))), (aw, .inl (dA 1, 1024, .inr (.inl (lA W1_97))))] H := hP
      have hD : va_D A [(am, .inr (0, [.int (I3 (((0 : Int)))), .int (I3 mn), .ref as_, .ref av, .ref aw, .int (I3 sm), .int (I3 wd), .int (I3 lp), .int (I3 mp), .int (I3 re)])), (as_, .inl (dA 0, 60, .inl (iA SG))), (av, .inl (dA 1, 960, .inr (.inl (lA VL)))), (aw, .inl (dA 1, 1024, .inr (.inl (lA W1_97))))] := hD
      refine lv_aload_n hx hb dX8_meets_100 rfl (lv_at hl 1 rfl) ?_
      refine lv_iconst (v := I3 (4)) hx hb dX8_meets_101 rfl ?_
      refine lv_lload_n hx hb dX8_meets_102 rfl (lv_at hl 3 rfl) ?_
      have h_9 : In6 v := by first | assumption | omega | (constructor <;> omega)
      have hPc := hP.sub (ws' := []) [] rfl
      have hDc := hD.sub (ws' := []) [] (by decide) rfl
      have hFc := va_free (wc := []) hD hS hA [] rfl
      refine va_calll (va_runS (As := [.long (L6 v)]) (rest := [.int (I3 4), .ref am]) ⟨hx, hb, hml, hown, hts⟩ (metX8_factor l dC dI dA H.size v h_9) (va_cwS 1 hts (lw_S q1032 q1033 q66 q1034) rfl rfl rfl (by decide +kernel) ⟨Nat.le_of_ble_eq_true rfl, Nat.le_of_ble_eq_true rfl⟩) ⟨fun a U g mk q => by obtain ⟨q0, q1, qP, qK, qD⟩ := q; exact ⟨q0, q1, qP, va_K.moved (u := U) (U := U.calling g mk a) (Vm.Alike.refl U.vm) qK, qD⟩, fun U hU hW => ⟨rfl, by rw [hU], by rw [hU]; exact hPc, va_K.moved hW.alike hK, hDc.weaken (fun _ _ _ _ => trivial)⟩⟩ rfl rfl hl.1 rfl (lv_room (Nat.le_of_ble_eq_true rfl)) dX8_meets_103 ⟨Nat.le_of_ble_eq_true rfl, Nat.le_of_ble_eq_true rfl⟩) hS (fun q _ h => hFc q h) hFc (fun r_103 u t H1 locs ht hvm hw hB hz1 hk1 hS => ?_)
      obtain ⟨z_103, rfl⟩ : ∃ z, z = u := ⟨_, rfl⟩
      obtain ⟨rfl, p0_103⟩ : r_103 = L6 z_103 ∧ (z_103 = fX v) := hw
      obtain ⟨hP1, hK1, hD1⟩ := hB
      rw [ht] at hP1
      obtain ⟨hP, hD⟩ := va_join (wr := [(am, .inr (0, [.int (I3 (((0 : Int)))), .int (I3 mn), .ref as_, .ref av, .ref aw, .int (I3 sm), .int (I3 wd), .int (I3 lp), .int (I3 mp), .int (I3 re)])), (as_, .inl (dA 0, 60, .inl (iA SG))), (av, .inl (dA 1, 960, .inr (.inl (lA VL)))), (aw, .inl (dA 1, 1024, .inr (.inl (lA W1_97))))]) (w1 := []) hP hD [] [0, 1, 2, 3] rfl rfl (by decide) (by decide) hk1 hFc hP1 hD1
      generalize H1 = H at hP hS ⊢
      have hP : va_P (dC, dI) vwCl [(am, .inr (0, [.int (I3 (((0 : Int)))), .int (I3 mn), .ref as_, .ref av, .ref aw, .int (I3 sm), .int (I3 wd), .int (I3 lp), .int (I3 mp), .int (I3 re)])), (as_, .inl (dA 0, 60, .inl (iA SG))), (av, .inl (dA 1, 960, .inr (.inl (lA VL)))), (aw, .inl (dA 1, 1024, .inr (.inl (lA W1_97))))] H := hP
      have hD : va_D A [(am, .inr (0, [.int (I3 (((0 : Int)))), .int (I3 mn), .ref as_, .ref av, .ref aw, .int (I3 sm), .int (I3 wd), .int (I3 lp), .int (I3 mp), .int (I3 re)])), (as_, .inl (dA 0, 60, .inl (iA SG))), (av, .inl (dA 1, 960, .inr (.inl (lA VL)))), (aw, .inl (dA 1, 1024, .inr (.inl (lA W1_97))))] := hD
      have h_10 : 0 ≤ (4 : Int) ∧ (4 : Int) < 16 := by decide
      have h_11 : Dg W1_97 := by first | assumption | omega | (constructor <;> omega)
      have hPc := hP.sub (ws' := [(am, .inr (0, [.int (I3 ((((0 : Int))))), .int (I3 mn), .ref as_, .ref av, .ref aw, .int (I3 sm), .int (I3 wd), .int (I3 lp), .int (I3 mp), .int (I3 re)])), (as_, .inl (dA 0, 60, .inl (iA SG))), (av, .inl (dA 1, 960, .inr (.inl (lA VL)))), (aw, .inl (dA 1, 1024, .inr (.inl (lA W1_97))))]) [0, 1, 2, 3] rfl
      have hDc := hD.sub (ws' := [(am, .inr (0, [.int (I3 ((((0 : Int))))), .int (I3 mn), .ref as_, .ref av, .ref aw, .int (I3 sm), .int (I3 wd), .int (I3 lp), .int (I3 mp), .int (I3 re)])), (as_, .inl (dA 0, 60, .inl (iA SG))), (av, .inl (dA 1, 960, .inr (.inl (lA VL)))), (aw, .inl (dA 1, 1024, .inr (.inl (lA W1_97))))]) [0, 1, 2, 3] (by decide) rfl
      have hFc := va_free (wc := [(am, .inr (0, [.int (I3 ((((0 : Int))))), .int (I3 mn), .ref as_, .ref av, .ref aw, .int (I3 sm), .int (I3 wd), .int (I3 lp), .int (I3 mp), .int (I3 re)])), (as_, .inl (dA 0, 60, .inl (iA SG))), (av, .inl (dA 1, 960, .inr (.inl (lA VL)))), (aw, .inl (dA 1, 1024, .inr (.inl (lA W1_97))))]) hD hS hA [0, 1, 2, 3] rfl
      refine va_callv (va_runV (As := [.int (I3 4), .long (L6 z_103)]) (rest := []) ⟨hx, hb, hml, hown, hts⟩ (metX8_set l dC dI dA am as_ av aw H.size (((0 : Int))) mn sm wd lp mp re SG VL W1_97 4 z_103 h_10 h_11) (cwV 2 hts (lw_V q955 q957 qs19 q66 q958) rfl rfl rfl (by decide +kernel) ⟨Nat.le_of_ble_eq_true rfl, Nat.le_of_ble_eq_true rfl⟩) ⟨fun a U g mk q => by obtain ⟨q0, q1, qP, qK, qD⟩ := q; exact ⟨q0, q1, qP, va_K.moved (u := U) (U := U.calling g mk a) (Vm.Alike.refl U.vm) qK, qD⟩, va_recv hK hPc (ci := 0) (q0 := 0) rfl rfl, fun U hU hW => ⟨rfl, by rw [hU], by rw [hU]; exact hPc, va_K.moved hW.alike hK, hDc.weaken (fun _ _ _ _ => trivial)⟩⟩ rfl rfl hl.1 rfl (lv_room (Nat.le_of_ble_eq_true rfl)) dX8_meets_106 ⟨Nat.le_of_ble_eq_true rfl, Nat.le_of_ble_eq_true rfl⟩) hS (fun q _ h => hFc q h) hFc (fun u t H1 locs ht hvm hw hB hz1 hk1 hS => ?_)
      obtain ⟨W1_106, rfl⟩ : ∃ z, z = u := ⟨_, rfl⟩
      obtain ⟨p0_106, p1_106, p2_106⟩ : (Dg W1_106) ∧ (Fr W1_97 W1_106 (4 : Int)) ∧ (rv W1_106 (4 : Int) = (z_103 % 18446744073709551616).toNat) := hw
      obtain ⟨hP1, hK1, hD1⟩ := hB
      rw [ht] at hP1
      obtain ⟨hP, hD⟩ := va_join (wr := []) (w1 := [(am, .inr (0, [.int (I3 ((((0 : Int))))), .int (I3 mn), .ref as_, .ref av, .ref aw, .int (I3 sm), .int (I3 wd), .int (I3 lp), .int (I3 mp), .int (I3 re)])), (as_, .inl (dA 0, 60, .inl (iA SG))), (av, .inl (dA 1, 960, .inr (.inl (lA VL)))), (aw, .inl (dA 1, 1024, .inr (.inl (lA W1_106))))]) hP hD [0, 1, 2, 3] [] rfl rfl (by decide) (by decide) hk1 hFc hP1 hD1
      generalize H1 = H at hP hS ⊢
      have hP : va_P (dC, dI) vwCl [(am, .inr (0, [.int (I3 ((((0 : Int))))), .int (I3 mn), .ref as_, .ref av, .ref aw, .int (I3 sm), .int (I3 wd), .int (I3 lp), .int (I3 mp), .int (I3 re)])), (as_, .inl (dA 0, 60, .inl (iA SG))), (av, .inl (dA 1, 960, .inr (.inl (lA VL)))), (aw, .inl (dA 1, 1024, .inr (.inl (lA W1_106))))] H := hP
      have hD : va_D A [(am, .inr (0, [.int (I3 ((((0 : Int))))), .int (I3 mn), .ref as_, .ref av, .ref aw, .int (I3 sm), .int (I3 wd), .int (I3 lp), .int (I3 mp), .int (I3 re)])), (as_, .inl (dA 0, 60, .inl (iA SG))), (av, .inl (dA 1, 960, .inr (.inl (lA VL)))), (aw, .inl (dA 1, 1024, .inr (.inl (lA W1_106))))] := hD
      have f4 : rv W1_106 4 = (fX v).toNat := by rw [p2_106]; omega
      have f3 : rv W1_106 3 = qv VL a := (Fr_rv p1_106 (by decide)).trans p2_97
      have f2 : rv W1_106 2 = pv VL a := (Fr_rv p1_106 (by decide)).trans ((Fr_rv p1_97 (by decide)).trans p2_91)
      refine lv_aload_n hx hb dX8_meets_109 rfl (lv_at hl 1 rfl) ?_
      refine lv_iconst (v := I3 (3)) hx hb dX8_meets_110 rfl ?_
      refine lv_iconst (v := I3 (4)) hx hb dX8_meets_111 rfl ?_
      refine lv_iconst (v := I3 (5)) hx hb dX8_meets_112 rfl ?_
      have h_12 : 0 ≤ (3 : Int) ∧ (3 : Int) < 16 := by decide
      have h_13 : 0 ≤ (4 : Int) ∧ (4 : Int) < 16 := by decide
      have h_14 : 0 ≤ (5 : Int) ∧ (5 : Int) < 16 := by decide
      have h_15 : (3 : Int) ≠ (5 : Int) := by decide
      have h_16 : (4 : Int) ≠ (5 : Int) := by decide
      have h_17 : Dg W1_106 := by first | assumption | omega | (constructor <;> omega)
      have hPc := hP.sub (ws' := [(am, .inr (0, [.int (I3 (((((0 : Int)))))), .int (I3 mn), .ref as_, .ref av, .ref aw, .int (I3 sm), .int (I3 wd), .int (I3 lp), .int (I3 mp), .int (I3 re)])), (as_, .inl (dA 0, 60, .inl (iA SG))), (av, .inl (dA 1, 960, .inr (.inl (lA VL)))), (aw, .inl (dA 1, 1024, .inr (.inl (lA W1_106))))]) [0, 1, 2, 3] rfl
      have hDc := hD.sub (ws' := [(am, .inr (0, [.int (I3 (((((0 : Int)))))), .int (I3 mn), .ref as_, .ref av, .ref aw, .int (I3 sm), .int (I3 wd), .int (I3 lp), .int (I3 mp), .int (I3 re)])), (as_, .inl (dA 0, 60, .inl (iA SG))), (av, .inl (dA 1, 960, .inr (.inl (lA VL)))), (aw, .inl (dA 1, 1024, .inr (.inl (lA W1_106))))]) [0, 1, 2, 3] (by decide) rfl
      have hFc := va_free (wc := [(am, .inr (0, [.int (I3 (((((0 : Int)))))), .int (I3 mn), .ref as_, .ref av, .ref aw, .int (I3 sm), .int (I3 wd), .int (I3 lp), .int (I3 mp), .int (I3 re)])), (as_, .inl (dA 0, 60, .inl (iA SG))), (av, .inl (dA 1, 960, .inr (.inl (lA VL)))), (aw, .inl (dA 1, 1024, .inr (.inl (lA W1_106))))]) hD hS hA [0, 1, 2, 3] rfl
      refine va_callv (va_runV (As := [.int (I3 3), .int (I3 4), .int (I3 5)]) (rest := []) ⟨hx, hb, hml, hown, hts⟩ (metX8_times l dC dI dA am as_ av aw H.size ((((0 : Int)))) mn sm wd lp mp re SG VL W1_106 3 4 5 h_12 h_13 h_14 h_15 h_16 h_17) (cwV 3 hts (lw_V q1074 q1076 qs41 q66 q1077) rfl rfl rfl (by decide +kernel) ⟨Nat.le_of_ble_eq_true rfl, Nat.le_of_ble_eq_true rfl⟩) ⟨fun a U g mk q => by obtain ⟨q0, q1, qP, qK, qD⟩ := q; exact ⟨q0, q1, qP, va_K.moved (u := U) (U := U.calling g mk a) (Vm.Alike.refl U.vm) qK, qD⟩, va_recv hK hPc (ci := 0) (q0 := 0) rfl rfl, fun U hU hW => ⟨rfl, by rw [hU], by rw [hU]; exact hPc, va_K.moved hW.alike hK, hDc.weaken (fun _ _ _ _ => trivial)⟩⟩ rfl rfl hl.1 rfl (lv_room (Nat.le_of_ble_eq_true rfl)) dX8_meets_113 ⟨Nat.le_of_ble_eq_true rfl, Nat.le_of_ble_eq_true rfl⟩) hS (fun q _ h => hFc q h) hFc (fun u t H1 locs ht hvm hw hB hz1 hk1 hS => ?_)
      obtain ⟨W1_113, rfl⟩ : ∃ z, z = u := ⟨_, rfl⟩
      obtain ⟨p0_113, p1_113, p2_113⟩ : (Dg W1_113) ∧ (Fr W1_106 W1_113 (5 : Int)) ∧ (rv W1_113 (5 : Int) = rv W1_106 (3 : Int) * rv W1_106 (4 : Int) % BN) := hw
      obtain ⟨hP1, hK1, hD1⟩ := hB
      rw [ht] at hP1
      obtain ⟨hP, hD⟩ := va_join (wr := []) (w1 := [(am, .inr (0, [.int (I3 (((((0 : Int)))))), .int (I3 mn), .ref as_, .ref av, .ref aw, .int (I3 sm), .int (I3 wd), .int (I3 lp), .int (I3 mp), .int (I3 re)])), (as_, .inl (dA 0, 60, .inl (iA SG))), (av, .inl (dA 1, 960, .inr (.inl (lA VL)))), (aw, .inl (dA 1, 1024, .inr (.inl (lA W1_113))))]) hP hD [0, 1, 2, 3] [] rfl rfl (by decide) (by decide) hk1 hFc hP1 hD1
      generalize H1 = H at hP hS ⊢
      have hP : va_P (dC, dI) vwCl [(am, .inr (0, [.int (I3 (((((0 : Int)))))), .int (I3 mn), .ref as_, .ref av, .ref aw, .int (I3 sm), .int (I3 wd), .int (I3 lp), .int (I3 mp), .int (I3 re)])), (as_, .inl (dA 0, 60, .inl (iA SG))), (av, .inl (dA 1, 960, .inr (.inl (lA VL)))), (aw, .inl (dA 1, 1024, .inr (.inl (lA W1_113))))] H := hP
      have hD : va_D A [(am, .inr (0, [.int (I3 (((((0 : Int)))))), .int (I3 mn), .ref as_, .ref av, .ref aw, .int (I3 sm), .int (I3 wd), .int (I3 lp), .int (I3 mp), .int (I3 re)])), (as_, .inl (dA 0, 60, .inl (iA SG))), (av, .inl (dA 1, 960, .inr (.inl (lA VL)))), (aw, .inl (dA 1, 1024, .inr (.inl (lA W1_113))))] := hD
      have hqf : qv VL a * (fX v).toNat < 2 ^ 309 := mul_p (a := 256) lb hfn
      have f5 : rv W1_113 5 = qv VL a * (fX v).toNat := by rw [p2_113, f3, f4]; exact mod_BN (Nat.lt_of_lt_of_le hqf (Nat.pow_le_pow_right (by decide) (by decide)))
      have g2 : rv W1_113 2 = pv VL a := (Fr_rv p1_113 (by decide)).trans f2
      refine lv_lload_n hx hb dX8_meets_116 rfl (lv_at hl 3 rfl) ?_
      have h_18 : In6 v := by first | assumption | omega | (constructor <;> omega)
      have hPc := hP.sub (ws' := []) [] rfl
      have hDc := hD.sub (ws' := []) [] (by decide) rfl
      have hFc := va_free (wc := []) hD hS hA [] rfl
      refine va_calli (va_runS (As := [.long (L6 v)]) (rest := []) ⟨hx, hb, hml, hown, hts⟩ (metX8_place l dC dI dA H.size v h_18) (va_cwS 1 hts (lw_S q1040 q1041 q66 q1042) rfl rfl rfl (by decide +kernel) ⟨Nat.le_of_ble_eq_true rfl, Nat.le_of_ble_eq_true rfl⟩) ⟨fun a U g mk q => by obtain ⟨q0, q1, qP, qK, qD⟩ := q; exact ⟨q0, q1, qP, va_K.moved (u := U) (U := U.calling g mk a) (Vm.Alike.refl U.vm) qK, qD⟩, fun U hU hW => ⟨rfl, by rw [hU], by rw [hU]; exact hPc, va_K.moved hW.alike hK, hDc.weaken (fun _ _ _ _ => trivial)⟩⟩ rfl rfl hl.1 rfl (lv_room (Nat.le_of_ble_eq_true rfl)) dX8_meets_117 ⟨Nat.le_of_ble_eq_true rfl, Nat.le_of_ble_eq_true rfl⟩) hS (fun q _ h => hFc q h) hFc (fun r_117 u t H1 locs ht hvm hw hB hz1 hk1 hS => ?_)
      obtain ⟨z_117, rfl⟩ : ∃ z, z = u := ⟨_, rfl⟩
      obtain ⟨rfl, p0_117⟩ : r_117 = I3 z_117 ∧ (z_117 = plX v) := hw
      obtain ⟨hP1, hK1, hD1⟩ := hB
      rw [ht] at hP1
      obtain ⟨hP, hD⟩ := va_join (wr := [(am, .inr (0, [.int (I3 (((((0 : Int)))))), .int (I3 mn), .ref as_, .ref av, .ref aw, .int (I3 sm), .int (I3 wd), .int (I3 lp), .int (I3 mp), .int (I3 re)])), (as_, .inl (dA 0, 60, .inl (iA SG))), (av, .inl (dA 1, 960, .inr (.inl (lA VL)))), (aw, .inl (dA 1, 1024, .inr (.inl (lA W1_113))))]) (w1 := []) hP hD [] [0, 1, 2, 3] rfl rfl (by decide) (by decide) hk1 hFc hP1 hD1
      generalize H1 = H at hP hS ⊢
      have hP : va_P (dC, dI) vwCl [(am, .inr (0, [.int (I3 (((((0 : Int)))))), .int (I3 mn), .ref as_, .ref av, .ref aw, .int (I3 sm), .int (I3 wd), .int (I3 lp), .int (I3 mp), .int (I3 re)])), (as_, .inl (dA 0, 60, .inl (iA SG))), (av, .inl (dA 1, 960, .inr (.inl (lA VL)))), (aw, .inl (dA 1, 1024, .inr (.inl (lA W1_113))))] H := hP
      have hD : va_D A [(am, .inr (0, [.int (I3 (((((0 : Int)))))), .int (I3 mn), .ref as_, .ref av, .ref aw, .int (I3 sm), .int (I3 wd), .int (I3 lp), .int (I3 mp), .int (I3 re)])), (as_, .inl (dA 0, 60, .inl (iA SG))), (av, .inl (dA 1, 960, .inr (.inl (lA VL)))), (aw, .inl (dA 1, 1024, .inr (.inl (lA W1_113))))] := hD
      refine lv_istore (lv' := [(5, .int (I3 z_117)), (4, .int (I3 y)), (0, .ref am), (1, .int (I3 a)), (2, .long (L6 v))]) hx hb dX8_meets_120 hl (by decide) rfl (fun ls hl => ?_)
      refine lv_aload_n hx hb dX8_meets_122 rfl (lv_at hl 2 rfl) ?_
      refine lv_iload hx hb dX8_meets_123 (lv_at hl 0 rfl) ?_
      refine ix_if_le (tgt := 132) hx hb (by first | assumption | decide | (constructor <;> omega)) dX8_meets_125 (by decide) (fun c_125 => ?_) (fun c_125 => ?_)
      · skip
        refine lv_iconst (v := I3 (2)) hx hb dX8_meets_132 rfl ?_
        refine lv_iload hx hb dX8_meets_133 (lv_at hl 0 rfl) ?_
        refine ix_if_le (tgt := 143) hx hb (by first | assumption | decide | (constructor <;> omega)) dX8_meets_135 (by decide) (fun c_135 => ?_) (fun c_135 => ?_)
        · skip
          refine lv_iload hx hb dX8_meets_143 (lv_at hl 0 rfl) ?_
          refine ix_ineg hx hb dX8_meets_145 ?_
          have h_19 : 0 ≤ (2 : Int) ∧ (2 : Int) < 16 := by decide
          have h_20 : 0 ≤ (-z_117) ∧ (-z_117) < 2048 := by first | assumption | omega | (constructor <;> omega)
          have h_21 : Dg W1_113 := by first | assumption | omega | (constructor <;> omega)
          have hPc := hP.sub (ws' := [(am, .inr (0, [.int (I3 ((((((0 : Int))))))), .int (I3 mn), .ref as_, .ref av, .ref aw, .int (I3 sm), .int (I3 wd), .int (I3 lp), .int (I3 mp), .int (I3 re)])), (as_, .inl (dA 0, 60, .inl (iA SG))), (av, .inl (dA 1, 960, .inr (.inl (lA VL)))), (aw, .inl (dA 1, 1024, .inr (.inl (lA W1_113))))]) [0, 1, 2, 3] rfl
          have hDc := hD.sub (ws' := [(am, .inr (0, [.int (I3 ((((((0 : Int))))))), .int (I3 mn), .ref as_, .ref av, .ref aw, .int (I3 sm), .int (I3 wd), .int (I3 lp), .int (I3 mp), .int (I3 re)])), (as_, .inl (dA 0, 60, .inl (iA SG))), (av, .inl (dA 1, 960, .inr (.inl (lA VL)))), (aw, .inl (dA 1, 1024, .inr (.inl (lA W1_113))))]) [0, 1, 2, 3] (by decide) rfl
          have hFc := va_free (wc := [(am, .inr (0, [.int (I3 ((((((0 : Int))))))), .int (I3 mn), .ref as_, .ref av, .ref aw, .int (I3 sm), .int (I3 wd), .int (I3 lp), .int (I3 mp), .int (I3 re)])), (as_, .inl (dA 0, 60, .inl (iA SG))), (av, .inl (dA 1, 960, .inr (.inl (lA VL)))), (aw, .inl (dA 1, 1024, .inr (.inl (lA W1_113))))]) hD hS hA [0, 1, 2, 3] rfl
          refine va_callv (va_runV (As := [.int (I3 2), .int (I3 (-z_117))]) (rest := []) ⟨hx, hb, hml, hown, hts⟩ (metX8_up l dC dI dA am as_ av aw H.size (((((0 : Int))))) mn sm wd lp mp re SG VL W1_113 2 (-z_117) h_19 h_20 h_21) (cwV 2 hts (lw_V q1000 q1002 qs30 q66 q1003) rfl rfl rfl (by decide +kernel) ⟨Nat.le_of_ble_eq_true rfl, Nat.le_of_ble_eq_true rfl⟩) ⟨fun a U g mk q => by obtain ⟨q0, q1, qP, qK, qD⟩ := q; exact ⟨q0, q1, qP, va_K.moved (u := U) (U := U.calling g mk a) (Vm.Alike.refl U.vm) qK, qD⟩, va_recv hK hPc (ci := 0) (q0 := 0) rfl rfl, fun U hU hW => ⟨rfl, by rw [hU], by rw [hU]; exact hPc, va_K.moved hW.alike hK, hDc.weaken (fun _ _ _ _ => trivial)⟩⟩ rfl rfl hl.1 rfl (lv_room (Nat.le_of_ble_eq_true rfl)) dX8_meets_146 ⟨Nat.le_of_ble_eq_true rfl, Nat.le_of_ble_eq_true rfl⟩) hS (fun q _ h => hFc q h) hFc (fun u t H1 locs ht hvm hw hB hz1 hk1 hS => ?_)
          obtain ⟨W1_146, rfl⟩ : ∃ z, z = u := ⟨_, rfl⟩
          obtain ⟨p0_146, p1_146, p2_146⟩ : (Dg W1_146) ∧ (Fr W1_113 W1_146 (2 : Int)) ∧ (rv W1_146 (2 : Int) = rv W1_113 (2 : Int) * 2 ^ (-z_117).toNat % BN) := hw
          obtain ⟨hP1, hK1, hD1⟩ := hB
          rw [ht] at hP1
          obtain ⟨hP, hD⟩ := va_join (wr := []) (w1 := [(am, .inr (0, [.int (I3 ((((((0 : Int))))))), .int (I3 mn), .ref as_, .ref av, .ref aw, .int (I3 sm), .int (I3 wd), .int (I3 lp), .int (I3 mp), .int (I3 re)])), (as_, .inl (dA 0, 60, .inl (iA SG))), (av, .inl (dA 1, 960, .inr (.inl (lA VL)))), (aw, .inl (dA 1, 1024, .inr (.inl (lA W1_146))))]) hP hD [0, 1, 2, 3] [] rfl rfl (by decide) (by decide) hk1 hFc hP1 hD1
          generalize H1 = H at hP hS ⊢
          have hP : va_P (dC, dI) vwCl [(am, .inr (0, [.int (I3 ((((((0 : Int))))))), .int (I3 mn), .ref as_, .ref av, .ref aw, .int (I3 sm), .int (I3 wd), .int (I3 lp), .int (I3 mp), .int (I3 re)])), (as_, .inl (dA 0, 60, .inl (iA SG))), (av, .inl (dA 1, 960, .inr (.inl (lA VL)))), (aw, .inl (dA 1, 1024, .inr (.inl (lA W1_146))))] H := hP
          have hD : va_D A [(am, .inr (0, [.int (I3 ((((((0 : Int))))))), .int (I3 mn), .ref as_, .ref av, .ref aw, .int (I3 sm), .int (I3 wd), .int (I3 lp), .int (I3 mp), .int (I3 re)])), (as_, .inl (dA 0, 60, .inl (iA SG))), (av, .inl (dA 1, 960, .inr (.inl (lA VL)))), (aw, .inl (dA 1, 1024, .inr (.inl (lA W1_146))))] := hD
          have h5 : rv W1_146 5 = qv VL a * (fX v).toNat * 2 ^ (plX v).toNat := by first | (rw [p2_146, f5, p0_117]; exact mod_BN (up_lt (k := 309) hqf (by omega))) | (rw [Fr_rv p1_146 (by decide), f5, show (plX v).toNat = 0 by omega, Nat.pow_zero, Nat.mul_one])
          have h2 : rv W1_146 2 = pv VL a * 2 ^ (-plX v).toNat := by first | (rw [p2_146, g2, p0_117]; exact mod_BN (up_lt (k := 256) la (by omega))) | (rw [Fr_rv p1_146 (by decide), g2, show (-plX v).toNat = 0 by omega, Nat.pow_zero, Nat.mul_one])
          refine lv_iload hx hb dX8_meets_149 (lv_at hl 1 rfl) ?_
          refine lv_aload_n hx hb dX8_meets_151 rfl (lv_at hl 2 rfl) ?_
          refine lv_iconst (v := I3 (2)) hx hb dX8_meets_152 rfl ?_
          refine lv_iconst (v := I3 (5)) hx hb dX8_meets_153 rfl ?_
          have h_22 : 0 ≤ (2 : Int) ∧ (2 : Int) < 16 := by decide
          have h_23 : 0 ≤ (5 : Int) ∧ (5 : Int) < 16 := by decide
          have h_24 : Dg W1_146 := by first | assumption | omega | (constructor <;> omega)
          have hPc := hP.sub (ws' := [(am, .inr (0, [.int (I3 (((((((0 : Int)))))))), .int (I3 mn), .ref as_, .ref av, .ref aw, .int (I3 sm), .int (I3 wd), .int (I3 lp), .int (I3 mp), .int (I3 re)])), (as_, .inl (dA 0, 60, .inl (iA SG))), (av, .inl (dA 1, 960, .inr (.inl (lA VL)))), (aw, .inl (dA 1, 1024, .inr (.inl (lA W1_146))))]) [0, 1, 2, 3] rfl
          have hDc := hD.sub (ws' := [(am, .inr (0, [.int (I3 (((((((0 : Int)))))))), .int (I3 mn), .ref as_, .ref av, .ref aw, .int (I3 sm), .int (I3 wd), .int (I3 lp), .int (I3 mp), .int (I3 re)])), (as_, .inl (dA 0, 60, .inl (iA SG))), (av, .inl (dA 1, 960, .inr (.inl (lA VL)))), (aw, .inl (dA 1, 1024, .inr (.inl (lA W1_146))))]) [0, 1, 2, 3] (by decide) rfl
          have hFc := va_free (wc := [(am, .inr (0, [.int (I3 (((((((0 : Int)))))))), .int (I3 mn), .ref as_, .ref av, .ref aw, .int (I3 sm), .int (I3 wd), .int (I3 lp), .int (I3 mp), .int (I3 re)])), (as_, .inl (dA 0, 60, .inl (iA SG))), (av, .inl (dA 1, 960, .inr (.inl (lA VL)))), (aw, .inl (dA 1, 1024, .inr (.inl (lA W1_146))))]) hD hS hA [0, 1, 2, 3] rfl
          refine va_calli (va_runV (As := [.int (I3 2), .int (I3 5)]) (rest := [.int (I3 y)]) ⟨hx, hb, hml, hown, hts⟩ (metX8_compare l dC dI dA am as_ av aw H.size ((((((0 : Int)))))) mn sm wd lp mp re SG VL W1_146 2 5 h_22 h_23 h_24) (cwV 2 hts (lw_V q988 q990 qs27 q66 q991) rfl rfl rfl (by decide +kernel) ⟨Nat.le_of_ble_eq_true rfl, Nat.le_of_ble_eq_true rfl⟩) ⟨fun a U g mk q => by obtain ⟨q0, q1, qP, qK, qD⟩ := q; exact ⟨q0, q1, qP, va_K.moved (u := U) (U := U.calling g mk a) (Vm.Alike.refl U.vm) qK, qD⟩, va_recv hK hPc (ci := 0) (q0 := 0) rfl rfl, fun U hU hW => ⟨rfl, by rw [hU], by rw [hU]; exact hPc, va_K.moved hW.alike hK, hDc.weaken (fun _ _ _ _ => trivial)⟩⟩ rfl rfl hl.1 rfl (lv_room (Nat.le_of_ble_eq_true rfl)) dX8_meets_154 ⟨Nat.le_of_ble_eq_true rfl, Nat.le_of_ble_eq_true rfl⟩) hS (fun q _ h => hFc q h) hFc (fun r_154 u t H1 locs ht hvm hw hB hz1 hk1 hS => ?_)
          obtain ⟨z_154, rfl⟩ : ∃ z, z = u := ⟨_, rfl⟩
          obtain ⟨rfl, p0_154⟩ : r_154 = I3 z_154 ∧ (z_154 = cmpN (rv W1_146 (2 : Int)) (rv W1_146 (5 : Int))) := hw
          obtain ⟨hP1, hK1, hD1⟩ := hB
          rw [ht] at hP1
          obtain ⟨hP, hD⟩ := va_join (wr := []) (w1 := [(am, .inr (0, [.int (I3 (((((((0 : Int)))))))), .int (I3 mn), .ref as_, .ref av, .ref aw, .int (I3 sm), .int (I3 wd), .int (I3 lp), .int (I3 mp), .int (I3 re)])), (as_, .inl (dA 0, 60, .inl (iA SG))), (av, .inl (dA 1, 960, .inr (.inl (lA VL)))), (aw, .inl (dA 1, 1024, .inr (.inl (lA W1_146))))]) hP hD [0, 1, 2, 3] [] rfl rfl (by decide) (by decide) hk1 hFc hP1 hD1
          generalize H1 = H at hP hS ⊢
          have hP : va_P (dC, dI) vwCl [(am, .inr (0, [.int (I3 (((((((0 : Int)))))))), .int (I3 mn), .ref as_, .ref av, .ref aw, .int (I3 sm), .int (I3 wd), .int (I3 lp), .int (I3 mp), .int (I3 re)])), (as_, .inl (dA 0, 60, .inl (iA SG))), (av, .inl (dA 1, 960, .inr (.inl (lA VL)))), (aw, .inl (dA 1, 1024, .inr (.inl (lA W1_146))))] H := hP
          have hD : va_D A [(am, .inr (0, [.int (I3 (((((((0 : Int)))))))), .int (I3 mn), .ref as_, .ref av, .ref aw, .int (I3 sm), .int (I3 wd), .int (I3 lp), .int (I3 mp), .int (I3 re)])), (as_, .inl (dA 0, 60, .inl (iA SG))), (av, .inl (dA 1, 960, .inr (.inl (lA VL)))), (aw, .inl (dA 1, 1024, .inr (.inl (lA W1_146))))] := hD
          refine ix_imul hx hb dX8_meets_157 ?_
          have o_25 : Dg W1_146 := by first | assumption | omega | (constructor <;> omega)
          have o_26 : (y * z_154) = if 0 ≤ a ∧ a < mn then meS SG VL a v else 0 := by rw [if_pos hg]; unfold meS; rw [if_neg he, if_pos (by rw [← hy]; omega), ← hy, p0_154, h2, h5]
          have o_27 : (((((((0 : Int))))))) = if 0 ≤ a ∧ a < mn then 0 else 1 := by rw [if_pos hg]
          exact W.iret (v := I3 (y * z_154)) hx hb hr (fun t ht hW => ⟨⟨I3 (y * z_154), ((y * z_154), (((((((0 : Int))))))), W1_146), rfl, ⟨rfl, ⟨o_25, o_26, o_27⟩⟩, by rw [ht]; exact hP, va_K.moved hW.alike hK, hD⟩, hS.F ht⟩) hS.2.2 dX8_meets_158
        · skip
          omega
      · skip
        refine lv_iconst (v := I3 (5)) hx hb dX8_meets_128 rfl ?_
        refine lv_goto (tgt := 133) hx hb dX8_meets_129 (by decide) ?_
        refine lv_iload hx hb dX8_meets_133 (lv_at hl 0 rfl) ?_
        refine ix_if_le (tgt := 143) hx hb (by first | assumption | decide | (constructor <;> omega)) dX8_meets_135 (by decide) (fun c_135 => ?_) (fun c_135 => ?_)
        · skip
          omega
        · skip
          refine lv_iload hx hb dX8_meets_138 (lv_at hl 0 rfl) ?_
          refine lv_goto (tgt := 146) hx hb dX8_meets_140 (by decide) ?_
          have h_28 : 0 ≤ (5 : Int) ∧ (5 : Int) < 16 := by decide
          have h_29 : 0 ≤ z_117 ∧ z_117 < 2048 := by first | assumption | omega | (constructor <;> omega)
          have h_30 : Dg W1_113 := by first | assumption | omega | (constructor <;> omega)
          have hPc := hP.sub (ws' := [(am, .inr (0, [.int (I3 ((((((0 : Int))))))), .int (I3 mn), .ref as_, .ref av, .ref aw, .int (I3 sm), .int (I3 wd), .int (I3 lp), .int (I3 mp), .int (I3 re)])), (as_, .inl (dA 0, 60, .inl (iA SG))), (av, .inl (dA 1, 960, .inr (.inl (lA VL)))), (aw, .inl (dA 1, 1024, .inr (.inl (lA W1_113))))]) [0, 1, 2, 3] rfl
          have hDc := hD.sub (ws' := [(am, .inr (0, [.int (I3 ((((((0 : Int))))))), .int (I3 mn), .ref as_, .ref av, .ref aw, .int (I3 sm), .int (I3 wd), .int (I3 lp), .int (I3 mp), .int (I3 re)])), (as_, .inl (dA 0, 60, .inl (iA SG))), (av, .inl (dA 1, 960, .inr (.inl (lA VL)))), (aw, .inl (dA 1, 1024, .inr (.inl (lA W1_113))))]) [0, 1, 2, 3] (by decide) rfl
          have hFc := va_free (wc := [(am, .inr (0, [.int (I3 ((((((0 : Int))))))), .int (I3 mn), .ref as_, .ref av, .ref aw, .int (I3 sm), .int (I3 wd), .int (I3 lp), .int (I3 mp), .int (I3 re)])), (as_, .inl (dA 0, 60, .inl (iA SG))), (av, .inl (dA 1, 960, .inr (.inl (lA VL)))), (aw, .inl (dA 1, 1024, .inr (.inl (lA W1_113))))]) hD hS hA [0, 1, 2, 3] rfl
          refine va_callv (va_runV (As := [.int (I3 5), .int (I3 z_117)]) (rest := []) ⟨hx, hb, hml, hown, hts⟩ (metX8_up l dC dI dA am as_ av aw H.size (((((0 : Int))))) mn sm wd lp mp re SG VL W1_113 5 z_117 h_28 h_29 h_30) (cwV 2 hts (lw_V q1000 q1002 qs30 q66 q1003) rfl rfl rfl (by decide +kernel) ⟨Nat.le_of_ble_eq_true rfl, Nat.le_of_ble_eq_true rfl⟩) ⟨fun a U g mk q => by obtain ⟨q0, q1, qP, qK, qD⟩ := q; exact ⟨q0, q1, qP, va_K.moved (u := U) (U := U.calling g mk a) (Vm.Alike.refl U.vm) qK, qD⟩, va_recv hK hPc (ci := 0) (q0 := 0) rfl rfl, fun U hU hW => ⟨rfl, by rw [hU], by rw [hU]; exact hPc, va_K.moved hW.alike hK, hDc.weaken (fun _ _ _ _ => trivial)⟩⟩ rfl rfl hl.1 rfl (lv_room (Nat.le_of_ble_eq_true rfl)) dX8_meets_146 ⟨Nat.le_of_ble_eq_true rfl, Nat.le_of_ble_eq_true rfl⟩) hS (fun q _ h => hFc q h) hFc (fun u t H1 locs ht hvm hw hB hz1 hk1 hS => ?_)
          obtain ⟨W1_146, rfl⟩ : ∃ z, z = u := ⟨_, rfl⟩
          obtain ⟨p0_146, p1_146, p2_146⟩ : (Dg W1_146) ∧ (Fr W1_113 W1_146 (5 : Int)) ∧ (rv W1_146 (5 : Int) = rv W1_113 (5 : Int) * 2 ^ z_117.toNat % BN) := hw
          obtain ⟨hP1, hK1, hD1⟩ := hB
          rw [ht] at hP1
          obtain ⟨hP, hD⟩ := va_join (wr := []) (w1 := [(am, .inr (0, [.int (I3 ((((((0 : Int))))))), .int (I3 mn), .ref as_, .ref av, .ref aw, .int (I3 sm), .int (I3 wd), .int (I3 lp), .int (I3 mp), .int (I3 re)])), (as_, .inl (dA 0, 60, .inl (iA SG))), (av, .inl (dA 1, 960, .inr (.inl (lA VL)))), (aw, .inl (dA 1, 1024, .inr (.inl (lA W1_146))))]) hP hD [0, 1, 2, 3] [] rfl rfl (by decide) (by decide) hk1 hFc hP1 hD1
          generalize H1 = H at hP hS ⊢
          have hP : va_P (dC, dI) vwCl [(am, .inr (0, [.int (I3 ((((((0 : Int))))))), .int (I3 mn), .ref as_, .ref av, .ref aw, .int (I3 sm), .int (I3 wd), .int (I3 lp), .int (I3 mp), .int (I3 re)])), (as_, .inl (dA 0, 60, .inl (iA SG))), (av, .inl (dA 1, 960, .inr (.inl (lA VL)))), (aw, .inl (dA 1, 1024, .inr (.inl (lA W1_146))))] H := hP
          have hD : va_D A [(am, .inr (0, [.int (I3 ((((((0 : Int))))))), .int (I3 mn), .ref as_, .ref av, .ref aw, .int (I3 sm), .int (I3 wd), .int (I3 lp), .int (I3 mp), .int (I3 re)])), (as_, .inl (dA 0, 60, .inl (iA SG))), (av, .inl (dA 1, 960, .inr (.inl (lA VL)))), (aw, .inl (dA 1, 1024, .inr (.inl (lA W1_146))))] := hD
          have h5 : rv W1_146 5 = qv VL a * (fX v).toNat * 2 ^ (plX v).toNat := by first | (rw [p2_146, f5, p0_117]; exact mod_BN (up_lt (k := 309) hqf (by omega))) | (rw [Fr_rv p1_146 (by decide), f5, show (plX v).toNat = 0 by omega, Nat.pow_zero, Nat.mul_one])
          have h2 : rv W1_146 2 = pv VL a * 2 ^ (-plX v).toNat := by first | (rw [p2_146, g2, p0_117]; exact mod_BN (up_lt (k := 256) la (by omega))) | (rw [Fr_rv p1_146 (by decide), g2, show (-plX v).toNat = 0 by omega, Nat.pow_zero, Nat.mul_one])
          refine lv_iload hx hb dX8_meets_149 (lv_at hl 1 rfl) ?_
          refine lv_aload_n hx hb dX8_meets_151 rfl (lv_at hl 2 rfl) ?_
          refine lv_iconst (v := I3 (2)) hx hb dX8_meets_152 rfl ?_
          refine lv_iconst (v := I3 (5)) hx hb dX8_meets_153 rfl ?_
          have h_31 : 0 ≤ (2 : Int) ∧ (2 : Int) < 16 := by decide
          have h_32 : 0 ≤ (5 : Int) ∧ (5 : Int) < 16 := by decide
          have h_33 : Dg W1_146 := by first | assumption | omega | (constructor <;> omega)
          have hPc := hP.sub (ws' := [(am, .inr (0, [.int (I3 (((((((0 : Int)))))))), .int (I3 mn), .ref as_, .ref av, .ref aw, .int (I3 sm), .int (I3 wd), .int (I3 lp), .int (I3 mp), .int (I3 re)])), (as_, .inl (dA 0, 60, .inl (iA SG))), (av, .inl (dA 1, 960, .inr (.inl (lA VL)))), (aw, .inl (dA 1, 1024, .inr (.inl (lA W1_146))))]) [0, 1, 2, 3] rfl
          have hDc := hD.sub (ws' := [(am, .inr (0, [.int (I3 (((((((0 : Int)))))))), .int (I3 mn), .ref as_, .ref av, .ref aw, .int (I3 sm), .int (I3 wd), .int (I3 lp), .int (I3 mp), .int (I3 re)])), (as_, .inl (dA 0, 60, .inl (iA SG))), (av, .inl (dA 1, 960, .inr (.inl (lA VL)))), (aw, .inl (dA 1, 1024, .inr (.inl (lA W1_146))))]) [0, 1, 2, 3] (by decide) rfl
          have hFc := va_free (wc := [(am, .inr (0, [.int (I3 (((((((0 : Int)))))))), .int (I3 mn), .ref as_, .ref av, .ref aw, .int (I3 sm), .int (I3 wd), .int (I3 lp), .int (I3 mp), .int (I3 re)])), (as_, .inl (dA 0, 60, .inl (iA SG))), (av, .inl (dA 1, 960, .inr (.inl (lA VL)))), (aw, .inl (dA 1, 1024, .inr (.inl (lA W1_146))))]) hD hS hA [0, 1, 2, 3] rfl
          refine va_calli (va_runV (As := [.int (I3 2), .int (I3 5)]) (rest := [.int (I3 y)]) ⟨hx, hb, hml, hown, hts⟩ (metX8_compare l dC dI dA am as_ av aw H.size ((((((0 : Int)))))) mn sm wd lp mp re SG VL W1_146 2 5 h_31 h_32 h_33) (cwV 2 hts (lw_V q988 q990 qs27 q66 q991) rfl rfl rfl (by decide +kernel) ⟨Nat.le_of_ble_eq_true rfl, Nat.le_of_ble_eq_true rfl⟩) ⟨fun a U g mk q => by obtain ⟨q0, q1, qP, qK, qD⟩ := q; exact ⟨q0, q1, qP, va_K.moved (u := U) (U := U.calling g mk a) (Vm.Alike.refl U.vm) qK, qD⟩, va_recv hK hPc (ci := 0) (q0 := 0) rfl rfl, fun U hU hW => ⟨rfl, by rw [hU], by rw [hU]; exact hPc, va_K.moved hW.alike hK, hDc.weaken (fun _ _ _ _ => trivial)⟩⟩ rfl rfl hl.1 rfl (lv_room (Nat.le_of_ble_eq_true rfl)) dX8_meets_154 ⟨Nat.le_of_ble_eq_true rfl, Nat.le_of_ble_eq_true rfl⟩) hS (fun q _ h => hFc q h) hFc (fun r_154 u t H1 locs ht hvm hw hB hz1 hk1 hS => ?_)
          obtain ⟨z_154, rfl⟩ : ∃ z, z = u := ⟨_, rfl⟩
          obtain ⟨rfl, p0_154⟩ : r_154 = I3 z_154 ∧ (z_154 = cmpN (rv W1_146 (2 : Int)) (rv W1_146 (5 : Int))) := hw
          obtain ⟨hP1, hK1, hD1⟩ := hB
          rw [ht] at hP1
          obtain ⟨hP, hD⟩ := va_join (wr := []) (w1 := [(am, .inr (0, [.int (I3 (((((((0 : Int)))))))), .int (I3 mn), .ref as_, .ref av, .ref aw, .int (I3 sm), .int (I3 wd), .int (I3 lp), .int (I3 mp), .int (I3 re)])), (as_, .inl (dA 0, 60, .inl (iA SG))), (av, .inl (dA 1, 960, .inr (.inl (lA VL)))), (aw, .inl (dA 1, 1024, .inr (.inl (lA W1_146))))]) hP hD [0, 1, 2, 3] [] rfl rfl (by decide) (by decide) hk1 hFc hP1 hD1
          generalize H1 = H at hP hS ⊢
          have hP : va_P (dC, dI) vwCl [(am, .inr (0, [.int (I3 (((((((0 : Int)))))))), .int (I3 mn), .ref as_, .ref av, .ref aw, .int (I3 sm), .int (I3 wd), .int (I3 lp), .int (I3 mp), .int (I3 re)])), (as_, .inl (dA 0, 60, .inl (iA SG))), (av, .inl (dA 1, 960, .inr (.inl (lA VL)))), (aw, .inl (dA 1, 1024, .inr (.inl (lA W1_146))))] H := hP
          have hD : va_D A [(am, .inr (0, [.int (I3 (((((((0 : Int)))))))), .int (I3 mn), .ref as_, .ref av, .ref aw, .int (I3 sm), .int (I3 wd), .int (I3 lp), .int (I3 mp), .int (I3 re)])), (as_, .inl (dA 0, 60, .inl (iA SG))), (av, .inl (dA 1, 960, .inr (.inl (lA VL)))), (aw, .inl (dA 1, 1024, .inr (.inl (lA W1_146))))] := hD
          refine ix_imul hx hb dX8_meets_157 ?_
          have o_34 : Dg W1_146 := by first | assumption | omega | (constructor <;> omega)
          have o_35 : (y * z_154) = if 0 ≤ a ∧ a < mn then meS SG VL a v else 0 := by rw [if_pos hg]; unfold meS; rw [if_neg he, if_pos (by rw [← hy]; omega), ← hy, p0_154, h2, h5]
          have o_36 : (((((((0 : Int))))))) = if 0 ≤ a ∧ a < mn then 0 else 1 := by rw [if_pos hg]
          exact W.iret (v := I3 (y * z_154)) hx hb hr (fun t ht hW => ⟨⟨I3 (y * z_154), ((y * z_154), (((((((0 : Int))))))), W1_146), rfl, ⟨rfl, ⟨o_34, o_35, o_36⟩⟩, by rw [ht]; exact hP, va_K.moved hW.alike hK, hD⟩, hS.F ht⟩) hS.2.2 dX8_meets_158
    · skip
      refine lv_aload_n hx hb dX8_meets_71 rfl (lv_at hl 1 rfl) ?_
      refine va_get (D := (dC, dI)) (ci := 0) (v := .ref as_) (C := RX8) (T := TX8) (N := 10) hx hb hts in_X8 hown hK hP 0 rfl rfl 2 (by decide) (hts _ q915) (fun _ h9 => h9) rfl dX8_meets_72 ?_
      refine lv_iload_n hx hb dX8_meets_75 rfl (lv_at hl 2 rfl) ?_
      refine ix_iald hx hb hK hP 1 0 rfl rfl (Nat.le_of_ble_eq_true rfl) (by omega) dX8_meets_76 ?_
      refine lv_iload hx hb dX8_meets_77 (lv_at hl 0 rfl) ?_
      refine ix_icmp_ge (tgt := 86) hx hb (by first | assumption | decide | (constructor <;> omega)) (by first | assumption | decide | (constructor <;> omega)) dX8_meets_79 (by decide) (fun c_79 => ?_) (fun c_79 => ?_)
      · skip
        refine lv_iconst (v := I3 (1)) hx hb dX8_meets_86 rfl ?_
        have o_37 : Dg wf := by first | assumption | omega | (constructor <;> omega)
        have o_38 : (1 : Int) = if 0 ≤ a ∧ a < mn then meS SG VL a v else 0 := by rw [if_pos hg]; unfold meS; rw [if_neg he, if_neg (by rw [← hy]; omega), ← hy]; first | (rw [if_pos (by omega)]; done) | (rw [if_neg (by omega)]; done)
        have o_39 : (0 : Int) = if 0 ≤ a ∧ a < mn then 0 else 1 := by rw [if_pos hg]
        exact W.iret (v := I3 1) hx hb hr (fun t ht hW => ⟨⟨I3 1, (1, 0, wf), rfl, ⟨rfl, ⟨o_37, o_38, o_39⟩⟩, by rw [ht]; exact hP, va_K.moved hW.alike hK, hD⟩, hS.F ht⟩) hS.2.2 dX8_meets_87
      · skip
        refine lv_iconst (v := I3 (-1)) hx hb dX8_meets_82 rfl ?_
        refine lv_goto (tgt := 87) hx hb dX8_meets_83 (by decide) ?_
        have o_40 : Dg wf := by first | assumption | omega | (constructor <;> omega)
        have o_41 : (-1 : Int) = if 0 ≤ a ∧ a < mn then meS SG VL a v else 0 := by rw [if_pos hg]; unfold meS; rw [if_neg he, if_neg (by rw [← hy]; omega), ← hy]; first | (rw [if_pos (by omega)]; done) | (rw [if_neg (by omega)]; done)
        have o_42 : (0 : Int) = if 0 ≤ a ∧ a < mn then 0 else 1 := by rw [if_pos hg]
        exact W.iret (v := I3 (-1)) hx hb hr (fun t ht hW => ⟨⟨I3 (-1), ((-1), 0, wf), rfl, ⟨rfl, ⟨o_40, o_41, o_42⟩⟩, by rw [ht]; exact hP, va_K.moved hW.alike hK, hD⟩, hS.F ht⟩) hS.2.2 dX8_meets_87
  obtain ⟨hmn, hV, hAll⟩ := id hI
  have hx_ := eX_r v
  have hf_ := fX_r v
  have hp_ := plX_r v
  have hs_ := sgX_3 v
  have hq_ := pX_r v
  refine lv_aload_n hx hb dX8_meets_0 rfl (lv_at hl 0 rfl) ?_
  refine lv_iload_n hx hb dX8_meets_1 rfl (lv_at hl 1 rfl) ?_
  have h_43 : In3 a := by first | assumption | omega | (constructor <;> omega)
  have h_44 : In3 mn := by first | assumption | omega | (constructor <;> omega)
  have hPc := hP.sub (ws' := [(am, .inr (0, [.int (I3 th), .int (I3 mn), .ref as_, .ref av, .ref aw, .int (I3 sm), .int (I3 wd), .int (I3 lp), .int (I3 mp), .int (I3 re)])), (as_, .inl (dA 0, 60, .inl (iA SG))), (av, .inl (dA 1, 960, .inr (.inl (lA VL)))), (aw, .inl (dA 1, 1024, .inr (.inl (lA wf))))]) [0, 1, 2, 3] rfl
  have hDc := hD.sub (ws' := [(am, .inr (0, [.int (I3 th), .int (I3 mn), .ref as_, .ref av, .ref aw, .int (I3 sm), .int (I3 wd), .int (I3 lp), .int (I3 mp), .int (I3 re)])), (as_, .inl (dA 0, 60, .inl (iA SG))), (av, .inl (dA 1, 960, .inr (.inl (lA VL)))), (aw, .inl (dA 1, 1024, .inr (.inl (lA wf))))]) [0, 1, 2, 3] (by decide) rfl
  have hFc := va_free (wc := [(am, .inr (0, [.int (I3 th), .int (I3 mn), .ref as_, .ref av, .ref aw, .int (I3 sm), .int (I3 wd), .int (I3 lp), .int (I3 mp), .int (I3 re)])), (as_, .inl (dA 0, 60, .inl (iA SG))), (av, .inl (dA 1, 960, .inr (.inl (lA VL)))), (aw, .inl (dA 1, 1024, .inr (.inl (lA wf))))]) hD hS hA [0, 1, 2, 3] rfl
  refine va_calli (va_runV (As := [.int (I3 a)]) (rest := []) ⟨hx, hb, hml, hown, hts⟩ (metX8_isNumber l dC dI dA am as_ av aw s.heap.size th mn sm wd lp mp re SG VL wf a h_43 h_44) (cwV 1 hts (lw_V q1050 q1052 qs35 q66 q1053) rfl rfl rfl (by decide +kernel) ⟨Nat.le_of_ble_eq_true rfl, Nat.le_of_ble_eq_true rfl⟩) ⟨fun a U g mk q => by obtain ⟨q0, q1, qP, qK, qD⟩ := q; exact ⟨q0, q1, qP, va_K.moved (u := U) (U := U.calling g mk a) (Vm.Alike.refl U.vm) qK, qD⟩, va_recv hK hPc (ci := 0) (q0 := 0) rfl rfl, fun U hU hW => ⟨rfl, by rw [hU], by rw [hU]; exact hPc, va_K.moved hW.alike hK, hDc.weaken (fun _ _ _ _ => trivial)⟩⟩ rfl rfl hl.1 rfl (lv_room (Nat.le_of_ble_eq_true rfl)) dX8_meets_2 ⟨Nat.le_of_ble_eq_true rfl, Nat.le_of_ble_eq_true rfl⟩) hS (fun q _ h => hFc q h) hFc (fun r_2 u t H1 locs ht hvm hw hB hz1 hk1 hS => ?_)
  obtain ⟨z_2, rfl⟩ : ∃ z, z = u := ⟨_, rfl⟩
  obtain ⟨rfl, p0_2⟩ : r_2 = I3 z_2 ∧ (z_2 = if 0 ≤ a ∧ a < mn then 1 else 0) := hw
  obtain ⟨hP1, hK1, hD1⟩ := hB
  rw [ht] at hP1
  obtain ⟨hP, hD⟩ := va_join (wr := []) (w1 := [(am, .inr (0, [.int (I3 th), .int (I3 mn), .ref as_, .ref av, .ref aw, .int (I3 sm), .int (I3 wd), .int (I3 lp), .int (I3 mp), .int (I3 re)])), (as_, .inl (dA 0, 60, .inl (iA SG))), (av, .inl (dA 1, 960, .inr (.inl (lA VL)))), (aw, .inl (dA 1, 1024, .inr (.inl (lA wf))))]) hP hD [0, 1, 2, 3] [] rfl rfl (by decide) (by decide) hk1 hFc hP1 hD1
  generalize H1 = H at hP hS ⊢
  have hP : va_P (dC, dI) vwCl [(am, .inr (0, [.int (I3 th), .int (I3 mn), .ref as_, .ref av, .ref aw, .int (I3 sm), .int (I3 wd), .int (I3 lp), .int (I3 mp), .int (I3 re)])), (as_, .inl (dA 0, 60, .inl (iA SG))), (av, .inl (dA 1, 960, .inr (.inl (lA VL)))), (aw, .inl (dA 1, 1024, .inr (.inl (lA wf))))] H := hP
  have hD : va_D A [(am, .inr (0, [.int (I3 th), .int (I3 mn), .ref as_, .ref av, .ref aw, .int (I3 sm), .int (I3 wd), .int (I3 lp), .int (I3 mp), .int (I3 re)])), (as_, .inl (dA 0, 60, .inl (iA SG))), (av, .inl (dA 1, 960, .inr (.inl (lA VL)))), (aw, .inl (dA 1, 1024, .inr (.inl (lA wf))))] := hD
  have y_2 := b01 p0_2
  refine ix_if_ne (tgt := 14) hx hb (by first | assumption | decide | (constructor <;> omega)) dX8_meets_5 (by decide) (fun c_5 => ?_) (fun c_5 => ?_)
  · skip
    refine lv_aload_n hx hb dX8_meets_14 rfl (lv_at hl 0 rfl) ?_
    refine lv_iconst (v := I3 (0)) hx hb dX8_meets_15 rfl ?_
    refine va_put (D := (dC, dI)) (ci := 0) (v := .int (I3 0)) (ty := .int) (C := RX8) (T := TX8) (N := 10) hx hb hts in_X8 tyX8 tyX8_ok nmX8 hown hK hP hD hS 0 rfl rfl 0 (by decide) (hts _ q913) (fun _ h9 => h9) rfl (by decide +kernel) rfl rfl (Nat.le_of_ble_eq_true rfl) dX8_meets_16 (fun H locs hP hD hS => ?_)
    have hP : va_P (dC, dI) vwCl [(am, .inr (0, [.int (I3 0), .int (I3 mn), .ref as_, .ref av, .ref aw, .int (I3 sm), .int (I3 wd), .int (I3 lp), .int (I3 mp), .int (I3 re)])), (as_, .inl (dA 0, 60, .inl (iA SG))), (av, .inl (dA 1, 960, .inr (.inl (lA VL)))), (aw, .inl (dA 1, 1024, .inr (.inl (lA wf))))] H := hP
    have hD : va_D A [(am, .inr (0, [.int (I3 0), .int (I3 mn), .ref as_, .ref av, .ref aw, .int (I3 sm), .int (I3 wd), .int (I3 lp), .int (I3 mp), .int (I3 re)])), (as_, .inl (dA 0, 60, .inl (iA SG))), (av, .inl (dA 1, 960, .inr (.inl (lA VL)))), (aw, .inl (dA 1, 1024, .inr (.inl (lA wf))))] := hD
    refine lv_lload_n hx hb dX8_meets_19 rfl (lv_at hl 2 rfl) ?_
    have h_45 : In6 v := by first | assumption | omega | (constructor <;> omega)
    have hPc := hP.sub (ws' := []) [] rfl
    have hDc := hD.sub (ws' := []) [] (by decide) rfl
    have hFc := va_free (wc := []) hD hS hA [] rfl
    refine va_calli (va_runS (As := [.long (L6 v)]) (rest := []) ⟨hx, hb, hml, hown, hts⟩ (metX8_isNo l dC dI dA H.size v h_45) (va_cwS 1 hts (lw_S q1127 q1128 q66 q1129) rfl rfl rfl (by decide +kernel) ⟨Nat.le_of_ble_eq_true rfl, Nat.le_of_ble_eq_true rfl⟩) ⟨fun a U g mk q => by obtain ⟨q0, q1, qP, qK, qD⟩ := q; exact ⟨q0, q1, qP, va_K.moved (u := U) (U := U.calling g mk a) (Vm.Alike.refl U.vm) qK, qD⟩, fun U hU hW => ⟨rfl, by rw [hU], by rw [hU]; exact hPc, va_K.moved hW.alike hK, hDc.weaken (fun _ _ _ _ => trivial)⟩⟩ rfl rfl hl.1 rfl (lv_room (Nat.le_of_ble_eq_true rfl)) dX8_meets_20 ⟨Nat.le_of_ble_eq_true rfl, Nat.le_of_ble_eq_true rfl⟩) hS (fun q _ h => hFc q h) hFc (fun r_20 u t H1 locs ht hvm hw hB hz1 hk1 hS => ?_)
    obtain ⟨z_20, rfl⟩ : ∃ z, z = u := ⟨_, rfl⟩
    obtain ⟨rfl, p0_20⟩ : r_20 = I3 z_20 ∧ (z_20 = if eX v = 2047 ∧ pX v ≠ 0 then 1 else 0) := hw
    obtain ⟨hP1, hK1, hD1⟩ := hB
    rw [ht] at hP1
    obtain ⟨hP, hD⟩ := va_join (wr := [(am, .inr (0, [.int (I3 0), .int (I3 mn), .ref as_, .ref av, .ref aw, .int (I3 sm), .int (I3 wd), .int (I3 lp), .int (I3 mp), .int (I3 re)])), (as_, .inl (dA 0, 60, .inl (iA SG))), (av, .inl (dA 1, 960, .inr (.inl (lA VL)))), (aw, .inl (dA 1, 1024, .inr (.inl (lA wf))))]) (w1 := []) hP hD [] [0, 1, 2, 3] rfl rfl (by decide) (by decide) hk1 hFc hP1 hD1
    generalize H1 = H at hP hS ⊢
    have hP : va_P (dC, dI) vwCl [(am, .inr (0, [.int (I3 0), .int (I3 mn), .ref as_, .ref av, .ref aw, .int (I3 sm), .int (I3 wd), .int (I3 lp), .int (I3 mp), .int (I3 re)])), (as_, .inl (dA 0, 60, .inl (iA SG))), (av, .inl (dA 1, 960, .inr (.inl (lA VL)))), (aw, .inl (dA 1, 1024, .inr (.inl (lA wf))))] H := hP
    have hD : va_D A [(am, .inr (0, [.int (I3 0), .int (I3 mn), .ref as_, .ref av, .ref aw, .int (I3 sm), .int (I3 wd), .int (I3 lp), .int (I3 mp), .int (I3 re)])), (as_, .inl (dA 0, 60, .inl (iA SG))), (av, .inl (dA 1, 960, .inr (.inl (lA VL)))), (aw, .inl (dA 1, 1024, .inr (.inl (lA wf))))] := hD
    have y_20 := b01 p0_20
    refine ix_if_eq (tgt := 28) hx hb (by first | assumption | decide | (constructor <;> omega)) dX8_meets_23 (by decide) (fun c_23 => ?_) (fun c_23 => ?_)
    · skip
      refine lv_lload_n hx hb dX8_meets_28 rfl (lv_at hl 2 rfl) ?_
      have h_46 : In6 v := by first | assumption | omega | (constructor <;> omega)
      have hPc := hP.sub (ws' := []) [] rfl
      have hDc := hD.sub (ws' := []) [] (by decide) rfl
      have hFc := va_free (wc := []) hD hS hA [] rfl
      refine va_calli (va_runS (As := [.long (L6 v)]) (rest := []) ⟨hx, hb, hml, hown, hts⟩ (metX8_isInfinite l dC dI dA H.size v h_46) (va_cwS 1 hts (lw_S q1130 q1131 q66 q1132) rfl rfl rfl (by decide +kernel) ⟨Nat.le_of_ble_eq_true rfl, Nat.le_of_ble_eq_true rfl⟩) ⟨fun a U g mk q => by obtain ⟨q0, q1, qP, qK, qD⟩ := q; exact ⟨q0, q1, qP, va_K.moved (u := U) (U := U.calling g mk a) (Vm.Alike.refl U.vm) qK, qD⟩, fun U hU hW => ⟨rfl, by rw [hU], by rw [hU]; exact hPc, va_K.moved hW.alike hK, hDc.weaken (fun _ _ _ _ => trivial)⟩⟩ rfl rfl hl.1 rfl (lv_room (Nat.le_of_ble_eq_true rfl)) dX8_meets_29 ⟨Nat.le_of_ble_eq_true rfl, Nat.le_of_ble_eq_true rfl⟩) hS (fun q _ h => hFc q h) hFc (fun r_29 u t H1 locs ht hvm hw hB hz1 hk1 hS => ?_)
      obtain ⟨z_29, rfl⟩ : ∃ z, z = u := ⟨_, rfl⟩
      obtain ⟨rfl, p0_29⟩ : r_29 = I3 z_29 ∧ (z_29 = if eX v = 2047 ∧ pX v = 0 then 1 else 0) := hw
      obtain ⟨hP1, hK1, hD1⟩ := hB
      rw [ht] at hP1
      obtain ⟨hP, hD⟩ := va_join (wr := [(am, .inr (0, [.int (I3 0), .int (I3 mn), .ref as_, .ref av, .ref aw, .int (I3 sm), .int (I3 wd), .int (I3 lp), .int (I3 mp), .int (I3 re)])), (as_, .inl (dA 0, 60, .inl (iA SG))), (av, .inl (dA 1, 960, .inr (.inl (lA VL)))), (aw, .inl (dA 1, 1024, .inr (.inl (lA wf))))]) (w1 := []) hP hD [] [0, 1, 2, 3] rfl rfl (by decide) (by decide) hk1 hFc hP1 hD1
      generalize H1 = H at hP hS ⊢
      have hP : va_P (dC, dI) vwCl [(am, .inr (0, [.int (I3 0), .int (I3 mn), .ref as_, .ref av, .ref aw, .int (I3 sm), .int (I3 wd), .int (I3 lp), .int (I3 mp), .int (I3 re)])), (as_, .inl (dA 0, 60, .inl (iA SG))), (av, .inl (dA 1, 960, .inr (.inl (lA VL)))), (aw, .inl (dA 1, 1024, .inr (.inl (lA wf))))] H := hP
      have hD : va_D A [(am, .inr (0, [.int (I3 0), .int (I3 mn), .ref as_, .ref av, .ref aw, .int (I3 sm), .int (I3 wd), .int (I3 lp), .int (I3 mp), .int (I3 re)])), (as_, .inl (dA 0, 60, .inl (iA SG))), (av, .inl (dA 1, 960, .inr (.inl (lA VL)))), (aw, .inl (dA 1, 1024, .inr (.inl (lA wf))))] := hD
      have y_29 := b01 p0_29
      refine ix_if_eq (tgt := 41) hx hb (by first | assumption | decide | (constructor <;> omega)) dX8_meets_32 (by decide) (fun c_32 => ?_) (fun c_32 => ?_)
      · skip
        refine lv_lload_n hx hb dX8_meets_41 rfl (lv_at hl 2 rfl) ?_
        have h_47 : In6 v := by first | assumption | omega | (constructor <;> omega)
        have hPc := hP.sub (ws' := []) [] rfl
        have hDc := hD.sub (ws' := []) [] (by decide) rfl
        have hFc := va_free (wc := []) hD hS hA [] rfl
        refine va_calll (va_runS (As := [.long (L6 v)]) (rest := []) ⟨hx, hb, hml, hown, hts⟩ (metX8_factor l dC dI dA H.size v h_47) (va_cwS 1 hts (lw_S q1032 q1033 q66 q1034) rfl rfl rfl (by decide +kernel) ⟨Nat.le_of_ble_eq_true rfl, Nat.le_of_ble_eq_true rfl⟩) ⟨fun a U g mk q => by obtain ⟨q0, q1, qP, qK, qD⟩ := q; exact ⟨q0, q1, qP, va_K.moved (u := U) (U := U.calling g mk a) (Vm.Alike.refl U.vm) qK, qD⟩, fun U hU hW => ⟨rfl, by rw [hU], by rw [hU]; exact hPc, va_K.moved hW.alike hK, hDc.weaken (fun _ _ _ _ => trivial)⟩⟩ rfl rfl hl.1 rfl (lv_room (Nat.le_of_ble_eq_true rfl)) dX8_meets_42 ⟨Nat.le_of_ble_eq_true rfl, Nat.le_of_ble_eq_true rfl⟩) hS (fun q _ h => hFc q h) hFc (fun r_42 u t H1 locs ht hvm hw hB hz1 hk1 hS => ?_)
        obtain ⟨z_42, rfl⟩ : ∃ z, z = u := ⟨_, rfl⟩
        obtain ⟨rfl, p0_42⟩ : r_42 = L6 z_42 ∧ (z_42 = fX v) := hw
        obtain ⟨hP1, hK1, hD1⟩ := hB
        rw [ht] at hP1
        obtain ⟨hP, hD⟩ := va_join (wr := [(am, .inr (0, [.int (I3 0), .int (I3 mn), .ref as_, .ref av, .ref aw, .int (I3 sm), .int (I3 wd), .int (I3 lp), .int (I3 mp), .int (I3 re)])), (as_, .inl (dA 0, 60, .inl (iA SG))), (av, .inl (dA 1, 960, .inr (.inl (lA VL)))), (aw, .inl (dA 1, 1024, .inr (.inl (lA wf))))]) (w1 := []) hP hD [] [0, 1, 2, 3] rfl rfl (by decide) (by decide) hk1 hFc hP1 hD1
        generalize H1 = H at hP hS ⊢
        have hP : va_P (dC, dI) vwCl [(am, .inr (0, [.int (I3 0), .int (I3 mn), .ref as_, .ref av, .ref aw, .int (I3 sm), .int (I3 wd), .int (I3 lp), .int (I3 mp), .int (I3 re)])), (as_, .inl (dA 0, 60, .inl (iA SG))), (av, .inl (dA 1, 960, .inr (.inl (lA VL)))), (aw, .inl (dA 1, 1024, .inr (.inl (lA wf))))] H := hP
        have hD : va_D A [(am, .inr (0, [.int (I3 0), .int (I3 mn), .ref as_, .ref av, .ref aw, .int (I3 sm), .int (I3 wd), .int (I3 lp), .int (I3 mp), .int (I3 re)])), (as_, .inl (dA 0, 60, .inl (iA SG))), (av, .inl (dA 1, 960, .inr (.inl (lA VL)))), (aw, .inl (dA 1, 1024, .inr (.inl (lA wf))))] := hD
        refine lv_lconst (v := L6 0) hx hb dX8_meets_45 (by decide) ?_
        refine ix_lcmp_ne (tgt := 54) hx hb (by first | assumption | decide | (constructor <;> omega)) (by first | assumption | decide | (constructor <;> omega)) dX8_meets_46 dX8_meets_47 (by decide) (fun c_46 => ?_) (fun c_46 => ?_)
        · skip
          refine lv_lload_n hx hb dX8_meets_54 rfl (lv_at hl 2 rfl) ?_
          have h_48 : In6 v := by first | assumption | omega | (constructor <;> omega)
          have hPc := hP.sub (ws' := []) [] rfl
          have hDc := hD.sub (ws' := []) [] (by decide) rfl
          have hFc := va_free (wc := []) hD hS hA [] rfl
          refine va_calli (va_runS (As := [.long (L6 v)]) (rest := []) ⟨hx, hb, hml, hown, hts⟩ (metX8_signOf l dC dI dA H.size v h_48) (va_cwS 1 hts (lw_S q1043 q1044 q66 q1045) rfl rfl rfl (by decide +kernel) ⟨Nat.le_of_ble_eq_true rfl, Nat.le_of_ble_eq_true rfl⟩) ⟨fun a U g mk q => by obtain ⟨q0, q1, qP, qK, qD⟩ := q; exact ⟨q0, q1, qP, va_K.moved (u := U) (U := U.calling g mk a) (Vm.Alike.refl U.vm) qK, qD⟩, fun U hU hW => ⟨rfl, by rw [hU], by rw [hU]; exact hPc, va_K.moved hW.alike hK, hDc.weaken (fun _ _ _ _ => trivial)⟩⟩ rfl rfl hl.1 rfl (lv_room (Nat.le_of_ble_eq_true rfl)) dX8_meets_55 ⟨Nat.le_of_ble_eq_true rfl, Nat.le_of_ble_eq_true rfl⟩) hS (fun q _ h => hFc q h) hFc (fun r_55 u t H1 locs ht hvm hw hB hz1 hk1 hS => ?_)
          obtain ⟨z_55, rfl⟩ : ∃ z, z = u := ⟨_, rfl⟩
          obtain ⟨rfl, p0_55⟩ : r_55 = I3 z_55 ∧ (z_55 = sgX v) := hw
          obtain ⟨hP1, hK1, hD1⟩ := hB
          rw [ht] at hP1
          obtain ⟨hP, hD⟩ := va_join (wr := [(am, .inr (0, [.int (I3 0), .int (I3 mn), .ref as_, .ref av, .ref aw, .int (I3 sm), .int (I3 wd), .int (I3 lp), .int (I3 mp), .int (I3 re)])), (as_, .inl (dA 0, 60, .inl (iA SG))), (av, .inl (dA 1, 960, .inr (.inl (lA VL)))), (aw, .inl (dA 1, 1024, .inr (.inl (lA wf))))]) (w1 := []) hP hD [] [0, 1, 2, 3] rfl rfl (by decide) (by decide) hk1 hFc hP1 hD1
          generalize H1 = H at hP hS ⊢
          have hP : va_P (dC, dI) vwCl [(am, .inr (0, [.int (I3 0), .int (I3 mn), .ref as_, .ref av, .ref aw, .int (I3 sm), .int (I3 wd), .int (I3 lp), .int (I3 mp), .int (I3 re)])), (as_, .inl (dA 0, 60, .inl (iA SG))), (av, .inl (dA 1, 960, .inr (.inl (lA VL)))), (aw, .inl (dA 1, 1024, .inr (.inl (lA wf))))] H := hP
          have hD : va_D A [(am, .inr (0, [.int (I3 0), .int (I3 mn), .ref as_, .ref av, .ref aw, .int (I3 sm), .int (I3 wd), .int (I3 lp), .int (I3 mp), .int (I3 re)])), (as_, .inl (dA 0, 60, .inl (iA SG))), (av, .inl (dA 1, 960, .inr (.inl (lA VL)))), (aw, .inl (dA 1, 1024, .inr (.inl (lA wf))))] := hD
          have e_49 : 0 ≤ a ∧ a < mn := by first | assumption | omega | (constructor <;> omega)
          have e_50 : eX v ≠ 2047 := by first | assumption | omega | (constructor <;> omega)
          have e_51 : z_55 = (if fX v = 0 then 0 else sgX v) := by first | (rw [if_pos (by omega)]; done) | (rw [if_neg (by omega)]; assumption)
          exact cut_58 z_55 e_49 e_50 e_51 _ _ hP hD hS ls (lv_sub hl [0, 1, 2] rfl)
        · skip
          refine lv_iconst (v := I3 (0)) hx hb dX8_meets_50 rfl ?_
          refine lv_goto (tgt := 58) hx hb dX8_meets_51 (by decide) ?_
          have e_52 : 0 ≤ a ∧ a < mn := by first | assumption | omega | (constructor <;> omega)
          have e_53 : eX v ≠ 2047 := by first | assumption | omega | (constructor <;> omega)
          have e_54 : (0 : Int) = (if fX v = 0 then 0 else sgX v) := by first | (rw [if_pos (by omega)]; done) | (rw [if_neg (by omega)]; assumption)
          exact cut_58 0 e_52 e_53 e_54 _ _ hP hD hS ls (lv_sub hl [0, 1, 2] rfl)
      · skip
        refine lv_lload_n hx hb dX8_meets_35 rfl (lv_at hl 2 rfl) ?_
        have h_55 : In6 v := by first | assumption | omega | (constructor <;> omega)
        have hPc := hP.sub (ws' := []) [] rfl
        have hDc := hD.sub (ws' := []) [] (by decide) rfl
        have hFc := va_free (wc := []) hD hS hA [] rfl
        refine va_calli (va_runS (As := [.long (L6 v)]) (rest := []) ⟨hx, hb, hml, hown, hts⟩ (metX8_signOf l dC dI dA H.size v h_55) (va_cwS 1 hts (lw_S q1043 q1044 q66 q1045) rfl rfl rfl (by decide +kernel) ⟨Nat.le_of_ble_eq_true rfl, Nat.le_of_ble_eq_true rfl⟩) ⟨fun a U g mk q => by obtain ⟨q0, q1, qP, qK, qD⟩ := q; exact ⟨q0, q1, qP, va_K.moved (u := U) (U := U.calling g mk a) (Vm.Alike.refl U.vm) qK, qD⟩, fun U hU hW => ⟨rfl, by rw [hU], by rw [hU]; exact hPc, va_K.moved hW.alike hK, hDc.weaken (fun _ _ _ _ => trivial)⟩⟩ rfl rfl hl.1 rfl (lv_room (Nat.le_of_ble_eq_true rfl)) dX8_meets_36 ⟨Nat.le_of_ble_eq_true rfl, Nat.le_of_ble_eq_true rfl⟩) hS (fun q _ h => hFc q h) hFc (fun r_36 u t H1 locs ht hvm hw hB hz1 hk1 hS => ?_)
        obtain ⟨z_36, rfl⟩ : ∃ z, z = u := ⟨_, rfl⟩
        obtain ⟨rfl, p0_36⟩ : r_36 = I3 z_36 ∧ (z_36 = sgX v) := hw
        obtain ⟨hP1, hK1, hD1⟩ := hB
        rw [ht] at hP1
        obtain ⟨hP, hD⟩ := va_join (wr := [(am, .inr (0, [.int (I3 0), .int (I3 mn), .ref as_, .ref av, .ref aw, .int (I3 sm), .int (I3 wd), .int (I3 lp), .int (I3 mp), .int (I3 re)])), (as_, .inl (dA 0, 60, .inl (iA SG))), (av, .inl (dA 1, 960, .inr (.inl (lA VL)))), (aw, .inl (dA 1, 1024, .inr (.inl (lA wf))))]) (w1 := []) hP hD [] [0, 1, 2, 3] rfl rfl (by decide) (by decide) hk1 hFc hP1 hD1
        generalize H1 = H at hP hS ⊢
        have hP : va_P (dC, dI) vwCl [(am, .inr (0, [.int (I3 0), .int (I3 mn), .ref as_, .ref av, .ref aw, .int (I3 sm), .int (I3 wd), .int (I3 lp), .int (I3 mp), .int (I3 re)])), (as_, .inl (dA 0, 60, .inl (iA SG))), (av, .inl (dA 1, 960, .inr (.inl (lA VL)))), (aw, .inl (dA 1, 1024, .inr (.inl (lA wf))))] H := hP
        have hD : va_D A [(am, .inr (0, [.int (I3 0), .int (I3 mn), .ref as_, .ref av, .ref aw, .int (I3 sm), .int (I3 wd), .int (I3 lp), .int (I3 mp), .int (I3 re)])), (as_, .inl (dA 0, 60, .inl (iA SG))), (av, .inl (dA 1, 960, .inr (.inl (lA VL)))), (aw, .inl (dA 1, 1024, .inr (.inl (lA wf))))] := hD
        refine ix_ineg hx hb dX8_meets_39 ?_
        have o_56 : Dg wf := by first | assumption | omega | (constructor <;> omega)
        have o_57 : (-z_36) = if 0 ≤ a ∧ a < mn then meS SG VL a v else 0 := by rw [if_pos (by omega)]; unfold meS; rw [if_pos (by omega), if_pos (by omega), p0_36]
        have o_58 : (0 : Int) = if 0 ≤ a ∧ a < mn then 0 else 1 := by rw [if_pos (by omega)]
        exact W.iret (v := I3 (-z_36)) hx hb hr (fun t ht hW => ⟨⟨I3 (-z_36), ((-z_36), 0, wf), rfl, ⟨rfl, ⟨o_56, o_57, o_58⟩⟩, by rw [ht]; exact hP, va_K.moved hW.alike hK, hD⟩, hS.F ht⟩) hS.2.2 dX8_meets_40
    · skip
      refine lv_iconst (v := I3 (2)) hx hb dX8_meets_26 rfl ?_
      have o_59 : Dg wf := by first | assumption | omega | (constructor <;> omega)
      have o_60 : (2 : Int) = if 0 ≤ a ∧ a < mn then meS SG VL a v else 0 := by rw [if_pos (by omega)]; unfold meS; rw [if_pos (by omega), if_neg (by omega)]
      have o_61 : (0 : Int) = if 0 ≤ a ∧ a < mn then 0 else 1 := by rw [if_pos (by omega)]
      exact W.iret (v := I3 2) hx hb hr (fun t ht hW => ⟨⟨I3 2, (2, 0, wf), rfl, ⟨rfl, ⟨o_59, o_60, o_61⟩⟩, by rw [ht]; exact hP, va_K.moved hW.alike hK, hD⟩, hS.F ht⟩) hS.2.2 dX8_meets_27
  · skip
    refine lv_aload_n hx hb dX8_meets_8 rfl (lv_at hl 0 rfl) ?_
    refine lv_iconst (v := I3 (1)) hx hb dX8_meets_9 rfl ?_
    have h_62 : In3 (1 : Int) := by first | assumption | omega | (constructor <;> omega)
    have hPc := hP.sub (ws' := [(am, .inr (0, [.int (I3 th), .int (I3 mn), .ref as_, .ref av, .ref aw, .int (I3 sm), .int (I3 wd), .int (I3 lp), .int (I3 mp), .int (I3 re)])), (as_, .inl (dA 0, 60, .inl (iA SG))), (av, .inl (dA 1, 960, .inr (.inl (lA VL)))), (aw, .inl (dA 1, 1024, .inr (.inl (lA wf))))]) [0, 1, 2, 3] rfl
    have hDc := hD.sub (ws' := [(am, .inr (0, [.int (I3 th), .int (I3 mn), .ref as_, .ref av, .ref aw, .int (I3 sm), .int (I3 wd), .int (I3 lp), .int (I3 mp), .int (I3 re)])), (as_, .inl (dA 0, 60, .inl (iA SG))), (av, .inl (dA 1, 960, .inr (.inl (lA VL)))), (aw, .inl (dA 1, 1024, .inr (.inl (lA wf))))]) [0, 1, 2, 3] (by decide) rfl
    have hFc := va_free (wc := [(am, .inr (0, [.int (I3 th), .int (I3 mn), .ref as_, .ref av, .ref aw, .int (I3 sm), .int (I3 wd), .int (I3 lp), .int (I3 mp), .int (I3 re)])), (as_, .inl (dA 0, 60, .inl (iA SG))), (av, .inl (dA 1, 960, .inr (.inl (lA VL)))), (aw, .inl (dA 1, 1024, .inr (.inl (lA wf))))]) hD hS hA [0, 1, 2, 3] rfl
    refine va_calli (va_runV (As := [.int (I3 1)]) (rest := []) ⟨hx, hb, hml, hown, hts⟩ (metX8_fails l dC dI dA am as_ av aw H.size th mn sm wd lp mp re SG VL wf 1 h_62) (cwV 1 hts (lw_V q1016 q1018 qs34 q66 q1019) rfl rfl rfl (by decide +kernel) ⟨Nat.le_of_ble_eq_true rfl, Nat.le_of_ble_eq_true rfl⟩) ⟨fun a U g mk q => by obtain ⟨q0, q1, qP, qK, qD⟩ := q; exact ⟨q0, q1, qP, va_K.moved (u := U) (U := U.calling g mk a) (Vm.Alike.refl U.vm) qK, qD⟩, va_recv hK hPc (ci := 0) (q0 := 0) rfl rfl, fun U hU hW => ⟨rfl, by rw [hU], by rw [hU]; exact hPc, va_K.moved hW.alike hK, hDc.weaken (fun _ _ _ _ => trivial)⟩⟩ rfl rfl hl.1 rfl (lv_room (Nat.le_of_ble_eq_true rfl)) dX8_meets_10 ⟨Nat.le_of_ble_eq_true rfl, Nat.le_of_ble_eq_true rfl⟩) hS (fun q _ h => hFc q h) hFc (fun r_10 u t H1 locs ht hvm hw hB hz1 hk1 hS => ?_)
    obtain ⟨z_10, th1_10⟩ := u
    obtain ⟨rfl, p0_10, p1_10⟩ : r_10 = I3 z_10 ∧ (z_10 = 0) ∧ (th1_10 = (1 : Int)) := hw
    obtain ⟨hP1, hK1, hD1⟩ := hB
    rw [ht] at hP1
    obtain ⟨hP, hD⟩ := va_join (wr := []) (w1 := [(am, .inr (0, [.int (I3 th1_10), .int (I3 mn), .ref as_, .ref av, .ref aw, .int (I3 sm), .int (I3 wd), .int (I3 lp), .int (I3 mp), .int (I3 re)])), (as_, .inl (dA 0, 60, .inl (iA SG))), (av, .inl (dA 1, 960, .inr (.inl (lA VL)))), (aw, .inl (dA 1, 1024, .inr (.inl (lA wf))))]) hP hD [0, 1, 2, 3] [] rfl rfl (by decide) (by decide) hk1 hFc hP1 hD1
    generalize H1 = H at hP hS ⊢
    have hP : va_P (dC, dI) vwCl [(am, .inr (0, [.int (I3 th1_10), .int (I3 mn), .ref as_, .ref av, .ref aw, .int (I3 sm), .int (I3 wd), .int (I3 lp), .int (I3 mp), .int (I3 re)])), (as_, .inl (dA 0, 60, .inl (iA SG))), (av, .inl (dA 1, 960, .inr (.inl (lA VL)))), (aw, .inl (dA 1, 1024, .inr (.inl (lA wf))))] H := hP
    have hD : va_D A [(am, .inr (0, [.int (I3 th1_10), .int (I3 mn), .ref as_, .ref av, .ref aw, .int (I3 sm), .int (I3 wd), .int (I3 lp), .int (I3 mp), .int (I3 re)])), (as_, .inl (dA 0, 60, .inl (iA SG))), (av, .inl (dA 1, 960, .inr (.inl (lA VL)))), (aw, .inl (dA 1, 1024, .inr (.inl (lA wf))))] := hD
    have o_63 : Dg wf := by first | assumption | omega | (constructor <;> omega)
    have o_64 : z_10 = if 0 ≤ a ∧ a < mn then meS SG VL a v else 0 := by rw [if_neg (by omega)]; exact p0_10
    have o_65 : th1_10 = if 0 ≤ a ∧ a < mn then 0 else 1 := by rw [if_neg (by omega)]; exact p1_10
    exact W.iret (v := I3 z_10) hx hb hr (fun t ht hW => ⟨⟨I3 z_10, (z_10, th1_10, wf), rfl, ⟨rfl, ⟨o_63, o_64, o_65⟩⟩, by rw [ht]; exact hP, va_K.moved hW.alike hK, hD⟩, hS.F ht⟩) hS.2.2 dX8_meets_13
abbrev BmetX8_form (dC : Nat → ClassId) (dI : Nat → Nat → Nat) (dA : Nat → ClassId) (A : Nat → Prop) (am : Nat) (as_ : Nat) (av : Nat) (aw : Nat) (th : Int) (mn : Int) (sm : Int) (wd : Int) (lp : Int) (mp : Int) (re : Int) (SG : Int → Int) (VL : Int → Int) (wf : Int → Int) (o : Int) : Int × Int × Int → State → Prop := fun u t => (fun (u : Int × Int × Int) => (fun (wd1 : Int) (lp1 : Int) (mp1 : Int) => va_P (dC, dI) vwCl [(am, .inr (0, [.int (I3 th), .int (I3 mn), .ref as_, .ref av, .ref aw, .int (I3 sm), .int (I3 wd1), .int (I3 lp1), .int (I3 mp1), .int (I3 re)])), (as_, .inl (dA 0, 60, .inl (iA SG))), (av, .inl (dA 1, 960, .inr (.inl (lA VL)))), (aw, .inl (dA 1, 1024, .inr (.inl (lA wf))))] t.heap ∧ va_K (dC, dI) vwCl (tyA dA) t ∧ va_D A [(am, .inr (0, [.int (I3 th), .int (I3 mn), .ref as_, .ref av, .ref aw, .int (I3 sm), .int (I3 wd1), .int (I3 lp1), .int (I3 mp1), .int (I3 re)])), (as_, .inl (dA 0, 60, .inl (iA SG))), (av, .inl (dA 1, 960, .inr (.inl (lA VL)))), (aw, .inl (dA 1, 1024, .inr (.inl (lA wf))))]) u.1 u.2.1 u.2.2) u
abbrev QmetX8_form (dC : Nat → ClassId) (dI : Nat → Nat → Nat) (dA : Nat → ClassId) (A : Nat → Prop) (am : Nat) (as_ : Nat) (av : Nat) (aw : Nat) (th : Int) (mn : Int) (sm : Int) (wd : Int) (lp : Int) (mp : Int) (re : Int) (SG : Int → Int) (VL : Int → Int) (wf : Int → Int) (o : Int) := va_Qv (fun (u : Int × Int × Int) => (fun (wd1 : Int) (lp1 : Int) (mp1 : Int) => ((o = 1 ∧ wd1 = 53 ∧ lp1 = -1074 ∧ mp1 = 971) ∨ (o = 0 ∧ wd1 = 24 ∧ lp1 = -149 ∧ mp1 = 104))) u.1 u.2.1 u.2.2) (BmetX8_form dC dI dA A am as_ av aw th mn sm wd lp mp re SG VL wf o) A
set_option maxHeartbeats 1000000 in
set_option maxRecDepth 100000 in
theorem metX8_form (l : Launch) (dC : Nat → ClassId) (dI : Nat → Nat → Nat) (dA : Nat → ClassId) (am : Nat) (as_ : Nat) (av : Nat) (aw : Nat) (sz : Nat) (th : Int) (mn : Int) (sm : Int) (wd : Int) (lp : Int) (mp : Int) (re : Int) (SG : Int → Int) (VL : Int → Int) (wf : Int → Int) (o : Int) (ho : o = 0 ∨ o = 1) : Met l yX8_form (ws_ yX8_form cX8_form 2 none) ({ frames := 1, cells := 0, slots := 0, locals := 40 }) (va_Pc [.ref am, .int (I3 o)] (fun U => U.heap.size = sz ∧ va_P (dC, dI) vwCl [(am, .inr (0, [.int (I3 th), .int (I3 mn), .ref as_, .ref av, .ref aw, .int (I3 sm), .int (I3 wd), .int (I3 lp), .int (I3 mp), .int (I3 re)])), (as_, .inl (dA 0, 60, .inl (iA SG))), (av, .inl (dA 1, 960, .inr (.inl (lA VL)))), (aw, .inl (dA 1, 1024, .inr (.inl (lA wf))))] U.heap ∧ va_K (dC, dI) vwCl (tyA dA) U ∧ va_D (fun _ => True) [(am, .inr (0, [.int (I3 th), .int (I3 mn), .ref as_, .ref av, .ref aw, .int (I3 sm), .int (I3 wd), .int (I3 lp), .int (I3 mp), .int (I3 re)])), (as_, .inl (dA 0, 60, .inl (iA SG))), (av, .inl (dA 1, 960, .inr (.inl (lA VL)))), (aw, .inl (dA 1, 1024, .inr (.inl (lA wf))))])) (QmetX8_form dC dI dA (va_A [(am, .inr (0, [.int (I3 th), .int (I3 mn), .ref as_, .ref av, .ref aw, .int (I3 sm), .int (I3 wd), .int (I3 lp), .int (I3 mp), .int (I3 re)])), (as_, .inl (dA 0, 60, .inl (iA SG))), (av, .inl (dA 1, 960, .inr (.inl (lA VL)))), (aw, .inl (dA 1, 1024, .inr (.inl (lA wf))))] sz) am as_ av aw th mn sm wd lp mp re SG VL wf o) 0 0 (va_A [(am, .inr (0, [.int (I3 th), .int (I3 mn), .ref as_, .ref av, .ref aw, .int (I3 sm), .int (I3 wd), .int (I3 lp), .int (I3 mp), .int (I3 re)])), (as_, .inl (dA 0, 60, .inl (iA SG))), (av, .inl (dA 1, 960, .inr (.inl (lA VL)))), (aw, .inl (dA 1, 1024, .inr (.inl (lA wf))))] sz) := by
  refine Met.ofW (cc := cX8_form) (maxL := 2) (ret := none) (by decide) rfl ?_
  intro p e s m args below meth c s₁ B hml hv
  obtain ⟨rfl, hsz, hP, hK, hD0⟩ := hv
  have hx := B.exec
  have hb := B.bytes
  have hr := B.returns
  have hts := atoms_spec (ws := (ws_ yX8_form cX8_form 2 none)) B.pre
  have hts : ∀ w ∈ lw_all, w.before _ s = true := fun w h => hts w (List.mem_cons_of_mem _ h)
  have hown : s.vm.findClass RX8 = some m.cls := findClass_of_methodNamed B.named
  have hlocks := B.notSynchronized
  subst hsz
  have hD := hD0.self (sz := s.heap.size)
  generalize hAe : va_A [(am, .inr (0, [.int (I3 th), .int (I3 mn), .ref as_, .ref av, .ref aw, .int (I3 sm), .int (I3 wd), .int (I3 lp), .int (I3 mp), .int (I3 re)])), (as_, .inl (dA 0, 60, .inl (iA SG))), (av, .inl (dA 1, 960, .inr (.inl (lA VL)))), (aw, .inl (dA 1, 1024, .inr (.inl (lA wf))))] s.heap.size = A at hD ⊢
  have hA : ∀ q : Nat, s.heap.size ≤ q → A q := fun q h => by rw [← hAe]; exact Or.inr h
  have hS : va_S A s.heap s.heap [] := va_S.rf
  have hP : va_P (dC, dI) vwCl [(am, .inr (0, [.int (I3 th), .int (I3 mn), .ref as_, .ref av, .ref aw, .int (I3 sm), .int (I3 wd), .int (I3 lp), .int (I3 mp), .int (I3 re)])), (as_, .inl (dA 0, 60, .inl (iA SG))), (av, .inl (dA 1, 960, .inr (.inl (lA VL)))), (aw, .inl (dA 1, 1024, .inr (.inl (lA wf))))] s.heap := hP
  have hl := lv_entry ([.ref am, .int (I3 o)]) (n := 2) (Nat.le_of_ble_eq_true rfl)
  rw [lg_entry_eq]
  generalize (lg_sl ([.ref am, .int (I3 o)]) ++ List.replicate (2 - (lg_sl ([.ref am, .int (I3 o)])).length) Slot.unset).toArray = ls at hl ⊢
  have hl : lv_has ls 2 [(0, .ref am), (1, .int (I3 o))] := hl
  refine lv_aload_n hx hb dX8_form_0 rfl (lv_at hl 0 rfl) ?_
  refine lv_iload_n hx hb dX8_form_1 rfl (lv_at hl 1 rfl) ?_
  refine ix_if_eq (tgt := 10) hx hb (by first | assumption | decide | (constructor <;> omega)) dX8_form_2 (by decide) (fun c_2 => ?_) (fun c_2 => ?_)
  · skip
    refine lv_bipush (v := I3 (24)) hx hb dX8_form_10 (by decide) ?_
    refine va_put (D := (dC, dI)) (ci := 0) (v := .int (I3 24)) (ty := .int) (C := RX8) (T := TX8) (N := 10) hx hb hts in_X8 tyX8 tyX8_ok nmX8 hown hK hP hD hS 0 rfl rfl 6 (by decide) (hts _ q919) (fun _ h9 => h9) rfl (by decide +kernel) rfl rfl (Nat.le_of_ble_eq_true rfl) dX8_form_12 (fun H locs hP hD hS => ?_)
    have hP : va_P (dC, dI) vwCl [(am, .inr (0, [.int (I3 th), .int (I3 mn), .ref as_, .ref av, .ref aw, .int (I3 sm), .int (I3 24), .int (I3 lp), .int (I3 mp), .int (I3 re)])), (as_, .inl (dA 0, 60, .inl (iA SG))), (av, .inl (dA 1, 960, .inr (.inl (lA VL)))), (aw, .inl (dA 1, 1024, .inr (.inl (lA wf))))] H := hP
    have hD : va_D A [(am, .inr (0, [.int (I3 th), .int (I3 mn), .ref as_, .ref av, .ref aw, .int (I3 sm), .int (I3 24), .int (I3 lp), .int (I3 mp), .int (I3 re)])), (as_, .inl (dA 0, 60, .inl (iA SG))), (av, .inl (dA 1, 960, .inr (.inl (lA VL)))), (aw, .inl (dA 1, 1024, .inr (.inl (lA wf))))] := hD
    refine lv_aload_n hx hb dX8_form_15 rfl (lv_at hl 0 rfl) ?_
    refine lv_iload_n hx hb dX8_form_16 rfl (lv_at hl 1 rfl) ?_
    refine ix_if_eq (tgt := 26) hx hb (by first | assumption | decide | (constructor <;> omega)) dX8_form_17 (by decide) (fun c_17 => ?_) (fun c_17 => ?_)
    · skip
      refine lv_sipush (v := I3 (-149)) hx hb dX8_form_26 (by decide) ?_
      refine va_put (D := (dC, dI)) (ci := 0) (v := .int (I3 (-149))) (ty := .int) (C := RX8) (T := TX8) (N := 10) hx hb hts in_X8 tyX8 tyX8_ok nmX8 hown hK hP hD hS 0 rfl rfl 7 (by decide) (hts _ q920) (fun _ h9 => h9) rfl (by decide +kernel) rfl rfl (Nat.le_of_ble_eq_true rfl) dX8_form_29 (fun H locs hP hD hS => ?_)
      have hP : va_P (dC, dI) vwCl [(am, .inr (0, [.int (I3 th), .int (I3 mn), .ref as_, .ref av, .ref aw, .int (I3 sm), .int (I3 24), .int (I3 (-149)), .int (I3 mp), .int (I3 re)])), (as_, .inl (dA 0, 60, .inl (iA SG))), (av, .inl (dA 1, 960, .inr (.inl (lA VL)))), (aw, .inl (dA 1, 1024, .inr (.inl (lA wf))))] H := hP
      have hD : va_D A [(am, .inr (0, [.int (I3 th), .int (I3 mn), .ref as_, .ref av, .ref aw, .int (I3 sm), .int (I3 24), .int (I3 (-149)), .int (I3 mp), .int (I3 re)])), (as_, .inl (dA 0, 60, .inl (iA SG))), (av, .inl (dA 1, 960, .inr (.inl (lA VL)))), (aw, .inl (dA 1, 1024, .inr (.inl (lA wf))))] := hD
      refine lv_aload_n hx hb dX8_form_32 rfl (lv_at hl 0 rfl) ?_
      refine lv_iload_n hx hb dX8_form_33 rfl (lv_at hl 1 rfl) ?_
      refine ix_if_eq (tgt := 43) hx hb (by first | assumption | decide | (constructor <;> omega)) dX8_form_34 (by decide) (fun c_34 => ?_) (fun c_34 => ?_)
      · skip
        refine lv_bipush (v := I3 (104)) hx hb dX8_form_43 (by decide) ?_
        refine va_put (D := (dC, dI)) (ci := 0) (v := .int (I3 104)) (ty := .int) (C := RX8) (T := TX8) (N := 10) hx hb hts in_X8 tyX8 tyX8_ok nmX8 hown hK hP hD hS 0 rfl rfl 8 (by decide) (hts _ q921) (fun _ h9 => h9) rfl (by decide +kernel) rfl rfl (Nat.le_of_ble_eq_true rfl) dX8_form_45 (fun H locs hP hD hS => ?_)
        have hP : va_P (dC, dI) vwCl [(am, .inr (0, [.int (I3 th), .int (I3 mn), .ref as_, .ref av, .ref aw, .int (I3 sm), .int (I3 24), .int (I3 (-149)), .int (I3 104), .int (I3 re)])), (as_, .inl (dA 0, 60, .inl (iA SG))), (av, .inl (dA 1, 960, .inr (.inl (lA VL)))), (aw, .inl (dA 1, 1024, .inr (.inl (lA wf))))] H := hP
        have hD : va_D A [(am, .inr (0, [.int (I3 th), .int (I3 mn), .ref as_, .ref av, .ref aw, .int (I3 sm), .int (I3 24), .int (I3 (-149)), .int (I3 104), .int (I3 re)])), (as_, .inl (dA 0, 60, .inl (iA SG))), (av, .inl (dA 1, 960, .inr (.inl (lA VL)))), (aw, .inl (dA 1, 1024, .inr (.inl (lA wf))))] := hD
        have o_1 : (o = 1 ∧ (24 : Int) = 53 ∧ (-149 : Int) = -1074 ∧ (104 : Int) = 971) ∨ (o = 0 ∧ (24 : Int) = 24 ∧ (-149 : Int) = -149 ∧ (104 : Int) = 104) := by first | assumption | omega | (constructor <;> omega)
        exact W.vret hx hb hr (fun t ht hW => ⟨⟨(24, (-149), 104), rfl, o_1, by rw [ht]; exact hP, va_K.moved hW.alike hK, hD⟩, hS.F ht⟩) hS.2.2 dX8_form_48
      · skip
        omega
    · skip
      omega
  · skip
    refine lv_bipush (v := I3 (53)) hx hb dX8_form_5 (by decide) ?_
    refine lv_goto (tgt := 12) hx hb dX8_form_7 (by decide) ?_
    refine va_put (D := (dC, dI)) (ci := 0) (v := .int (I3 53)) (ty := .int) (C := RX8) (T := TX8) (N := 10) hx hb hts in_X8 tyX8 tyX8_ok nmX8 hown hK hP hD hS 0 rfl rfl 6 (by decide) (hts _ q919) (fun _ h9 => h9) rfl (by decide +kernel) rfl rfl (Nat.le_of_ble_eq_true rfl) dX8_form_12 (fun H locs hP hD hS => ?_)
    have hP : va_P (dC, dI) vwCl [(am, .inr (0, [.int (I3 th), .int (I3 mn), .ref as_, .ref av, .ref aw, .int (I3 sm), .int (I3 53), .int (I3 lp), .int (I3 mp), .int (I3 re)])), (as_, .inl (dA 0, 60, .inl (iA SG))), (av, .inl (dA 1, 960, .inr (.inl (lA VL)))), (aw, .inl (dA 1, 1024, .inr (.inl (lA wf))))] H := hP
    have hD : va_D A [(am, .inr (0, [.int (I3 th), .int (I3 mn), .ref as_, .ref av, .ref aw, .int (I3 sm), .int (I3 53), .int (I3 lp), .int (I3 mp), .int (I3 re)])), (as_, .inl (dA 0, 60, .inl (iA SG))), (av, .inl (dA 1, 960, .inr (.inl (lA VL)))), (aw, .inl (dA 1, 1024, .inr (.inl (lA wf))))] := hD
    refine lv_aload_n hx hb dX8_form_15 rfl (lv_at hl 0 rfl) ?_
    refine lv_iload_n hx hb dX8_form_16 rfl (lv_at hl 1 rfl) ?_
    refine ix_if_eq (tgt := 26) hx hb (by first | assumption | decide | (constructor <;> omega)) dX8_form_17 (by decide) (fun c_17 => ?_) (fun c_17 => ?_)
    · skip
      omega
    · skip
      refine lv_sipush (v := I3 (-1074)) hx hb dX8_form_20 (by decide) ?_
      refine lv_goto (tgt := 29) hx hb dX8_form_23 (by decide) ?_
      refine va_put (D := (dC, dI)) (ci := 0) (v := .int (I3 (-1074))) (ty := .int) (C := RX8) (T := TX8) (N := 10) hx hb hts in_X8 tyX8 tyX8_ok nmX8 hown hK hP hD hS 0 rfl rfl 7 (by decide) (hts _ q920) (fun _ h9 => h9) rfl (by decide +kernel) rfl rfl (Nat.le_of_ble_eq_true rfl) dX8_form_29 (fun H locs hP hD hS => ?_)
      have hP : va_P (dC, dI) vwCl [(am, .inr (0, [.int (I3 th), .int (I3 mn), .ref as_, .ref av, .ref aw, .int (I3 sm), .int (I3 53), .int (I3 (-1074)), .int (I3 mp), .int (I3 re)])), (as_, .inl (dA 0, 60, .inl (iA SG))), (av, .inl (dA 1, 960, .inr (.inl (lA VL)))), (aw, .inl (dA 1, 1024, .inr (.inl (lA wf))))] H := hP
      have hD : va_D A [(am, .inr (0, [.int (I3 th), .int (I3 mn), .ref as_, .ref av, .ref aw, .int (I3 sm), .int (I3 53), .int (I3 (-1074)), .int (I3 mp), .int (I3 re)])), (as_, .inl (dA 0, 60, .inl (iA SG))), (av, .inl (dA 1, 960, .inr (.inl (lA VL)))), (aw, .inl (dA 1, 1024, .inr (.inl (lA wf))))] := hD
      refine lv_aload_n hx hb dX8_form_32 rfl (lv_at hl 0 rfl) ?_
      refine lv_iload_n hx hb dX8_form_33 rfl (lv_at hl 1 rfl) ?_
      refine ix_if_eq (tgt := 43) hx hb (by first | assumption | decide | (constructor <;> omega)) dX8_form_34 (by decide) (fun c_34 => ?_) (fun c_34 => ?_)
      · skip
        omega
      · skip
        refine lv_sipush (v := I3 (971)) hx hb dX8_form_37 (by decide) ?_
        refine lv_goto (tgt := 45) hx hb dX8_form_40 (by decide) ?_
        refine va_put (D := (dC, dI)) (ci := 0) (v := .int (I3 971)) (ty := .int) (C := RX8) (T := TX8) (N := 10) hx hb hts in_X8 tyX8 tyX8_ok nmX8 hown hK hP hD hS 0 rfl rfl 8 (by decide) (hts _ q921) (fun _ h9 => h9) rfl (by decide +kernel) rfl rfl (Nat.le_of_ble_eq_true rfl) dX8_form_45 (fun H locs hP hD hS => ?_)
        have hP : va_P (dC, dI) vwCl [(am, .inr (0, [.int (I3 th), .int (I3 mn), .ref as_, .ref av, .ref aw, .int (I3 sm), .int (I3 53), .int (I3 (-1074)), .int (I3 971), .int (I3 re)])), (as_, .inl (dA 0, 60, .inl (iA SG))), (av, .inl (dA 1, 960, .inr (.inl (lA VL)))), (aw, .inl (dA 1, 1024, .inr (.inl (lA wf))))] H := hP
        have hD : va_D A [(am, .inr (0, [.int (I3 th), .int (I3 mn), .ref as_, .ref av, .ref aw, .int (I3 sm), .int (I3 53), .int (I3 (-1074)), .int (I3 971), .int (I3 re)])), (as_, .inl (dA 0, 60, .inl (iA SG))), (av, .inl (dA 1, 960, .inr (.inl (lA VL)))), (aw, .inl (dA 1, 1024, .inr (.inl (lA wf))))] := hD
        have o_2 : (o = 1 ∧ (53 : Int) = 53 ∧ (-1074 : Int) = -1074 ∧ (971 : Int) = 971) ∨ (o = 0 ∧ (53 : Int) = 24 ∧ (-1074 : Int) = -149 ∧ (971 : Int) = 104) := by first | assumption | omega | (constructor <;> omega)
        exact W.vret hx hb hr (fun t ht hW => ⟨⟨(53, (-1074), 971), rfl, o_2, by rw [ht]; exact hP, va_K.moved hW.alike hK, hD⟩, hS.F ht⟩) hS.2.2 dX8_form_48
abbrev BmetX8_isDirection (dC : Nat → ClassId) (dI : Nat → Nat → Nat) (dA : Nat → ClassId) (A : Nat → Prop) (am : Nat) (as_ : Nat) (av : Nat) (aw : Nat) (th : Int) (mn : Int) (sm : Int) (wd : Int) (lp : Int) (mp : Int) (re : Int) (SG : Int → Int) (VL : Int → Int) (wf : Int → Int) (a : Int) (d : Int) : Int × Int → State → Prop := fun u t => (fun (u : Int × Int) => (fun (z : Int) (th1 : Int) => va_P (dC, dI) vwCl [(am, .inr (0, [.int (I3 th1), .int (I3 mn), .ref as_, .ref av, .ref aw, .int (I3 sm), .int (I3 wd), .int (I3 lp), .int (I3 mp), .int (I3 re)])), (as_, .inl (dA 0, 60, .inl (iA SG))), (av, .inl (dA 1, 960, .inr (.inl (lA VL)))), (aw, .inl (dA 1, 1024, .inr (.inl (lA wf))))] t.heap ∧ va_K (dC, dI) vwCl (tyA dA) t ∧ va_D A [(am, .inr (0, [.int (I3 th1), .int (I3 mn), .ref as_, .ref av, .ref aw, .int (I3 sm), .int (I3 wd), .int (I3 lp), .int (I3 mp), .int (I3 re)])), (as_, .inl (dA 0, 60, .inl (iA SG))), (av, .inl (dA 1, 960, .inr (.inl (lA VL)))), (aw, .inl (dA 1, 1024, .inr (.inl (lA wf))))]) u.1 u.2) u
abbrev QmetX8_isDirection (dC : Nat → ClassId) (dI : Nat → Nat → Nat) (dA : Nat → ClassId) (A : Nat → Prop) (am : Nat) (as_ : Nat) (av : Nat) (aw : Nat) (th : Int) (mn : Int) (sm : Int) (wd : Int) (lp : Int) (mp : Int) (re : Int) (SG : Int → Int) (VL : Int → Int) (wf : Int → Int) (a : Int) (d : Int) := va_Qi (fun (rt_ : Int32) => fun (u : Int × Int) => (fun (z : Int) (th1 : Int) => rt_ = I3 z ∧ (th1 = if 0 ≤ a ∧ a < mn then (if 0 ≤ d ∧ d ≤ 3 then 0 else 2) else 1) ∧ (z = if th1 = 0 then 1 else 0)) u.1 u.2) (BmetX8_isDirection dC dI dA A am as_ av aw th mn sm wd lp mp re SG VL wf a d) A
set_option maxHeartbeats 1000000 in
set_option maxRecDepth 100000 in
theorem metX8_isDirection (l : Launch) (dC : Nat → ClassId) (dI : Nat → Nat → Nat) (dA : Nat → ClassId) (am : Nat) (as_ : Nat) (av : Nat) (aw : Nat) (sz : Nat) (th : Int) (mn : Int) (sm : Int) (wd : Int) (lp : Int) (mp : Int) (re : Int) (SG : Int → Int) (VL : Int → Int) (wf : Int → Int) (a : Int) (d : Int) (ha : In3 a) (hd : In3 d) (hmn : 0 ≤ mn ∧ mn ≤ 60) : Met l yX8_isDirection (ws_ yX8_isDirection cX8_isDirection 3 (some .boolean)) ({ frames := 2, cells := 0, slots := 0, locals := 80 }) (va_Pc [.ref am, .int (I3 a), .int (I3 d)] (fun U => U.heap.size = sz ∧ va_P (dC, dI) vwCl [(am, .inr (0, [.int (I3 th), .int (I3 mn), .ref as_, .ref av, .ref aw, .int (I3 sm), .int (I3 wd), .int (I3 lp), .int (I3 mp), .int (I3 re)])), (as_, .inl (dA 0, 60, .inl (iA SG))), (av, .inl (dA 1, 960, .inr (.inl (lA VL)))), (aw, .inl (dA 1, 1024, .inr (.inl (lA wf))))] U.heap ∧ va_K (dC, dI) vwCl (tyA dA) U ∧ va_D (fun _ => True) [(am, .inr (0, [.int (I3 th), .int (I3 mn), .ref as_, .ref av, .ref aw, .int (I3 sm), .int (I3 wd), .int (I3 lp), .int (I3 mp), .int (I3 re)])), (as_, .inl (dA 0, 60, .inl (iA SG))), (av, .inl (dA 1, 960, .inr (.inl (lA VL)))), (aw, .inl (dA 1, 1024, .inr (.inl (lA wf))))])) (QmetX8_isDirection dC dI dA (va_A [(am, .inr (0, [.int (I3 th), .int (I3 mn), .ref as_, .ref av, .ref aw, .int (I3 sm), .int (I3 wd), .int (I3 lp), .int (I3 mp), .int (I3 re)])), (as_, .inl (dA 0, 60, .inl (iA SG))), (av, .inl (dA 1, 960, .inr (.inl (lA VL)))), (aw, .inl (dA 1, 1024, .inr (.inl (lA wf))))] sz) am as_ av aw th mn sm wd lp mp re SG VL wf a d) 0 0 (va_A [(am, .inr (0, [.int (I3 th), .int (I3 mn), .ref as_, .ref av, .ref aw, .int (I3 sm), .int (I3 wd), .int (I3 lp), .int (I3 mp), .int (I3 re)])), (as_, .inl (dA 0, 60, .inl (iA SG))), (av, .inl (dA 1, 960, .inr (.inl (lA VL)))), (aw, .inl (dA 1, 1024, .inr (.inl (lA wf))))] sz) := by
  refine Met.ofW (cc := cX8_isDirection) (maxL := 3) (ret := (some .boolean)) (by decide) rfl ?_
  intro p e s m args below meth c s₁ B hml hv
  obtain ⟨rfl, hsz, hP, hK, hD0⟩ := hv
  have hx := B.exec
  have hb := B.bytes
  have hr := B.returns
  have hts := atoms_spec (ws := (ws_ yX8_isDirection cX8_isDirection 3 (some .boolean))) B.pre
  have hts : ∀ w ∈ lw_all, w.before _ s = true := fun w h => hts w (List.mem_cons_of_mem _ h)
  have hown : s.vm.findClass RX8 = some m.cls := findClass_of_methodNamed B.named
  have hlocks := B.notSynchronized
  subst hsz
  have hD := hD0.self (sz := s.heap.size)
  generalize hAe : va_A [(am, .inr (0, [.int (I3 th), .int (I3 mn), .ref as_, .ref av, .ref aw, .int (I3 sm), .int (I3 wd), .int (I3 lp), .int (I3 mp), .int (I3 re)])), (as_, .inl (dA 0, 60, .inl (iA SG))), (av, .inl (dA 1, 960, .inr (.inl (lA VL)))), (aw, .inl (dA 1, 1024, .inr (.inl (lA wf))))] s.heap.size = A at hD ⊢
  have hA : ∀ q : Nat, s.heap.size ≤ q → A q := fun q h => by rw [← hAe]; exact Or.inr h
  have hS : va_S A s.heap s.heap [] := va_S.rf
  have hP : va_P (dC, dI) vwCl [(am, .inr (0, [.int (I3 th), .int (I3 mn), .ref as_, .ref av, .ref aw, .int (I3 sm), .int (I3 wd), .int (I3 lp), .int (I3 mp), .int (I3 re)])), (as_, .inl (dA 0, 60, .inl (iA SG))), (av, .inl (dA 1, 960, .inr (.inl (lA VL)))), (aw, .inl (dA 1, 1024, .inr (.inl (lA wf))))] s.heap := hP
  have hl := lv_entry ([.ref am, .int (I3 a), .int (I3 d)]) (n := 3) (Nat.le_of_ble_eq_true rfl)
  rw [lg_entry_eq]
  generalize (lg_sl ([.ref am, .int (I3 a), .int (I3 d)]) ++ List.replicate (3 - (lg_sl ([.ref am, .int (I3 a), .int (I3 d)])).length) Slot.unset).toArray = ls at hl ⊢
  have hl : lv_has ls 3 [(0, .ref am), (1, .int (I3 a)), (2, .int (I3 d))] := hl
  refine lv_aload_n hx hb dX8_isDirection_0 rfl (lv_at hl 0 rfl) ?_
  refine lv_aload_n hx hb dX8_isDirection_1 rfl (lv_at hl 0 rfl) ?_
  refine lv_iload_n hx hb dX8_isDirection_2 rfl (lv_at hl 1 rfl) ?_
  have h_1 : In3 a := by first | assumption | omega | (constructor <;> omega)
  have h_2 : In3 mn := by first | assumption | omega | (constructor <;> omega)
  have hPc := hP.sub (ws' := [(am, .inr (0, [.int (I3 th), .int (I3 mn), .ref as_, .ref av, .ref aw, .int (I3 sm), .int (I3 wd), .int (I3 lp), .int (I3 mp), .int (I3 re)])), (as_, .inl (dA 0, 60, .inl (iA SG))), (av, .inl (dA 1, 960, .inr (.inl (lA VL)))), (aw, .inl (dA 1, 1024, .inr (.inl (lA wf))))]) [0, 1, 2, 3] rfl
  have hDc := hD.sub (ws' := [(am, .inr (0, [.int (I3 th), .int (I3 mn), .ref as_, .ref av, .ref aw, .int (I3 sm), .int (I3 wd), .int (I3 lp), .int (I3 mp), .int (I3 re)])), (as_, .inl (dA 0, 60, .inl (iA SG))), (av, .inl (dA 1, 960, .inr (.inl (lA VL)))), (aw, .inl (dA 1, 1024, .inr (.inl (lA wf))))]) [0, 1, 2, 3] (by decide) rfl
  have hFc := va_free (wc := [(am, .inr (0, [.int (I3 th), .int (I3 mn), .ref as_, .ref av, .ref aw, .int (I3 sm), .int (I3 wd), .int (I3 lp), .int (I3 mp), .int (I3 re)])), (as_, .inl (dA 0, 60, .inl (iA SG))), (av, .inl (dA 1, 960, .inr (.inl (lA VL)))), (aw, .inl (dA 1, 1024, .inr (.inl (lA wf))))]) hD hS hA [0, 1, 2, 3] rfl
  refine va_calli (va_runV (As := [.int (I3 a)]) (rest := [.ref am]) ⟨hx, hb, hml, hown, hts⟩ (metX8_isNumber l dC dI dA am as_ av aw s.heap.size th mn sm wd lp mp re SG VL wf a h_1 h_2) (cwV 1 hts (lw_V q1050 q1052 qs35 q66 q1053) rfl rfl rfl (by decide +kernel) ⟨Nat.le_of_ble_eq_true rfl, Nat.le_of_ble_eq_true rfl⟩) ⟨fun a U g mk q => by obtain ⟨q0, q1, qP, qK, qD⟩ := q; exact ⟨q0, q1, qP, va_K.moved (u := U) (U := U.calling g mk a) (Vm.Alike.refl U.vm) qK, qD⟩, va_recv hK hPc (ci := 0) (q0 := 0) rfl rfl, fun U hU hW => ⟨rfl, by rw [hU], by rw [hU]; exact hPc, va_K.moved hW.alike hK, hDc.weaken (fun _ _ _ _ => trivial)⟩⟩ rfl rfl hl.1 rfl (lv_room (Nat.le_of_ble_eq_true rfl)) dX8_isDirection_3 ⟨Nat.le_of_ble_eq_true rfl, Nat.le_of_ble_eq_true rfl⟩) hS (fun q _ h => hFc q h) hFc (fun r_3 u t H1 locs ht hvm hw hB hz1 hk1 hS => ?_)
  obtain ⟨z_3, rfl⟩ : ∃ z, z = u := ⟨_, rfl⟩
  obtain ⟨rfl, p0_3⟩ : r_3 = I3 z_3 ∧ (z_3 = if 0 ≤ a ∧ a < mn then 1 else 0) := hw
  obtain ⟨hP1, hK1, hD1⟩ := hB
  rw [ht] at hP1
  obtain ⟨hP, hD⟩ := va_join (wr := []) (w1 := [(am, .inr (0, [.int (I3 th), .int (I3 mn), .ref as_, .ref av, .ref aw, .int (I3 sm), .int (I3 wd), .int (I3 lp), .int (I3 mp), .int (I3 re)])), (as_, .inl (dA 0, 60, .inl (iA SG))), (av, .inl (dA 1, 960, .inr (.inl (lA VL)))), (aw, .inl (dA 1, 1024, .inr (.inl (lA wf))))]) hP hD [0, 1, 2, 3] [] rfl rfl (by decide) (by decide) hk1 hFc hP1 hD1
  generalize H1 = H at hP hS ⊢
  have hP : va_P (dC, dI) vwCl [(am, .inr (0, [.int (I3 th), .int (I3 mn), .ref as_, .ref av, .ref aw, .int (I3 sm), .int (I3 wd), .int (I3 lp), .int (I3 mp), .int (I3 re)])), (as_, .inl (dA 0, 60, .inl (iA SG))), (av, .inl (dA 1, 960, .inr (.inl (lA VL)))), (aw, .inl (dA 1, 1024, .inr (.inl (lA wf))))] H := hP
  have hD : va_D A [(am, .inr (0, [.int (I3 th), .int (I3 mn), .ref as_, .ref av, .ref aw, .int (I3 sm), .int (I3 wd), .int (I3 lp), .int (I3 mp), .int (I3 re)])), (as_, .inl (dA 0, 60, .inl (iA SG))), (av, .inl (dA 1, 960, .inr (.inl (lA VL)))), (aw, .inl (dA 1, 1024, .inr (.inl (lA wf))))] := hD
  have y_3 := b01 p0_3
  refine ix_if_ne (tgt := 13) hx hb (by first | assumption | decide | (constructor <;> omega)) dX8_isDirection_6 (by decide) (fun c_6 => ?_) (fun c_6 => ?_)
  · skip
    refine lv_iload_n hx hb dX8_isDirection_13 rfl (lv_at hl 2 rfl) ?_
    refine ix_if_lt (tgt := 22) hx hb (by first | assumption | decide | (constructor <;> omega)) dX8_isDirection_14 (by decide) (fun c_14 => ?_) (fun c_14 => ?_)
    · skip
      refine lv_iconst (v := I3 (2)) hx hb dX8_isDirection_22 rfl ?_
      refine lv_goto (tgt := 27) hx hb dX8_isDirection_23 (by decide) ?_
      refine va_put (D := (dC, dI)) (ci := 0) (v := .int (I3 2)) (ty := .int) (C := RX8) (T := TX8) (N := 10) hx hb hts in_X8 tyX8 tyX8_ok nmX8 hown hK hP hD hS 0 rfl rfl 0 (by decide) (hts _ q913) (fun _ h9 => h9) rfl (by decide +kernel) rfl rfl (Nat.le_of_ble_eq_true rfl) dX8_isDirection_27 (fun H locs hP hD hS => ?_)
      have hP : va_P (dC, dI) vwCl [(am, .inr (0, [.int (I3 2), .int (I3 mn), .ref as_, .ref av, .ref aw, .int (I3 sm), .int (I3 wd), .int (I3 lp), .int (I3 mp), .int (I3 re)])), (as_, .inl (dA 0, 60, .inl (iA SG))), (av, .inl (dA 1, 960, .inr (.inl (lA VL)))), (aw, .inl (dA 1, 1024, .inr (.inl (lA wf))))] H := hP
      have hD : va_D A [(am, .inr (0, [.int (I3 2), .int (I3 mn), .ref as_, .ref av, .ref aw, .int (I3 sm), .int (I3 wd), .int (I3 lp), .int (I3 mp), .int (I3 re)])), (as_, .inl (dA 0, 60, .inl (iA SG))), (av, .inl (dA 1, 960, .inr (.inl (lA VL)))), (aw, .inl (dA 1, 1024, .inr (.inl (lA wf))))] := hD
      refine lv_aload_n hx hb dX8_isDirection_30 rfl (lv_at hl 0 rfl) ?_
      refine va_get (D := (dC, dI)) (ci := 0) (v := .int (I3 2)) (C := RX8) (T := TX8) (N := 10) hx hb hts in_X8 hown hK hP 0 rfl rfl 0 (by decide) (hts _ q913) (fun _ h9 => h9) rfl dX8_isDirection_31 ?_
      refine ix_if_ne (tgt := 41) hx hb (by first | assumption | decide | (constructor <;> omega)) dX8_isDirection_34 (by decide) (fun c_34 => ?_) (fun c_34 => ?_)
      · skip
        refine lv_iconst (v := I3 (0)) hx hb dX8_isDirection_41 rfl ?_
        have o_3 : (2 : Int) = if 0 ≤ a ∧ a < mn then (if 0 ≤ d ∧ d ≤ 3 then 0 else 2) else 1 := by first | (rw [if_pos (by omega), if_pos (by omega)]; done) | (rw [if_pos (by omega), if_neg (by omega)]; done) | (rw [if_neg (by omega)]; done)
        have o_4 : (0 : Int) = if (2 : Int) = 0 then 1 else 0 := by first | rfl | (exfalso; omega)
        exact W.zret (v := I3 0) hx hb hr rfl (fun t ht hW => ⟨⟨I3 0, (0, 2), rfl, ⟨rfl, ⟨o_3, o_4⟩⟩, by rw [ht]; exact hP, va_K.moved hW.alike hK, hD⟩, hS.F ht⟩) hS.2.2 dX8_isDirection_42
      · skip
        omega
    · skip
      refine lv_iload_n hx hb dX8_isDirection_17 rfl (lv_at hl 2 rfl) ?_
      refine lv_iconst (v := I3 (3)) hx hb dX8_isDirection_18 rfl ?_
      refine ix_icmp_le (tgt := 26) hx hb (by first | assumption | decide | (constructor <;> omega)) (by first | assumption | decide | (constructor <;> omega)) dX8_isDirection_19 (by decide) (fun c_19 => ?_) (fun c_19 => ?_)
      · skip
        refine lv_iconst (v := I3 (0)) hx hb dX8_isDirection_26 rfl ?_
        refine va_put (D := (dC, dI)) (ci := 0) (v := .int (I3 0)) (ty := .int) (C := RX8) (T := TX8) (N := 10) hx hb hts in_X8 tyX8 tyX8_ok nmX8 hown hK hP hD hS 0 rfl rfl 0 (by decide) (hts _ q913) (fun _ h9 => h9) rfl (by decide +kernel) rfl rfl (Nat.le_of_ble_eq_true rfl) dX8_isDirection_27 (fun H locs hP hD hS => ?_)
        have hP : va_P (dC, dI) vwCl [(am, .inr (0, [.int (I3 0), .int (I3 mn), .ref as_, .ref av, .ref aw, .int (I3 sm), .int (I3 wd), .int (I3 lp), .int (I3 mp), .int (I3 re)])), (as_, .inl (dA 0, 60, .inl (iA SG))), (av, .inl (dA 1, 960, .inr (.inl (lA VL)))), (aw, .inl (dA 1, 1024, .inr (.inl (lA wf))))] H := hP
        have hD : va_D A [(am, .inr (0, [.int (I3 0), .int (I3 mn), .ref as_, .ref av, .ref aw, .int (I3 sm), .int (I3 wd), .int (I3 lp), .int (I3 mp), .int (I3 re)])), (as_, .inl (dA 0, 60, .inl (iA SG))), (av, .inl (dA 1, 960, .inr (.inl (lA VL)))), (aw, .inl (dA 1, 1024, .inr (.inl (lA wf))))] := hD
        refine lv_aload_n hx hb dX8_isDirection_30 rfl (lv_at hl 0 rfl) ?_
        refine va_get (D := (dC, dI)) (ci := 0) (v := .int (I3 0)) (C := RX8) (T := TX8) (N := 10) hx hb hts in_X8 hown hK hP 0 rfl rfl 0 (by decide) (hts _ q913) (fun _ h9 => h9) rfl dX8_isDirection_31 ?_
        refine ix_if_ne (tgt := 41) hx hb (by first | assumption | decide | (constructor <;> omega)) dX8_isDirection_34 (by decide) (fun c_34 => ?_) (fun c_34 => ?_)
        · skip
          omega
        · skip
          refine lv_iconst (v := I3 (1)) hx hb dX8_isDirection_37 rfl ?_
          refine lv_goto (tgt := 42) hx hb dX8_isDirection_38 (by decide) ?_
          have o_5 : (0 : Int) = if 0 ≤ a ∧ a < mn then (if 0 ≤ d ∧ d ≤ 3 then 0 else 2) else 1 := by first | (rw [if_pos (by omega), if_pos (by omega)]; done) | (rw [if_pos (by omega), if_neg (by omega)]; done) | (rw [if_neg (by omega)]; done)
          have o_6 : (1 : Int) = if (0 : Int) = 0 then 1 else 0 := by first | rfl | (exfalso; omega)
          exact W.zret (v := I3 1) hx hb hr rfl (fun t ht hW => ⟨⟨I3 1, (1, 0), rfl, ⟨rfl, ⟨o_5, o_6⟩⟩, by rw [ht]; exact hP, va_K.moved hW.alike hK, hD⟩, hS.F ht⟩) hS.2.2 dX8_isDirection_42
      · skip
        refine lv_iconst (v := I3 (2)) hx hb dX8_isDirection_22 rfl ?_
        refine lv_goto (tgt := 27) hx hb dX8_isDirection_23 (by decide) ?_
        refine va_put (D := (dC, dI)) (ci := 0) (v := .int (I3 2)) (ty := .int) (C := RX8) (T := TX8) (N := 10) hx hb hts in_X8 tyX8 tyX8_ok nmX8 hown hK hP hD hS 0 rfl rfl 0 (by decide) (hts _ q913) (fun _ h9 => h9) rfl (by decide +kernel) rfl rfl (Nat.le_of_ble_eq_true rfl) dX8_isDirection_27 (fun H locs hP hD hS => ?_)
        have hP : va_P (dC, dI) vwCl [(am, .inr (0, [.int (I3 2), .int (I3 mn), .ref as_, .ref av, .ref aw, .int (I3 sm), .int (I3 wd), .int (I3 lp), .int (I3 mp), .int (I3 re)])), (as_, .inl (dA 0, 60, .inl (iA SG))), (av, .inl (dA 1, 960, .inr (.inl (lA VL)))), (aw, .inl (dA 1, 1024, .inr (.inl (lA wf))))] H := hP
        have hD : va_D A [(am, .inr (0, [.int (I3 2), .int (I3 mn), .ref as_, .ref av, .ref aw, .int (I3 sm), .int (I3 wd), .int (I3 lp), .int (I3 mp), .int (I3 re)])), (as_, .inl (dA 0, 60, .inl (iA SG))), (av, .inl (dA 1, 960, .inr (.inl (lA VL)))), (aw, .inl (dA 1, 1024, .inr (.inl (lA wf))))] := hD
        refine lv_aload_n hx hb dX8_isDirection_30 rfl (lv_at hl 0 rfl) ?_
        refine va_get (D := (dC, dI)) (ci := 0) (v := .int (I3 2)) (C := RX8) (T := TX8) (N := 10) hx hb hts in_X8 hown hK hP 0 rfl rfl 0 (by decide) (hts _ q913) (fun _ h9 => h9) rfl dX8_isDirection_31 ?_
        refine ix_if_ne (tgt := 41) hx hb (by first | assumption | decide | (constructor <;> omega)) dX8_isDirection_34 (by decide) (fun c_34 => ?_) (fun c_34 => ?_)
        · skip
          refine lv_iconst (v := I3 (0)) hx hb dX8_isDirection_41 rfl ?_
          have o_7 : (2 : Int) = if 0 ≤ a ∧ a < mn then (if 0 ≤ d ∧ d ≤ 3 then 0 else 2) else 1 := by first | (rw [if_pos (by omega), if_pos (by omega)]; done) | (rw [if_pos (by omega), if_neg (by omega)]; done) | (rw [if_neg (by omega)]; done)
          have o_8 : (0 : Int) = if (2 : Int) = 0 then 1 else 0 := by first | rfl | (exfalso; omega)
          exact W.zret (v := I3 0) hx hb hr rfl (fun t ht hW => ⟨⟨I3 0, (0, 2), rfl, ⟨rfl, ⟨o_7, o_8⟩⟩, by rw [ht]; exact hP, va_K.moved hW.alike hK, hD⟩, hS.F ht⟩) hS.2.2 dX8_isDirection_42
        · skip
          omega
  · skip
    refine lv_iconst (v := I3 (1)) hx hb dX8_isDirection_9 rfl ?_
    refine lv_goto (tgt := 27) hx hb dX8_isDirection_10 (by decide) ?_
    refine va_put (D := (dC, dI)) (ci := 0) (v := .int (I3 1)) (ty := .int) (C := RX8) (T := TX8) (N := 10) hx hb hts in_X8 tyX8 tyX8_ok nmX8 hown hK hP hD hS 0 rfl rfl 0 (by decide) (hts _ q913) (fun _ h9 => h9) rfl (by decide +kernel) rfl rfl (Nat.le_of_ble_eq_true rfl) dX8_isDirection_27 (fun H locs hP hD hS => ?_)
    have hP : va_P (dC, dI) vwCl [(am, .inr (0, [.int (I3 1), .int (I3 mn), .ref as_, .ref av, .ref aw, .int (I3 sm), .int (I3 wd), .int (I3 lp), .int (I3 mp), .int (I3 re)])), (as_, .inl (dA 0, 60, .inl (iA SG))), (av, .inl (dA 1, 960, .inr (.inl (lA VL)))), (aw, .inl (dA 1, 1024, .inr (.inl (lA wf))))] H := hP
    have hD : va_D A [(am, .inr (0, [.int (I3 1), .int (I3 mn), .ref as_, .ref av, .ref aw, .int (I3 sm), .int (I3 wd), .int (I3 lp), .int (I3 mp), .int (I3 re)])), (as_, .inl (dA 0, 60, .inl (iA SG))), (av, .inl (dA 1, 960, .inr (.inl (lA VL)))), (aw, .inl (dA 1, 1024, .inr (.inl (lA wf))))] := hD
    refine lv_aload_n hx hb dX8_isDirection_30 rfl (lv_at hl 0 rfl) ?_
    refine va_get (D := (dC, dI)) (ci := 0) (v := .int (I3 1)) (C := RX8) (T := TX8) (N := 10) hx hb hts in_X8 hown hK hP 0 rfl rfl 0 (by decide) (hts _ q913) (fun _ h9 => h9) rfl dX8_isDirection_31 ?_
    refine ix_if_ne (tgt := 41) hx hb (by first | assumption | decide | (constructor <;> omega)) dX8_isDirection_34 (by decide) (fun c_34 => ?_) (fun c_34 => ?_)
    · skip
      refine lv_iconst (v := I3 (0)) hx hb dX8_isDirection_41 rfl ?_
      have o_9 : (1 : Int) = if 0 ≤ a ∧ a < mn then (if 0 ≤ d ∧ d ≤ 3 then 0 else 2) else 1 := by first | (rw [if_pos (by omega), if_pos (by omega)]; done) | (rw [if_pos (by omega), if_neg (by omega)]; done) | (rw [if_neg (by omega)]; done)
      have o_10 : (0 : Int) = if (1 : Int) = 0 then 1 else 0 := by first | rfl | (exfalso; omega)
      exact W.zret (v := I3 0) hx hb hr rfl (fun t ht hW => ⟨⟨I3 0, (0, 1), rfl, ⟨rfl, ⟨o_9, o_10⟩⟩, by rw [ht]; exact hP, va_K.moved hW.alike hK, hD⟩, hS.F ht⟩) hS.2.2 dX8_isDirection_42
    · skip
      omega
abbrev BmetX8_encode (dC : Nat → ClassId) (dI : Nat → Nat → Nat) (dA : Nat → ClassId) (A : Nat → Prop) (am : Nat) (as_ : Nat) (av : Nat) (aw : Nat) (th : Int) (mn : Int) (sm : Int) (wd : Int) (lp : Int) (mp : Int) (re : Int) (SG : Int → Int) (VL : Int → Int) (wf : Int → Int) (m0 : Int) (b0 : Int) (ti : Int) : Int → State → Prop := fun u t => (fun (u : Int) => (fun (z : Int) => va_P (dC, dI) vwCl [(am, .inr (0, [.int (I3 th), .int (I3 mn), .ref as_, .ref av, .ref aw, .int (I3 sm), .int (I3 wd), .int (I3 lp), .int (I3 mp), .int (I3 re)])), (as_, .inl (dA 0, 60, .inl (iA SG))), (av, .inl (dA 1, 960, .inr (.inl (lA VL)))), (aw, .inl (dA 1, 1024, .inr (.inl (lA wf))))] t.heap ∧ va_K (dC, dI) vwCl (tyA dA) t ∧ va_D A [(am, .inr (0, [.int (I3 th), .int (I3 mn), .ref as_, .ref av, .ref aw, .int (I3 sm), .int (I3 wd), .int (I3 lp), .int (I3 mp), .int (I3 re)])), (as_, .inl (dA 0, 60, .inl (iA SG))), (av, .inl (dA 1, 960, .inr (.inl (lA VL)))), (aw, .inl (dA 1, 1024, .inr (.inl (lA wf))))]) u) u
abbrev QmetX8_encode (dC : Nat → ClassId) (dI : Nat → Nat → Nat) (dA : Nat → ClassId) (A : Nat → Prop) (am : Nat) (as_ : Nat) (av : Nat) (aw : Nat) (th : Int) (mn : Int) (sm : Int) (wd : Int) (lp : Int) (mp : Int) (re : Int) (SG : Int → Int) (VL : Int → Int) (wf : Int → Int) (m0 : Int) (b0 : Int) (ti : Int) := va_Ql (fun (rt_ : Int64) => fun (u : Int) => (fun (z : Int) => rt_ = L6 z ∧ (z = encS (2 ^ (wd - 1).toNat) lp mp m0 b0 ti)) u) (BmetX8_encode dC dI dA A am as_ av aw th mn sm wd lp mp re SG VL wf m0 b0 ti) A
set_option maxHeartbeats 1000000 in
set_option maxRecDepth 100000 in
/-- encode -/
theorem metX8_encode (l : Launch) (dC : Nat → ClassId) (dI : Nat → Nat → Nat) (dA : Nat → ClassId) (am : Nat) (as_ : Nat) (av : Nat) (aw : Nat) (sz : Nat) (th : Int) (mn : Int) (sm : Int) (wd : Int) (lp : Int) (mp : Int) (re : Int) (SG : Int → Int) (VL : Int → Int) (wf : Int → Int) (m0 : Int) (b0 : Int) (ti : Int) (hFM : FM wd lp mp) (hm : 0 ≤ m0 ∧ m0 ≤ 2 ^ wd.toNat) (hb0 : lp ≤ b0 ∧ b0 ≤ 100000) (hti : ti = 0 ∨ ti = 1) : Met l yX8_encode (ws_ yX8_encode cX8_encode 12 (some .long)) ({ frames := 1, cells := 0, slots := 0, locals := 40 }) (va_Pc [.ref am, .long (L6 m0), .int (I3 b0), .int (I3 ti)] (fun U => U.heap.size = sz ∧ va_P (dC, dI) vwCl [(am, .inr (0, [.int (I3 th), .int (I3 mn), .ref as_, .ref av, .ref aw, .int (I3 sm), .int (I3 wd), .int (I3 lp), .int (I3 mp), .int (I3 re)])), (as_, .inl (dA 0, 60, .inl (iA SG))), (av, .inl (dA 1, 960, .inr (.inl (lA VL)))), (aw, .inl (dA 1, 1024, .inr (.inl (lA wf))))] U.heap ∧ va_K (dC, dI) vwCl (tyA dA) U ∧ va_D (fun _ => True) [(am, .inr (0, [.int (I3 th), .int (I3 mn), .ref as_, .ref av, .ref aw, .int (I3 sm), .int (I3 wd), .int (I3 lp), .int (I3 mp), .int (I3 re)])), (as_, .inl (dA 0, 60, .inl (iA SG))), (av, .inl (dA 1, 960, .inr (.inl (lA VL)))), (aw, .inl (dA 1, 1024, .inr (.inl (lA wf))))])) (QmetX8_encode dC dI dA (va_A [(am, .inr (0, [.int (I3 th), .int (I3 mn), .ref as_, .ref av, .ref aw, .int (I3 sm), .int (I3 wd), .int (I3 lp), .int (I3 mp), .int (I3 re)])), (as_, .inl (dA 0, 60, .inl (iA SG))), (av, .inl (dA 1, 960, .inr (.inl (lA VL)))), (aw, .inl (dA 1, 1024, .inr (.inl (lA wf))))] sz) am as_ av aw th mn sm wd lp mp re SG VL wf m0 b0 ti) 0 0 (va_A [(am, .inr (0, [.int (I3 th), .int (I3 mn), .ref as_, .ref av, .ref aw, .int (I3 sm), .int (I3 wd), .int (I3 lp), .int (I3 mp), .int (I3 re)])), (as_, .inl (dA 0, 60, .inl (iA SG))), (av, .inl (dA 1, 960, .inr (.inl (lA VL)))), (aw, .inl (dA 1, 1024, .inr (.inl (lA wf))))] sz) := by
  refine Met.ofW (cc := cX8_encode) (maxL := 12) (ret := (some .long)) (by decide) rfl ?_
  intro p e s m args below meth c s₁ B hml hv
  obtain ⟨rfl, hsz, hP, hK, hD0⟩ := hv
  have hx := B.exec
  have hb := B.bytes
  have hr := B.returns
  have hts := atoms_spec (ws := (ws_ yX8_encode cX8_encode 12 (some .long))) B.pre
  have hts : ∀ w ∈ lw_all, w.before _ s = true := fun w h => hts w (List.mem_cons_of_mem _ h)
  have hown : s.vm.findClass RX8 = some m.cls := findClass_of_methodNamed B.named
  have hlocks := B.notSynchronized
  subst hsz
  have hD := hD0.self (sz := s.heap.size)
  generalize hAe : va_A [(am, .inr (0, [.int (I3 th), .int (I3 mn), .ref as_, .ref av, .ref aw, .int (I3 sm), .int (I3 wd), .int (I3 lp), .int (I3 mp), .int (I3 re)])), (as_, .inl (dA 0, 60, .inl (iA SG))), (av, .inl (dA 1, 960, .inr (.inl (lA VL)))), (aw, .inl (dA 1, 1024, .inr (.inl (lA wf))))] s.heap.size = A at hD ⊢
  have hA : ∀ q : Nat, s.heap.size ≤ q → A q := fun q h => by rw [← hAe]; exact Or.inr h
  have hS : va_S A s.heap s.heap [] := va_S.rf
  have hP : va_P (dC, dI) vwCl [(am, .inr (0, [.int (I3 th), .int (I3 mn), .ref as_, .ref av, .ref aw, .int (I3 sm), .int (I3 wd), .int (I3 lp), .int (I3 mp), .int (I3 re)])), (as_, .inl (dA 0, 60, .inl (iA SG))), (av, .inl (dA 1, 960, .inr (.inl (lA VL)))), (aw, .inl (dA 1, 1024, .inr (.inl (lA wf))))] s.heap := hP
  have hl := lv_entry ([.ref am, .long (L6 m0), .int (I3 b0), .int (I3 ti)]) (n := 12) (Nat.le_of_ble_eq_true rfl)
  rw [lg_entry_eq]
  generalize (lg_sl ([.ref am, .long (L6 m0), .int (I3 b0), .int (I3 ti)]) ++ List.replicate (12 - (lg_sl ([.ref am, .long (L6 m0), .int (I3 b0), .int (I3 ti)])).length) Slot.unset).toArray = ls at hl ⊢
  have hl : lv_has ls 12 [(0, .ref am), (1, .long (L6 m0)), (3, .int (I3 b0)), (4, .int (I3 ti))] := hl
  have cut_27 : ∀ (m1 : Int) (b1 : Int), (0 ≤ m1 ∧ m1 < 2 * 2 ^ (wd - 1).toNat) → (lp ≤ b1 ∧ b1 ≤ 100001) → (encS (2 ^ (wd - 1).toNat) lp mp m0 b0 ti = encT (2 ^ (wd - 1).toNat) lp mp m1 b1 ti) → ∀ (H : Heap) (locs : List Loc), va_P (dC, dI) vwCl [(am, .inr (0, [.int (I3 th), .int (I3 mn), .ref as_, .ref av, .ref aw, .int (I3 sm), .int (I3 wd), .int (I3 lp), .int (I3 mp), .int (I3 re)])), (as_, .inl (dA 0, 60, .inl (iA SG))), (av, .inl (dA 1, 960, .inr (.inl (lA VL)))), (aw, .inl (dA 1, 1024, .inr (.inl (lA wf))))] H → va_D A [(am, .inr (0, [.int (I3 th), .int (I3 mn), .ref as_, .ref av, .ref aw, .int (I3 sm), .int (I3 wd), .int (I3 lp), .int (I3 mp), .int (I3 re)])), (as_, .inl (dA 0, 60, .inl (iA SG))), (av, .inl (dA 1, 960, .inr (.inl (lA VL)))), (aw, .inl (dA 1, 1024, .inr (.inl (lA wf))))] → va_S A s.heap H locs → ∀ (ls : Array Slot), lv_has ls 12 [(0, .ref am), (1, .long (L6 m0)), (3, .int (I3 b0)), (4, .int (I3 ti)), (5, .long (L6 m1)), (7, .int (I3 b1))] → W p l e (headSpec (ws_ yX8_encode cX8_encode 12 (some .long)) ({ frames := 1, cells := 0, slots := 0, locals := 40 })).room s m ([.ref am, .long (L6 m0), .int (I3 b0), .int (I3 ti)] : List Value).toArray below meth c H locs 0 0 (MQ below (QmetX8_encode dC dI dA A am as_ av aw th mn sm wd lp mp re SG VL wf m0 b0 ti) ([.ref am, .long (L6 m0), .int (I3 b0), .int (I3 ti)] : List Value).toArray s 0 0 A) (F0 m 27 ls []) := by
    intro m1 b1 hm1 hb1 he H locs hP hD hS ls hl
    obtain ⟨hT2, hT⟩ := FM_T hFM
    have hTp := ppos (wd - 1).toNat
    refine lv_lconst (v := L6 1) hx hb dX8_encode_27 (by decide) ?_
    refine lv_aload_n hx hb dX8_encode_28 rfl (lv_at hl 0 rfl) ?_
    refine va_get (D := (dC, dI)) (ci := 0) (v := .int (I3 wd)) (C := RX8) (T := TX8) (N := 10) hx hb hts in_X8 hown hK hP 0 rfl rfl 6 (by decide) (hts _ q919) (fun _ h9 => h9) rfl dX8_encode_29 ?_
    refine lv_iconst (v := I3 (1)) hx hb dX8_encode_32 rfl ?_
    refine ix_isub hx hb dX8_encode_33 ?_
    refine ix_lshl hx hb (by first | decide | omega) dX8_encode_34 ?_
    refine ix_tl (y := 2 ^ (wd - 1).toNat) (by exact Int.one_mul _) ?_
    refine lv_lstore (lv' := [(8, .long (L6 (2 ^ (wd - 1).toNat))), (0, .ref am), (1, .long (L6 m0)), (3, .int (I3 b0)), (4, .int (I3 ti)), (5, .long (L6 m1)), (7, .int (I3 b1))]) hx hb dX8_encode_35 hl (by decide) rfl (fun ls hl => ?_)
    refine lv_aload_n hx hb dX8_encode_37 rfl (lv_at hl 1 rfl) ?_
    refine va_get (D := (dC, dI)) (ci := 0) (v := .int (I3 mp)) (C := RX8) (T := TX8) (N := 10) hx hb hts in_X8 hown hK hP 0 rfl rfl 8 (by decide) (hts _ q921) (fun _ h9 => h9) rfl dX8_encode_38 ?_
    refine lv_aload_n hx hb dX8_encode_41 rfl (lv_at hl 1 rfl) ?_
    refine va_get (D := (dC, dI)) (ci := 0) (v := .int (I3 lp)) (C := RX8) (T := TX8) (N := 10) hx hb hts in_X8 hown hK hP 0 rfl rfl 7 (by decide) (hts _ q920) (fun _ h9 => h9) rfl dX8_encode_42 ?_
    refine ix_isub hx hb dX8_encode_45 ?_
    refine lv_iconst (v := I3 (2)) hx hb dX8_encode_46 rfl ?_
    refine ix_iadd hx hb dX8_encode_47 ?_
    refine ix_i2l hx hb (by first | assumption | decide | (constructor <;> omega)) dX8_encode_48 ?_
    refine lv_aload_n hx hb dX8_encode_49 rfl (lv_at hl 1 rfl) ?_
    refine va_get (D := (dC, dI)) (ci := 0) (v := .int (I3 wd)) (C := RX8) (T := TX8) (N := 10) hx hb hts in_X8 hown hK hP 0 rfl rfl 6 (by decide) (hts _ q919) (fun _ h9 => h9) rfl dX8_encode_50 ?_
    refine lv_iconst (v := I3 (1)) hx hb dX8_encode_53 rfl ?_
    refine ix_isub hx hb dX8_encode_54 ?_
    refine ix_lshl hx hb (by first | decide | omega) dX8_encode_55 ?_
    refine lv_lstore (lv' := [(10, .long (L6 (((mp - lp) + 2) * 2 ^ (wd - 1 : Int).toNat))), (8, .long (L6 (2 ^ (wd - 1).toNat))), (0, .ref am), (1, .long (L6 m0)), (3, .int (I3 b0)), (4, .int (I3 ti)), (5, .long (L6 m1)), (7, .int (I3 b1))]) hx hb dX8_encode_56 hl (by decide) rfl (fun ls hl => ?_)
    have hin := FM_in (q := if mp < b1 then mp else b1) hT (by split <;> omega)
    refine lv_iload hx hb dX8_encode_58 (lv_at hl 7 rfl) ?_
    refine lv_aload_n hx hb dX8_encode_60 rfl (lv_at hl 2 rfl) ?_
    refine va_get (D := (dC, dI)) (ci := 0) (v := .int (I3 mp)) (C := RX8) (T := TX8) (N := 10) hx hb hts in_X8 hown hK hP 0 rfl rfl 8 (by decide) (hts _ q921) (fun _ h9 => h9) rfl dX8_encode_61 ?_
    refine ix_icmp_le (tgt := 82) hx hb (by first | assumption | decide | (constructor <;> omega)) (by first | assumption | decide | (constructor <;> omega)) dX8_encode_64 (by decide) (fun c_64 => ?_) (fun c_64 => ?_)
    · skip
      refine lv_lload hx hb dX8_encode_82 (lv_at hl 6 rfl) ?_
      refine lv_lload hx hb dX8_encode_84 (lv_at hl 1 rfl) ?_
      refine ix_lcmp_ge (tgt := 95) hx hb (by first | assumption | decide | (constructor <;> omega)) (by first | assumption | decide | (constructor <;> omega)) dX8_encode_86 dX8_encode_87 (by decide) (fun c_86 => ?_) (fun c_86 => ?_)
      · skip
        refine lv_iload hx hb dX8_encode_95 (lv_at hl 7 rfl) ?_
        refine lv_aload_n hx hb dX8_encode_97 rfl (lv_at hl 2 rfl) ?_
        refine va_get (D := (dC, dI)) (ci := 0) (v := .int (I3 lp)) (C := RX8) (T := TX8) (N := 10) hx hb hts in_X8 hown hK hP 0 rfl rfl 7 (by decide) (hts _ q920) (fun _ h9 => h9) rfl dX8_encode_98 ?_
        refine ix_isub hx hb dX8_encode_101 ?_
        refine lv_iconst (v := I3 (1)) hx hb dX8_encode_102 rfl ?_
        refine ix_iadd hx hb dX8_encode_103 ?_
        refine ix_i2l hx hb (by first | assumption | decide | (constructor <;> omega)) dX8_encode_104 ?_
        refine lv_aload_n hx hb dX8_encode_105 rfl (lv_at hl 2 rfl) ?_
        refine va_get (D := (dC, dI)) (ci := 0) (v := .int (I3 wd)) (C := RX8) (T := TX8) (N := 10) hx hb hts in_X8 hown hK hP 0 rfl rfl 6 (by decide) (hts _ q919) (fun _ h9 => h9) rfl dX8_encode_106 ?_
        refine lv_iconst (v := I3 (1)) hx hb dX8_encode_109 rfl ?_
        refine ix_isub hx hb dX8_encode_110 ?_
        refine ix_lshl hx hb (by first | decide | omega) dX8_encode_111 ?_
        refine lv_lload hx hb dX8_encode_112 (lv_at hl 6 rfl) ?_
        refine lv_lload hx hb dX8_encode_114 (lv_at hl 1 rfl) ?_
        refine ix_lsub hx hb dX8_encode_116 ?_
        refine ix_lor hx hb dX8_encode_117 ?_
        refine ix_tl (y := (b1 - lp + 1) * 2 ^ (wd - 1).toNat + (m1 - 2 ^ (wd - 1).toNat)) (by exact zor6_add' (by omega) (by omega) (by rw [if_neg (by omega)] at hin; omega)) ?_
        have o_1 : ((b1 - lp + 1) * 2 ^ (wd - 1).toNat + (m1 - 2 ^ (wd - 1).toNat)) = encS (2 ^ (wd - 1).toNat) lp mp m0 b0 ti := by rw [he]; unfold encT; rw [if_neg (by omega)]; first | (rw [if_pos (by omega)]; done) | (rw [if_neg (by omega)]; done)
        exact W.lret (v := L6 ((b1 - lp + 1) * 2 ^ (wd - 1).toNat + (m1 - 2 ^ (wd - 1).toNat))) hx hb hr (fun t ht hW => ⟨⟨L6 ((b1 - lp + 1) * 2 ^ (wd - 1).toNat + (m1 - 2 ^ (wd - 1).toNat)), ((b1 - lp + 1) * 2 ^ (wd - 1).toNat + (m1 - 2 ^ (wd - 1).toNat)), rfl, ⟨rfl, o_1⟩, by rw [ht]; exact hP, va_K.moved hW.alike hK, hD⟩, hS.F ht⟩) hS.2.2 dX8_encode_118
      · skip
        refine lv_lload hx hb dX8_encode_90 (lv_at hl 6 rfl) ?_
        refine lv_goto (tgt := 118) hx hb dX8_encode_92 (by decide) ?_
        have o_2 : m1 = encS (2 ^ (wd - 1).toNat) lp mp m0 b0 ti := by rw [he]; unfold encT; rw [if_neg (by omega)]; first | (rw [if_pos (by omega)]; done) | (rw [if_neg (by omega)]; done)
        exact W.lret (v := L6 m1) hx hb hr (fun t ht hW => ⟨⟨L6 m1, m1, rfl, ⟨rfl, o_2⟩, by rw [ht]; exact hP, va_K.moved hW.alike hK, hD⟩, hS.F ht⟩) hS.2.2 dX8_encode_118
    · skip
      refine lv_iload hx hb dX8_encode_67 (lv_at hl 5 rfl) ?_
      refine ix_if_eq (tgt := 77) hx hb (by first | assumption | decide | (constructor <;> omega)) dX8_encode_69 (by decide) (fun c_69 => ?_) (fun c_69 => ?_)
      · skip
        refine lv_lload hx hb dX8_encode_77 (lv_at hl 0 rfl) ?_
        refine lv_lconst (v := L6 1) hx hb dX8_encode_79 (by decide) ?_
        refine ix_lsub hx hb dX8_encode_80 ?_
        have o_3 : ((((mp - lp) + 2) * 2 ^ (wd - 1 : Int).toNat) - 1) = encS (2 ^ (wd - 1).toNat) lp mp m0 b0 ti := by rw [he]; unfold encT; rw [if_pos (by omega)]; first | (rw [if_neg (by omega)]; done) | (rw [if_pos (by omega)]; done)
        exact W.lret (v := L6 ((((mp - lp) + 2) * 2 ^ (wd - 1 : Int).toNat) - 1)) hx hb hr (fun t ht hW => ⟨⟨L6 ((((mp - lp) + 2) * 2 ^ (wd - 1 : Int).toNat) - 1), ((((mp - lp) + 2) * 2 ^ (wd - 1 : Int).toNat) - 1), rfl, ⟨rfl, o_3⟩, by rw [ht]; exact hP, va_K.moved hW.alike hK, hD⟩, hS.F ht⟩) hS.2.2 dX8_encode_81
      · skip
        refine lv_lload hx hb dX8_encode_72 (lv_at hl 0 rfl) ?_
        refine lv_goto (tgt := 81) hx hb dX8_encode_74 (by decide) ?_
        have o_4 : (((mp - lp) + 2) * 2 ^ (wd - 1 : Int).toNat) = encS (2 ^ (wd - 1).toNat) lp mp m0 b0 ti := by rw [he]; unfold encT; rw [if_pos (by omega)]; first | (rw [if_neg (by omega)]; done) | (rw [if_pos (by omega)]; done)
        exact W.lret (v := L6 (((mp - lp) + 2) * 2 ^ (wd - 1 : Int).toNat)) hx hb hr (fun t ht hW => ⟨⟨L6 (((mp - lp) + 2) * 2 ^ (wd - 1 : Int).toNat), (((mp - lp) + 2) * 2 ^ (wd - 1 : Int).toNat), rfl, ⟨rfl, o_4⟩, by rw [ht]; exact hP, va_K.moved hW.alike hK, hD⟩, hS.F ht⟩) hS.2.2 dX8_encode_81
  obtain ⟨hT2, hT⟩ := FM_T hFM
  have hTp := ppos (wd - 1).toNat
  refine lv_lload_n hx hb dX8_encode_0 rfl (lv_at hl 1 rfl) ?_
  refine lv_lstore (lv' := [(5, .long (L6 m0)), (0, .ref am), (1, .long (L6 m0)), (3, .int (I3 b0)), (4, .int (I3 ti))]) hx hb dX8_encode_1 hl (by decide) rfl (fun ls hl => ?_)
  refine lv_iload_n hx hb dX8_encode_3 rfl (lv_at hl 3 rfl) ?_
  refine lv_istore (lv' := [(7, .int (I3 b0)), (5, .long (L6 m0)), (0, .ref am), (1, .long (L6 m0)), (3, .int (I3 b0)), (4, .int (I3 ti))]) hx hb dX8_encode_4 hl (by decide) rfl (fun ls hl => ?_)
  refine lv_lload hx hb dX8_encode_6 (lv_at hl 1 rfl) ?_
  refine lv_lconst (v := L6 1) hx hb dX8_encode_8 (by decide) ?_
  refine lv_aload_n hx hb dX8_encode_9 rfl (lv_at hl 2 rfl) ?_
  refine va_get (D := (dC, dI)) (ci := 0) (v := .int (I3 wd)) (C := RX8) (T := TX8) (N := 10) hx hb hts in_X8 hown hK hP 0 rfl rfl 6 (by decide) (hts _ q919) (fun _ h9 => h9) rfl dX8_encode_10 ?_
  refine ix_lshl hx hb (by first | decide | omega) dX8_encode_13 ?_
  refine ix_tl (y := 2 ^ wd.toNat) (by exact Int.one_mul _) ?_
  refine ix_lcmp_ne (tgt := 27) hx hb (by first | assumption | decide | (constructor <;> omega)) (by first | assumption | decide | (constructor <;> omega)) dX8_encode_14 dX8_encode_15 (by decide) (fun c_14 => ?_) (fun c_14 => ?_)
  · skip
    have e_5 : 0 ≤ m0 ∧ m0 < 2 * 2 ^ (wd - 1).toNat := by first | assumption | omega | (constructor <;> omega)
    have e_6 : lp ≤ b0 ∧ b0 ≤ 100001 := by first | assumption | omega | (constructor <;> omega)
    have e_7 : encS (2 ^ (wd - 1).toNat) lp mp m0 b0 ti = encT (2 ^ (wd - 1).toNat) lp mp m0 b0 ti := by unfold encS; first | (rw [if_neg (by omega)]; done) | (rw [if_pos (by omega)]; congr 1; omega)
    exact cut_27 m0 b0 e_5 e_6 e_7 _ _ hP hD hS ls (lv_sub hl [2, 3, 4, 5, 1, 0] rfl)
  · skip
    refine lv_lload hx hb dX8_encode_18 (lv_at hl 1 rfl) ?_
    refine lv_iconst (v := I3 (1)) hx hb dX8_encode_20 rfl ?_
    refine ix_lshr hx hb (by first | assumption | (constructor <;> omega)) (by first | decide | omega) dX8_encode_21 ?_
    refine ix_tl (y := m0 / 2) rfl ?_
    refine lv_lstore (lv' := [(5, .long (L6 (m0 / 2))), (7, .int (I3 b0)), (0, .ref am), (1, .long (L6 m0)), (3, .int (I3 b0)), (4, .int (I3 ti))]) hx hb dX8_encode_22 hl (by decide) rfl (fun ls hl => ?_)
    refine lv_iinc (v := I3 (b0 + 1)) (lv' := [(7, .int (I3 (b0 + 1))), (5, .long (L6 (m0 / 2))), (0, .ref am), (1, .long (L6 m0)), (3, .int (I3 b0)), (4, .int (I3 ti))]) hx hb dX8_encode_24 hl (k := 1) rfl (I3_add _ _) (by decide) rfl (fun ls hl => ?_)
    have e_8 : 0 ≤ (m0 / 2) ∧ (m0 / 2) < 2 * 2 ^ (wd - 1).toNat := by first | assumption | omega | (constructor <;> omega)
    have e_9 : lp ≤ (b0 + 1) ∧ (b0 + 1) ≤ 100001 := by first | assumption | omega | (constructor <;> omega)
    have e_10 : encS (2 ^ (wd - 1).toNat) lp mp m0 b0 ti = encT (2 ^ (wd - 1).toNat) lp mp (m0 / 2) (b0 + 1) ti := by unfold encS; first | (rw [if_neg (by omega)]; done) | (rw [if_pos (by omega)]; congr 1; omega)
    exact cut_27 (m0 / 2) (b0 + 1) e_8 e_9 e_10 _ _ hP hD hS ls (lv_sub hl [2, 3, 4, 5, 1, 0] rfl)
