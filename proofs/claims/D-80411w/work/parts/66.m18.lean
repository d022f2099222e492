/-! the model: scaled -/
set_option maxRecDepth 100000
abbrev BmetX8_scaled (dC : Nat → ClassId) (dI : Nat → Nat → Nat) (dA : Nat → ClassId) (A : Nat → Prop) (am : Nat) (as_ : Nat) (av : Nat) (aw : Nat) (th : Int) (mn : Int) (sm : Int) (wd : Int) (lp : Int) (mp : Int) (re : Int) (SG : Int → Int) (VL : Int → Int) (wf : Int → Int) (x : Int) (v : Int) (o : Int) : Int × (Int → Int) × Int × Int × Int → State → Prop := fun u t => (fun (u : Int × (Int → Int) × Int × Int × Int) => (fun (z : Int) (W1 : Int → Int) (wd1 : Int) (lp1 : Int) (mp1 : Int) => va_P (dC, dI) vwCl [(am, .inr (0, [.int (I3 th), .int (I3 mn), .ref as_, .ref av, .ref aw, .int (I3 sm), .int (I3 wd1), .int (I3 lp1), .int (I3 mp1), .int (I3 re)])), (as_, .inl (dA 0, 60, .inl (iA SG))), (av, .inl (dA 1, 960, .inr (.inl (lA VL)))), (aw, .inl (dA 1, 1024, .inr (.inl (lA W1))))] t.heap ∧ va_K (dC, dI) vwCl (tyA dA) t ∧ va_D A [(am, .inr (0, [.int (I3 th), .int (I3 mn), .ref as_, .ref av, .ref aw, .int (I3 sm), .int (I3 wd1), .int (I3 lp1), .int (I3 mp1), .int (I3 re)])), (as_, .inl (dA 0, 60, .inl (iA SG))), (av, .inl (dA 1, 960, .inr (.inl (lA VL)))), (aw, .inl (dA 1, 1024, .inr (.inl (lA W1))))]) u.1 u.2.1 u.2.2.1 u.2.2.2.1 u.2.2.2.2) u
abbrev QmetX8_scaled (dC : Nat → ClassId) (dI : Nat → Nat → Nat) (dA : Nat → ClassId) (A : Nat → Prop) (am : Nat) (as_ : Nat) (av : Nat) (aw : Nat) (th : Int) (mn : Int) (sm : Int) (wd : Int) (lp : Int) (mp : Int) (re : Int) (SG : Int → Int) (VL : Int → Int) (wf : Int → Int) (x : Int) (v : Int) (o : Int) := va_Ql (fun (rt_ : Int64) => fun (u : Int × (Int → Int) × Int × Int × Int) => (fun (z : Int) (W1 : Int → Int) (wd1 : Int) (lp1 : Int) (mp1 : Int) => rt_ = L6 z ∧ (Dg W1) ∧ (x = 0 → z = 0) ∧ (x ≠ 0 → o = 1 → rnB 64 (x.toNat * 2 ^ v.toNat) (2 ^ (-v).toNat) 0 1 z) ∧ (x ≠ 0 → o = 0 → rnB 32 (x.toNat * 2 ^ v.toNat) (2 ^ (-v).toNat) 0 1 z) ∧ (0 ≤ z ∧ z ≤ 9218868437227405312) ∧ (o = 0 → z ≤ 2139095040)) u.1 u.2.1 u.2.2.1 u.2.2.2.1 u.2.2.2.2) (BmetX8_scaled dC dI dA A am as_ av aw th mn sm wd lp mp re SG VL wf x v o) A
set_option maxHeartbeats 4000000 in
set_option maxRecDepth 100000 in
/-- scaled -/
theorem metX8_scaled (l : Launch) (dC : Nat → ClassId) (dI : Nat → Nat → Nat) (dA : Nat → ClassId) (am : Nat) (as_ : Nat) (av : Nat) (aw : Nat) (sz : Nat) (th : Int) (mn : Int) (sm : Int) (wd : Int) (lp : Int) (mp : Int) (re : Int) (SG : Int → Int) (VL : Int → Int) (wf : Int → Int) (x : Int) (v : Int) (o : Int) (hW : Dg wf) (hx0 : 0 ≤ x ∧ x < 9223372036854775808) (hv : -100000 ≤ v ∧ v ≤ 100000) (ho : o = 0 ∨ o = 1) : Met l yX8_scaled (ws_ yX8_scaled cX8_scaled 5 (some .long)) ({ frames := 4, cells := 0, slots := 0, locals := 160 }) (va_Pc [.ref am, .long (L6 x), .int (I3 v), .int (I3 o)] (fun U => U.heap.size = sz ∧ va_P (dC, dI) vwCl [(am, .inr (0, [.int (I3 th), .int (I3 mn), .ref as_, .ref av, .ref aw, .int (I3 sm), .int (I3 wd), .int (I3 lp), .int (I3 mp), .int (I3 re)])), (as_, .inl (dA 0, 60, .inl (iA SG))), (av, .inl (dA 1, 960, .inr (.inl (lA VL)))), (aw, .inl (dA 1, 1024, .inr (.inl (lA wf))))] U.heap ∧ va_K (dC, dI) vwCl (tyA dA) U ∧ va_D (fun _ => True) [(am, .inr (0, [.int (I3 th), .int (I3 mn), .ref as_, .ref av, .ref aw, .int (I3 sm), .int (I3 wd), .int (I3 lp), .int (I3 mp), .int (I3 re)])), (as_, .inl (dA 0, 60, .inl (iA SG))), (av, .inl (dA 1, 960, .inr (.inl (lA VL)))), (aw, .inl (dA 1, 1024, .inr (.inl (lA wf))))])) (QmetX8_scaled dC dI dA (va_A [(am, .inr (0, [.int (I3 th), .int (I3 mn), .ref as_, .ref av, .ref aw, .int (I3 sm), .int (I3 wd), .int (I3 lp), .int (I3 mp), .int (I3 re)])), (as_, .inl (dA 0, 60, .inl (iA SG))), (av, .inl (dA 1, 960, .inr (.inl (lA VL)))), (aw, .inl (dA 1, 1024, .inr (.inl (lA wf))))] sz) am as_ av aw th mn sm wd lp mp re SG VL wf x v o) 0 0 (va_A [(am, .inr (0, [.int (I3 th), .int (I3 mn), .ref as_, .ref av, .ref aw, .int (I3 sm), .int (I3 wd), .int (I3 lp), .int (I3 mp), .int (I3 re)])), (as_, .inl (dA 0, 60, .inl (iA SG))), (av, .inl (dA 1, 960, .inr (.inl (lA VL)))), (aw, .inl (dA 1, 1024, .inr (.inl (lA wf))))] sz) := by
  refine Met.ofW (cc := cX8_scaled) (maxL := 5) (ret := (some .long)) (by decide) rfl ?_
  intro p e s m args below meth c s₁ B hml hv
  obtain ⟨rfl, hsz, hP, hK, hD0⟩ := hv
  have hx := B.exec
  have hb := B.bytes
  have hr := B.returns
  have hts := atoms_spec (ws := (ws_ yX8_scaled cX8_scaled 5 (some .long))) B.pre
  have hts : ∀ w ∈ lw_all, w.before _ s = true := fun w h => hts w (List.mem_cons_of_mem _ h)
  have hown : s.vm.findClass RX8 = some m.cls := findClass_of_methodNamed B.named
  have hlocks := B.notSynchronized
  subst hsz
  have hD := hD0.self (sz := s.heap.size)
  generalize hAe : va_A [(am, .inr (0, [.int (I3 th), .int (I3 mn), .ref as_, .ref av, .ref aw, .int (I3 sm), .int (I3 wd), .int (I3 lp), .int (I3 mp), .int (I3 re)])), (as_, .inl (dA 0, 60, .inl (iA SG))), (av, .inl (dA 1, 960, .inr (.inl (lA VL)))), (aw, .inl (dA 1, 1024, .inr (.inl (lA wf))))] s.heap.size = A at hD ⊢
  have hA : ∀ q : Nat, s.heap.size ≤ q → A q := fun q h => by rw [← hAe]; exact Or.inr h
  have hS : va_S A s.heap s.heap [] := va_S.rf
  have hP : va_P (dC, dI) vwCl [(am, .inr (0, [.int (I3 th), .int (I3 mn), .ref as_, .ref av, .ref aw, .int (I3 sm), .int (I3 wd), .int (I3 lp), .int (I3 mp), .int (I3 re)])), (as_, .inl (dA 0, 60, .inl (iA SG))), (av, .inl (dA 1, 960, .inr (.inl (lA VL)))), (aw, .inl (dA 1, 1024, .inr (.inl (lA wf))))] s.heap := hP
  have hl := lv_entry ([.ref am, .long (L6 x), .int (I3 v), .int (I3 o)]) (n := 5) (Nat.le_of_ble_eq_true rfl)
  rw [lg_entry_eq]
  generalize (lg_sl ([.ref am, .long (L6 x), .int (I3 v), .int (I3 o)]) ++ List.replicate (5 - (lg_sl ([.ref am, .long (L6 x), .int (I3 v), .int (I3 o)])).length) Slot.unset).toArray = ls at hl ⊢
  have hl : lv_has ls 5 [(0, .ref am), (1, .long (L6 x)), (3, .int (I3 v)), (4, .int (I3 o))] := hl
  refine lv_lload_n hx hb dX8_scaled_0 rfl (lv_at hl 1 rfl) ?_
  refine lv_lconst (v := L6 0) hx hb dX8_scaled_1 (by decide) ?_
  refine ix_lcmp_ne (tgt := 8) hx hb (by first | assumption | decide | (constructor <;> omega)) (by first | assumption | decide | (constructor <;> omega)) dX8_scaled_2 dX8_scaled_3 (by decide) (fun c_2 => ?_) (fun c_2 => ?_)
  · skip
    refine lv_aload_n hx hb dX8_scaled_8 rfl (lv_at hl 0 rfl) ?_
    refine lv_iload hx hb dX8_scaled_9 (lv_at hl 3 rfl) ?_
    have h_1 : o = 0 ∨ o = 1 := by first | assumption | omega | (constructor <;> omega)
    have hPc := hP.sub (ws' := [(am, .inr (0, [.int (I3 th), .int (I3 mn), .ref as_, .ref av, .ref aw, .int (I3 sm), .int (I3 wd), .int (I3 lp), .int (I3 mp), .int (I3 re)])), (as_, .inl (dA 0, 60, .inl (iA SG))), (av, .inl (dA 1, 960, .inr (.inl (lA VL)))), (aw, .inl (dA 1, 1024, .inr (.inl (lA wf))))]) [0, 1, 2, 3] rfl
    have hDc := hD.sub (ws' := [(am, .inr (0, [.int (I3 th), .int (I3 mn), .ref as_, .ref av, .ref aw, .int (I3 sm), .int (I3 wd), .int (I3 lp), .int (I3 mp), .int (I3 re)])), (as_, .inl (dA 0, 60, .inl (iA SG))), (av, .inl (dA 1, 960, .inr (.inl (lA VL)))), (aw, .inl (dA 1, 1024, .inr (.inl (lA wf))))]) [0, 1, 2, 3] (by decide) rfl
    have hFc := va_free (wc := [(am, .inr (0, [.int (I3 th), .int (I3 mn), .ref as_, .ref av, .ref aw, .int (I3 sm), .int (I3 wd), .int (I3 lp), .int (I3 mp), .int (I3 re)])), (as_, .inl (dA 0, 60, .inl (iA SG))), (av, .inl (dA 1, 960, .inr (.inl (lA VL)))), (aw, .inl (dA 1, 1024, .inr (.inl (lA wf))))]) hD hS hA [0, 1, 2, 3] rfl
    refine va_callv (va_runV (As := [.int (I3 o)]) (rest := []) ⟨hx, hb, hml, hown, hts⟩ (metX8_form l dC dI dA am as_ av aw s.heap.size th mn sm wd lp mp re SG VL wf o h_1) (cwV 1 hts (lw_V q1141 q1143 qs47 q66 q1144) rfl rfl rfl (by decide +kernel) ⟨Nat.le_of_ble_eq_true rfl, Nat.le_of_ble_eq_true rfl⟩) ⟨fun a U g mk q => by obtain ⟨q0, q1, qP, qK, qD⟩ := q; exact ⟨q0, q1, qP, va_K.moved (u := U) (U := U.calling g mk a) (Vm.Alike.refl U.vm) qK, qD⟩, va_recv hK hPc (ci := 0) (q0 := 0) rfl rfl, fun U hU hW => ⟨rfl, by rw [hU], by rw [hU]; exact hPc, va_K.moved hW.alike hK, hDc.weaken (fun _ _ _ _ => trivial)⟩⟩ rfl rfl hl.1 rfl (lv_room (Nat.le_of_ble_eq_true rfl)) dX8_scaled_11 ⟨Nat.le_of_ble_eq_true rfl, Nat.le_of_ble_eq_true rfl⟩) hS (fun q _ h => hFc q h) hFc (fun u t H1 locs ht hvm hw hB hz1 hk1 hS => ?_)
    obtain ⟨wd1_11, lp1_11, mp1_11⟩ := u
    have p0_11 : (o = 1 ∧ wd1_11 = 53 ∧ lp1_11 = -1074 ∧ mp1_11 = 971) ∨ (o = 0 ∧ wd1_11 = 24 ∧ lp1_11 = -149 ∧ mp1_11 = 104) := hw
    obtain ⟨hP1, hK1, hD1⟩ := hB
    rw [ht] at hP1
    obtain ⟨hP, hD⟩ := va_join (wr := []) (w1 := [(am, .inr (0, [.int (I3 th), .int (I3 mn), .ref as_, .ref av, .ref aw, .int (I3 sm), .int (I3 wd1_11), .int (I3 lp1_11), .int (I3 mp1_11), .int (I3 re)])), (as_, .inl (dA 0, 60, .inl (iA SG))), (av, .inl (dA 1, 960, .inr (.inl (lA VL)))), (aw, .inl (dA 1, 1024, .inr (.inl (lA wf))))]) hP hD [0, 1, 2, 3] [] rfl rfl (by decide) (by decide) hk1 hFc hP1 hD1
    generalize H1 = H at hP hS ⊢
    have hP : va_P (dC, dI) vwCl [(am, .inr (0, [.int (I3 th), .int (I3 mn), .ref as_, .ref av, .ref aw, .int (I3 sm), .int (I3 wd1_11), .int (I3 lp1_11), .int (I3 mp1_11), .int (I3 re)])), (as_, .inl (dA 0, 60, .inl (iA SG))), (av, .inl (dA 1, 960, .inr (.inl (lA VL)))), (aw, .inl (dA 1, 1024, .inr (.inl (lA wf))))] H := hP
    have hD : va_D A [(am, .inr (0, [.int (I3 th), .int (I3 mn), .ref as_, .ref av, .ref aw, .int (I3 sm), .int (I3 wd1_11), .int (I3 lp1_11), .int (I3 mp1_11), .int (I3 re)])), (as_, .inl (dA 0, 60, .inl (iA SG))), (av, .inl (dA 1, 960, .inr (.inl (lA VL)))), (aw, .inl (dA 1, 1024, .inr (.inl (lA wf))))] := hD
    have hFM1 : FM wd1_11 lp1_11 mp1_11 := by unfold FM; omega
    obtain ⟨hT2, hT⟩ := FM_T hFM1
    have hTp := ppos (wd1_11 - 1).toNat
    have hr1 : wd1_11 ≤ 53 ∧ 24 ≤ wd1_11 ∧ -1074 ≤ lp1_11 ∧ lp1_11 ≤ -149 ∧ mp1_11 ≤ 971 ∧ 104 ≤ mp1_11 := by omega
    have hx63 : x.toNat < 2 ^ 63 := by omega
    refine lv_aload_n hx hb dX8_scaled_14 rfl (lv_at hl 0 rfl) ?_
    refine lv_iconst (v := I3 (2)) hx hb dX8_scaled_15 rfl ?_
    refine lv_lload_n hx hb dX8_scaled_16 rfl (lv_at hl 1 rfl) ?_
    have h_2 : 0 ≤ (2 : Int) ∧ (2 : Int) < 16 := by decide
    have h_3 : Dg wf := by first | assumption | omega | (constructor <;> omega)
    have hPc := hP.sub (ws' := [(am, .inr (0, [.int (I3 th), .int (I3 mn), .ref as_, .ref av, .ref aw, .int (I3 sm), .int (I3 wd1_11), .int (I3 lp1_11), .int (I3 mp1_11), .int (I3 re)])), (as_, .inl (dA 0, 60, .inl (iA SG))), (av, .inl (dA 1, 960, .inr (.inl (lA VL)))), (aw, .inl (dA 1, 1024, .inr (.inl (lA wf))))]) [0, 1, 2, 3] rfl
    have hDc := hD.sub (ws' := [(am, .inr (0, [.int (I3 th), .int (I3 mn), .ref as_, .ref av, .ref aw, .int (I3 sm), .int (I3 wd1_11), .int (I3 lp1_11), .int (I3 mp1_11), .int (I3 re)])), (as_, .inl (dA 0, 60, .inl (iA SG))), (av, .inl (dA 1, 960, .inr (.inl (lA VL)))), (aw, .inl (dA 1, 1024, .inr (.inl (lA wf))))]) [0, 1, 2, 3] (by decide) rfl
    have hFc := va_free (wc := [(am, .inr (0, [.int (I3 th), .int (I3 mn), .ref as_, .ref av, .ref aw, .int (I3 sm), .int (I3 wd1_11), .int (I3 lp1_11), .int (I3 mp1_11), .int (I3 re)])), (as_, .inl (dA 0, 60, .inl (iA SG))), (av, .inl (dA 1, 960, .inr (.inl (lA VL)))), (aw, .inl (dA 1, 1024, .inr (.inl (lA wf))))]) hD hS hA [0, 1, 2, 3] rfl
    refine va_callv (va_runV (As := [.int (I3 2), .long (L6 x)]) (rest := []) ⟨hx, hb, hml, hown, hts⟩ (metX8_set l dC dI dA am as_ av aw H.size th mn sm wd1_11 lp1_11 mp1_11 re SG VL wf 2 x h_2 h_3) (cwV 2 hts (lw_V q955 q957 qs19 q66 q958) rfl rfl rfl (by decide +kernel) ⟨Nat.le_of_ble_eq_true rfl, Nat.le_of_ble_eq_true rfl⟩) ⟨fun a U g mk q => by obtain ⟨q0, q1, qP, qK, qD⟩ := q; exact ⟨q0, q1, qP, va_K.moved (u := U) (U := U.calling g mk a) (Vm.Alike.refl U.vm) qK, qD⟩, va_recv hK hPc (ci := 0) (q0 := 0) rfl rfl, fun U hU hW => ⟨rfl, by rw [hU], by rw [hU]; exact hPc, va_K.moved hW.alike hK, hDc.weaken (fun _ _ _ _ => trivial)⟩⟩ rfl rfl hl.1 rfl (lv_room (Nat.le_of_ble_eq_true rfl)) dX8_scaled_17 ⟨Nat.le_of_ble_eq_true rfl, Nat.le_of_ble_eq_true rfl⟩) hS (fun q _ h => hFc q h) hFc (fun u t H1 locs ht hvm hw hB hz1 hk1 hS => ?_)
    obtain ⟨W1_17, rfl⟩ : ∃ z, z = u := ⟨_, rfl⟩
    obtain ⟨p0_17, p1_17, p2_17⟩ : (Dg W1_17) ∧ (Fr wf W1_17 (2 : Int)) ∧ (rv W1_17 (2 : Int) = (x % 18446744073709551616).toNat) := hw
    obtain ⟨hP1, hK1, hD1⟩ := hB
    rw [ht] at hP1
    obtain ⟨hP, hD⟩ := va_join (wr := []) (w1 := [(am, .inr (0, [.int (I3 th), .int (I3 mn), .ref as_, .ref av, .ref aw, .int (I3 sm), .int (I3 wd1_11), .int (I3 lp1_11), .int (I3 mp1_11), .int (I3 re)])), (as_, .inl (dA 0, 60, .inl (iA SG))), (av, .inl (dA 1, 960, .inr (.inl (lA VL)))), (aw, .inl (dA 1, 1024, .inr (.inl (lA W1_17))))]) hP hD [0, 1, 2, 3] [] rfl rfl (by decide) (by decide) hk1 hFc hP1 hD1
    generalize H1 = H at hP hS ⊢
    have hP : va_P (dC, dI) vwCl [(am, .inr (0, [.int (I3 th), .int (I3 mn), .ref as_, .ref av, .ref aw, .int (I3 sm), .int (I3 wd1_11), .int (I3 lp1_11), .int (I3 mp1_11), .int (I3 re)])), (as_, .inl (dA 0, 60, .inl (iA SG))), (av, .inl (dA 1, 960, .inr (.inl (lA VL)))), (aw, .inl (dA 1, 1024, .inr (.inl (lA W1_17))))] H := hP
    have hD : va_D A [(am, .inr (0, [.int (I3 th), .int (I3 mn), .ref as_, .ref av, .ref aw, .int (I3 sm), .int (I3 wd1_11), .int (I3 lp1_11), .int (I3 mp1_11), .int (I3 re)])), (as_, .inl (dA 0, 60, .inl (iA SG))), (av, .inl (dA 1, 960, .inr (.inl (lA VL)))), (aw, .inl (dA 1, 1024, .inr (.inl (lA W1_17))))] := hD
    refine lv_aload_n hx hb dX8_scaled_20 rfl (lv_at hl 0 rfl) ?_
    refine lv_iconst (v := I3 (3)) hx hb dX8_scaled_21 rfl ?_
    refine lv_lconst (v := L6 1) hx hb dX8_scaled_22 (by decide) ?_
    have h_4 : 0 ≤ (3 : Int) ∧ (3 : Int) < 16 := by decide
    have h_5 : Dg W1_17 := by first | assumption | omega | (constructor <;> omega)
    have hPc := hP.sub (ws' := [(am, .inr (0, [.int (I3 th), .int (I3 mn), .ref as_, .ref av, .ref aw, .int (I3 sm), .int (I3 wd1_11), .int (I3 lp1_11), .int (I3 mp1_11), .int (I3 re)])), (as_, .inl (dA 0, 60, .inl (iA SG))), (av, .inl (dA 1, 960, .inr (.inl (lA VL)))), (aw, .inl (dA 1, 1024, .inr (.inl (lA W1_17))))]) [0, 1, 2, 3] rfl
    have hDc := hD.sub (ws' := [(am, .inr (0, [.int (I3 th), .int (I3 mn), .ref as_, .ref av, .ref aw, .int (I3 sm), .int (I3 wd1_11), .int (I3 lp1_11), .int (I3 mp1_11), .int (I3 re)])), (as_, .inl (dA 0, 60, .inl (iA SG))), (av, .inl (dA 1, 960, .inr (.inl (lA VL)))), (aw, .inl (dA 1, 1024, .inr (.inl (lA W1_17))))]) [0, 1, 2, 3] (by decide) rfl
    have hFc := va_free (wc := [(am, .inr (0, [.int (I3 th), .int (I3 mn), .ref as_, .ref av, .ref aw, .int (I3 sm), .int (I3 wd1_11), .int (I3 lp1_11), .int (I3 mp1_11), .int (I3 re)])), (as_, .inl (dA 0, 60, .inl (iA SG))), (av, .inl (dA 1, 960, .inr (.inl (lA VL)))), (aw, .inl (dA 1, 1024, .inr (.inl (lA W1_17))))]) hD hS hA [0, 1, 2, 3] rfl
    refine va_callv (va_runV (As := [.int (I3 3), .long (L6 1)]) (rest := []) ⟨hx, hb, hml, hown, hts⟩ (metX8_set l dC dI dA am as_ av aw H.size th mn sm wd1_11 lp1_11 mp1_11 re SG VL W1_17 3 1 h_4 h_5) (cwV 2 hts (lw_V q955 q957 qs19 q66 q958) rfl rfl rfl (by decide +kernel) ⟨Nat.le_of_ble_eq_true rfl, Nat.le_of_ble_eq_true rfl⟩) ⟨fun a U g mk q => by obtain ⟨q0, q1, qP, qK, qD⟩ := q; exact ⟨q0, q1, qP, va_K.moved (u := U) (U := U.calling g mk a) (Vm.Alike.refl U.vm) qK, qD⟩, va_recv hK hPc (ci := 0) (q0 := 0) rfl rfl, fun U hU hW => ⟨rfl, by rw [hU], by rw [hU]; exact hPc, va_K.moved hW.alike hK, hDc.weaken (fun _ _ _ _ => trivial)⟩⟩ rfl rfl hl.1 rfl (lv_room (Nat.le_of_ble_eq_true rfl)) dX8_scaled_23 ⟨Nat.le_of_ble_eq_true rfl, Nat.le_of_ble_eq_true rfl⟩) hS (fun q _ h => hFc q h) hFc (fun u t H1 locs ht hvm hw hB hz1 hk1 hS => ?_)
    obtain ⟨W1_23, rfl⟩ : ∃ z, z = u := ⟨_, rfl⟩
    obtain ⟨p0_23, p1_23, p2_23⟩ : (Dg W1_23) ∧ (Fr W1_17 W1_23 (3 : Int)) ∧ (rv W1_23 (3 : Int) = ((1 : Int) % 18446744073709551616).toNat) := hw
    obtain ⟨hP1, hK1, hD1⟩ := hB
    rw [ht] at hP1
    obtain ⟨hP, hD⟩ := va_join (wr := []) (w1 := [(am, .inr (0, [.int (I3 th), .int (I3 mn), .ref as_, .ref av, .ref aw, .int (I3 sm), .int (I3 wd1_11), .int (I3 lp1_11), .int (I3 mp1_11), .int (I3 re)])), (as_, .inl (dA 0, 60, .inl (iA SG))), (av, .inl (dA 1, 960, .inr (.inl (lA VL)))), (aw, .inl (dA 1, 1024, .inr (.inl (lA W1_23))))]) hP hD [0, 1, 2, 3] [] rfl rfl (by decide) (by decide) hk1 hFc hP1 hD1
    generalize H1 = H at hP hS ⊢
    have hP : va_P (dC, dI) vwCl [(am, .inr (0, [.int (I3 th), .int (I3 mn), .ref as_, .ref av, .ref aw, .int (I3 sm), .int (I3 wd1_11), .int (I3 lp1_11), .int (I3 mp1_11), .int (I3 re)])), (as_, .inl (dA 0, 60, .inl (iA SG))), (av, .inl (dA 1, 960, .inr (.inl (lA VL)))), (aw, .inl (dA 1, 1024, .inr (.inl (lA W1_23))))] H := hP
    have hD : va_D A [(am, .inr (0, [.int (I3 th), .int (I3 mn), .ref as_, .ref av, .ref aw, .int (I3 sm), .int (I3 wd1_11), .int (I3 lp1_11), .int (I3 mp1_11), .int (I3 re)])), (as_, .inl (dA 0, 60, .inl (iA SG))), (av, .inl (dA 1, 960, .inr (.inl (lA VL)))), (aw, .inl (dA 1, 1024, .inr (.inl (lA W1_23))))] := hD
    have f2 : rv W1_23 2 = x.toNat := by rw [Fr_rv p1_23 (by decide), p2_17]; omega
    have f3 : rv W1_23 3 = 1 := by rw [p2_23]; rfl
    refine lv_iload_n hx hb dX8_scaled_26 rfl (lv_at hl 2 rfl) ?_
    refine lv_aload_n hx hb dX8_scaled_27 rfl (lv_at hl 0 rfl) ?_
    refine va_get (D := (dC, dI)) (ci := 0) (v := .int (I3 lp1_11)) (C := RX8) (T := TX8) (N := 10) hx hb hts in_X8 hown hK hP 0 rfl rfl 7 (by decide) (hts _ q920) (fun _ h9 => h9) rfl dX8_scaled_28 ?_
    refine lv_sipush (v := I3 (200)) hx hb dX8_scaled_31 (by decide) ?_
    refine ix_isub hx hb dX8_scaled_34 ?_
    refine ix_icmp_ge (tgt := 40) hx hb (by first | assumption | decide | (constructor <;> omega)) (by first | assumption | decide | (constructor <;> omega)) dX8_scaled_35 (by decide) (fun c_35 => ?_) (fun c_35 => ?_)
    · skip
      refine lv_iload_n hx hb dX8_scaled_40 rfl (lv_at hl 2 rfl) ?_
      refine lv_aload_n hx hb dX8_scaled_41 rfl (lv_at hl 0 rfl) ?_
      refine va_get (D := (dC, dI)) (ci := 0) (v := .int (I3 mp1_11)) (C := RX8) (T := TX8) (N := 10) hx hb hts in_X8 hown hK hP 0 rfl rfl 8 (by decide) (hts _ q921) (fun _ h9 => h9) rfl dX8_scaled_42 ?_
      refine lv_bipush (v := I3 (100)) hx hb dX8_scaled_45 (by decide) ?_
      refine ix_iadd hx hb dX8_scaled_47 ?_
      refine ix_icmp_le (tgt := 71) hx hb (by first | assumption | decide | (constructor <;> omega)) (by first | assumption | decide | (constructor <;> omega)) dX8_scaled_48 (by decide) (fun c_48 => ?_) (fun c_48 => ?_)
      · skip
        refine lv_aload_n hx hb dX8_scaled_71 rfl (lv_at hl 0 rfl) ?_
        refine lv_iload_n hx hb dX8_scaled_72 rfl (lv_at hl 2 rfl) ?_
        refine ix_if_le (tgt := 80) hx hb (by first | assumption | decide | (constructor <;> omega)) dX8_scaled_73 (by decide) (fun c_73 => ?_) (fun c_73 => ?_)
        · skip
          refine lv_iconst (v := I3 (3)) hx hb dX8_scaled_80 rfl ?_
          refine lv_iload_n hx hb dX8_scaled_81 rfl (lv_at hl 2 rfl) ?_
          refine ix_if_le (tgt := 89) hx hb (by first | assumption | decide | (constructor <;> omega)) dX8_scaled_82 (by decide) (fun c_82 => ?_) (fun c_82 => ?_)
          · skip
            refine lv_iload_n hx hb dX8_scaled_89 rfl (lv_at hl 2 rfl) ?_
            refine ix_ineg hx hb dX8_scaled_90 ?_
            have h_6 : 0 ≤ (3 : Int) ∧ (3 : Int) < 16 := by decide
            have h_7 : 0 ≤ (-v) ∧ (-v) < 2048 := by first | assumption | omega | (constructor <;> omega)
            have h_8 : Dg W1_23 := by first | assumption | omega | (constructor <;> omega)
            have hPc := hP.sub (ws' := [(am, .inr (0, [.int (I3 th), .int (I3 mn), .ref as_, .ref av, .ref aw, .int (I3 sm), .int (I3 wd1_11), .int (I3 lp1_11), .int (I3 mp1_11), .int (I3 re)])), (as_, .inl (dA 0, 60, .inl (iA SG))), (av, .inl (dA 1, 960, .inr (.inl (lA VL)))), (aw, .inl (dA 1, 1024, .inr (.inl (lA W1_23))))]) [0, 1, 2, 3] rfl
            have hDc := hD.sub (ws' := [(am, .inr (0, [.int (I3 th), .int (I3 mn), .ref as_, .ref av, .ref aw, .int (I3 sm), .int (I3 wd1_11), .int (I3 lp1_11), .int (I3 mp1_11), .int (I3 re)])), (as_, .inl (dA 0, 60, .inl (iA SG))), (av, .inl (dA 1, 960, .inr (.inl (lA VL)))), (aw, .inl (dA 1, 1024, .inr (.inl (lA W1_23))))]) [0, 1, 2, 3] (by decide) rfl
            have hFc := va_free (wc := [(am, .inr (0, [.int (I3 th), .int (I3 mn), .ref as_, .ref av, .ref aw, .int (I3 sm), .int (I3 wd1_11), .int (I3 lp1_11), .int (I3 mp1_11), .int (I3 re)])), (as_, .inl (dA 0, 60, .inl (iA SG))), (av, .inl (dA 1, 960, .inr (.inl (lA VL)))), (aw, .inl (dA 1, 1024, .inr (.inl (lA W1_23))))]) hD hS hA [0, 1, 2, 3] rfl
            refine va_callv (va_runV (As := [.int (I3 3), .int (I3 (-v))]) (rest := []) ⟨hx, hb, hml, hown, hts⟩ (metX8_up l dC dI dA am as_ av aw H.size th mn sm wd1_11 lp1_11 mp1_11 re SG VL W1_23 3 (-v) h_6 h_7 h_8) (cwV 2 hts (lw_V q1000 q1002 qs30 q66 q1003) rfl rfl rfl (by decide +kernel) ⟨Nat.le_of_ble_eq_true rfl, Nat.le_of_ble_eq_true rfl⟩) ⟨fun a U g mk q => by obtain ⟨q0, q1, qP, qK, qD⟩ := q; exact ⟨q0, q1, qP, va_K.moved (u := U) (U := U.calling g mk a) (Vm.Alike.refl U.vm) qK, qD⟩, va_recv hK hPc (ci := 0) (q0 := 0) rfl rfl, fun U hU hW => ⟨rfl, by rw [hU], by rw [hU]; exact hPc, va_K.moved hW.alike hK, hDc.weaken (fun _ _ _ _ => trivial)⟩⟩ rfl rfl hl.1 rfl (lv_room (Nat.le_of_ble_eq_true rfl)) dX8_scaled_91 ⟨Nat.le_of_ble_eq_true rfl, Nat.le_of_ble_eq_true rfl⟩) hS (fun q _ h => hFc q h) hFc (fun u t H1 locs ht hvm hw hB hz1 hk1 hS => ?_)
            obtain ⟨W1_91, rfl⟩ : ∃ z, z = u := ⟨_, rfl⟩
            obtain ⟨p0_91, p1_91, p2_91⟩ : (Dg W1_91) ∧ (Fr W1_23 W1_91 (3 : Int)) ∧ (rv W1_91 (3 : Int) = rv W1_23 (3 : Int) * 2 ^ (-v).toNat % BN) := hw
            obtain ⟨hP1, hK1, hD1⟩ := hB
            rw [ht] at hP1
            obtain ⟨hP, hD⟩ := va_join (wr := []) (w1 := [(am, .inr (0, [.int (I3 th), .int (I3 mn), .ref as_, .ref av, .ref aw, .int (I3 sm), .int (I3 wd1_11), .int (I3 lp1_11), .int (I3 mp1_11), .int (I3 re)])), (as_, .inl (dA 0, 60, .inl (iA SG))), (av, .inl (dA 1, 960, .inr (.inl (lA VL)))), (aw, .inl (dA 1, 1024, .inr (.inl (lA W1_91))))]) hP hD [0, 1, 2, 3] [] rfl rfl (by decide) (by decide) hk1 hFc hP1 hD1
            generalize H1 = H at hP hS ⊢
            have hP : va_P (dC, dI) vwCl [(am, .inr (0, [.int (I3 th), .int (I3 mn), .ref as_, .ref av, .ref aw, .int (I3 sm), .int (I3 wd1_11), .int (I3 lp1_11), .int (I3 mp1_11), .int (I3 re)])), (as_, .inl (dA 0, 60, .inl (iA SG))), (av, .inl (dA 1, 960, .inr (.inl (lA VL)))), (aw, .inl (dA 1, 1024, .inr (.inl (lA W1_91))))] H := hP
            have hD : va_D A [(am, .inr (0, [.int (I3 th), .int (I3 mn), .ref as_, .ref av, .ref aw, .int (I3 sm), .int (I3 wd1_11), .int (I3 lp1_11), .int (I3 mp1_11), .int (I3 re)])), (as_, .inl (dA 0, 60, .inl (iA SG))), (av, .inl (dA 1, 960, .inr (.inl (lA VL)))), (aw, .inl (dA 1, 1024, .inr (.inl (lA W1_91))))] := hD
            have g2 : rv W1_91 2 = x.toNat * 2 ^ v.toNat := by first | (rw [p2_91, f2]; exact mod_BN (up_lt (k := 63) hx63 (by omega))) | (rw [Fr_rv p1_91 (by decide), f2, show v.toNat = 0 by omega, Nat.pow_zero, Nat.mul_one])
            have g3 : rv W1_91 3 = 2 ^ (-v).toNat := by first | (rw [p2_91, f3, Nat.one_mul]; exact mod_BN (by have h := up_lt (x := 1) (k := 1) (n := (-v).toNat) (by decide) (by omega); omega)) | (rw [Fr_rv p1_91 (by decide), f3, show (-v).toNat = 0 by omega])
            refine lv_aload_n hx hb dX8_scaled_94 rfl (lv_at hl 0 rfl) ?_
            refine lv_iconst (v := I3 (1)) hx hb dX8_scaled_95 rfl ?_
            refine lv_iconst (v := I3 (0)) hx hb dX8_scaled_96 rfl ?_
            have h_9 : Dg W1_91 := by first | assumption | omega | (constructor <;> omega)
            have h_10 : FM wd1_11 lp1_11 mp1_11 := by exact hFM1
            have h_11 : rv W1_91 2 ≠ 0 := by rw [g2]; exact Nat.ne_of_gt (Nat.mul_pos (by omega) (Nat.two_pow_pos _))
            have h_12 : rv W1_91 3 ≠ 0 := by rw [g3]; exact Nat.ne_of_gt (Nat.two_pow_pos _)
            have h_13 : bl (rv W1_91 2) ≤ 1900 := by rw [g2]; exact bl_le.mpr (Nat.lt_of_lt_of_le (by rw [Nat.pow_add]; exact Nat.mul_lt_mul_of_pos_right hx63 (Nat.two_pow_pos v.toNat) : x.toNat * 2 ^ v.toNat < 2 ^ (63 + v.toNat)) (Nat.pow_le_pow_right (by decide) (by omega)))
            have h_14 : bl (rv W1_91 3) ≤ 1900 := by rw [g3]; exact bl_le.mpr (Nat.pow_lt_pow_right (by decide) (by omega))
            have h_15 : In3 (1 : Int) := by decide
            have h_16 : 0 ≤ (0 : Int) ∧ (0 : Int) ≤ 3 := by decide
            have hPc := hP.sub (ws' := [(am, .inr (0, [.int (I3 th), .int (I3 mn), .ref as_, .ref av, .ref aw, .int (I3 sm), .int (I3 wd1_11), .int (I3 lp1_11), .int (I3 mp1_11), .int (I3 re)])), (as_, .inl (dA 0, 60, .inl (iA SG))), (av, .inl (dA 1, 960, .inr (.inl (lA VL)))), (aw, .inl (dA 1, 1024, .inr (.inl (lA W1_91))))]) [0, 1, 2, 3] rfl
            have hDc := hD.sub (ws' := [(am, .inr (0, [.int (I3 th), .int (I3 mn), .ref as_, .ref av, .ref aw, .int (I3 sm), .int (I3 wd1_11), .int (I3 lp1_11), .int (I3 mp1_11), .int (I3 re)])), (as_, .inl (dA 0, 60, .inl (iA SG))), (av, .inl (dA 1, 960, .inr (.inl (lA VL)))), (aw, .inl (dA 1, 1024, .inr (.inl (lA W1_91))))]) [0, 1, 2, 3] (by decide) rfl
            have hFc := va_free (wc := [(am, .inr (0, [.int (I3 th), .int (I3 mn), .ref as_, .ref av, .ref aw, .int (I3 sm), .int (I3 wd1_11), .int (I3 lp1_11), .int (I3 mp1_11), .int (I3 re)])), (as_, .inl (dA 0, 60, .inl (iA SG))), (av, .inl (dA 1, 960, .inr (.inl (lA VL)))), (aw, .inl (dA 1, 1024, .inr (.inl (lA W1_91))))]) hD hS hA [0, 1, 2, 3] rfl
            refine va_calll (va_runV (As := [.int (I3 1), .int (I3 0)]) (rest := []) ⟨hx, hb, hml, hown, hts⟩ (metX8_round l dC dI dA am as_ av aw H.size th mn sm wd1_11 lp1_11 mp1_11 re SG VL W1_91 1 0 h_9 h_10 h_11 h_12 h_13 h_14 h_15 h_16) (cwV 2 hts (lw_V q1145 q1147 qs48 q66 q1148) rfl rfl rfl (by decide +kernel) ⟨Nat.le_of_ble_eq_true rfl, Nat.le_of_ble_eq_true rfl⟩) ⟨fun a U g mk q => by obtain ⟨q0, q1, qP, qK, qD⟩ := q; exact ⟨q0, q1, qP, va_K.moved (u := U) (U := U.calling g mk a) (Vm.Alike.refl U.vm) qK, qD⟩, va_recv hK hPc (ci := 0) (q0 := 0) rfl rfl, fun U hU hW => ⟨rfl, by rw [hU], by rw [hU]; exact hPc, va_K.moved hW.alike hK, hDc.weaken (fun _ _ _ _ => trivial)⟩⟩ rfl rfl hl.1 rfl (lv_room (Nat.le_of_ble_eq_true rfl)) dX8_scaled_97 ⟨Nat.le_of_ble_eq_true rfl, Nat.le_of_ble_eq_true rfl⟩) hS (fun q _ h => hFc q h) hFc (fun r_97 u t H1 locs ht hvm hw hB hz1 hk1 hS => ?_)
            obtain ⟨z_97, W1_97⟩ := u
            obtain ⟨rfl, p0_97, p1_97⟩ : r_97 = L6 z_97 ∧ (Dg W1_97) ∧ (∃ q : Int, RQ wd1_11 lp1_11 (rv W1_91 2) (rv W1_91 3) q ∧ z_97 = encS (2 ^ (wd1_11 - 1).toNat) lp1_11 mp1_11 (upS (0 : Int) (1 : Int) (nS (rv W1_91 2) q) (dS (rv W1_91 3) q)) q (infS (0 : Int) (1 : Int))) := hw
            obtain ⟨hP1, hK1, hD1⟩ := hB
            rw [ht] at hP1
            obtain ⟨hP, hD⟩ := va_join (wr := []) (w1 := [(am, .inr (0, [.int (I3 th), .int (I3 mn), .ref as_, .ref av, .ref aw, .int (I3 sm), .int (I3 wd1_11), .int (I3 lp1_11), .int (I3 mp1_11), .int (I3 re)])), (as_, .inl (dA 0, 60, .inl (iA SG))), (av, .inl (dA 1, 960, .inr (.inl (lA VL)))), (aw, .inl (dA 1, 1024, .inr (.inl (lA W1_97))))]) hP hD [0, 1, 2, 3] [] rfl rfl (by decide) (by decide) hk1 hFc hP1 hD1
            generalize H1 = H at hP hS ⊢
            have hP : va_P (dC, dI) vwCl [(am, .inr (0, [.int (I3 th), .int (I3 mn), .ref as_, .ref av, .ref aw, .int (I3 sm), .int (I3 wd1_11), .int (I3 lp1_11), .int (I3 mp1_11), .int (I3 re)])), (as_, .inl (dA 0, 60, .inl (iA SG))), (av, .inl (dA 1, 960, .inr (.inl (lA VL)))), (aw, .inl (dA 1, 1024, .inr (.inl (lA W1_97))))] H := hP
            have hD : va_D A [(am, .inr (0, [.int (I3 th), .int (I3 mn), .ref as_, .ref av, .ref aw, .int (I3 sm), .int (I3 wd1_11), .int (I3 lp1_11), .int (I3 mp1_11), .int (I3 re)])), (as_, .inl (dA 0, 60, .inl (iA SG))), (av, .inl (dA 1, 960, .inr (.inl (lA VL)))), (aw, .inl (dA 1, 1024, .inr (.inl (lA W1_97))))] := hD
            rw [g2, g3] at p1_97
            have o_17 : Dg W1_97 := by first | assumption | omega | (constructor <;> omega)
            have o_18 : x = 0 → z_97 = 0 := by intro q0; omega
            have o_19 : x ≠ 0 → o = 1 → rnB 64 (x.toNat * 2 ^ v.toNat) (2 ^ (-v).toNat) 0 1 z_97 := by intro q0 q1; first | exact (rnB_64 (by omega) p1_97).1 | (exfalso; omega)
            have o_20 : x ≠ 0 → o = 0 → rnB 32 (x.toNat * 2 ^ v.toNat) (2 ^ (-v).toNat) 0 1 z_97 := by intro q0 q1; first | exact (rnB_32 (by omega) p1_97).1 | (exfalso; omega)
            have o_21 : 0 ≤ z_97 ∧ z_97 ≤ 9218868437227405312 := by rcases (show o = 0 ∨ o = 1 by omega) with q | q; have h7 := (rnB_32 (by omega) p1_97).2; omega; have h7 := (rnB_64 (by omega) p1_97).2; omega
            have o_22 : o = 0 → z_97 ≤ 2139095040 := by intro q; have h7 := (rnB_32 (by omega) p1_97).2; omega
            exact W.lret (v := L6 z_97) hx hb hr (fun t ht hW => ⟨⟨L6 z_97, (z_97, W1_97, wd1_11, lp1_11, mp1_11), rfl, ⟨rfl, ⟨o_17, o_18, o_19, o_20, o_21, o_22⟩⟩, by rw [ht]; exact hP, va_K.moved hW.alike hK, hD⟩, hS.F ht⟩) hS.2.2 dX8_scaled_100
          · skip
            omega
        · skip
          refine lv_iconst (v := I3 (2)) hx hb dX8_scaled_76 rfl ?_
          refine lv_goto (tgt := 81) hx hb dX8_scaled_77 (by decide) ?_
          refine lv_iload_n hx hb dX8_scaled_81 rfl (lv_at hl 2 rfl) ?_
          refine ix_if_le (tgt := 89) hx hb (by first | assumption | decide | (constructor <;> omega)) dX8_scaled_82 (by decide) (fun c_82 => ?_) (fun c_82 => ?_)
          · skip
            omega
          · skip
            refine lv_iload_n hx hb dX8_scaled_85 rfl (lv_at hl 2 rfl) ?_
            refine lv_goto (tgt := 91) hx hb dX8_scaled_86 (by decide) ?_
            have h_23 : 0 ≤ (2 : Int) ∧ (2 : Int) < 16 := by decide
            have h_24 : 0 ≤ v ∧ v < 2048 := by first | assumption | omega | (constructor <;> omega)
            have h_25 : Dg W1_23 := by first | assumption | omega | (constructor <;> omega)
            have hPc := hP.sub (ws' := [(am, .inr (0, [.int (I3 th), .int (I3 mn), .ref as_, .ref av, .ref aw, .int (I3 sm), .int (I3 wd1_11), .int (I3 lp1_11), .int (I3 mp1_11), .int (I3 re)])), (as_, .inl (dA 0, 60, .inl (iA SG))), (av, .inl (dA 1, 960, .inr (.inl (lA VL)))), (aw, .inl (dA 1, 1024, .inr (.inl (lA W1_23))))]) [0, 1, 2, 3] rfl
            have hDc := hD.sub (ws' := [(am, .inr (0, [.int (I3 th), .int (I3 mn), .ref as_, .ref av, .ref aw, .int (I3 sm), .int (I3 wd1_11), .int (I3 lp1_11), .int (I3 mp1_11), .int (I3 re)])), (as_, .inl (dA 0, 60, .inl (iA SG))), (av, .inl (dA 1, 960, .inr (.inl (lA VL)))), (aw, .inl (dA 1, 1024, .inr (.inl (lA W1_23))))]) [0, 1, 2, 3] (by decide) rfl
            have hFc := va_free (wc := [(am, .inr (0, [.int (I3 th), .int (I3 mn), .ref as_, .ref av, .ref aw, .int (I3 sm), .int (I3 wd1_11), .int (I3 lp1_11), .int (I3 mp1_11), .int (I3 re)])), (as_, .inl (dA 0, 60, .inl (iA SG))), (av, .inl (dA 1, 960, .inr (.inl (lA VL)))), (aw, .inl (dA 1, 1024, .inr (.inl (lA W1_23))))]) hD hS hA [0, 1, 2, 3] rfl
            refine va_callv (va_runV (As := [.int (I3 2), .int (I3 v)]) (rest := []) ⟨hx, hb, hml, hown, hts⟩ (metX8_up l dC dI dA am as_ av aw H.size th mn sm wd1_11 lp1_11 mp1_11 re SG VL W1_23 2 v h_23 h_24 h_25) (cwV 2 hts (lw_V q1000 q1002 qs30 q66 q1003) rfl rfl rfl (by decide +kernel) ⟨Nat.le_of_ble_eq_true rfl, Nat.le_of_ble_eq_true rfl⟩) ⟨fun a U g mk q => by obtain ⟨q0, q1, qP, qK, qD⟩ := q; exact ⟨q0, q1, qP, va_K.moved (u := U) (U := U.calling g mk a) (Vm.Alike.refl U.vm) qK, qD⟩, va_recv hK hPc (ci := 0) (q0 := 0) rfl rfl, fun U hU hW => ⟨rfl, by rw [hU], by rw [hU]; exact hPc, va_K.moved hW.alike hK, hDc.weaken (fun _ _ _ _ => trivial)⟩⟩ rfl rfl hl.1 rfl (lv_room (Nat.le_of_ble_eq_true rfl)) dX8_scaled_91 ⟨Nat.le_of_ble_eq_true rfl, Nat.le_of_ble_eq_true rfl⟩) hS (fun q _ h => hFc q h) hFc (fun u t H1 locs ht hvm hw hB hz1 hk1 hS => ?_)
            obtain ⟨W1_91, rfl⟩ : ∃ z, z = u := ⟨_, rfl⟩
            obtain ⟨p0_91, p1_91, p2_91⟩ : (Dg W1_91) ∧ (Fr W1_23 W1_91 (2 : Int)) ∧ (rv W1_91 (2 : Int) = rv W1_23 (2 : Int) * 2 ^ v.toNat % BN) := hw
            obtain ⟨hP1, hK1, hD1⟩ := hB
            rw [ht] at hP1
            obtain ⟨hP, hD⟩ := va_join (wr := []) (w1 := [(am, .inr (0, [.int (I3 th), .int (I3 mn), .ref as_, .ref av, .ref aw, .int (I3 sm), .int (I3 wd1_11), .int (I3 lp1_11), .int (I3 mp1_11), .int (I3 re)])), (as_, .inl (dA 0, 60, .inl (iA SG))), (av, .inl (dA 1, 960, .inr (.inl (lA VL)))), (aw, .inl (dA 1, 1024, .inr (.inl (lA W1_91))))]) hP hD [0, 1, 2, 3] [] rfl rfl (by decide) (by decide) hk1 hFc hP1 hD1
            generalize H1 = H at hP hS ⊢
            have hP : va_P (dC, dI) vwCl [(am, .inr (0, [.int (I3 th), .int (I3 mn), .ref as_, .ref av, .ref aw, .int (I3 sm), .int (I3 wd1_11), .int (I3 lp1_11), .int (I3 mp1_11), .int (I3 re)])), (as_, .inl (dA 0, 60, .inl (iA SG))), (av, .inl (dA 1, 960, .inr (.inl (lA VL)))), (aw, .inl (dA 1, 1024, .inr (.inl (lA W1_91))))] H := hP
            have hD : va_D A [(am, .inr (0, [.int (I3 th), .int (I3 mn), .ref as_, .ref av, .ref aw, .int (I3 sm), .int (I3 wd1_11), .int (I3 lp1_11), .int (I3 mp1_11), .int (I3 re)])), (as_, .inl (dA 0, 60, .inl (iA SG))), (av, .inl (dA 1, 960, .inr (.inl (lA VL)))), (aw, .inl (dA 1, 1024, .inr (.inl (lA W1_91))))] := hD
            have g2 : rv W1_91 2 = x.toNat * 2 ^ v.toNat := by first | (rw [p2_91, f2]; exact mod_BN (up_lt (k := 63) hx63 (by omega))) | (rw [Fr_rv p1_91 (by decide), f2, show v.toNat = 0 by omega, Nat.pow_zero, Nat.mul_one])
            have g3 : rv W1_91 3 = 2 ^ (-v).toNat := by first | (rw [p2_91, f3, Nat.one_mul]; exact mod_BN (by have h := up_lt (x := 1) (k := 1) (n := (-v).toNat) (by decide) (by omega); omega)) | (rw [Fr_rv p1_91 (by decide), f3, show (-v).toNat = 0 by omega])
            refine lv_aload_n hx hb dX8_scaled_94 rfl (lv_at hl 0 rfl) ?_
            refine lv_iconst (v := I3 (1)) hx hb dX8_scaled_95 rfl ?_
            refine lv_iconst (v := I3 (0)) hx hb dX8_scaled_96 rfl ?_
            have h_26 : Dg W1_91 := by first | assumption | omega | (constructor <;> omega)
            have h_27 : FM wd1_11 lp1_11 mp1_11 := by exact hFM1
            have h_28 : rv W1_91 2 ≠ 0 := by rw [g2]; exact Nat.ne_of_gt (Nat.mul_pos (by omega) (Nat.two_pow_pos _))
            have h_29 : rv W1_91 3 ≠ 0 := by rw [g3]; exact Nat.ne_of_gt (Nat.two_pow_pos _)
            have h_30 : bl (rv W1_91 2) ≤ 1900 := by rw [g2]; exact bl_le.mpr (Nat.lt_of_lt_of_le (by rw [Nat.pow_add]; exact Nat.mul_lt_mul_of_pos_right hx63 (Nat.two_pow_pos v.toNat) : x.toNat * 2 ^ v.toNat < 2 ^ (63 + v.toNat)) (Nat.pow_le_pow_right (by decide) (by omega)))
            have h_31 : bl (rv W1_91 3) ≤ 1900 := by rw [g3]; exact bl_le.mpr (Nat.pow_lt_pow_right (by decide) (by omega))
            have h_32 : In3 (1 : Int) := by decide
            have h_33 : 0 ≤ (0 : Int) ∧ (0 : Int) ≤ 3 := by decide
            have hPc := hP.sub (ws' := [(am, .inr (0, [.int (I3 th), .int (I3 mn), .ref as_, .ref av, .ref aw, .int (I3 sm), .int (I3 wd1_11), .int (I3 lp1_11), .int (I3 mp1_11), .int (I3 re)])), (as_, .inl (dA 0, 60, .inl (iA SG))), (av, .inl (dA 1, 960, .inr (.inl (lA VL)))), (aw, .inl (dA 1, 1024, .inr (.inl (lA W1_91))))]) [0, 1, 2, 3] rfl
            have hDc := hD.sub (ws' := [(am, .inr (0, [.int (I3 th), .int (I3 mn), .ref as_, .ref av, .ref aw, .int (I3 sm), .int (I3 wd1_11), .int (I3 lp1_11), .int (I3 mp1_11), .int (I3 re)])), (as_, .inl (dA 0, 60, .inl (iA SG))), (av, .inl (dA 1, 960, .inr (.inl (lA VL)))), (aw, .inl (dA 1, 1024, .inr (.inl (lA W1_91))))]) [0, 1, 2, 3] (by decide) rfl
            have hFc := va_free (wc := [(am, .inr (0, [.int (I3 th), .int (I3 mn), .ref as_, .ref av, .ref aw, .int (I3 sm), .int (I3 wd1_11), .int (I3 lp1_11), .int (I3 mp1_11), .int (I3 re)])), (as_, .inl (dA 0, 60, .inl (iA SG))), (av, .inl (dA 1, 960, .inr (.inl (lA VL)))), (aw, .inl (dA 1, 1024, .inr (.inl (lA W1_91))))]) hD hS hA [0, 1, 2, 3] rfl
            refine va_calll (va_runV (As := [.int (I3 1), .int (I3 0)]) (rest := []) ⟨hx, hb, hml, hown, hts⟩ (metX8_round l dC dI dA am as_ av aw H.size th mn sm wd1_11 lp1_11 mp1_11 re SG VL W1_91 1 0 h_26 h_27 h_28 h_29 h_30 h_31 h_32 h_33) (cwV 2 hts (lw_V q1145 q1147 qs48 q66 q1148) rfl rfl rfl (by decide +kernel) ⟨Nat.le_of_ble_eq_true rfl, Nat.le_of_ble_eq_true rfl⟩) ⟨fun a U g mk q => by obtain ⟨q0, q1, qP, qK, qD⟩ := q; exact ⟨q0, q1, qP, va_K.moved (u := U) (U := U.calling g mk a) (Vm.Alike.refl U.vm) qK, qD⟩, va_recv hK hPc (ci := 0) (q0 := 0) rfl rfl, fun U hU hW => ⟨rfl, by rw [hU], by rw [hU]; exact hPc, va_K.moved hW.alike hK, hDc.weaken (fun _ _ _ _ => trivial)⟩⟩ rfl rfl hl.1 rfl (lv_room (Nat.le_of_ble_eq_true rfl)) dX8_scaled_97 ⟨Nat.le_of_ble_eq_true rfl, Nat.le_of_ble_eq_true rfl⟩) hS (fun q _ h => hFc q h) hFc (fun r_97 u t H1 locs ht hvm hw hB hz1 hk1 hS => ?_)
            obtain ⟨z_97, W1_97⟩ := u
            obtain ⟨rfl, p0_97, p1_97⟩ : r_97 = L6 z_97 ∧ (Dg W1_97) ∧ (∃ q : Int, RQ wd1_11 lp1_11 (rv W1_91 2) (rv W1_91 3) q ∧ z_97 = encS (2 ^ (wd1_11 - 1).toNat) lp1_11 mp1_11 (upS (0 : Int) (1 : Int) (nS (rv W1_91 2) q) (dS (rv W1_91 3) q)) q (infS (0 : Int) (1 : Int))) := hw
            obtain ⟨hP1, hK1, hD1⟩ := hB
            rw [ht] at hP1
            obtain ⟨hP, hD⟩ := va_join (wr := []) (w1 := [(am, .inr (0, [.int (I3 th), .int (I3 mn), .ref as_, .ref av, .ref aw, .int (I3 sm), .int (I3 wd1_11), .int (I3 lp1_11), .int (I3 mp1_11), .int (I3 re)])), (as_, .inl (dA 0, 60, .inl (iA SG))), (av, .inl (dA 1, 960, .inr (.inl (lA VL)))), (aw, .inl (dA 1, 1024, .inr (.inl (lA W1_97))))]) hP hD [0, 1, 2, 3] [] rfl rfl (by decide) (by decide) hk1 hFc hP1 hD1
            generalize H1 = H at hP hS ⊢
            have hP : va_P (dC, dI) vwCl [(am, .inr (0, [.int (I3 th), .int (I3 mn), .ref as_, .ref av, .ref aw, .int (I3 sm), .int (I3 wd1_11), .int (I3 lp1_11), .int (I3 mp1_11), .int (I3 re)])), (as_, .inl (dA 0, 60, .inl (iA SG))), (av, .inl (dA 1, 960, .inr (.inl (lA VL)))), (aw, .inl (dA 1, 1024, .inr (.inl (lA W1_97))))] H := hP
            have hD : va_D A [(am, .inr (0, [.int (I3 th), .int (I3 mn), .ref as_, .ref av, .ref aw, .int (I3 sm), .int (I3 wd1_11), .int (I3 lp1_11), .int (I3 mp1_11), .int (I3 re)])), (as_, .inl (dA 0, 60, .inl (iA SG))), (av, .inl (dA 1, 960, .inr (.inl (lA VL)))), (aw, .inl (dA 1, 1024, .inr (.inl (lA W1_97))))] := hD
            rw [g2, g3] at p1_97
            have o_34 : Dg W1_97 := by first | assumption | omega | (constructor <;> omega)
            have o_35 : x = 0 → z_97 = 0 := by intro q0; omega
            have o_36 : x ≠ 0 → o = 1 → rnB 64 (x.toNat * 2 ^ v.toNat) (2 ^ (-v).toNat) 0 1 z_97 := by intro q0 q1; first | exact (rnB_64 (by omega) p1_97).1 | (exfalso; omega)
            have o_37 : x ≠ 0 → o = 0 → rnB 32 (x.toNat * 2 ^ v.toNat) (2 ^ (-v).toNat) 0 1 z_97 := by intro q0 q1; first | exact (rnB_32 (by omega) p1_97).1 | (exfalso; omega)
            have o_38 : 0 ≤ z_97 ∧ z_97 ≤ 9218868437227405312 := by rcases (show o = 0 ∨ o = 1 by omega) with q | q; have h7 := (rnB_32 (by omega) p1_97).2; omega; have h7 := (rnB_64 (by omega) p1_97).2; omega
            have o_39 : o = 0 → z_97 ≤ 2139095040 := by intro q; have h7 := (rnB_32 (by omega) p1_97).2; omega
            exact W.lret (v := L6 z_97) hx hb hr (fun t ht hW => ⟨⟨L6 z_97, (z_97, W1_97, wd1_11, lp1_11, mp1_11), rfl, ⟨rfl, ⟨o_34, o_35, o_36, o_37, o_38, o_39⟩⟩, by rw [ht]; exact hP, va_K.moved hW.alike hK, hD⟩, hS.F ht⟩) hS.2.2 dX8_scaled_100
      · skip
        refine lv_aload_n hx hb dX8_scaled_51 rfl (lv_at hl 0 rfl) ?_
        refine lv_lconst (v := L6 1) hx hb dX8_scaled_52 (by decide) ?_
        refine lv_aload_n hx hb dX8_scaled_53 rfl (lv_at hl 0 rfl) ?_
        refine va_get (D := (dC, dI)) (ci := 0) (v := .int (I3 wd1_11)) (C := RX8) (T := TX8) (N := 10) hx hb hts in_X8 hown hK hP 0 rfl rfl 6 (by decide) (hts _ q919) (fun _ h9 => h9) rfl dX8_scaled_54 ?_
        refine lv_iconst (v := I3 (1)) hx hb dX8_scaled_57 rfl ?_
        refine ix_isub hx hb dX8_scaled_58 ?_
        refine ix_lshl hx hb (by first | decide | omega) dX8_scaled_59 ?_
        refine ix_tl (y := (2 : Int) ^ (wd1_11 - 1).toNat) (by exact Int.one_mul _) ?_
        refine lv_aload_n hx hb dX8_scaled_60 rfl (lv_at hl 0 rfl) ?_
        refine va_get (D := (dC, dI)) (ci := 0) (v := .int (I3 mp1_11)) (C := RX8) (T := TX8) (N := 10) hx hb hts in_X8 hown hK hP 0 rfl rfl 8 (by decide) (hts _ q921) (fun _ h9 => h9) rfl dX8_scaled_61 ?_
        refine lv_iconst (v := I3 (1)) hx hb dX8_scaled_64 rfl ?_
        refine ix_iadd hx hb dX8_scaled_65 ?_
        refine lv_iconst (v := I3 (1)) hx hb dX8_scaled_66 rfl ?_
        have h_40 : FM wd1_11 lp1_11 mp1_11 := by exact hFM1
        have h_41 : 0 ≤ ((2 : Int) ^ (wd1_11 - 1).toNat) ∧ ((2 : Int) ^ (wd1_11 - 1).toNat) ≤ 2 ^ wd1_11.toNat := by constructor <;> omega
        have h_42 : lp1_11 ≤ (mp1_11 + 1) ∧ (mp1_11 + 1) ≤ 100000 := by constructor <;> omega
        have h_43 : (1 : Int) = 0 ∨ (1 : Int) = 1 := by exact Or.inr rfl
        have hPc := hP.sub (ws' := [(am, .inr (0, [.int (I3 th), .int (I3 mn), .ref as_, .ref av, .ref aw, .int (I3 sm), .int (I3 wd1_11), .int (I3 lp1_11), .int (I3 mp1_11), .int (I3 re)])), (as_, .inl (dA 0, 60, .inl (iA SG))), (av, .inl (dA 1, 960, .inr (.inl (lA VL)))), (aw, .inl (dA 1, 1024, .inr (.inl (lA W1_23))))]) [0, 1, 2, 3] rfl
        have hDc := hD.sub (ws' := [(am, .inr (0, [.int (I3 th), .int (I3 mn), .ref as_, .ref av, .ref aw, .int (I3 sm), .int (I3 wd1_11), .int (I3 lp1_11), .int (I3 mp1_11), .int (I3 re)])), (as_, .inl (dA 0, 60, .inl (iA SG))), (av, .inl (dA 1, 960, .inr (.inl (lA VL)))), (aw, .inl (dA 1, 1024, .inr (.inl (lA W1_23))))]) [0, 1, 2, 3] (by decide) rfl
        have hFc := va_free (wc := [(am, .inr (0, [.int (I3 th), .int (I3 mn), .ref as_, .ref av, .ref aw, .int (I3 sm), .int (I3 wd1_11), .int (I3 lp1_11), .int (I3 mp1_11), .int (I3 re)])), (as_, .inl (dA 0, 60, .inl (iA SG))), (av, .inl (dA 1, 960, .inr (.inl (lA VL)))), (aw, .inl (dA 1, 1024, .inr (.inl (lA W1_23))))]) hD hS hA [0, 1, 2, 3] rfl
        refine va_calll (va_runV (As := [.long (L6 ((2 : Int) ^ (wd1_11 - 1).toNat)), .int (I3 (mp1_11 + 1)), .int (I3 1)]) (rest := []) ⟨hx, hb, hml, hown, hts⟩ (metX8_encode l dC dI dA am as_ av aw H.size th mn sm wd1_11 lp1_11 mp1_11 re SG VL W1_23 ((2 : Int) ^ (wd1_11 - 1).toNat) (mp1_11 + 1) 1 h_40 h_41 h_42 h_43) (cwV 3 hts (lw_V q1149 q1151 qs49 q66 q1152) rfl rfl rfl (by decide +kernel) ⟨Nat.le_of_ble_eq_true rfl, Nat.le_of_ble_eq_true rfl⟩) ⟨fun a U g mk q => by obtain ⟨q0, q1, qP, qK, qD⟩ := q; exact ⟨q0, q1, qP, va_K.moved (u := U) (U := U.calling g mk a) (Vm.Alike.refl U.vm) qK, qD⟩, va_recv hK hPc (ci := 0) (q0 := 0) rfl rfl, fun U hU hW => ⟨rfl, by rw [hU], by rw [hU]; exact hPc, va_K.moved hW.alike hK, hDc.weaken (fun _ _ _ _ => trivial)⟩⟩ rfl rfl hl.1 rfl (lv_room (Nat.le_of_ble_eq_true rfl)) dX8_scaled_67 ⟨Nat.le_of_ble_eq_true rfl, Nat.le_of_ble_eq_true rfl⟩) hS (fun q _ h => hFc q h) hFc (fun r_67 u t H1 locs ht hvm hw hB hz1 hk1 hS => ?_)
        obtain ⟨z_67, rfl⟩ : ∃ z, z = u := ⟨_, rfl⟩
        obtain ⟨rfl, p0_67⟩ : r_67 = L6 z_67 ∧ (z_67 = encS (2 ^ (wd1_11 - 1).toNat) lp1_11 mp1_11 ((2 : Int) ^ (wd1_11 - 1).toNat) (mp1_11 + 1) (1 : Int)) := hw
        obtain ⟨hP1, hK1, hD1⟩ := hB
        rw [ht] at hP1
        obtain ⟨hP, hD⟩ := va_join (wr := []) (w1 := [(am, .inr (0, [.int (I3 th), .int (I3 mn), .ref as_, .ref av, .ref aw, .int (I3 sm), .int (I3 wd1_11), .int (I3 lp1_11), .int (I3 mp1_11), .int (I3 re)])), (as_, .inl (dA 0, 60, .inl (iA SG))), (av, .inl (dA 1, 960, .inr (.inl (lA VL)))), (aw, .inl (dA 1, 1024, .inr (.inl (lA W1_23))))]) hP hD [0, 1, 2, 3] [] rfl rfl (by decide) (by decide) hk1 hFc hP1 hD1
        generalize H1 = H at hP hS ⊢
        have hP : va_P (dC, dI) vwCl [(am, .inr (0, [.int (I3 th), .int (I3 mn), .ref as_, .ref av, .ref aw, .int (I3 sm), .int (I3 wd1_11), .int (I3 lp1_11), .int (I3 mp1_11), .int (I3 re)])), (as_, .inl (dA 0, 60, .inl (iA SG))), (av, .inl (dA 1, 960, .inr (.inl (lA VL)))), (aw, .inl (dA 1, 1024, .inr (.inl (lA W1_23))))] H := hP
        have hD : va_D A [(am, .inr (0, [.int (I3 th), .int (I3 mn), .ref as_, .ref av, .ref aw, .int (I3 sm), .int (I3 wd1_11), .int (I3 lp1_11), .int (I3 mp1_11), .int (I3 re)])), (as_, .inl (dA 0, 60, .inl (iA SG))), (av, .inl (dA 1, 960, .inr (.inl (lA VL)))), (aw, .inl (dA 1, 1024, .inr (.inl (lA W1_23))))] := hD
        have hz67 : z_67 = (mp1_11 - lp1_11 + 2) * 2 ^ (wd1_11 - 1).toNat := by rw [p0_67]; unfold encS encT; rw [if_neg (by omega), if_pos (by omega), if_neg (by decide)]
        have hR := sc_hi (x := x.toNat) (b := v) hFM1 (by omega) (by omega)
        rw [← hz67] at hR
        have o_44 : Dg W1_23 := by first | assumption | omega | (constructor <;> omega)
        have o_45 : x = 0 → z_67 = 0 := by intro q0; omega
        have o_46 : x ≠ 0 → o = 1 → rnB 64 (x.toNat * 2 ^ v.toNat) (2 ^ (-v).toNat) 0 1 z_67 := by intro q0 q1; first | exact (rnB_64 (by omega) hR).1 | (exfalso; omega)
        have o_47 : x ≠ 0 → o = 0 → rnB 32 (x.toNat * 2 ^ v.toNat) (2 ^ (-v).toNat) 0 1 z_67 := by intro q0 q1; first | exact (rnB_32 (by omega) hR).1 | (exfalso; omega)
        have o_48 : 0 ≤ z_67 ∧ z_67 ≤ 9218868437227405312 := by rcases (show o = 0 ∨ o = 1 by omega) with q | q; have h7 := (rnB_32 (by omega) hR).2; omega; have h7 := (rnB_64 (by omega) hR).2; omega
        have o_49 : o = 0 → z_67 ≤ 2139095040 := by intro q; have h7 := (rnB_32 (by omega) hR).2; omega
        exact W.lret (v := L6 z_67) hx hb hr (fun t ht hW => ⟨⟨L6 z_67, (z_67, W1_23, wd1_11, lp1_11, mp1_11), rfl, ⟨rfl, ⟨o_44, o_45, o_46, o_47, o_48, o_49⟩⟩, by rw [ht]; exact hP, va_K.moved hW.alike hK, hD⟩, hS.F ht⟩) hS.2.2 dX8_scaled_70
    · skip
      refine lv_lconst (v := L6 0) hx hb dX8_scaled_38 (by decide) ?_
      have hR := sc_lo (x := x.toNat) (b := v) hFM1 hx63 (by omega)
      have o_50 : Dg W1_23 := by first | assumption | omega | (constructor <;> omega)
      have o_51 : x = 0 → (0 : Int) = 0 := by intro q0; omega
      have o_52 : x ≠ 0 → o = 1 → rnB 64 (x.toNat * 2 ^ v.toNat) (2 ^ (-v).toNat) 0 1 (0 : Int) := by intro q0 q1; first | exact (rnB_64 (by omega) hR).1 | (exfalso; omega)
      have o_53 : x ≠ 0 → o = 0 → rnB 32 (x.toNat * 2 ^ v.toNat) (2 ^ (-v).toNat) 0 1 (0 : Int) := by intro q0 q1; first | exact (rnB_32 (by omega) hR).1 | (exfalso; omega)
      have o_54 : 0 ≤ (0 : Int) ∧ (0 : Int) ≤ 9218868437227405312 := by rcases (show o = 0 ∨ o = 1 by omega) with q | q; have h7 := (rnB_32 (by omega) hR).2; omega; have h7 := (rnB_64 (by omega) hR).2; omega
      have o_55 : o = 0 → (0 : Int) ≤ 2139095040 := by intro q; have h7 := (rnB_32 (by omega) hR).2; omega
      exact W.lret (v := L6 0) hx hb hr (fun t ht hW => ⟨⟨L6 0, (0, W1_23, wd1_11, lp1_11, mp1_11), rfl, ⟨rfl, ⟨o_50, o_51, o_52, o_53, o_54, o_55⟩⟩, by rw [ht]; exact hP, va_K.moved hW.alike hK, hD⟩, hS.F ht⟩) hS.2.2 dX8_scaled_39
  · skip
    refine lv_lconst (v := L6 0) hx hb dX8_scaled_6 (by decide) ?_
    have o_56 : Dg wf := by first | assumption | omega | (constructor <;> omega)
    have o_57 : x = 0 → (0 : Int) = 0 := by first | assumption | omega | (constructor <;> omega)
    have o_58 : x ≠ 0 → o = 1 → rnB 64 (x.toNat * 2 ^ v.toNat) (2 ^ (-v).toNat) 0 1 (0 : Int) := by intro q; omega
    have o_59 : x ≠ 0 → o = 0 → rnB 32 (x.toNat * 2 ^ v.toNat) (2 ^ (-v).toNat) 0 1 (0 : Int) := by intro q; omega
    have o_60 : 0 ≤ (0 : Int) ∧ (0 : Int) ≤ 9218868437227405312 := by first | assumption | omega | (constructor <;> omega)
    have o_61 : o = 0 → (0 : Int) ≤ 2139095040 := by first | assumption | omega | (constructor <;> omega)
    exact W.lret (v := L6 0) hx hb hr (fun t ht hW => ⟨⟨L6 0, (0, wf, wd, lp, mp), rfl, ⟨rfl, ⟨o_56, o_57, o_58, o_59, o_60, o_61⟩⟩, by rw [ht]; exact hP, va_K.moved hW.alike hK, hD⟩, hS.F ht⟩) hS.2.2 dX8_scaled_7
