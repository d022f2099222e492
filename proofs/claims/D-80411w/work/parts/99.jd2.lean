/-! doubles of the JDK: powers of two, scaling, the greater, the next -/
set_option maxRecDepth 100000
abbrev BmetJ7_powerOfTwoD (dC : Nat → ClassId) (dI : Nat → Nat → Nat) (dA : Nat → ClassId) (A : Nat → Prop)  (sc : Int) : Int → State → Prop := fun u t => (fun (u : Int) => (fun (z : Int) => va_P (dC, dI) vwCl [] t.heap ∧ va_K (dC, dI) vwCl (tyA dA) t ∧ va_D A []) u) u
abbrev QmetJ7_powerOfTwoD (dC : Nat → ClassId) (dI : Nat → Nat → Nat) (dA : Nat → ClassId) (A : Nat → Prop)  (sc : Int) := va_Qd (fun (rt_ : UInt64) => fun (u : Int) => (fun (z : Int) => rt_ = dX z ∧ (z = (sc + 1023) * 4503599627370496)) u) (BmetJ7_powerOfTwoD dC dI dA A sc) A
set_option maxHeartbeats 1000000 in
set_option maxRecDepth 100000 in
theorem metJ7_powerOfTwoD (l : Launch) (dC : Nat → ClassId) (dI : Nat → Nat → Nat) (dA : Nat → ClassId)  (sz : Nat) (sc : Int) (hsc : -1022 ≤ sc ∧ sc ≤ 1023) : Met l yJ7_powerOfTwoD (ws_ yJ7_powerOfTwoD cJ7_powerOfTwoD 1 (some .double)) ({ frames := 2, cells := 0, slots := 0, locals := 80 }) (va_Pc [.int (I3 sc)] (fun U => U.heap.size = sz ∧ va_P (dC, dI) vwCl [] U.heap ∧ va_K (dC, dI) vwCl (tyA dA) U ∧ va_D (fun _ => True) [] ∧ MX (va_A [] sz) U U.heap)) (QmetJ7_powerOfTwoD dC dI dA (va_A [] sz) sc) 0 0 (va_A [] sz) := by
  refine va_MetF (cc := cJ7_powerOfTwoD) (maxL := 1) (ret := (some .double)) (by decide +kernel) rfl ?_
  intro p e s m args below meth c s₁ B hml hv
  obtain ⟨rfl, hsz, hP, hK, hD0, hq0⟩ := hv
  have hx := B.exec
  have hb := B.bytes
  have hr := B.returns
  have hts := atoms_spec (ws := (ws_ yJ7_powerOfTwoD cJ7_powerOfTwoD 1 (some .double))) B.pre
  have hts : ∀ w ∈ lw_all, w.before _ s = true := fun w h => hts w (List.mem_cons_of_mem _ h)
  have hown : s.vm.findClass RJ7 = some m.cls := findClass_of_methodNamed B.named
  have hlocks := B.notSynchronized
  subst hsz
  have hD := hD0.self (sz := s.heap.size)
  generalize hAe : va_A [] s.heap.size = A at hD hq0 ⊢
  have hA : ∀ q : Nat, s.heap.size ≤ q → A q := fun q h => by rw [← hAe]; exact Or.inr h
  have hS : va_S A s.heap s.heap [] := va_S.rf
  have hP : va_P (dC, dI) vwCl [] s.heap := hP
  have hl := lv_entry ([.int (I3 sc)]) (n := 1) (Nat.le_of_ble_eq_true rfl)
  rw [lg_entry_eq]
  generalize (lg_sl ([.int (I3 sc)]) ++ List.replicate (1 - (lg_sl ([.int (I3 sc)])).length) Slot.unset).toArray = ls at hl ⊢
  have hl : lv_has ls 1 [(0, .int (I3 sc))] := hl
  refine va_gets (C := "java/lang/Math") (v := .int (I3 1)) hx hb hq0.1 hS hown (hts _ q523) (fun _ h9 => h9) dJ7_powerOfTwoD_0 ?_
  refine ix_if_ne (tgt := 28) hx hb (by first | assumption | decide | (constructor <;> omega)) dJ7_powerOfTwoD_3 (by decide) (fun c_3 => ?_) (fun c_3 => ?_)
  · skip
    refine lv_iload_n hx hb dJ7_powerOfTwoD_28 rfl (lv_at hl 0 rfl) ?_
    refine ix_i2l hx hb (by first | assumption | decide | (constructor <;> omega)) dJ7_powerOfTwoD_29 ?_
    refine lv_ldc2 hx hb hown (hts _ q508) dJ7_powerOfTwoD_30 ?_
    refine ix_vl (x := (1023)) (by decide) ?_
    refine ix_ladd hx hb dJ7_powerOfTwoD_33 ?_
    refine lv_bipush (v := I3 (52)) hx hb dJ7_powerOfTwoD_34 (by decide) ?_
    refine ix_lshl hx hb (by first | decide | omega) dJ7_powerOfTwoD_36 ?_
    refine ix_tl (y := (sc + 1023) * 4503599627370496) rfl ?_
    refine lv_ldc2 hx hb hown (hts _ q507) dJ7_powerOfTwoD_37 ?_
    refine ix_vl (x := (9218868437227405312)) (by decide) ?_
    refine ix_land hx hb dJ7_powerOfTwoD_40 ?_
    refine ix_tl (y := (sc + 1023) * 4503599627370496) (by rw [zand6_ex, show eX ((sc + 1023) * 4503599627370496) = sc + 1023 by unfold eX; omega]) ?_
    refine ix_dbits hx hb (hml.trans hl.1.symm) hown (hts _ q498) (hts _ q490) (hts _ q489) (hts _ q80) (by intro q; have q1 := q.1; have q2 := q.2; unfold eX at q1; omega) (Nat.le_of_ble_eq_true rfl) (Nat.le_of_ble_eq_true rfl) dJ7_powerOfTwoD_41 ?_
    have o_1 : ((sc + 1023) * 4503599627370496) = (sc + 1023) * 4503599627370496 := by first | assumption | omega | (constructor <;> omega)
    exact W.dret (v := dX ((sc + 1023) * 4503599627370496)) hx hb hr (fun t ht hW => ⟨⟨dX ((sc + 1023) * 4503599627370496), ((sc + 1023) * 4503599627370496), rfl, ⟨rfl, o_1⟩, by rw [ht]; exact hP, va_K.moved hW.alike hK, hD⟩, hS.F ht⟩) hS.2.2 dJ7_powerOfTwoD_44
  · skip
    omega
abbrev BmetJ7_ulp (dC : Nat → ClassId) (dI : Nat → Nat → Nat) (dA : Nat → ClassId) (A : Nat → Prop)  (v : Int) : Int → State → Prop := fun u t => (fun (u : Int) => (fun (z : Int) => va_P (dC, dI) vwCl [] t.heap ∧ va_K (dC, dI) vwCl (tyA dA) t ∧ va_D A []) u) u
abbrev QmetJ7_ulp (dC : Nat → ClassId) (dI : Nat → Nat → Nat) (dA : Nat → ClassId) (A : Nat → Prop)  (v : Int) := va_Qd (fun (rt_ : UInt64) => fun (u : Int) => (fun (z : Int) => rt_ = dX z ∧ ((eX v = 2047 → z = v % 9223372036854775808) ∧ (eX v ≠ 2047 → z = ulpX v))) u) (BmetJ7_ulp dC dI dA A v) A
set_option maxHeartbeats 1000000 in
set_option maxRecDepth 100000 in
theorem metJ7_ulp (l : Launch) (dC : Nat → ClassId) (dI : Nat → Nat → Nat) (dA : Nat → ClassId)  (sz : Nat) (v : Int) (hv : In6 v) (hno : ¬ noX v) : Met l yJ7_ulp (ws_ yJ7_ulp cJ7_ulp 3 (some .double)) ({ frames := 3, cells := 0, slots := 0, locals := 120 }) (va_Pc [.double (dX v)] (fun U => U.heap.size = sz ∧ va_P (dC, dI) vwCl [] U.heap ∧ va_K (dC, dI) vwCl (tyA dA) U ∧ va_D (fun _ => True) [] ∧ MX (va_A [] sz) U U.heap)) (QmetJ7_ulp dC dI dA (va_A [] sz) v) 0 0 (va_A [] sz) := by
  refine va_MetF (cc := cJ7_ulp) (maxL := 3) (ret := (some .double)) (by decide +kernel) rfl ?_
  intro p e s m args below meth c s₁ B hml hv
  obtain ⟨rfl, hsz, hP, hK, hD0, hq0⟩ := hv
  have hx := B.exec
  have hb := B.bytes
  have hr := B.returns
  have hts := atoms_spec (ws := (ws_ yJ7_ulp cJ7_ulp 3 (some .double))) B.pre
  have hts : ∀ w ∈ lw_all, w.before _ s = true := fun w h => hts w (List.mem_cons_of_mem _ h)
  have hown : s.vm.findClass RJ7 = some m.cls := findClass_of_methodNamed B.named
  have hlocks := B.notSynchronized
  subst hsz
  have hD := hD0.self (sz := s.heap.size)
  generalize hAe : va_A [] s.heap.size = A at hD hq0 ⊢
  have hA : ∀ q : Nat, s.heap.size ≤ q → A q := fun q h => by rw [← hAe]; exact Or.inr h
  have hS : va_S A s.heap s.heap [] := va_S.rf
  have hP : va_P (dC, dI) vwCl [] s.heap := hP
  have hl := lv_entry ([.double (dX v)]) (n := 3) (Nat.le_of_ble_eq_true rfl)
  rw [lg_entry_eq]
  generalize (lg_sl ([.double (dX v)]) ++ List.replicate (3 - (lg_sl ([.double (dX v)])).length) Slot.unset).toArray = ls at hl ⊢
  have hl : lv_has ls 3 [(0, .double (dX v))] := hl
  have he_ := eX_r v
  refine lv_dload_n hx hb dJ7_ulp_0 rfl (lv_at hl 0 rfl) ?_
  have h_1 : In6 v := by first | assumption | omega | (constructor <;> omega)
  have hPc := hP.sub (ws' := []) [] rfl
  have hDc := hD.sub (ws' := []) [] (by decide) rfl
  have hFc := va_free (wc := []) hD hS hA [] rfl
  refine va_calli (va_runS (As := [.double (dX v)]) (rest := []) ⟨hx, hb, hml, hown, hts⟩ (metJ7_getExponent l dC dI dA s.heap.size v h_1) (va_cwS 1 hts (lw_S q873 q505 q76 q506) rfl rfl rfl (by decide +kernel) ⟨Nat.le_of_ble_eq_true rfl, Nat.le_of_ble_eq_true rfl⟩) ⟨fun a U g mk q => by obtain ⟨q0, q1, qP, qK, qD⟩ := q; exact ⟨q0, q1, qP, va_K.moved (u := U) (U := U.calling g mk a) (Vm.Alike.refl U.vm) qK, qD⟩, fun U hU hW => ⟨rfl, by rw [hU], by rw [hU]; exact hPc, va_K.moved hW.alike hK, hDc.weaken (fun _ _ _ _ => trivial)⟩⟩ rfl rfl hl.1 rfl (lv_room (Nat.le_of_ble_eq_true rfl)) dJ7_ulp_1 ⟨Nat.le_of_ble_eq_true rfl, Nat.le_of_ble_eq_true rfl⟩) hS (fun q _ h => hFc q h) hFc (fun r_1 u t H1 locs ht hvm hw hB hz1 hk1 hS => ?_)
  obtain ⟨z_1, rfl⟩ : ∃ z, z = u := ⟨_, rfl⟩
  obtain ⟨rfl, p0_1⟩ : r_1 = I3 z_1 ∧ (z_1 = eX v - 1023) := hw
  obtain ⟨hP1, hK1, hD1⟩ := hB
  rw [ht] at hP1
  obtain ⟨hP, hD⟩ := va_join (wr := []) (w1 := []) hP hD [] [] rfl rfl (by decide) (by decide) hk1 hFc hP1 hD1
  generalize H1 = H at hP hS ⊢
  have hP : va_P (dC, dI) vwCl [] H := hP
  have hD : va_D A [] := hD
  refine lv_istore_n (lv' := [(2, .int (I3 z_1)), (0, .double (dX v))]) hx hb dJ7_ulp_4 rfl hl (by decide) rfl (fun ls hl => ?_)
  refine lv_iload_n hx hb dJ7_ulp_5 rfl (lv_at hl 0 rfl) ?_
  have y1_ : z_1 = eX v - 1023 := p0_1
  clear p0_1
  by_cases t_6_1023 : z_1 = (-1023)
  · skip
    refine ix_lkI (ps := [((-1023), 33), (1024, 26)]) hx hb (-1023) t_6_1023 (by decide) 33 (by decide) (by decide) (tgt := 39) (by decide) dJ7_ulp_6 ?_
    refine lv_ldc2d hx hb hown (hts _ q875) dJ7_ulp_39 ?_
    refine ix_dc (x := 1) (by decide) ?_
    refine lv_goto (tgt := 102) hx hb dJ7_ulp_42 (by decide) ?_
    have o_2 : (eX v = 2047 → (1 : Int) = v % 9223372036854775808) ∧ (eX v ≠ 2047 → (1 : Int) = ulpX v) := by refine ⟨fun q => absurd q (by omega), fun _ => ?_⟩; unfold ulpX; rw [if_pos (by omega)]
    exact W.dret (v := dX 1) hx hb hr (fun t ht hW => ⟨⟨dX 1, 1, rfl, ⟨rfl, o_2⟩, by rw [ht]; exact hP, va_K.moved hW.alike hK, hD⟩, hS.F ht⟩) hS.2.2 dJ7_ulp_102
  by_cases t_6_1024 : z_1 = 1024
  · skip
    refine ix_lkI (ps := [((-1023), 33), (1024, 26)]) hx hb 1024 t_6_1024 (by decide) 26 (by decide) (by decide) (tgt := 32) (by decide) dJ7_ulp_6 ?_
    refine lv_dload_n hx hb dJ7_ulp_32 rfl (lv_at hl 1 rfl) ?_
    refine ix_mabs hx hb (hml.trans hl.1.symm) hown (hts _ q874) (hts _ q492) (hts _ q76) (hts _ q493) (by first | assumption | decide | (constructor <;> omega)) (Nat.le_of_ble_eq_true rfl) (Nat.le_of_ble_eq_true rfl) dJ7_ulp_33 ?_
    refine lv_goto (tgt := 102) hx hb dJ7_ulp_36 (by decide) ?_
    have o_3 : (eX v = 2047 → (v % 9223372036854775808) = v % 9223372036854775808) ∧ (eX v ≠ 2047 → (v % 9223372036854775808) = ulpX v) := by refine ⟨fun _ => by first | rfl | assumption, fun q => absurd (by omega) q⟩
    exact W.dret (v := dX (v % 9223372036854775808)) hx hb hr (fun t ht hW => ⟨⟨dX (v % 9223372036854775808), (v % 9223372036854775808), rfl, ⟨rfl, o_3⟩, by rw [ht]; exact hP, va_K.moved hW.alike hK, hD⟩, hS.F ht⟩) hS.2.2 dJ7_ulp_102
  refine ix_lkO hx hb (by first | assumption | decide | (constructor <;> omega)) t_6_1023 t_6_1024 (by decide) (tgt := 45) (by decide) dJ7_ulp_6 ?_
  refine va_gets (C := "java/lang/Math") (v := .int (I3 1)) hx hb hq0.1 hS hown (hts _ q523) (fun _ h9 => h9) dJ7_ulp_45 ?_
  refine ix_if_ne (tgt := 73) hx hb (by first | assumption | decide | (constructor <;> omega)) dJ7_ulp_48 (by decide) (fun c_48 => ?_) (fun c_48 => ?_)
  · skip
    refine lv_iload_n hx hb dJ7_ulp_73 rfl (lv_at hl 0 rfl) ?_
    refine lv_bipush (v := I3 (52)) hx hb dJ7_ulp_74 (by decide) ?_
    refine ix_isub hx hb dJ7_ulp_76 ?_
    refine lv_istore_n (lv' := [(2, .int (I3 (z_1 - 52))), (0, .double (dX v))]) hx hb dJ7_ulp_77 rfl hl (by decide) rfl (fun ls hl => ?_)
    refine lv_iload_n hx hb dJ7_ulp_78 rfl (lv_at hl 0 rfl) ?_
    refine lv_sipush (v := I3 (-1022)) hx hb dJ7_ulp_79 (by decide) ?_
    refine ix_icmp_lt (tgt := 92) hx hb (by first | assumption | decide | (constructor <;> omega)) (by first | assumption | decide | (constructor <;> omega)) dJ7_ulp_82 (by decide) (fun c_82 => ?_) (fun c_82 => ?_)
    · skip
      refine lv_lconst (v := L6 1) hx hb dJ7_ulp_92 (by decide) ?_
      refine lv_iload_n hx hb dJ7_ulp_93 rfl (lv_at hl 0 rfl) ?_
      refine lv_sipush (v := I3 (-1074)) hx hb dJ7_ulp_94 (by decide) ?_
      refine ix_isub hx hb dJ7_ulp_97 ?_
      have hpw_ := pw_mon (a := (eX v - 1).toNat) (b := 51) (by omega)
      have hp51_ : (2 : Int) ^ 51 = 2251799813685248 := by decide
      have hp0_ := ppos (eX v - 1).toNat
      refine ix_lshl hx hb (by first | decide | omega) dJ7_ulp_98 ?_
      refine ix_tl (y := 2 ^ (eX v - 1).toNat) (by rw [Int.one_mul]; congr 1; omega) ?_
      refine ix_dbits hx hb (hml.trans hl.1.symm) hown (hts _ q498) (hts _ q490) (hts _ q489) (hts _ q80) (by exact noX_lt (by omega) (by omega)) (Nat.le_of_ble_eq_true rfl) (Nat.le_of_ble_eq_true rfl) dJ7_ulp_99 ?_
      have o_4 : (eX v = 2047 → (2 ^ (eX v - 1).toNat) = v % 9223372036854775808) ∧ (eX v ≠ 2047 → (2 ^ (eX v - 1).toNat) = ulpX v) := by refine ⟨fun q => absurd q (by omega), fun _ => ?_⟩; unfold ulpX; rw [if_neg (by omega)]; first | (rw [if_pos (by omega)]; omega) | (rw [if_neg (by omega)]; done)
      exact W.dret (v := dX (2 ^ (eX v - 1).toNat)) hx hb hr (fun t ht hW => ⟨⟨dX (2 ^ (eX v - 1).toNat), (2 ^ (eX v - 1).toNat), rfl, ⟨rfl, o_4⟩, by rw [ht]; exact hP, va_K.moved hW.alike hK, hD⟩, hS.F ht⟩) hS.2.2 dJ7_ulp_102
    · skip
      refine lv_iload_n hx hb dJ7_ulp_85 rfl (lv_at hl 0 rfl) ?_
      have h_5 : -1022 ≤ (z_1 - 52) ∧ (z_1 - 52) ≤ 1023 := by first | assumption | omega | (constructor <;> omega)
      have hPc := hP.sub (ws' := []) [] rfl
      have hDc := hD.sub (ws' := []) [] (by decide) rfl
      have hFc := va_free (wc := []) hD hS hA [] rfl
      refine va_calld (va_runS (As := [.int (I3 (z_1 - 52))]) (rest := []) ⟨hx, hb, hml, hown, hts⟩ (metJ7_powerOfTwoD l dC dI dA H.size (z_1 - 52) h_5) (va_cwS 1 hts (lw_S q520 q521 q76 q522) rfl rfl rfl (by decide +kernel) ⟨Nat.le_of_ble_eq_true rfl, Nat.le_of_ble_eq_true rfl⟩) ⟨fun a U g mk q => by obtain ⟨q0, q1, qP, qK, qD, qF0⟩ := q; exact ⟨q0, q1, qP, va_K.moved (u := U) (U := U.calling g mk a) (Vm.Alike.refl U.vm) qK, qD, MX.moved (u := U) (U := U.calling g mk a) (State.WarmedH.refl U) qF0⟩, fun U hU hW => ⟨rfl, by rw [hU], by rw [hU]; exact hPc, va_K.moved hW.alike hK, hDc.weaken (fun _ _ _ _ => trivial), by rw [hU]; exact MX.moved hW ((MX.kept hq0 hS).narrow hFc)⟩⟩ rfl rfl hl.1 rfl (lv_room (Nat.le_of_ble_eq_true rfl)) dJ7_ulp_86 ⟨Nat.le_of_ble_eq_true rfl, Nat.le_of_ble_eq_true rfl⟩) hS (fun q _ h => hFc q h) hFc (fun r_86 u t H1 locs ht hvm hw hB hz1 hk1 hS => ?_)
      obtain ⟨z_86, rfl⟩ : ∃ z, z = u := ⟨_, rfl⟩
      obtain ⟨rfl, p0_86⟩ : r_86 = dX z_86 ∧ (z_86 = ((z_1 - 52) + 1023) * 4503599627370496) := hw
      obtain ⟨hP1, hK1, hD1⟩ := hB
      rw [ht] at hP1
      obtain ⟨hP, hD⟩ := va_join (wr := []) (w1 := []) hP hD [] [] rfl rfl (by decide) (by decide) hk1 hFc hP1 hD1
      generalize H1 = H at hP hS ⊢
      have hP : va_P (dC, dI) vwCl [] H := hP
      have hD : va_D A [] := hD
      refine lv_goto (tgt := 102) hx hb dJ7_ulp_89 (by decide) ?_
      have o_6 : (eX v = 2047 → z_86 = v % 9223372036854775808) ∧ (eX v ≠ 2047 → z_86 = ulpX v) := by refine ⟨fun q => absurd q (by omega), fun _ => ?_⟩; unfold ulpX; rw [if_neg (by omega)]; first | (rw [if_pos (by omega)]; omega) | (rw [if_neg (by omega)]; done)
      exact W.dret (v := dX z_86) hx hb hr (fun t ht hW => ⟨⟨dX z_86, z_86, rfl, ⟨rfl, o_6⟩, by rw [ht]; exact hP, va_K.moved hW.alike hK, hD⟩, hS.F ht⟩) hS.2.2 dJ7_ulp_102
  · skip
    omega
abbrev BmetJ7_scalb (dC : Nat → ClassId) (dI : Nat → Nat → Nat) (dA : Nat → ClassId) (A : Nat → Prop)  (v : Int) (sc : Int) : Int → State → Prop := fun u t => (fun (u : Int) => (fun (z : Int) => va_P (dC, dI) vwCl [] t.heap ∧ va_K (dC, dI) vwCl (tyA dA) t ∧ va_D A []) u) u
abbrev QmetJ7_scalb (dC : Nat → ClassId) (dI : Nat → Nat → Nat) (dA : Nat → ClassId) (A : Nat → Prop)  (v : Int) (sc : Int) := va_Qd (fun (rt_ : UInt64) => fun (u : Int) => (fun (z : Int) => rt_ = dX z ∧ (In6 z) ∧ (¬ noX z) ∧ (vD z = sD (vD v) sc)) u) (BmetJ7_scalb dC dI dA A v sc) A
set_option maxHeartbeats 4000000 in
set_option maxRecDepth 100000 in
theorem metJ7_scalb (l : Launch) (dC : Nat → ClassId) (dI : Nat → Nat → Nat) (dA : Nat → ClassId)  (sz : Nat) (v : Int) (sc : Int) (hv : In6 v) (hsc : In3 sc) (hno : ¬ noX v) : Met l yJ7_scalb (ws_ yJ7_scalb cJ7_scalb 9 (some .double)) ({ frames := 3, cells := 0, slots := 0, locals := 120 }) (va_Pc [.double (dX v), .int (I3 sc)] (fun U => U.heap.size = sz ∧ va_P (dC, dI) vwCl [] U.heap ∧ va_K (dC, dI) vwCl (tyA dA) U ∧ va_D (fun _ => True) [] ∧ MX (va_A [] sz) U U.heap)) (QmetJ7_scalb dC dI dA (va_A [] sz) v sc) 0 0 (va_A [] sz) := by
  refine va_MetF (cc := cJ7_scalb) (maxL := 9) (ret := (some .double)) (by decide +kernel) rfl ?_
  intro p e s m args below meth c s₁ B hml hv
  obtain ⟨rfl, hsz, hP, hK, hD0, hq0⟩ := hv
  have hx := B.exec
  have hb := B.bytes
  have hr := B.returns
  have hts := atoms_spec (ws := (ws_ yJ7_scalb cJ7_scalb 9 (some .double))) B.pre
  have hts : ∀ w ∈ lw_all, w.before _ s = true := fun w h => hts w (List.mem_cons_of_mem _ h)
  have hown : s.vm.findClass RJ7 = some m.cls := findClass_of_methodNamed B.named
  have hlocks := B.notSynchronized
  subst hsz
  have hD := hD0.self (sz := s.heap.size)
  generalize hAe : va_A [] s.heap.size = A at hD hq0 ⊢
  have hA : ∀ q : Nat, s.heap.size ≤ q → A q := fun q h => by rw [← hAe]; exact Or.inr h
  have hS : va_S A s.heap s.heap [] := va_S.rf
  have hP : va_P (dC, dI) vwCl [] s.heap := hP
  have hl := lv_entry ([.double (dX v), .int (I3 sc)]) (n := 9) (Nat.le_of_ble_eq_true rfl)
  rw [lg_entry_eq]
  generalize (lg_sl ([.double (dX v), .int (I3 sc)]) ++ List.replicate (9 - (lg_sl ([.double (dX v), .int (I3 sc)])).length) Slot.unset).toArray = ls at hl ⊢
  have hl : lv_has ls 9 [(0, .double (dX v)), (2, .int (I3 sc))] := hl
  have cut_93 : ∀ (fuel_93 : Nat), ∀ (k : Int) (ic : Int) (dl : Int) (w : Int), ((ic = 512 ∧ dl = 6913025428013711360 ∧ 0 ≤ k ∧ k ≤ clJ sc) ∨ (ic = -512 ∧ dl = 2301339409586323456 ∧ k ≤ 0 ∧ clJ sc ≤ k)) → (k % 512 = 0) → (In6 w) → (¬ noX w) → (vD w = sD (vD v) (clJ sc - k)) → (k.natAbs < fuel_93) → ∀ (H : Heap) (locs : List Loc), va_P (dC, dI) vwCl [] H → va_D A [] → va_S A s.heap H locs → ∀ (ls : Array Slot), lv_has ls 9 [(0, .double (dX w)), (2, .int (I3 k)), (5, .int (I3 ic)), (6, .double (dX dl))] → W p l e (headSpec (ws_ yJ7_scalb cJ7_scalb 9 (some .double)) ({ frames := 3, cells := 0, slots := 0, locals := 120 })).room s m ([.double (dX v), .int (I3 sc)] : List Value).toArray below meth c H locs 0 0 (MQ below (QmetJ7_scalb dC dI dA A v sc) ([.double (dX v), .int (I3 sc)] : List Value).toArray s 0 0 A) (F0 m 93 ls []) := by
    intro fuel_93
    induction fuel_93 with
    | zero =>
      intro k ic dl w hd hm hw6 hwn hwv hm
      exact absurd hm (Nat.not_lt_zero _)
    | succ fuel_93 ih_93 =>
      intro k ic dl w hd hm hw6 hwn hwv hm_93 H locs hP hD hS ls hl
      have hcl_ := clJ_r sc
      refine lv_iload_n hx hb dJ7_scalb_93 rfl (lv_at hl 1 rfl) ?_
      refine ix_if_eq (tgt := 110) hx hb (by first | assumption | decide | (constructor <;> omega)) dJ7_scalb_94 (by decide) (fun c_94 => ?_) (fun c_94 => ?_)
      · skip
        refine lv_dload_n hx hb dJ7_scalb_110 rfl (lv_at hl 0 rfl) ?_
        have o_1 : In6 w := by first | assumption | omega | (constructor <;> omega)
        have o_2 : ¬ noX w := by first | assumption | omega | (constructor <;> omega)
        have o_3 : vD w = sD (vD v) sc := by rw [hwv, show clJ sc - k = clJ sc by omega]; exact sD_cl (vD_fits hv) sc
        exact W.dret (v := dX w) hx hb hr (fun t ht hW => ⟨⟨dX w, w, rfl, ⟨rfl, ⟨o_1, o_2, o_3⟩⟩, by rw [ht]; exact hP, va_K.moved hW.alike hK, hD⟩, hS.F ht⟩) hS.2.2 dJ7_scalb_111
      · skip
        refine lv_dload_n hx hb dJ7_scalb_97 rfl (lv_at hl 0 rfl) ?_
        refine lv_dload hx hb dJ7_scalb_98 (lv_at hl 3 rfl) ?_
        refine ix_dscale (n := ic) hx hb (by assumption) (by assumption) (by rcases hd with hd | hd <;> constructor <;> omega) (by rcases hd with hd | hd; (rw [hd.1, hd.2.1]; exact vD_pw (n := 512) (by omega)); (rw [hd.1, hd.2.1]; exact vD_pw (n := -512) (by omega))) dJ7_scalb_100 (fun w_100 w6_100 wn_100 wv_100 => ?_)
        refine lv_dstore_n (lv' := [(0, .double (dX w_100)), (2, .int (I3 k)), (5, .int (I3 ic)), (6, .double (dX dl))]) hx hb dJ7_scalb_101 rfl hl (by decide) rfl (fun ls hl => ?_)
        refine lv_iload_n hx hb dJ7_scalb_102 rfl (lv_at hl 1 rfl) ?_
        refine lv_iload hx hb dJ7_scalb_103 (lv_at hl 2 rfl) ?_
        refine ix_isub hx hb dJ7_scalb_105 ?_
        refine lv_istore_n (lv' := [(2, .int (I3 (k - ic))), (0, .double (dX w_100)), (5, .int (I3 ic)), (6, .double (dX dl))]) hx hb dJ7_scalb_106 rfl hl (by decide) rfl (fun ls hl => ?_)
        refine lv_goto (tgt := 93) hx hb dJ7_scalb_107 (by decide) ?_
        have e_4 : (ic = 512 ∧ dl = 6913025428013711360 ∧ 0 ≤ (k - ic) ∧ (k - ic) ≤ clJ sc) ∨ (ic = -512 ∧ dl = 2301339409586323456 ∧ (k - ic) ≤ 0 ∧ clJ sc ≤ (k - ic)) := by rcases hd with hd | hd; (left; omega); (right; omega)
        have e_5 : (k - ic) % 512 = 0 := by first | assumption | omega | (constructor <;> omega)
        have e_6 : In6 w_100 := by first | assumption | omega | (constructor <;> omega)
        have e_7 : ¬ noX w_100 := by first | assumption | omega | (constructor <;> omega)
        have e_8 : vD w_100 = sD (vD v) (clJ sc - (k - ic)) := by rw [wv_100, hwv]; rcases hd with hd | hd; (rw [hd.1, sD_up (vD_fits hv) (by omega) (by omega)]; congr 1; omega); (rw [hd.1, sD_dn (vD_fits hv) (by omega) (by omega)]; congr 1; omega)
        have e_9 : (k - ic).natAbs < fuel_93 := by rcases hd with hd | hd <;> omega
        exact ih_93 (k - ic) ic dl w_100 e_4 e_5 e_6 e_7 e_8 e_9 _ _ hP hD hS ls (lv_sub hl [1, 0, 2, 3] rfl)
  have cut_58 : ∀ (k : Int) (ic : Int) (dl : Int), (k = clJ sc) → ((ic = 512 ∧ dl = 6913025428013711360 ∧ 0 ≤ k) ∨ (ic = -512 ∧ dl = 2301339409586323456 ∧ k < 0)) → ∀ (H : Heap) (locs : List Loc), va_P (dC, dI) vwCl [] H → va_D A [] → va_S A s.heap H locs → ∀ (ls : Array Slot), lv_has ls 9 [(0, .double (dX v)), (2, .int (I3 k)), (5, .int (I3 ic)), (6, .double (dX dl))] → W p l e (headSpec (ws_ yJ7_scalb cJ7_scalb 9 (some .double)) ({ frames := 3, cells := 0, slots := 0, locals := 120 })).room s m ([.double (dX v), .int (I3 sc)] : List Value).toArray below meth c H locs 0 0 (MQ below (QmetJ7_scalb dC dI dA A v sc) ([.double (dX v), .int (I3 sc)] : List Value).toArray s 0 0 A) (F0 m 58 ls []) := by
    intro k ic dl hk hd H locs hP hD hS ls hl
    refine lv_iload_n hx hb dJ7_scalb_58 rfl (lv_at hl 1 rfl) ?_
    refine lv_bipush (v := I3 (8)) hx hb dJ7_scalb_59 (by decide) ?_
    refine ix_ishr hx hb (by unfold clJ at hk; first | (constructor <;> omega) | (split at hk <;> split at hk <;> constructor <;> omega)) (by first | decide | omega) dJ7_scalb_61 ?_
    refine ix_ti (y := k / 256) rfl ?_
    refine lv_bipush (v := I3 (23)) hx hb dJ7_scalb_62 (by decide) ?_
    refine ix_iushr hx hb (by first | decide | omega) dJ7_scalb_64 ?_
    refine ix_ti (y := (k / 256) % 4294967296 / 8388608) rfl ?_
    refine ix_ti (y := (if k < 0 then 511 else 0)) (by have hcl_ := clJ_r sc; split <;> omega) ?_
    refine lv_istore (lv' := [(8, .int (I3 ((if k < 0 then 511 else 0)))), (0, .double (dX v)), (2, .int (I3 k)), (5, .int (I3 ic)), (6, .double (dX dl))]) hx hb dJ7_scalb_65 hl (by decide) rfl (fun ls hl => ?_)
    refine lv_iload_n hx hb dJ7_scalb_67 rfl (lv_at hl 2 rfl) ?_
    refine lv_iload hx hb dJ7_scalb_68 (lv_at hl 0 rfl) ?_
    refine ix_iadd hx hb dJ7_scalb_70 ?_
    refine lv_sipush (v := I3 (511)) hx hb dJ7_scalb_71 (by decide) ?_
    refine ix_iandm hx hb 9 (by decide) (by decide) dJ7_scalb_74 ?_
    refine ix_ti (y := (k + ((if k < 0 then 511 else 0))) % 512) rfl ?_
    refine lv_iload hx hb dJ7_scalb_75 (lv_at hl 0 rfl) ?_
    refine ix_isub hx hb dJ7_scalb_77 ?_
    refine ix_ni (fun ea eea => ?_)
    have hcl_ := clJ_r sc
    have he1_ : (k < 0 → -511 ≤ ea ∧ ea ≤ 0 ∧ k ≤ ea) ∧ (0 ≤ k → 0 ≤ ea ∧ ea ≤ 511 ∧ ea ≤ k) ∧ (k - ea) % 512 = 0 := by split at eea <;> omega
    refine lv_istore (lv' := [(4, .int (I3 ea)), (8, .int (I3 ((if k < 0 then 511 else 0)))), (0, .double (dX v)), (2, .int (I3 k)), (5, .int (I3 ic)), (6, .double (dX dl))]) hx hb dJ7_scalb_78 hl (by decide) rfl (fun ls hl => ?_)
    refine lv_dload_n hx hb dJ7_scalb_80 rfl (lv_at hl 2 rfl) ?_
    refine lv_iload hx hb dJ7_scalb_81 (lv_at hl 0 rfl) ?_
    have h_10 : -1022 ≤ ea ∧ ea ≤ 1023 := by first | assumption | omega | (constructor <;> omega)
    have hPc := hP.sub (ws' := []) [] rfl
    have hDc := hD.sub (ws' := []) [] (by decide) rfl
    have hFc := va_free (wc := []) hD hS hA [] rfl
    refine va_calld (va_runS (As := [.int (I3 ea)]) (rest := [.double (dX v)]) ⟨hx, hb, hml, hown, hts⟩ (metJ7_powerOfTwoD l dC dI dA H.size ea h_10) (va_cwS 1 hts (lw_S q520 q521 q76 q522) rfl rfl rfl (by decide +kernel) ⟨Nat.le_of_ble_eq_true rfl, Nat.le_of_ble_eq_true rfl⟩) ⟨fun a U g mk q => by obtain ⟨q0, q1, qP, qK, qD, qF0⟩ := q; exact ⟨q0, q1, qP, va_K.moved (u := U) (U := U.calling g mk a) (Vm.Alike.refl U.vm) qK, qD, MX.moved (u := U) (U := U.calling g mk a) (State.WarmedH.refl U) qF0⟩, fun U hU hW => ⟨rfl, by rw [hU], by rw [hU]; exact hPc, va_K.moved hW.alike hK, hDc.weaken (fun _ _ _ _ => trivial), by rw [hU]; exact MX.moved hW ((MX.kept hq0 hS).narrow hFc)⟩⟩ rfl rfl hl.1 rfl (lv_room (Nat.le_of_ble_eq_true rfl)) dJ7_scalb_83 ⟨Nat.le_of_ble_eq_true rfl, Nat.le_of_ble_eq_true rfl⟩) hS (fun q _ h => hFc q h) hFc (fun r_83 u t H1 locs ht hvm hw hB hz1 hk1 hS => ?_)
    obtain ⟨z_83, rfl⟩ : ∃ z, z = u := ⟨_, rfl⟩
    obtain ⟨rfl, p0_83⟩ : r_83 = dX z_83 ∧ (z_83 = (ea + 1023) * 4503599627370496) := hw
    obtain ⟨hP1, hK1, hD1⟩ := hB
    rw [ht] at hP1
    obtain ⟨hP, hD⟩ := va_join (wr := []) (w1 := []) hP hD [] [] rfl rfl (by decide) (by decide) hk1 hFc hP1 hD1
    generalize H1 = H at hP hS ⊢
    have hP : va_P (dC, dI) vwCl [] H := hP
    have hD : va_D A [] := hD
    refine ix_dscale (n := ea) hx hb (by assumption) (by assumption) (by rw [p0_83]; constructor <;> omega) (by rw [p0_83]; exact vD_pw (by omega)) dJ7_scalb_86 (fun w_86 w6_86 wn_86 wv_86 => ?_)
    refine lv_dstore_n (lv' := [(0, .double (dX w_86)), (4, .int (I3 ea)), (8, .int (I3 ((if k < 0 then 511 else 0)))), (2, .int (I3 k)), (5, .int (I3 ic)), (6, .double (dX dl))]) hx hb dJ7_scalb_87 rfl hl (by decide) rfl (fun ls hl => ?_)
    refine lv_iload_n hx hb dJ7_scalb_88 rfl (lv_at hl 3 rfl) ?_
    refine lv_iload hx hb dJ7_scalb_89 (lv_at hl 1 rfl) ?_
    refine ix_isub hx hb dJ7_scalb_91 ?_
    refine lv_istore_n (lv' := [(2, .int (I3 (k - ea))), (0, .double (dX w_86)), (4, .int (I3 ea)), (8, .int (I3 ((if k < 0 then 511 else 0)))), (5, .int (I3 ic)), (6, .double (dX dl))]) hx hb dJ7_scalb_92 rfl hl (by decide) rfl (fun ls hl => ?_)
    have e_11 : (ic = 512 ∧ dl = 6913025428013711360 ∧ 0 ≤ (k - ea) ∧ (k - ea) ≤ clJ sc) ∨ (ic = -512 ∧ dl = 2301339409586323456 ∧ (k - ea) ≤ 0 ∧ clJ sc ≤ (k - ea)) := by rcases hd with hd | hd; (left; omega); (right; omega)
    have e_12 : (k - ea) % 512 = 0 := by first | assumption | omega | (constructor <;> omega)
    have e_13 : In6 w_86 := by first | assumption | omega | (constructor <;> omega)
    have e_14 : ¬ noX w_86 := by first | assumption | omega | (constructor <;> omega)
    have e_15 : vD w_86 = sD (vD v) (clJ sc - (k - ea)) := by rw [wv_86]; congr 1; omega
    exact cut_93 ((k - ea).natAbs + 1) (k - ea) ic dl w_86 e_11 e_12 e_13 e_14 e_15 (Nat.lt_succ_self _) _ _ hP hD hS ls (lv_sub hl [1, 0, 4, 5] rfl)
  refine lv_sipush (v := I3 (2099)) hx hb dJ7_scalb_0 (by decide) ?_
  refine lv_istore_n (lv' := [(3, .int (I3 2099)), (0, .double (dX v)), (2, .int (I3 sc))]) hx hb dJ7_scalb_3 rfl hl (by decide) rfl (fun ls hl => ?_)
  refine lv_iconst (v := I3 (0)) hx hb dJ7_scalb_4 rfl ?_
  refine lv_istore (lv' := [(4, .int (I3 0)), (3, .int (I3 2099)), (0, .double (dX v)), (2, .int (I3 sc))]) hx hb dJ7_scalb_5 hl (by decide) rfl (fun ls hl => ?_)
  refine lv_iconst (v := I3 (0)) hx hb dJ7_scalb_7 rfl ?_
  refine lv_istore (lv' := [(5, .int (I3 0)), (4, .int (I3 0)), (3, .int (I3 2099)), (0, .double (dX v)), (2, .int (I3 sc))]) hx hb dJ7_scalb_8 hl (by decide) rfl (fun ls hl => ?_)
  refine lv_ldc2d hx hb hown (hts _ q513) dJ7_scalb_10 ?_
  refine ix_dc (x := 9221120237041090560) (by decide) ?_
  refine lv_dstore (lv' := [(6, .double (dX 9221120237041090560)), (5, .int (I3 0)), (4, .int (I3 0)), (3, .int (I3 2099)), (0, .double (dX v)), (2, .int (I3 sc))]) hx hb dJ7_scalb_13 hl (by decide) rfl (fun ls hl => ?_)
  refine lv_iload_n hx hb dJ7_scalb_15 rfl (lv_at hl 5 rfl) ?_
  refine ix_if_ge (tgt := 40) hx hb (by first | assumption | decide | (constructor <;> omega)) dJ7_scalb_16 (by decide) (fun c_16 => ?_) (fun c_16 => ?_)
  · skip
    refine lv_iload_n hx hb dJ7_scalb_40 rfl (lv_at hl 5 rfl) ?_
    refine lv_sipush (v := I3 (2099)) hx hb dJ7_scalb_41 (by decide) ?_
    have h_16 : In3 sc := by first | assumption | omega | (constructor <;> omega)
    have h_17 : In3 (2099 : Int) := by first | assumption | omega | (constructor <;> omega)
    have hPc := hP.sub (ws' := []) [] rfl
    have hDc := hD.sub (ws' := []) [] (by decide) rfl
    have hFc := va_free (wc := []) hD hS hA [] rfl
    refine va_calli (va_runS (As := [.int (I3 sc), .int (I3 2099)]) (rest := []) ⟨hx, hb, hml, hown, hts⟩ (metJ7_min l dC dI dA s.heap.size sc 2099 h_16 h_17) (va_cwS 2 hts (lw_S q517 q350 q76 q351) rfl rfl rfl (by decide +kernel) ⟨Nat.le_of_ble_eq_true rfl, Nat.le_of_ble_eq_true rfl⟩) ⟨fun a U g mk q => by obtain ⟨q0, q1, qP, qK, qD⟩ := q; exact ⟨q0, q1, qP, va_K.moved (u := U) (U := U.calling g mk a) (Vm.Alike.refl U.vm) qK, qD⟩, fun U hU hW => ⟨rfl, by rw [hU], by rw [hU]; exact hPc, va_K.moved hW.alike hK, hDc.weaken (fun _ _ _ _ => trivial)⟩⟩ rfl rfl hl.1 rfl (lv_room (Nat.le_of_ble_eq_true rfl)) dJ7_scalb_44 ⟨Nat.le_of_ble_eq_true rfl, Nat.le_of_ble_eq_true rfl⟩) hS (fun q _ h => hFc q h) hFc (fun r_44 u t H1 locs ht hvm hw hB hz1 hk1 hS => ?_)
    obtain ⟨z_44, rfl⟩ : ∃ z, z = u := ⟨_, rfl⟩
    obtain ⟨rfl, p0_44⟩ : r_44 = I3 z_44 ∧ ((sc ≤ (2099 : Int) → z_44 = sc) ∧ ((2099 : Int) ≤ sc → z_44 = (2099 : Int))) := hw
    obtain ⟨hP1, hK1, hD1⟩ := hB
    rw [ht] at hP1
    obtain ⟨hP, hD⟩ := va_join (wr := []) (w1 := []) hP hD [] [] rfl rfl (by decide) (by decide) hk1 hFc hP1 hD1
    generalize H1 = H at hP hS ⊢
    have hP : va_P (dC, dI) vwCl [] H := hP
    have hD : va_D A [] := hD
    refine lv_istore_n (lv' := [(2, .int (I3 z_44)), (6, .double (dX 9221120237041090560)), (5, .int (I3 0)), (4, .int (I3 0)), (3, .int (I3 2099)), (0, .double (dX v))]) hx hb dJ7_scalb_47 rfl hl (by decide) rfl (fun ls hl => ?_)
    refine lv_sipush (v := I3 (512)) hx hb dJ7_scalb_48 (by decide) ?_
    refine lv_istore (lv' := [(5, .int (I3 512)), (2, .int (I3 z_44)), (6, .double (dX 9221120237041090560)), (4, .int (I3 0)), (3, .int (I3 2099)), (0, .double (dX v))]) hx hb dJ7_scalb_51 hl (by decide) rfl (fun ls hl => ?_)
    refine va_gets (C := "java/lang/Math") (v := .double (dX 6913025428013711360)) hx hb hq0.2.2.2.2 hS hown (hts _ q518) (fun _ h9 => h9) dJ7_scalb_53 ?_
    refine lv_dstore (lv' := [(6, .double (dX 6913025428013711360)), (5, .int (I3 512)), (2, .int (I3 z_44)), (4, .int (I3 0)), (3, .int (I3 2099)), (0, .double (dX v))]) hx hb dJ7_scalb_56 hl (by decide) rfl (fun ls hl => ?_)
    have e_18 : z_44 = clJ sc := by unfold clJ; split <;> split <;> omega
    have e_19 : ((512 : Int) = 512 ∧ (6913025428013711360 : Int) = 6913025428013711360 ∧ 0 ≤ z_44) ∨ ((512 : Int) = -512 ∧ (6913025428013711360 : Int) = 2301339409586323456 ∧ z_44 < 0) := by first | assumption | omega | (constructor <;> omega)
    exact cut_58 z_44 512 6913025428013711360 e_18 e_19 _ _ hP hD hS ls (lv_sub hl [5, 2, 1, 0] rfl)
  · skip
    refine lv_iload_n hx hb dJ7_scalb_19 rfl (lv_at hl 5 rfl) ?_
    refine lv_sipush (v := I3 (-2099)) hx hb dJ7_scalb_20 (by decide) ?_
    have h_20 : In3 sc := by first | assumption | omega | (constructor <;> omega)
    have h_21 : In3 (-2099 : Int) := by first | assumption | omega | (constructor <;> omega)
    have hPc := hP.sub (ws' := []) [] rfl
    have hDc := hD.sub (ws' := []) [] (by decide) rfl
    have hFc := va_free (wc := []) hD hS hA [] rfl
    refine va_calli (va_runS (As := [.int (I3 sc), .int (I3 (-2099))]) (rest := []) ⟨hx, hb, hml, hown, hts⟩ (metJ7_max l dC dI dA s.heap.size sc (-2099) h_20 h_21) (va_cwS 2 hts (lw_S q514 q362 q76 q363) rfl rfl rfl (by decide +kernel) ⟨Nat.le_of_ble_eq_true rfl, Nat.le_of_ble_eq_true rfl⟩) ⟨fun a U g mk q => by obtain ⟨q0, q1, qP, qK, qD⟩ := q; exact ⟨q0, q1, qP, va_K.moved (u := U) (U := U.calling g mk a) (Vm.Alike.refl U.vm) qK, qD⟩, fun U hU hW => ⟨rfl, by rw [hU], by rw [hU]; exact hPc, va_K.moved hW.alike hK, hDc.weaken (fun _ _ _ _ => trivial)⟩⟩ rfl rfl hl.1 rfl (lv_room (Nat.le_of_ble_eq_true rfl)) dJ7_scalb_23 ⟨Nat.le_of_ble_eq_true rfl, Nat.le_of_ble_eq_true rfl⟩) hS (fun q _ h => hFc q h) hFc (fun r_23 u t H1 locs ht hvm hw hB hz1 hk1 hS => ?_)
    obtain ⟨z_23, rfl⟩ : ∃ z, z = u := ⟨_, rfl⟩
    obtain ⟨rfl, p0_23⟩ : r_23 = I3 z_23 ∧ ((sc ≤ (-2099 : Int) → z_23 = (-2099 : Int)) ∧ ((-2099 : Int) ≤ sc → z_23 = sc)) := hw
    obtain ⟨hP1, hK1, hD1⟩ := hB
    rw [ht] at hP1
    obtain ⟨hP, hD⟩ := va_join (wr := []) (w1 := []) hP hD [] [] rfl rfl (by decide) (by decide) hk1 hFc hP1 hD1
    generalize H1 = H at hP hS ⊢
    have hP : va_P (dC, dI) vwCl [] H := hP
    have hD : va_D A [] := hD
    refine lv_istore_n (lv' := [(2, .int (I3 z_23)), (6, .double (dX 9221120237041090560)), (5, .int (I3 0)), (4, .int (I3 0)), (3, .int (I3 2099)), (0, .double (dX v))]) hx hb dJ7_scalb_26 rfl hl (by decide) rfl (fun ls hl => ?_)
    refine lv_sipush (v := I3 (-512)) hx hb dJ7_scalb_27 (by decide) ?_
    refine lv_istore (lv' := [(5, .int (I3 (-512))), (2, .int (I3 z_23)), (6, .double (dX 9221120237041090560)), (4, .int (I3 0)), (3, .int (I3 2099)), (0, .double (dX v))]) hx hb dJ7_scalb_30 hl (by decide) rfl (fun ls hl => ?_)
    refine va_gets (C := "java/lang/Math") (v := .double (dX 2301339409586323456)) hx hb hq0.2.2.2.1 hS hown (hts _ q515) (fun _ h9 => h9) dJ7_scalb_32 ?_
    refine lv_dstore (lv' := [(6, .double (dX 2301339409586323456)), (5, .int (I3 (-512))), (2, .int (I3 z_23)), (4, .int (I3 0)), (3, .int (I3 2099)), (0, .double (dX v))]) hx hb dJ7_scalb_35 hl (by decide) rfl (fun ls hl => ?_)
    refine lv_goto (tgt := 58) hx hb dJ7_scalb_37 (by decide) ?_
    have e_22 : z_23 = clJ sc := by unfold clJ; split <;> split <;> omega
    have e_23 : ((-512 : Int) = 512 ∧ (2301339409586323456 : Int) = 6913025428013711360 ∧ 0 ≤ z_23) ∨ ((-512 : Int) = -512 ∧ (2301339409586323456 : Int) = 2301339409586323456 ∧ z_23 < 0) := by first | assumption | omega | (constructor <;> omega)
    exact cut_58 z_23 (-512) 2301339409586323456 e_22 e_23 _ _ hP hD hS ls (lv_sub hl [5, 2, 1, 0] rfl)
abbrev BmetJ7_scalb_2 (dC : Nat → ClassId) (dI : Nat → Nat → Nat) (dA : Nat → ClassId) (A : Nat → Prop)  (v : Int) (sc : Int) : Int → State → Prop := fun u t => (fun (u : Int) => (fun (z : Int) => va_P (dC, dI) vwCl [] t.heap ∧ va_K (dC, dI) vwCl (tyA dA) t ∧ va_D A []) u) u
abbrev QmetJ7_scalb_2 (dC : Nat → ClassId) (dI : Nat → Nat → Nat) (dA : Nat → ClassId) (A : Nat → Prop)  (v : Int) (sc : Int) := va_Qf (fun (rt_ : UInt32) => fun (u : Int) => (fun (z : Int) => rt_ = fB z ∧ (In3 z) ∧ (¬ noF z) ∧ (vF z = FP.Core.round FP.Core.b32 (sD (FP.Core.round FP.Core.b64 (vF v)) sc))) u) (BmetJ7_scalb_2 dC dI dA A v sc) A
set_option maxHeartbeats 1000000 in
set_option maxRecDepth 100000 in
theorem metJ7_scalb_2 (l : Launch) (dC : Nat → ClassId) (dI : Nat → Nat → Nat) (dA : Nat → ClassId)  (sz : Nat) (v : Int) (sc : Int) (hv : In3 v) (hsc : -278 ≤ sc ∧ sc ≤ 278) (hno : ¬ noF v) : Met l yJ7_scalb_2 (ws_ yJ7_scalb_2 cJ7_scalb_2 3 (some .float)) ({ frames := 3, cells := 0, slots := 0, locals := 120 }) (va_Pc [.float (fB v), .int (I3 sc)] (fun U => U.heap.size = sz ∧ va_P (dC, dI) vwCl [] U.heap ∧ va_K (dC, dI) vwCl (tyA dA) U ∧ va_D (fun _ => True) [] ∧ MX (va_A [] sz) U U.heap)) (QmetJ7_scalb_2 dC dI dA (va_A [] sz) v sc) 0 0 (va_A [] sz) := by
  refine va_MetF (cc := cJ7_scalb_2) (maxL := 3) (ret := (some .float)) (by decide +kernel) rfl ?_
  intro p e s m args below meth c s₁ B hml hv
  obtain ⟨rfl, hsz, hP, hK, hD0, hq0⟩ := hv
  have hx := B.exec
  have hb := B.bytes
  have hr := B.returns
  have hts := atoms_spec (ws := (ws_ yJ7_scalb_2 cJ7_scalb_2 3 (some .float))) B.pre
  have hts : ∀ w ∈ lw_all, w.before _ s = true := fun w h => hts w (List.mem_cons_of_mem _ h)
  have hown : s.vm.findClass RJ7 = some m.cls := findClass_of_methodNamed B.named
  have hlocks := B.notSynchronized
  subst hsz
  have hD := hD0.self (sz := s.heap.size)
  generalize hAe : va_A [] s.heap.size = A at hD hq0 ⊢
  have hA : ∀ q : Nat, s.heap.size ≤ q → A q := fun q h => by rw [← hAe]; exact Or.inr h
  have hS : va_S A s.heap s.heap [] := va_S.rf
  have hP : va_P (dC, dI) vwCl [] s.heap := hP
  have hl := lv_entry ([.float (fB v), .int (I3 sc)]) (n := 3) (Nat.le_of_ble_eq_true rfl)
  rw [lg_entry_eq]
  generalize (lg_sl ([.float (fB v), .int (I3 sc)]) ++ List.replicate (3 - (lg_sl ([.float (fB v), .int (I3 sc)])).length) Slot.unset).toArray = ls at hl ⊢
  have hl : lv_has ls 3 [(0, .float (fB v)), (1, .int (I3 sc))] := hl
  refine lv_sipush (v := I3 (278)) hx hb dJ7_scalb_2_0 (by decide) ?_
  refine lv_istore_n (lv' := [(2, .int (I3 278)), (0, .float (fB v)), (1, .int (I3 sc))]) hx hb dJ7_scalb_2_3 rfl hl (by decide) rfl (fun ls hl => ?_)
  refine lv_iload_n hx hb dJ7_scalb_2_4 rfl (lv_at hl 2 rfl) ?_
  refine lv_sipush (v := I3 (278)) hx hb dJ7_scalb_2_5 (by decide) ?_
  have h_1 : In3 sc := by first | assumption | omega | (constructor <;> omega)
  have h_2 : In3 (278 : Int) := by first | assumption | omega | (constructor <;> omega)
  have hPc := hP.sub (ws' := []) [] rfl
  have hDc := hD.sub (ws' := []) [] (by decide) rfl
  have hFc := va_free (wc := []) hD hS hA [] rfl
  refine va_calli (va_runS (As := [.int (I3 sc), .int (I3 278)]) (rest := []) ⟨hx, hb, hml, hown, hts⟩ (metJ7_min l dC dI dA s.heap.size sc 278 h_1 h_2) (va_cwS 2 hts (lw_S q517 q350 q76 q351) rfl rfl rfl (by decide +kernel) ⟨Nat.le_of_ble_eq_true rfl, Nat.le_of_ble_eq_true rfl⟩) ⟨fun a U g mk q => by obtain ⟨q0, q1, qP, qK, qD⟩ := q; exact ⟨q0, q1, qP, va_K.moved (u := U) (U := U.calling g mk a) (Vm.Alike.refl U.vm) qK, qD⟩, fun U hU hW => ⟨rfl, by rw [hU], by rw [hU]; exact hPc, va_K.moved hW.alike hK, hDc.weaken (fun _ _ _ _ => trivial)⟩⟩ rfl rfl hl.1 rfl (lv_room (Nat.le_of_ble_eq_true rfl)) dJ7_scalb_2_8 ⟨Nat.le_of_ble_eq_true rfl, Nat.le_of_ble_eq_true rfl⟩) hS (fun q _ h => hFc q h) hFc (fun r_8 u t H1 locs ht hvm hw hB hz1 hk1 hS => ?_)
  obtain ⟨z_8, rfl⟩ : ∃ z, z = u := ⟨_, rfl⟩
  obtain ⟨rfl, p0_8⟩ : r_8 = I3 z_8 ∧ ((sc ≤ (278 : Int) → z_8 = sc) ∧ ((278 : Int) ≤ sc → z_8 = (278 : Int))) := hw
  obtain ⟨hP1, hK1, hD1⟩ := hB
  rw [ht] at hP1
  obtain ⟨hP, hD⟩ := va_join (wr := []) (w1 := []) hP hD [] [] rfl rfl (by decide) (by decide) hk1 hFc hP1 hD1
  generalize H1 = H at hP hS ⊢
  have hP : va_P (dC, dI) vwCl [] H := hP
  have hD : va_D A [] := hD
  have q8_ : z_8 = sc := by omega
  refine lv_sipush (v := I3 (-278)) hx hb dJ7_scalb_2_11 (by decide) ?_
  have h_3 : In3 z_8 := by first | assumption | omega | (constructor <;> omega)
  have h_4 : In3 (-278 : Int) := by first | assumption | omega | (constructor <;> omega)
  have hPc := hP.sub (ws' := []) [] rfl
  have hDc := hD.sub (ws' := []) [] (by decide) rfl
  have hFc := va_free (wc := []) hD hS hA [] rfl
  refine va_calli (va_runS (As := [.int (I3 z_8), .int (I3 (-278))]) (rest := []) ⟨hx, hb, hml, hown, hts⟩ (metJ7_max l dC dI dA H.size z_8 (-278) h_3 h_4) (va_cwS 2 hts (lw_S q514 q362 q76 q363) rfl rfl rfl (by decide +kernel) ⟨Nat.le_of_ble_eq_true rfl, Nat.le_of_ble_eq_true rfl⟩) ⟨fun a U g mk q => by obtain ⟨q0, q1, qP, qK, qD⟩ := q; exact ⟨q0, q1, qP, va_K.moved (u := U) (U := U.calling g mk a) (Vm.Alike.refl U.vm) qK, qD⟩, fun U hU hW => ⟨rfl, by rw [hU], by rw [hU]; exact hPc, va_K.moved hW.alike hK, hDc.weaken (fun _ _ _ _ => trivial)⟩⟩ rfl rfl hl.1 rfl (lv_room (Nat.le_of_ble_eq_true rfl)) dJ7_scalb_2_14 ⟨Nat.le_of_ble_eq_true rfl, Nat.le_of_ble_eq_true rfl⟩) hS (fun q _ h => hFc q h) hFc (fun r_14 u t H1 locs ht hvm hw hB hz1 hk1 hS => ?_)
  obtain ⟨z_14, rfl⟩ : ∃ z, z = u := ⟨_, rfl⟩
  obtain ⟨rfl, p0_14⟩ : r_14 = I3 z_14 ∧ ((z_8 ≤ (-278 : Int) → z_14 = (-278 : Int)) ∧ ((-278 : Int) ≤ z_8 → z_14 = z_8)) := hw
  obtain ⟨hP1, hK1, hD1⟩ := hB
  rw [ht] at hP1
  obtain ⟨hP, hD⟩ := va_join (wr := []) (w1 := []) hP hD [] [] rfl rfl (by decide) (by decide) hk1 hFc hP1 hD1
  generalize H1 = H at hP hS ⊢
  have hP : va_P (dC, dI) vwCl [] H := hP
  have hD : va_D A [] := hD
  refine lv_istore_n (lv' := [(1, .int (I3 z_14)), (2, .int (I3 278)), (0, .float (fB v))]) hx hb dJ7_scalb_2_17 rfl hl (by decide) rfl (fun ls hl => ?_)
  refine lv_fload_n hx hb dJ7_scalb_2_18 rfl (lv_at hl 2 rfl) ?_
  refine ix_f2dE hx hb (by assumption) (by assumption) dJ7_scalb_2_19 (fun w_19 w6_19 wn_19 wv_19 => ?_)
  refine lv_iload_n hx hb dJ7_scalb_2_20 rfl (lv_at hl 0 rfl) ?_
  have h_5 : -1022 ≤ z_14 ∧ z_14 ≤ 1023 := by first | assumption | omega | (constructor <;> omega)
  have hPc := hP.sub (ws' := []) [] rfl
  have hDc := hD.sub (ws' := []) [] (by decide) rfl
  have hFc := va_free (wc := []) hD hS hA [] rfl
  refine va_calld (va_runS (As := [.int (I3 z_14)]) (rest := [.double (dX w_19)]) ⟨hx, hb, hml, hown, hts⟩ (metJ7_powerOfTwoD l dC dI dA H.size z_14 h_5) (va_cwS 1 hts (lw_S q520 q521 q76 q522) rfl rfl rfl (by decide +kernel) ⟨Nat.le_of_ble_eq_true rfl, Nat.le_of_ble_eq_true rfl⟩) ⟨fun a U g mk q => by obtain ⟨q0, q1, qP, qK, qD, qF0⟩ := q; exact ⟨q0, q1, qP, va_K.moved (u := U) (U := U.calling g mk a) (Vm.Alike.refl U.vm) qK, qD, MX.moved (u := U) (U := U.calling g mk a) (State.WarmedH.refl U) qF0⟩, fun U hU hW => ⟨rfl, by rw [hU], by rw [hU]; exact hPc, va_K.moved hW.alike hK, hDc.weaken (fun _ _ _ _ => trivial), by rw [hU]; exact MX.moved hW ((MX.kept hq0 hS).narrow hFc)⟩⟩ rfl rfl hl.1 rfl (lv_room (Nat.le_of_ble_eq_true rfl)) dJ7_scalb_2_21 ⟨Nat.le_of_ble_eq_true rfl, Nat.le_of_ble_eq_true rfl⟩) hS (fun q _ h => hFc q h) hFc (fun r_21 u t H1 locs ht hvm hw hB hz1 hk1 hS => ?_)
  obtain ⟨z_21, rfl⟩ : ∃ z, z = u := ⟨_, rfl⟩
  obtain ⟨rfl, p0_21⟩ : r_21 = dX z_21 ∧ (z_21 = (z_14 + 1023) * 4503599627370496) := hw
  obtain ⟨hP1, hK1, hD1⟩ := hB
  rw [ht] at hP1
  obtain ⟨hP, hD⟩ := va_join (wr := []) (w1 := []) hP hD [] [] rfl rfl (by decide) (by decide) hk1 hFc hP1 hD1
  generalize H1 = H at hP hS ⊢
  have hP : va_P (dC, dI) vwCl [] H := hP
  have hD : va_D A [] := hD
  refine ix_dscale (n := z_14) hx hb (by assumption) (by assumption) (by rw [p0_21]; constructor <;> omega) (by rw [p0_21]; exact vD_pw (by omega)) dJ7_scalb_2_24 (fun w_24 w6_24 wn_24 wv_24 => ?_)
  refine ix_d2fE hx hb (by assumption) (by assumption) dJ7_scalb_2_25 (fun w_25 w6_25 wn_25 wv_25 => ?_)
  have o_6 : In3 w_25 := by first | assumption | omega | (constructor <;> omega)
  have o_7 : ¬ noF w_25 := by first | assumption | omega | (constructor <;> omega)
  have o_8 : vF w_25 = FP.Core.round FP.Core.b32 (sD (FP.Core.round FP.Core.b64 (vF v)) sc) := by rw [wv_25, wv_24, wv_19, show z_14 = sc by omega]
  exact W.fret (v := fB w_25) hx hb hr (fun t ht hW => ⟨⟨fB w_25, w_25, rfl, ⟨rfl, ⟨o_6, o_7, o_8⟩⟩, by rw [ht]; exact hP, va_K.moved hW.alike hK, hD⟩, hS.F ht⟩) hS.2.2 dJ7_scalb_2_26
abbrev BmetJ7_nextUp (dC : Nat → ClassId) (dI : Nat → Nat → Nat) (dA : Nat → ClassId) (A : Nat → Prop)  (v : Int) : Int → State → Prop := fun u t => (fun (u : Int) => (fun (z : Int) => va_P (dC, dI) vwCl [] t.heap ∧ va_K (dC, dI) vwCl (tyA dA) t ∧ va_D A []) u) u
abbrev QmetJ7_nextUp (dC : Nat → ClassId) (dI : Nat → Nat → Nat) (dA : Nat → ClassId) (A : Nat → Prop)  (v : Int) := va_Qd (fun (rt_ : UInt64) => fun (u : Int) => (fun (z : Int) => rt_ = dX z ∧ (z = if v = 9218868437227405312 then v else if v = 0 ∨ v = -9223372036854775808 then 1 else if v < 0 then v - 1 else v + 1)) u) (BmetJ7_nextUp dC dI dA A v) A
set_option maxHeartbeats 1000000 in
set_option maxRecDepth 100000 in
theorem metJ7_nextUp (l : Launch) (dC : Nat → ClassId) (dI : Nat → Nat → Nat) (dA : Nat → ClassId)  (sz : Nat) (v : Int) (hv : In6 v) (hno : ¬ noX v) : Met l yJ7_nextUp (ws_ yJ7_nextUp cJ7_nextUp 4 (some .double)) ({ frames := 2, cells := 0, slots := 0, locals := 80 }) (va_Pc [.double (dX v)] (fun U => U.heap.size = sz ∧ va_P (dC, dI) vwCl [] U.heap ∧ va_K (dC, dI) vwCl (tyA dA) U ∧ va_D (fun _ => True) [])) (QmetJ7_nextUp dC dI dA (va_A [] sz) v) 0 0 (va_A [] sz) := by
  refine va_MetF (cc := cJ7_nextUp) (maxL := 4) (ret := (some .double)) (by decide +kernel) rfl ?_
  intro p e s m args below meth c s₁ B hml hv
  obtain ⟨rfl, hsz, hP, hK, hD0⟩ := hv
  have hx := B.exec
  have hb := B.bytes
  have hr := B.returns
  have hts := atoms_spec (ws := (ws_ yJ7_nextUp cJ7_nextUp 4 (some .double))) B.pre
  have hts : ∀ w ∈ lw_all, w.before _ s = true := fun w h => hts w (List.mem_cons_of_mem _ h)
  have hown : s.vm.findClass RJ7 = some m.cls := findClass_of_methodNamed B.named
  have hlocks := B.notSynchronized
  subst hsz
  have hD := hD0.self (sz := s.heap.size)
  generalize hAe : va_A [] s.heap.size = A at hD ⊢
  have hA : ∀ q : Nat, s.heap.size ≤ q → A q := fun q h => by rw [← hAe]; exact Or.inr h
  have hS : va_S A s.heap s.heap [] := va_S.rf
  have hP : va_P (dC, dI) vwCl [] s.heap := hP
  have hl := lv_entry ([.double (dX v)]) (n := 4) (Nat.le_of_ble_eq_true rfl)
  rw [lg_entry_eq]
  generalize (lg_sl ([.double (dX v)]) ++ List.replicate (4 - (lg_sl ([.double (dX v)])).length) Slot.unset).toArray = ls at hl ⊢
  have hl : lv_has ls 4 [(0, .double (dX v))] := hl
  have kI_ : kX 9218868437227405312 = 9218868437227405312 := by decide
  have r1_ := kX_c hv
  have hm_ := (not_congr (noX_m v)).mp hno
  refine lv_dload_n hx hb dJ7_nextUp_0 rfl (lv_at hl 0 rfl) ?_
  refine lv_ldc2d hx hb hown (hts _ q773) dJ7_nextUp_1 ?_
  refine ix_dc (x := 9218868437227405312) (by decide) ?_
  refine ix_dci_ge (tgt := 34) hx hb (by first | assumption | decide | (constructor <;> omega)) (by first | assumption | decide | (constructor <;> omega)) (by first | assumption | decide | omega) (by decide) dJ7_nextUp_4 dJ7_nextUp_5 (by decide) (fun c_4 => ?_) (fun c_4 => ?_)
  · skip
    refine lv_dload_n hx hb dJ7_nextUp_34 rfl (lv_at hl 0 rfl) ?_
    have o_1 : v = if v = 9218868437227405312 then v else if v = 0 ∨ v = -9223372036854775808 then 1 else if v < 0 then v - 1 else v + 1 := by rw [if_pos (by omega)]
    exact W.dret (v := dX v) hx hb hr (fun t ht hW => ⟨⟨dX v, v, rfl, ⟨rfl, o_1⟩, by rw [ht]; exact hP, va_K.moved hW.alike hK, hD⟩, hS.F ht⟩) hS.2.2 dJ7_nextUp_35
  · skip
    refine lv_dload_n hx hb dJ7_nextUp_8 rfl (lv_at hl 0 rfl) ?_
    refine lv_dconst0 hx hb dJ7_nextUp_9 ?_
    refine ix_dc (x := 0) rfl ?_
    refine ix_dadd (u := (if v = -9223372036854775808 then 0 else v)) hx hb (by exact dadd_0 hv hno) (by split; (decide); (exact hno)) dJ7_nextUp_10 ?_
    refine ix_draw hx hb (hml.trans hl.1.symm) hown (hts _ q494) (hts _ q496) (hts _ q495) (hts _ q80) (Nat.le_of_ble_eq_true rfl) (Nat.le_of_ble_eq_true rfl) dJ7_nextUp_11 ?_
    refine lv_lstore_n (lv' := [(2, .long (L6 ((if v = -9223372036854775808 then 0 else v)))), (0, .double (dX v))]) hx hb dJ7_nextUp_14 rfl hl (by decide) rfl (fun ls hl => ?_)
    refine lv_lload_n hx hb dJ7_nextUp_15 rfl (lv_at hl 0 rfl) ?_
    refine lv_lload_n hx hb dJ7_nextUp_16 rfl (lv_at hl 0 rfl) ?_
    refine lv_lconst (v := L6 0) hx hb dJ7_nextUp_17 (by decide) ?_
    refine ix_lcmp_lt (tgt := 26) hx hb (by first | assumption | decide | (constructor <;> omega)) (by first | assumption | decide | (constructor <;> omega)) dJ7_nextUp_18 dJ7_nextUp_19 (by decide) (fun c_18 => ?_) (fun c_18 => ?_)
    · skip
      refine lv_ldc2 hx hb hown (hts _ q774) dJ7_nextUp_26 ?_
      refine ix_vl (x := (-1)) (by decide) ?_
      refine ix_ladd hx hb dJ7_nextUp_29 ?_
      refine ix_tl (y := (if v = 0 ∨ v = -9223372036854775808 then 1 else if v < 0 then v - 1 else v + 1)) (by split at * <;> (first | omega | (split <;> omega))) ?_
      refine ix_dbits hx hb (hml.trans hl.1.symm) hown (hts _ q498) (hts _ q490) (hts _ q489) (hts _ q80) (by rw [noX_m]; repeat (first | omega | split)) (Nat.le_of_ble_eq_true rfl) (Nat.le_of_ble_eq_true rfl) dJ7_nextUp_30 ?_
      have o_2 : ((if v = 0 ∨ v = -9223372036854775808 then 1 else if v < 0 then v - 1 else v + 1)) = if v = 9218868437227405312 then v else if v = 0 ∨ v = -9223372036854775808 then 1 else if v < 0 then v - 1 else v + 1 := by have z9 : ¬ v = 9218868437227405312 := (by omega); rw [if_neg z9]
      exact W.dret (v := dX ((if v = 0 ∨ v = -9223372036854775808 then 1 else if v < 0 then v - 1 else v + 1))) hx hb hr (fun t ht hW => ⟨⟨dX ((if v = 0 ∨ v = -9223372036854775808 then 1 else if v < 0 then v - 1 else v + 1)), ((if v = 0 ∨ v = -9223372036854775808 then 1 else if v < 0 then v - 1 else v + 1)), rfl, ⟨rfl, o_2⟩, by rw [ht]; exact hP, va_K.moved hW.alike hK, hD⟩, hS.F ht⟩) hS.2.2 dJ7_nextUp_33
    · skip
      refine lv_lconst (v := L6 1) hx hb dJ7_nextUp_22 (by decide) ?_
      refine lv_goto (tgt := 29) hx hb dJ7_nextUp_23 (by decide) ?_
      refine ix_ladd hx hb dJ7_nextUp_29 ?_
      refine ix_tl (y := (if v = 0 ∨ v = -9223372036854775808 then 1 else if v < 0 then v - 1 else v + 1)) (by split at * <;> (first | omega | (split <;> omega))) ?_
      refine ix_dbits hx hb (hml.trans hl.1.symm) hown (hts _ q498) (hts _ q490) (hts _ q489) (hts _ q80) (by rw [noX_m]; repeat (first | omega | split)) (Nat.le_of_ble_eq_true rfl) (Nat.le_of_ble_eq_true rfl) dJ7_nextUp_30 ?_
      have o_3 : ((if v = 0 ∨ v = -9223372036854775808 then 1 else if v < 0 then v - 1 else v + 1)) = if v = 9218868437227405312 then v else if v = 0 ∨ v = -9223372036854775808 then 1 else if v < 0 then v - 1 else v + 1 := by have z9 : ¬ v = 9218868437227405312 := (by omega); rw [if_neg z9]
      exact W.dret (v := dX ((if v = 0 ∨ v = -9223372036854775808 then 1 else if v < 0 then v - 1 else v + 1))) hx hb hr (fun t ht hW => ⟨⟨dX ((if v = 0 ∨ v = -9223372036854775808 then 1 else if v < 0 then v - 1 else v + 1)), ((if v = 0 ∨ v = -9223372036854775808 then 1 else if v < 0 then v - 1 else v + 1)), rfl, ⟨rfl, o_3⟩, by rw [ht]; exact hP, va_K.moved hW.alike hK, hD⟩, hS.F ht⟩) hS.2.2 dJ7_nextUp_33
