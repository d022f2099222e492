/-! the model: rank, front -/
set_option maxRecDepth 100000
abbrev BmetX8_rank (dC : Nat → ClassId) (dI : Nat → Nat → Nat) (dA : Nat → ClassId) (A : Nat → Prop)  (v : Int) : Int → State → Prop := fun u t => (fun (u : Int) => (fun (z : Int) => va_P (dC, dI) vwCl [] t.heap ∧ va_K (dC, dI) vwCl (tyA dA) t ∧ va_D A []) u) u
abbrev QmetX8_rank (dC : Nat → ClassId) (dI : Nat → Nat → Nat) (dA : Nat → ClassId) (A : Nat → Prop)  (v : Int) := va_Ql (fun (rt_ : Int64) => fun (u : Int) => (fun (z : Int) => rt_ = L6 z ∧ (z = rkX v)) u) (BmetX8_rank dC dI dA A v) A
set_option maxHeartbeats 1000000 in
set_option maxRecDepth 100000 in
theorem metX8_rank (l : Launch) (dC : Nat → ClassId) (dI : Nat → Nat → Nat) (dA : Nat → ClassId)  (sz : Nat) (v : Int) (hv : In6 v) : Met l yX8_rank (ws_ yX8_rank cX8_rank 2 (some .long)) ({ frames := 1, cells := 0, slots := 0, locals := 40 }) (va_Pc [.long (L6 v)] (fun U => U.heap.size = sz ∧ va_P (dC, dI) vwCl [] U.heap ∧ va_K (dC, dI) vwCl (tyA dA) U ∧ va_D (fun _ => True) [])) (QmetX8_rank dC dI dA (va_A [] sz) v) 0 0 (va_A [] sz) := by
  refine Met.ofW (cc := cX8_rank) (maxL := 2) (ret := (some .long)) (by decide) rfl ?_
  intro p e s m args below meth c s₁ B hml hv
  obtain ⟨rfl, hsz, hP, hK, hD0⟩ := hv
  have hx := B.exec
  have hb := B.bytes
  have hr := B.returns
  have hts := atoms_spec (ws := (ws_ yX8_rank cX8_rank 2 (some .long))) B.pre
  have hts : ∀ w ∈ lw_all, w.before _ s = true := fun w h => hts w (List.mem_cons_of_mem _ h)
  have hown : s.vm.findClass RX8 = some m.cls := findClass_of_methodNamed B.named
  have hlocks := B.notSynchronized
  subst hsz
  have hD := hD0.self (sz := s.heap.size)
  generalize hAe : va_A [] s.heap.size = A at hD ⊢
  have hA : ∀ q : Nat, s.heap.size ≤ q → A q := fun q h => by rw [← hAe]; exact Or.inr h
  have hS : va_S A s.heap s.heap [] := va_S.rf
  have hP : va_P (dC, dI) vwCl [] s.heap := hP
  have hl := lv_entry ([.long (L6 v)]) (n := 2) (Nat.le_of_ble_eq_true rfl)
  rw [lg_entry_eq]
  generalize (lg_sl ([.long (L6 v)]) ++ List.replicate (2 - (lg_sl ([.long (L6 v)])).length) Slot.unset).toArray = ls at hl ⊢
  have hl : lv_has ls 2 [(0, .long (L6 v))] := hl
  refine lv_lload_n hx hb dX8_rank_0 rfl (lv_at hl 0 rfl) ?_
  refine lv_lconst (v := L6 0) hx hb dX8_rank_1 (by decide) ?_
  refine ix_lcmp_ge (tgt := 18) hx hb (by first | assumption | decide | (constructor <;> omega)) (by first | assumption | decide | (constructor <;> omega)) dX8_rank_2 dX8_rank_3 (by decide) (fun c_2 => ?_) (fun c_2 => ?_)
  · skip
    refine lv_lload_n hx hb dX8_rank_18 rfl (lv_at hl 0 rfl) ?_
    have o_1 : v = rkX v := by unfold rkX; first | (rw [if_pos (by omega)]; done) | (rw [if_neg (by omega)]; done)
    exact W.lret (v := L6 v) hx hb hr (fun t ht hW => ⟨⟨L6 v, v, rfl, ⟨rfl, o_1⟩, by rw [ht]; exact hP, va_K.moved hW.alike hK, hD⟩, hS.F ht⟩) hS.2.2 dX8_rank_19
  · skip
    refine lv_lload_n hx hb dX8_rank_6 rfl (lv_at hl 0 rfl) ?_
    refine lv_ldc2 hx hb hown (hts _ q1184) dX8_rank_7 ?_
    refine ix_vl (x := (9223372036854775807)) (by decide) ?_
    refine ix_landm hx hb 63 (by decide) (by decide) dX8_rank_10 ?_
    refine ix_tl (y := v % 9223372036854775808) rfl ?_
    refine lv_ldc2 hx hb hown (hts _ q1185) dX8_rank_11 ?_
    refine ix_vl (x := (-1)) (by decide) ?_
    refine ix_lxor hx hb dX8_rank_14 ?_
    refine ix_tl (y := -1 - v % 9223372036854775808) (by exact zxor6_m1 (by constructor <;> omega)) ?_
    refine lv_goto (tgt := 19) hx hb dX8_rank_15 (by decide) ?_
    have o_2 : (-1 - v % 9223372036854775808) = rkX v := by unfold rkX; first | (rw [if_pos (by omega)]; done) | (rw [if_neg (by omega)]; done)
    exact W.lret (v := L6 (-1 - v % 9223372036854775808)) hx hb hr (fun t ht hW => ⟨⟨L6 (-1 - v % 9223372036854775808), (-1 - v % 9223372036854775808), rfl, ⟨rfl, o_2⟩, by rw [ht]; exact hP, va_K.moved hW.alike hK, hD⟩, hS.F ht⟩) hS.2.2 dX8_rank_19
abbrev BmetX8_front (dC : Nat → ClassId) (dI : Nat → Nat → Nat) (dA : Nat → ClassId) (A : Nat → Prop) (am : Nat) (as_ : Nat) (av : Nat) (aw : Nat) (th : Int) (mn : Int) (sm : Int) (wd : Int) (lp : Int) (mp : Int) (re : Int) (SG : Int → Int) (VL : Int → Int) (wf : Int → Int) (v : Int) : Int × Int → State → Prop := fun u t => (fun (u : Int × Int) => (fun (z : Int) (re1 : Int) => va_P (dC, dI) vwCl [(am, .inr (0, [.int (I3 th), .int (I3 mn), .ref as_, .ref av, .ref aw, .int (I3 sm), .int (I3 wd), .int (I3 lp), .int (I3 mp), .int (I3 re1)])), (as_, .inl (dA 0, 60, .inl (iA SG))), (av, .inl (dA 1, 960, .inr (.inl (lA VL)))), (aw, .inl (dA 1, 1024, .inr (.inl (lA wf))))] t.heap ∧ va_K (dC, dI) vwCl (tyA dA) t ∧ va_D A [(am, .inr (0, [.int (I3 th), .int (I3 mn), .ref as_, .ref av, .ref aw, .int (I3 sm), .int (I3 wd), .int (I3 lp), .int (I3 mp), .int (I3 re1)])), (as_, .inl (dA 0, 60, .inl (iA SG))), (av, .inl (dA 1, 960, .inr (.inl (lA VL)))), (aw, .inl (dA 1, 1024, .inr (.inl (lA wf))))]) u.1 u.2) u
abbrev QmetX8_front (dC : Nat → ClassId) (dI : Nat → Nat → Nat) (dA : Nat → ClassId) (A : Nat → Prop) (am : Nat) (as_ : Nat) (av : Nat) (aw : Nat) (th : Int) (mn : Int) (sm : Int) (wd : Int) (lp : Int) (mp : Int) (re : Int) (SG : Int → Int) (VL : Int → Int) (wf : Int → Int) (v : Int) := va_Ql (fun (rt_ : Int64) => fun (u : Int × Int) => (fun (z : Int) (re1 : Int) => rt_ = L6 z ∧ (z = fX v / 2 ^ (-plX v).toNat) ∧ (re1 = frR (fX v) (-plX v).toNat)) u.1 u.2) (BmetX8_front dC dI dA A am as_ av aw th mn sm wd lp mp re SG VL wf v) A
set_option maxHeartbeats 1000000 in
set_option maxRecDepth 100000 in
theorem metX8_front (l : Launch) (dC : Nat → ClassId) (dI : Nat → Nat → Nat) (dA : Nat → ClassId) (am : Nat) (as_ : Nat) (av : Nat) (aw : Nat) (sz : Nat) (th : Int) (mn : Int) (sm : Int) (wd : Int) (lp : Int) (mp : Int) (re : Int) (SG : Int → Int) (VL : Int → Int) (wf : Int → Int) (v : Int) (hv : In6 v) : Met l yX8_front (ws_ yX8_front cX8_front 10 (some .long)) ({ frames := 3, cells := 0, slots := 0, locals := 120 }) (va_Pc [.ref am, .long (L6 v)] (fun U => U.heap.size = sz ∧ va_P (dC, dI) vwCl [(am, .inr (0, [.int (I3 th), .int (I3 mn), .ref as_, .ref av, .ref aw, .int (I3 sm), .int (I3 wd), .int (I3 lp), .int (I3 mp), .int (I3 re)])), (as_, .inl (dA 0, 60, .inl (iA SG))), (av, .inl (dA 1, 960, .inr (.inl (lA VL)))), (aw, .inl (dA 1, 1024, .inr (.inl (lA wf))))] U.heap ∧ va_K (dC, dI) vwCl (tyA dA) U ∧ va_D (fun _ => True) [(am, .inr (0, [.int (I3 th), .int (I3 mn), .ref as_, .ref av, .ref aw, .int (I3 sm), .int (I3 wd), .int (I3 lp), .int (I3 mp), .int (I3 re)])), (as_, .inl (dA 0, 60, .inl (iA SG))), (av, .inl (dA 1, 960, .inr (.inl (lA VL)))), (aw, .inl (dA 1, 1024, .inr (.inl (lA wf))))])) (QmetX8_front dC dI dA (va_A [(am, .inr (0, [.int (I3 th), .int (I3 mn), .ref as_, .ref av, .ref aw, .int (I3 sm), .int (I3 wd), .int (I3 lp), .int (I3 mp), .int (I3 re)])), (as_, .inl (dA 0, 60, .inl (iA SG))), (av, .inl (dA 1, 960, .inr (.inl (lA VL)))), (aw, .inl (dA 1, 1024, .inr (.inl (lA wf))))] sz) am as_ av aw th mn sm wd lp mp re SG VL wf v) 0 0 (va_A [(am, .inr (0, [.int (I3 th), .int (I3 mn), .ref as_, .ref av, .ref aw, .int (I3 sm), .int (I3 wd), .int (I3 lp), .int (I3 mp), .int (I3 re)])), (as_, .inl (dA 0, 60, .inl (iA SG))), (av, .inl (dA 1, 960, .inr (.inl (lA VL)))), (aw, .inl (dA 1, 1024, .inr (.inl (lA wf))))] sz) := by
  refine Met.ofW (cc := cX8_front) (maxL := 10) (ret := (some .long)) (by decide) rfl ?_
  intro p e s m args below meth c s₁ B hml hv
  obtain ⟨rfl, hsz, hP, hK, hD0⟩ := hv
  have hx := B.exec
  have hb := B.bytes
  have hr := B.returns
  have hts := atoms_spec (ws := (ws_ yX8_front cX8_front 10 (some .long))) B.pre
  have hts : ∀ w ∈ lw_all, w.before _ s = true := fun w h => hts w (List.mem_cons_of_mem _ h)
  have hown : s.vm.findClass RX8 = some m.cls := findClass_of_methodNamed B.named
  have hlocks := B.notSynchronized
  subst hsz
  have hD := hD0.self (sz := s.heap.size)
  generalize hAe : va_A [(am, .inr (0, [.int (I3 th), .int (I3 mn), .ref as_, .ref av, .ref aw, .int (I3 sm), .int (I3 wd), .int (I3 lp), .int (I3 mp), .int (I3 re)])), (as_, .inl (dA 0, 60, .inl (iA SG))), (av, .inl (dA 1, 960, .inr (.inl (lA VL)))), (aw, .inl (dA 1, 1024, .inr (.inl (lA wf))))] s.heap.size = A at hD ⊢
  have hA : ∀ q : Nat, s.heap.size ≤ q → A q := fun q h => by rw [← hAe]; exact Or.inr h
  have hS : va_S A s.heap s.heap [] := va_S.rf
  have hP : va_P (dC, dI) vwCl [(am, .inr (0, [.int (I3 th), .int (I3 mn), .ref as_, .ref av, .ref aw, .int (I3 sm), .int (I3 wd), .int (I3 lp), .int (I3 mp), .int (I3 re)])), (as_, .inl (dA 0, 60, .inl (iA SG))), (av, .inl (dA 1, 960, .inr (.inl (lA VL)))), (aw, .inl (dA 1, 1024, .inr (.inl (lA wf))))] s.heap := hP
  have hl := lv_entry ([.ref am, .long (L6 v)]) (n := 10) (Nat.le_of_ble_eq_true rfl)
  rw [lg_entry_eq]
  generalize (lg_sl ([.ref am, .long (L6 v)]) ++ List.replicate (10 - (lg_sl ([.ref am, .long (L6 v)])).length) Slot.unset).toArray = ls at hl ⊢
  have hl : lv_has ls 10 [(0, .ref am), (1, .long (L6 v))] := hl
  have hx_ := eX_r v
  have hf_ := fX_r v
  have hp_ := plX_r v
  refine lv_lload_n hx hb dX8_front_0 rfl (lv_at hl 1 rfl) ?_
  have h_1 : In6 v := by first | assumption | omega | (constructor <;> omega)
  have hPc := hP.sub (ws' := []) [] rfl
  have hDc := hD.sub (ws' := []) [] (by decide) rfl
  have hFc := va_free (wc := []) hD hS hA [] rfl
  refine va_calli (va_runS (As := [.long (L6 v)]) (rest := []) ⟨hx, hb, hml, hown, hts⟩ (metX8_place l dC dI dA s.heap.size v h_1) (va_cwS 1 hts (lw_S q1040 q1041 q66 q1042) rfl rfl rfl (by decide +kernel) ⟨Nat.le_of_ble_eq_true rfl, Nat.le_of_ble_eq_true rfl⟩) ⟨fun a U g mk q => by obtain ⟨q0, q1, qP, qK, qD⟩ := q; exact ⟨q0, q1, qP, va_K.moved (u := U) (U := U.calling g mk a) (Vm.Alike.refl U.vm) qK, qD⟩, fun U hU hW => ⟨rfl, by rw [hU], by rw [hU]; exact hPc, va_K.moved hW.alike hK, hDc.weaken (fun _ _ _ _ => trivial)⟩⟩ rfl rfl hl.1 rfl (lv_room (Nat.le_of_ble_eq_true rfl)) dX8_front_1 ⟨Nat.le_of_ble_eq_true rfl, Nat.le_of_ble_eq_true rfl⟩) hS (fun q _ h => hFc q h) hFc (fun r_1 u t H1 locs ht hvm hw hB hz1 hk1 hS => ?_)
  obtain ⟨z_1, rfl⟩ : ∃ z, z = u := ⟨_, rfl⟩
  obtain ⟨rfl, p0_1⟩ : r_1 = I3 z_1 ∧ (z_1 = plX v) := hw
  obtain ⟨hP1, hK1, hD1⟩ := hB
  rw [ht] at hP1
  obtain ⟨hP, hD⟩ := va_join (wr := [(am, .inr (0, [.int (I3 th), .int (I3 mn), .ref as_, .ref av, .ref aw, .int (I3 sm), .int (I3 wd), .int (I3 lp), .int (I3 mp), .int (I3 re)])), (as_, .inl (dA 0, 60, .inl (iA SG))), (av, .inl (dA 1, 960, .inr (.inl (lA VL)))), (aw, .inl (dA 1, 1024, .inr (.inl (lA wf))))]) (w1 := []) hP hD [] [0, 1, 2, 3] rfl rfl (by decide) (by decide) hk1 hFc hP1 hD1
  generalize H1 = H at hP hS ⊢
  have hP : va_P (dC, dI) vwCl [(am, .inr (0, [.int (I3 th), .int (I3 mn), .ref as_, .ref av, .ref aw, .int (I3 sm), .int (I3 wd), .int (I3 lp), .int (I3 mp), .int (I3 re)])), (as_, .inl (dA 0, 60, .inl (iA SG))), (av, .inl (dA 1, 960, .inr (.inl (lA VL)))), (aw, .inl (dA 1, 1024, .inr (.inl (lA wf))))] H := hP
  have hD : va_D A [(am, .inr (0, [.int (I3 th), .int (I3 mn), .ref as_, .ref av, .ref aw, .int (I3 sm), .int (I3 wd), .int (I3 lp), .int (I3 mp), .int (I3 re)])), (as_, .inl (dA 0, 60, .inl (iA SG))), (av, .inl (dA 1, 960, .inr (.inl (lA VL)))), (aw, .inl (dA 1, 1024, .inr (.inl (lA wf))))] := hD
  refine lv_istore_n (lv' := [(3, .int (I3 z_1)), (0, .ref am), (1, .long (L6 v))]) hx hb dX8_front_4 rfl hl (by decide) rfl (fun ls hl => ?_)
  refine lv_lload_n hx hb dX8_front_5 rfl (lv_at hl 2 rfl) ?_
  have h_2 : In6 v := by first | assumption | omega | (constructor <;> omega)
  have hPc := hP.sub (ws' := []) [] rfl
  have hDc := hD.sub (ws' := []) [] (by decide) rfl
  have hFc := va_free (wc := []) hD hS hA [] rfl
  refine va_calll (va_runS (As := [.long (L6 v)]) (rest := []) ⟨hx, hb, hml, hown, hts⟩ (metX8_factor l dC dI dA H.size v h_2) (va_cwS 1 hts (lw_S q1032 q1033 q66 q1034) rfl rfl rfl (by decide +kernel) ⟨Nat.le_of_ble_eq_true rfl, Nat.le_of_ble_eq_true rfl⟩) ⟨fun a U g mk q => by obtain ⟨q0, q1, qP, qK, qD⟩ := q; exact ⟨q0, q1, qP, va_K.moved (u := U) (U := U.calling g mk a) (Vm.Alike.refl U.vm) qK, qD⟩, fun U hU hW => ⟨rfl, by rw [hU], by rw [hU]; exact hPc, va_K.moved hW.alike hK, hDc.weaken (fun _ _ _ _ => trivial)⟩⟩ rfl rfl hl.1 rfl (lv_room (Nat.le_of_ble_eq_true rfl)) dX8_front_6 ⟨Nat.le_of_ble_eq_true rfl, Nat.le_of_ble_eq_true rfl⟩) hS (fun q _ h => hFc q h) hFc (fun r_6 u t H1 locs ht hvm hw hB hz1 hk1 hS => ?_)
  obtain ⟨z_6, rfl⟩ : ∃ z, z = u := ⟨_, rfl⟩
  obtain ⟨rfl, p0_6⟩ : r_6 = L6 z_6 ∧ (z_6 = fX v) := hw
  obtain ⟨hP1, hK1, hD1⟩ := hB
  rw [ht] at hP1
  obtain ⟨hP, hD⟩ := va_join (wr := [(am, .inr (0, [.int (I3 th), .int (I3 mn), .ref as_, .ref av, .ref aw, .int (I3 sm), .int (I3 wd), .int (I3 lp), .int (I3 mp), .int (I3 re)])), (as_, .inl (dA 0, 60, .inl (iA SG))), (av, .inl (dA 1, 960, .inr (.inl (lA VL)))), (aw, .inl (dA 1, 1024, .inr (.inl (lA wf))))]) (w1 := []) hP hD [] [0, 1, 2, 3] rfl rfl (by decide) (by decide) hk1 hFc hP1 hD1
  generalize H1 = H at hP hS ⊢
  have hP : va_P (dC, dI) vwCl [(am, .inr (0, [.int (I3 th), .int (I3 mn), .ref as_, .ref av, .ref aw, .int (I3 sm), .int (I3 wd), .int (I3 lp), .int (I3 mp), .int (I3 re)])), (as_, .inl (dA 0, 60, .inl (iA SG))), (av, .inl (dA 1, 960, .inr (.inl (lA VL)))), (aw, .inl (dA 1, 1024, .inr (.inl (lA wf))))] H := hP
  have hD : va_D A [(am, .inr (0, [.int (I3 th), .int (I3 mn), .ref as_, .ref av, .ref aw, .int (I3 sm), .int (I3 wd), .int (I3 lp), .int (I3 mp), .int (I3 re)])), (as_, .inl (dA 0, 60, .inl (iA SG))), (av, .inl (dA 1, 960, .inr (.inl (lA VL)))), (aw, .inl (dA 1, 1024, .inr (.inl (lA wf))))] := hD
  have i_z6 : In6 z_6 := by rw [p0_6]; constructor <;> omega
  rw [p0_6] at i_z6
  refine lv_lstore (lv' := [(4, .long (L6 z_6)), (3, .int (I3 z_1)), (0, .ref am), (1, .long (L6 v))]) hx hb dX8_front_9 hl (by decide) rfl (fun ls hl => ?_)
  refine lv_aload_n hx hb dX8_front_11 rfl (lv_at hl 2 rfl) ?_
  refine lv_iconst (v := I3 (0)) hx hb dX8_front_12 rfl ?_
  refine va_put (D := (dC, dI)) (ci := 0) (v := .int (I3 0)) (ty := .int) (C := RX8) (T := TX8) (N := 10) hx hb hts in_X8 tyX8 tyX8_ok nmX8 hown hK hP hD hS 0 rfl rfl 9 (by decide) (hts _ q922) (fun _ h9 => h9) rfl (by decide +kernel) rfl rfl (Nat.le_of_ble_eq_true rfl) dX8_front_13 (fun H locs hP hD hS => ?_)
  have hP : va_P (dC, dI) vwCl [(am, .inr (0, [.int (I3 th), .int (I3 mn), .ref as_, .ref av, .ref aw, .int (I3 sm), .int (I3 wd), .int (I3 lp), .int (I3 mp), .int (I3 0)])), (as_, .inl (dA 0, 60, .inl (iA SG))), (av, .inl (dA 1, 960, .inr (.inl (lA VL)))), (aw, .inl (dA 1, 1024, .inr (.inl (lA wf))))] H := hP
  have hD : va_D A [(am, .inr (0, [.int (I3 th), .int (I3 mn), .ref as_, .ref av, .ref aw, .int (I3 sm), .int (I3 wd), .int (I3 lp), .int (I3 mp), .int (I3 0)])), (as_, .inl (dA 0, 60, .inl (iA SG))), (av, .inl (dA 1, 960, .inr (.inl (lA VL)))), (aw, .inl (dA 1, 1024, .inr (.inl (lA wf))))] := hD
  refine lv_iload_n hx hb dX8_front_16 rfl (lv_at hl 1 rfl) ?_
  refine ix_if_ge (tgt := 27) hx hb (by first | assumption | decide | (constructor <;> omega)) dX8_front_17 (by decide) (fun c_17 => ?_) (fun c_17 => ?_)
  · skip
    refine lv_lload hx hb dX8_front_27 (lv_at hl 0 rfl) ?_
    have o_3 : z_6 = fX v / 2 ^ (-plX v).toNat := by first | (rw [show (-plX v).toNat = 0 by omega, p0_6]; exact (fr_0 _).1.symm) | (rw [p0_6, show fX v = 0 by omega]; exact (Int.zero_ediv _).symm)
    have o_4 : (0 : Int) = frR (fX v) (-plX v).toNat := by first | (rw [show (-plX v).toNat = 0 by omega]; exact (fr_0 _).2.symm) | (unfold frR; rw [show fX v = 0 by omega, Int.zero_emod, if_pos rfl])
    exact W.lret (v := L6 z_6) hx hb hr (fun t ht hW => ⟨⟨L6 z_6, (z_6, 0), rfl, ⟨rfl, ⟨o_3, o_4⟩⟩, by rw [ht]; exact hP, va_K.moved hW.alike hK, hD⟩, hS.F ht⟩) hS.2.2 dX8_front_29
  · skip
    refine lv_lload hx hb dX8_front_20 (lv_at hl 0 rfl) ?_
    refine lv_lconst (v := L6 0) hx hb dX8_front_22 (by decide) ?_
    refine ix_lcmp_ne (tgt := 30) hx hb (by first | assumption | decide | (constructor <;> omega)) (by first | assumption | decide | (constructor <;> omega)) dX8_front_23 dX8_front_24 (by decide) (fun c_23 => ?_) (fun c_23 => ?_)
    · skip
      refine lv_iload_n hx hb dX8_front_30 rfl (lv_at hl 1 rfl) ?_
      refine lv_bipush (v := I3 (-53)) hx hb dX8_front_31 (by decide) ?_
      refine ix_icmp_ge (tgt := 43) hx hb (by first | assumption | decide | (constructor <;> omega)) (by first | assumption | decide | (constructor <;> omega)) dX8_front_33 (by decide) (fun c_33 => ?_) (fun c_33 => ?_)
      · skip
        have hn : (0 : Int) ≤ -z_1 ∧ -z_1 < 64 := by omega
        have e1 : (-z_1).toNat = (-plX v).toNat := by rw [p0_1]
        have e2 : (-z_1 - 1).toNat + 1 = (-plX v).toNat := by omega
        have e3 : (2 : Int) ^ (-plX v).toNat = 2 * 2 ^ (-z_1 - 1).toNat := by rw [← e2, Int.pow_succ, Int.mul_comm]
        have hpp := ppos (-z_1 - 1).toNat
        have hq1 := Int.emod_nonneg (fX v) (Int.ne_of_gt (ppos (-plX v).toNat))
        have hq2 := Int.emod_lt_of_pos (fX v) (ppos (-plX v).toNat)
        have hle := p63 (k := (-plX v).toNat) (by omega)
        have i_l : In6 (fX v % 2 ^ (-plX v).toNat) := ⟨by omega, by omega⟩
        have i_h : In6 ((2 : Int) ^ (-z_1 - 1).toNat) := ⟨by omega, by omega⟩
        refine lv_lload hx hb dX8_front_43 (lv_at hl 0 rfl) ?_
        refine lv_lconst (v := L6 1) hx hb dX8_front_45 (by decide) ?_
        refine lv_iload_n hx hb dX8_front_46 rfl (lv_at hl 1 rfl) ?_
        refine ix_ineg hx hb dX8_front_47 ?_
        refine ix_lshl hx hb (by first | decide | omega) dX8_front_48 ?_
        refine lv_lconst (v := L6 1) hx hb dX8_front_49 (by decide) ?_
        refine ix_lsub hx hb dX8_front_50 ?_
        refine ix_land hx hb dX8_front_51 ?_
        refine ix_tl (y := fX v % 2 ^ (-plX v).toNat) (by rw [p0_6, Int.one_mul, e1]; exact zand6_m (by omega)) ?_
        refine lv_lstore (lv' := [(6, .long (L6 (fX v % 2 ^ (-plX v).toNat))), (4, .long (L6 z_6)), (3, .int (I3 z_1)), (0, .ref am), (1, .long (L6 v))]) hx hb dX8_front_52 hl (by decide) rfl (fun ls hl => ?_)
        refine lv_lconst (v := L6 1) hx hb dX8_front_54 (by decide) ?_
        refine lv_iload_n hx hb dX8_front_55 rfl (lv_at hl 2 rfl) ?_
        refine ix_ineg hx hb dX8_front_56 ?_
        refine lv_iconst (v := I3 (1)) hx hb dX8_front_57 rfl ?_
        refine ix_isub hx hb dX8_front_58 ?_
        refine ix_lshl hx hb (by first | decide | omega) dX8_front_59 ?_
        refine ix_tl (y := (2 : Int) ^ (-z_1 - 1).toNat) (by exact Int.one_mul _) ?_
        refine lv_lstore (lv' := [(8, .long (L6 ((2 : Int) ^ (-z_1 - 1).toNat))), (6, .long (L6 (fX v % 2 ^ (-plX v).toNat))), (4, .long (L6 z_6)), (3, .int (I3 z_1)), (0, .ref am), (1, .long (L6 v))]) hx hb dX8_front_60 hl (by decide) rfl (fun ls hl => ?_)
        refine lv_aload_n hx hb dX8_front_62 rfl (lv_at hl 4 rfl) ?_
        refine lv_lload hx hb dX8_front_63 (lv_at hl 1 rfl) ?_
        refine lv_lconst (v := L6 0) hx hb dX8_front_65 (by decide) ?_
        refine ix_lcmp_ne (tgt := 74) hx hb (by first | assumption | decide | (constructor <;> omega)) (by first | assumption | decide | (constructor <;> omega)) dX8_front_66 dX8_front_67 (by decide) (fun c_66 => ?_) (fun c_66 => ?_)
        · skip
          refine lv_lload hx hb dX8_front_74 (lv_at hl 1 rfl) ?_
          refine lv_lload hx hb dX8_front_76 (lv_at hl 0 rfl) ?_
          refine ix_lcmp_ge (tgt := 86) hx hb (by first | assumption | decide | (constructor <;> omega)) (by first | assumption | decide | (constructor <;> omega)) dX8_front_78 dX8_front_79 (by decide) (fun c_78 => ?_) (fun c_78 => ?_)
          · skip
            refine lv_lload hx hb dX8_front_86 (lv_at hl 1 rfl) ?_
            refine lv_lload hx hb dX8_front_88 (lv_at hl 0 rfl) ?_
            refine ix_lcmp_ne (tgt := 98) hx hb (by first | assumption | decide | (constructor <;> omega)) (by first | assumption | decide | (constructor <;> omega)) dX8_front_90 dX8_front_91 (by decide) (fun c_90 => ?_) (fun c_90 => ?_)
            · skip
              refine lv_iconst (v := I3 (3)) hx hb dX8_front_98 rfl ?_
              refine va_put (D := (dC, dI)) (ci := 0) (v := .int (I3 3)) (ty := .int) (C := RX8) (T := TX8) (N := 10) hx hb hts in_X8 tyX8 tyX8_ok nmX8 hown hK hP hD hS 0 rfl rfl 9 (by decide) (hts _ q922) (fun _ h9 => h9) rfl (by decide +kernel) rfl rfl (Nat.le_of_ble_eq_true rfl) dX8_front_99 (fun H locs hP hD hS => ?_)
              have hP : va_P (dC, dI) vwCl [(am, .inr (0, [.int (I3 th), .int (I3 mn), .ref as_, .ref av, .ref aw, .int (I3 sm), .int (I3 wd), .int (I3 lp), .int (I3 mp), .int (I3 3)])), (as_, .inl (dA 0, 60, .inl (iA SG))), (av, .inl (dA 1, 960, .inr (.inl (lA VL)))), (aw, .inl (dA 1, 1024, .inr (.inl (lA wf))))] H := hP
              have hD : va_D A [(am, .inr (0, [.int (I3 th), .int (I3 mn), .ref as_, .ref av, .ref aw, .int (I3 sm), .int (I3 wd), .int (I3 lp), .int (I3 mp), .int (I3 3)])), (as_, .inl (dA 0, 60, .inl (iA SG))), (av, .inl (dA 1, 960, .inr (.inl (lA VL)))), (aw, .inl (dA 1, 1024, .inr (.inl (lA wf))))] := hD
              refine lv_lload hx hb dX8_front_102 (lv_at hl 2 rfl) ?_
              refine lv_iload_n hx hb dX8_front_104 rfl (lv_at hl 3 rfl) ?_
              refine ix_ineg hx hb dX8_front_105 ?_
              refine ix_lshr hx hb (by first | assumption | (constructor <;> omega)) (by first | decide | omega) dX8_front_106 ?_
              have o_5 : (z_6 / 2 ^ (-z_1 : Int).toNat) = fX v / 2 ^ (-plX v).toNat := by rw [p0_6, e1]
              have o_6 : (3 : Int) = frR (fX v) (-plX v).toNat := by unfold frR; first | (rw [if_pos (by omega)]; done) | (rw [if_neg (by omega), if_pos (by omega)]; done) | (rw [if_neg (by omega), if_neg (by omega), if_pos (by omega)]; done) | (rw [if_neg (by omega), if_neg (by omega), if_neg (by omega)]; done)
              exact W.lret (v := L6 (z_6 / 2 ^ (-z_1 : Int).toNat)) hx hb hr (fun t ht hW => ⟨⟨L6 (z_6 / 2 ^ (-z_1 : Int).toNat), ((z_6 / 2 ^ (-z_1 : Int).toNat), 3), rfl, ⟨rfl, ⟨o_5, o_6⟩⟩, by rw [ht]; exact hP, va_K.moved hW.alike hK, hD⟩, hS.F ht⟩) hS.2.2 dX8_front_107
            · skip
              refine lv_iconst (v := I3 (2)) hx hb dX8_front_94 rfl ?_
              refine lv_goto (tgt := 99) hx hb dX8_front_95 (by decide) ?_
              refine va_put (D := (dC, dI)) (ci := 0) (v := .int (I3 2)) (ty := .int) (C := RX8) (T := TX8) (N := 10) hx hb hts in_X8 tyX8 tyX8_ok nmX8 hown hK hP hD hS 0 rfl rfl 9 (by decide) (hts _ q922) (fun _ h9 => h9) rfl (by decide +kernel) rfl rfl (Nat.le_of_ble_eq_true rfl) dX8_front_99 (fun H locs hP hD hS => ?_)
              have hP : va_P (dC, dI) vwCl [(am, .inr (0, [.int (I3 th), .int (I3 mn), .ref as_, .ref av, .ref aw, .int (I3 sm), .int (I3 wd), .int (I3 lp), .int (I3 mp), .int (I3 2)])), (as_, .inl (dA 0, 60, .inl (iA SG))), (av, .inl (dA 1, 960, .inr (.inl (lA VL)))), (aw, .inl (dA 1, 1024, .inr (.inl (lA wf))))] H := hP
              have hD : va_D A [(am, .inr (0, [.int (I3 th), .int (I3 mn), .ref as_, .ref av, .ref aw, .int (I3 sm), .int (I3 wd), .int (I3 lp), .int (I3 mp), .int (I3 2)])), (as_, .inl (dA 0, 60, .inl (iA SG))), (av, .inl (dA 1, 960, .inr (.inl (lA VL)))), (aw, .inl (dA 1, 1024, .inr (.inl (lA wf))))] := hD
              refine lv_lload hx hb dX8_front_102 (lv_at hl 2 rfl) ?_
              refine lv_iload_n hx hb dX8_front_104 rfl (lv_at hl 3 rfl) ?_
              refine ix_ineg hx hb dX8_front_105 ?_
              refine ix_lshr hx hb (by first | assumption | (constructor <;> omega)) (by first | decide | omega) dX8_front_106 ?_
              have o_7 : (z_6 / 2 ^ (-z_1 : Int).toNat) = fX v / 2 ^ (-plX v).toNat := by rw [p0_6, e1]
              have o_8 : (2 : Int) = frR (fX v) (-plX v).toNat := by unfold frR; first | (rw [if_pos (by omega)]; done) | (rw [if_neg (by omega), if_pos (by omega)]; done) | (rw [if_neg (by omega), if_neg (by omega), if_pos (by omega)]; done) | (rw [if_neg (by omega), if_neg (by omega), if_neg (by omega)]; done)
              exact W.lret (v := L6 (z_6 / 2 ^ (-z_1 : Int).toNat)) hx hb hr (fun t ht hW => ⟨⟨L6 (z_6 / 2 ^ (-z_1 : Int).toNat), ((z_6 / 2 ^ (-z_1 : Int).toNat), 2), rfl, ⟨rfl, ⟨o_7, o_8⟩⟩, by rw [ht]; exact hP, va_K.moved hW.alike hK, hD⟩, hS.F ht⟩) hS.2.2 dX8_front_107
          · skip
            refine lv_iconst (v := I3 (1)) hx hb dX8_front_82 rfl ?_
            refine lv_goto (tgt := 99) hx hb dX8_front_83 (by decide) ?_
            refine va_put (D := (dC, dI)) (ci := 0) (v := .int (I3 1)) (ty := .int) (C := RX8) (T := TX8) (N := 10) hx hb hts in_X8 tyX8 tyX8_ok nmX8 hown hK hP hD hS 0 rfl rfl 9 (by decide) (hts _ q922) (fun _ h9 => h9) rfl (by decide +kernel) rfl rfl (Nat.le_of_ble_eq_true rfl) dX8_front_99 (fun H locs hP hD hS => ?_)
            have hP : va_P (dC, dI) vwCl [(am, .inr (0, [.int (I3 th), .int (I3 mn), .ref as_, .ref av, .ref aw, .int (I3 sm), .int (I3 wd), .int (I3 lp), .int (I3 mp), .int (I3 1)])), (as_, .inl (dA 0, 60, .inl (iA SG))), (av, .inl (dA 1, 960, .inr (.inl (lA VL)))), (aw, .inl (dA 1, 1024, .inr (.inl (lA wf))))] H := hP
            have hD : va_D A [(am, .inr (0, [.int (I3 th), .int (I3 mn), .ref as_, .ref av, .ref aw, .int (I3 sm), .int (I3 wd), .int (I3 lp), .int (I3 mp), .int (I3 1)])), (as_, .inl (dA 0, 60, .inl (iA SG))), (av, .inl (dA 1, 960, .inr (.inl (lA VL)))), (aw, .inl (dA 1, 1024, .inr (.inl (lA wf))))] := hD
            refine lv_lload hx hb dX8_front_102 (lv_at hl 2 rfl) ?_
            refine lv_iload_n hx hb dX8_front_104 rfl (lv_at hl 3 rfl) ?_
            refine ix_ineg hx hb dX8_front_105 ?_
            refine ix_lshr hx hb (by first | assumption | (constructor <;> omega)) (by first | decide | omega) dX8_front_106 ?_
            have o_9 : (z_6 / 2 ^ (-z_1 : Int).toNat) = fX v / 2 ^ (-plX v).toNat := by rw [p0_6, e1]
            have o_10 : (1 : Int) = frR (fX v) (-plX v).toNat := by unfold frR; first | (rw [if_pos (by omega)]; done) | (rw [if_neg (by omega), if_pos (by omega)]; done) | (rw [if_neg (by omega), if_neg (by omega), if_pos (by omega)]; done) | (rw [if_neg (by omega), if_neg (by omega), if_neg (by omega)]; done)
            exact W.lret (v := L6 (z_6 / 2 ^ (-z_1 : Int).toNat)) hx hb hr (fun t ht hW => ⟨⟨L6 (z_6 / 2 ^ (-z_1 : Int).toNat), ((z_6 / 2 ^ (-z_1 : Int).toNat), 1), rfl, ⟨rfl, ⟨o_9, o_10⟩⟩, by rw [ht]; exact hP, va_K.moved hW.alike hK, hD⟩, hS.F ht⟩) hS.2.2 dX8_front_107
        · skip
          refine lv_iconst (v := I3 (0)) hx hb dX8_front_70 rfl ?_
          refine lv_goto (tgt := 99) hx hb dX8_front_71 (by decide) ?_
          refine va_put (D := (dC, dI)) (ci := 0) (v := .int (I3 0)) (ty := .int) (C := RX8) (T := TX8) (N := 10) hx hb hts in_X8 tyX8 tyX8_ok nmX8 hown hK hP hD hS 0 rfl rfl 9 (by decide) (hts _ q922) (fun _ h9 => h9) rfl (by decide +kernel) rfl rfl (Nat.le_of_ble_eq_true rfl) dX8_front_99 (fun H locs hP hD hS => ?_)
          have hP : va_P (dC, dI) vwCl [(am, .inr (0, [.int (I3 th), .int (I3 mn), .ref as_, .ref av, .ref aw, .int (I3 sm), .int (I3 wd), .int (I3 lp), .int (I3 mp), .int (I3 0)])), (as_, .inl (dA 0, 60, .inl (iA SG))), (av, .inl (dA 1, 960, .inr (.inl (lA VL)))), (aw, .inl (dA 1, 1024, .inr (.inl (lA wf))))] H := hP
          have hD : va_D A [(am, .inr (0, [.int (I3 th), .int (I3 mn), .ref as_, .ref av, .ref aw, .int (I3 sm), .int (I3 wd), .int (I3 lp), .int (I3 mp), .int (I3 0)])), (as_, .inl (dA 0, 60, .inl (iA SG))), (av, .inl (dA 1, 960, .inr (.inl (lA VL)))), (aw, .inl (dA 1, 1024, .inr (.inl (lA wf))))] := hD
          refine lv_lload hx hb dX8_front_102 (lv_at hl 2 rfl) ?_
          refine lv_iload_n hx hb dX8_front_104 rfl (lv_at hl 3 rfl) ?_
          refine ix_ineg hx hb dX8_front_105 ?_
          refine ix_lshr hx hb (by first | assumption | (constructor <;> omega)) (by first | decide | omega) dX8_front_106 ?_
          have o_11 : (z_6 / 2 ^ (-z_1 : Int).toNat) = fX v / 2 ^ (-plX v).toNat := by rw [p0_6, e1]
          have o_12 : (0 : Int) = frR (fX v) (-plX v).toNat := by unfold frR; first | (rw [if_pos (by omega)]; done) | (rw [if_neg (by omega), if_pos (by omega)]; done) | (rw [if_neg (by omega), if_neg (by omega), if_pos (by omega)]; done) | (rw [if_neg (by omega), if_neg (by omega), if_neg (by omega)]; done)
          exact W.lret (v := L6 (z_6 / 2 ^ (-z_1 : Int).toNat)) hx hb hr (fun t ht hW => ⟨⟨L6 (z_6 / 2 ^ (-z_1 : Int).toNat), ((z_6 / 2 ^ (-z_1 : Int).toNat), 0), rfl, ⟨rfl, ⟨o_11, o_12⟩⟩, by rw [ht]; exact hP, va_K.moved hW.alike hK, hD⟩, hS.F ht⟩) hS.2.2 dX8_front_107
      · skip
        refine lv_aload_n hx hb dX8_front_36 rfl (lv_at hl 2 rfl) ?_
        refine lv_iconst (v := I3 (1)) hx hb dX8_front_37 rfl ?_
        refine va_put (D := (dC, dI)) (ci := 0) (v := .int (I3 1)) (ty := .int) (C := RX8) (T := TX8) (N := 10) hx hb hts in_X8 tyX8 tyX8_ok nmX8 hown hK hP hD hS 0 rfl rfl 9 (by decide) (hts _ q922) (fun _ h9 => h9) rfl (by decide +kernel) rfl rfl (Nat.le_of_ble_eq_true rfl) dX8_front_38 (fun H locs hP hD hS => ?_)
        have hP : va_P (dC, dI) vwCl [(am, .inr (0, [.int (I3 th), .int (I3 mn), .ref as_, .ref av, .ref aw, .int (I3 sm), .int (I3 wd), .int (I3 lp), .int (I3 mp), .int (I3 1)])), (as_, .inl (dA 0, 60, .inl (iA SG))), (av, .inl (dA 1, 960, .inr (.inl (lA VL)))), (aw, .inl (dA 1, 1024, .inr (.inl (lA wf))))] H := hP
        have hD : va_D A [(am, .inr (0, [.int (I3 th), .int (I3 mn), .ref as_, .ref av, .ref aw, .int (I3 sm), .int (I3 wd), .int (I3 lp), .int (I3 mp), .int (I3 1)])), (as_, .inl (dA 0, 60, .inl (iA SG))), (av, .inl (dA 1, 960, .inr (.inl (lA VL)))), (aw, .inl (dA 1, 1024, .inr (.inl (lA wf))))] := hD
        refine lv_lconst (v := L6 0) hx hb dX8_front_41 (by decide) ?_
        have hfar := fr_far (m := fX v) (n := (-plX v).toNat) (by omega) (by omega)
        have o_13 : (0 : Int) = fX v / 2 ^ (-plX v).toNat := by exact hfar.1.symm
        have o_14 : (1 : Int) = frR (fX v) (-plX v).toNat := by exact hfar.2.symm
        exact W.lret (v := L6 0) hx hb hr (fun t ht hW => ⟨⟨L6 0, (0, 1), rfl, ⟨rfl, ⟨o_13, o_14⟩⟩, by rw [ht]; exact hP, va_K.moved hW.alike hK, hD⟩, hS.F ht⟩) hS.2.2 dX8_front_42
    · skip
      refine lv_lload hx hb dX8_front_27 (lv_at hl 0 rfl) ?_
      have o_15 : z_6 = fX v / 2 ^ (-plX v).toNat := by first | (rw [show (-plX v).toNat = 0 by omega, p0_6]; exact (fr_0 _).1.symm) | (rw [p0_6, show fX v = 0 by omega]; exact (Int.zero_ediv _).symm)
      have o_16 : (0 : Int) = frR (fX v) (-plX v).toNat := by first | (rw [show (-plX v).toNat = 0 by omega]; exact (fr_0 _).2.symm) | (unfold frR; rw [show fX v = 0 by omega, Int.zero_emod, if_pos rfl])
      exact W.lret (v := L6 z_6) hx hb hr (fun t ht hW => ⟨⟨L6 z_6, (z_6, 0), rfl, ⟨rfl, ⟨o_15, o_16⟩⟩, by rw [ht]; exact hP, va_K.moved hW.alike hK, hD⟩, hS.F ht⟩) hS.2.2 dX8_front_29
