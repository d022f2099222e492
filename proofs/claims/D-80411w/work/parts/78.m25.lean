/-! the model: machineMore -/
set_option maxRecDepth 100000
abbrev BmetX8_machineMore (dC : Nat → ClassId) (dI : Nat → Nat → Nat) (dA : Nat → ClassId) (A : Nat → Prop) (am : Nat) (as_ : Nat) (av : Nat) (aw : Nat) (th : Int) (mn : Int) (sm : Int) (wd : Int) (lp : Int) (mp : Int) (re : Int) (SG : Int → Int) (VL : Int → Int) (wf : Int → Int) (kind : Int) (v : Int) (w : Int) : Int × (Int → Int) × Int × Int × Int → State → Prop := fun u t => (fun (u : Int × (Int → Int) × Int × Int × Int) => (fun (z : Int) (W1 : Int → Int) (wd1 : Int) (lp1 : Int) (mp1 : Int) => va_P (dC, dI) vwCl [(am, .inr (0, [.int (I3 th), .int (I3 mn), .ref as_, .ref av, .ref aw, .int (I3 sm), .int (I3 wd1), .int (I3 lp1), .int (I3 mp1), .int (I3 re)])), (as_, .inl (dA 0, 60, .inl (iA SG))), (av, .inl (dA 1, 960, .inr (.inl (lA VL)))), (aw, .inl (dA 1, 1024, .inr (.inl (lA W1))))] t.heap ∧ va_K (dC, dI) vwCl (tyA dA) t ∧ va_D A [(am, .inr (0, [.int (I3 th), .int (I3 mn), .ref as_, .ref av, .ref aw, .int (I3 sm), .int (I3 wd1), .int (I3 lp1), .int (I3 mp1), .int (I3 re)])), (as_, .inl (dA 0, 60, .inl (iA SG))), (av, .inl (dA 1, 960, .inr (.inl (lA VL)))), (aw, .inl (dA 1, 1024, .inr (.inl (lA W1))))]) u.1 u.2.1 u.2.2.1 u.2.2.2.1 u.2.2.2.2) u
abbrev QmetX8_machineMore (dC : Nat → ClassId) (dI : Nat → Nat → Nat) (dA : Nat → ClassId) (A : Nat → Prop) (am : Nat) (as_ : Nat) (av : Nat) (aw : Nat) (th : Int) (mn : Int) (sm : Int) (wd : Int) (lp : Int) (mp : Int) (re : Int) (SG : Int → Int) (VL : Int → Int) (wf : Int → Int) (kind : Int) (v : Int) (w : Int) := va_Ql (fun (rt_ : Int64) => fun (u : Int × (Int → Int) × Int × Int × Int) => (fun (z : Int) (W1 : Int → Int) (wd1 : Int) (lp1 : Int) (mp1 : Int) => rt_ = L6 z ∧ (Dg W1) ∧ (mmX kind v w z)) u.1 u.2.1 u.2.2.1 u.2.2.2.1 u.2.2.2.2) (BmetX8_machineMore dC dI dA A am as_ av aw th mn sm wd lp mp re SG VL wf kind v w) A
set_option maxHeartbeats 8000000 in
set_option maxRecDepth 100000 in
/-- machineMore -/
theorem metX8_machineMore (l : Launch) (dC : Nat → ClassId) (dI : Nat → Nat → Nat) (dA : Nat → ClassId) (am : Nat) (as_ : Nat) (av : Nat) (aw : Nat) (sz : Nat) (th : Int) (mn : Int) (sm : Int) (wd : Int) (lp : Int) (mp : Int) (re : Int) (SG : Int → Int) (VL : Int → Int) (wf : Int → Int) (kind : Int) (v : Int) (w : Int) (hW : Dg wf) (hv : In6 v) (hw : In6 w) (hk : 6 ≤ kind ∧ kind ≤ 10) : Met l yX8_machineMore (ws_ yX8_machineMore cX8_machineMore 8 (some .long)) ({ frames := 5, cells := 0, slots := 0, locals := 200 }) (va_Pc [.ref am, .int (I3 kind), .long (L6 v), .long (L6 w)] (fun U => U.heap.size = sz ∧ va_P (dC, dI) vwCl [(am, .inr (0, [.int (I3 th), .int (I3 mn), .ref as_, .ref av, .ref aw, .int (I3 sm), .int (I3 wd), .int (I3 lp), .int (I3 mp), .int (I3 re)])), (as_, .inl (dA 0, 60, .inl (iA SG))), (av, .inl (dA 1, 960, .inr (.inl (lA VL)))), (aw, .inl (dA 1, 1024, .inr (.inl (lA wf))))] U.heap ∧ va_K (dC, dI) vwCl (tyA dA) U ∧ va_D (fun _ => True) [(am, .inr (0, [.int (I3 th), .int (I3 mn), .ref as_, .ref av, .ref aw, .int (I3 sm), .int (I3 wd), .int (I3 lp), .int (I3 mp), .int (I3 re)])), (as_, .inl (dA 0, 60, .inl (iA SG))), (av, .inl (dA 1, 960, .inr (.inl (lA VL)))), (aw, .inl (dA 1, 1024, .inr (.inl (lA wf))))])) (QmetX8_machineMore dC dI dA (va_A [(am, .inr (0, [.int (I3 th), .int (I3 mn), .ref as_, .ref av, .ref aw, .int (I3 sm), .int (I3 wd), .int (I3 lp), .int (I3 mp), .int (I3 re)])), (as_, .inl (dA 0, 60, .inl (iA SG))), (av, .inl (dA 1, 960, .inr (.inl (lA VL)))), (aw, .inl (dA 1, 1024, .inr (.inl (lA wf))))] sz) am as_ av aw th mn sm wd lp mp re SG VL wf kind v w) 0 0 (va_A [(am, .inr (0, [.int (I3 th), .int (I3 mn), .ref as_, .ref av, .ref aw, .int (I3 sm), .int (I3 wd), .int (I3 lp), .int (I3 mp), .int (I3 re)])), (as_, .inl (dA 0, 60, .inl (iA SG))), (av, .inl (dA 1, 960, .inr (.inl (lA VL)))), (aw, .inl (dA 1, 1024, .inr (.inl (lA wf))))] sz) := by
  refine Met.ofW (cc := cX8_machineMore) (maxL := 8) (ret := (some .long)) (by decide) rfl ?_
  intro p e s m args below meth c s₁ B hml hv
  obtain ⟨rfl, hsz, hP, hK, hD0⟩ := hv
  have hx := B.exec
  have hb := B.bytes
  have hr := B.returns
  have hts := atoms_spec (ws := (ws_ yX8_machineMore cX8_machineMore 8 (some .long))) B.pre
  have hts : ∀ w ∈ lw_all, w.before _ s = true := fun w h => hts w (List.mem_cons_of_mem _ h)
  have hown : s.vm.findClass RX8 = some m.cls := findClass_of_methodNamed B.named
  have hlocks := B.notSynchronized
  subst hsz
  have hD := hD0.self (sz := s.heap.size)
  generalize hAe : va_A [(am, .inr (0, [.int (I3 th), .int (I3 mn), .ref as_, .ref av, .ref aw, .int (I3 sm), .int (I3 wd), .int (I3 lp), .int (I3 mp), .int (I3 re)])), (as_, .inl (dA 0, 60, .inl (iA SG))), (av, .inl (dA 1, 960, .inr (.inl (lA VL)))), (aw, .inl (dA 1, 1024, .inr (.inl (lA wf))))] s.heap.size = A at hD ⊢
  have hA : ∀ q : Nat, s.heap.size ≤ q → A q := fun q h => by rw [← hAe]; exact Or.inr h
  have hS : va_S A s.heap s.heap [] := va_S.rf
  have hP : va_P (dC, dI) vwCl [(am, .inr (0, [.int (I3 th), .int (I3 mn), .ref as_, .ref av, .ref aw, .int (I3 sm), .int (I3 wd), .int (I3 lp), .int (I3 mp), .int (I3 re)])), (as_, .inl (dA 0, 60, .inl (iA SG))), (av, .inl (dA 1, 960, .inr (.inl (lA VL)))), (aw, .inl (dA 1, 1024, .inr (.inl (lA wf))))] s.heap := hP
  have hl := lv_entry ([.ref am, .int (I3 kind), .long (L6 v), .long (L6 w)]) (n := 8) (Nat.le_of_ble_eq_true rfl)
  rw [lg_entry_eq]
  generalize (lg_sl ([.ref am, .int (I3 kind), .long (L6 v), .long (L6 w)]) ++ List.replicate (8 - (lg_sl ([.ref am, .int (I3 kind), .long (L6 v), .long (L6 w)])).length) Slot.unset).toArray = ls at hl ⊢
  have hl : lv_has ls 8 [(0, .ref am), (1, .int (I3 kind)), (2, .long (L6 v)), (4, .long (L6 w))] := hl
  have cut_198 : ∀ (n : Int), (kind = 9) → (¬ noX v) → (n = clX w) → (-3000 ≤ n ∧ n ≤ 3000) → ∀ (H : Heap) (locs : List Loc), va_P (dC, dI) vwCl [(am, .inr (0, [.int (I3 th), .int (I3 mn), .ref as_, .ref av, .ref aw, .int (I3 sm), .int (I3 wd), .int (I3 lp), .int (I3 mp), .int (I3 re)])), (as_, .inl (dA 0, 60, .inl (iA SG))), (av, .inl (dA 1, 960, .inr (.inl (lA VL)))), (aw, .inl (dA 1, 1024, .inr (.inl (lA wf))))] H → va_D A [(am, .inr (0, [.int (I3 th), .int (I3 mn), .ref as_, .ref av, .ref aw, .int (I3 sm), .int (I3 wd), .int (I3 lp), .int (I3 mp), .int (I3 re)])), (as_, .inl (dA 0, 60, .inl (iA SG))), (av, .inl (dA 1, 960, .inr (.inl (lA VL)))), (aw, .inl (dA 1, 1024, .inr (.inl (lA wf))))] → va_S A s.heap H locs → ∀ (ls : Array Slot), lv_has ls 8 [(0, .ref am), (1, .int (I3 kind)), (2, .long (L6 v)), (4, .long (L6 w))] → W p l e (headSpec (ws_ yX8_machineMore cX8_machineMore 8 (some .long)) ({ frames := 5, cells := 0, slots := 0, locals := 200 })).room s m ([.ref am, .int (I3 kind), .long (L6 v), .long (L6 w)] : List Value).toArray below meth c H locs 0 0 (MQ below (QmetX8_machineMore dC dI dA A am as_ av aw th mn sm wd lp mp re SG VL wf kind v w) ([.ref am, .int (I3 kind), .long (L6 v), .long (L6 w)] : List Value).toArray s 0 0 A) (F0 m 198 ls [.int (I3 n)]) := by
    intro n hk9 n1 hn hn2 H locs hP hD hS ls hl
    have xv_ := eX_r v
    have fv_ := fX_r v
    have pv_ := plX_r v
    have qv_ := pX_r v
    have xw_ := eX_r w
    have qw_ := pX_r w
    refine lv_istore (lv' := [(6, .int (I3 n)), (0, .ref am), (1, .int (I3 kind)), (2, .long (L6 v)), (4, .long (L6 w))]) hx hb dX8_machineMore_198 hl (by decide) rfl (fun ls hl => ?_)
    refine lv_lload_n hx hb dX8_machineMore_200 rfl (lv_at hl 3 rfl) ?_
    have h_1 : In6 v := by first | assumption | omega | (constructor <;> omega)
    have hPc := hP.sub (ws' := []) [] rfl
    have hDc := hD.sub (ws' := []) [] (by decide) rfl
    have hFc := va_free (wc := []) hD hS hA [] rfl
    refine va_calli (va_runS (As := [.long (L6 v)]) (rest := []) ⟨hx, hb, hml, hown, hts⟩ (metX8_isInfinite l dC dI dA H.size v h_1) (va_cwS 1 hts (lw_S q1130 q1131 q66 q1132) rfl rfl rfl (by decide +kernel) ⟨Nat.le_of_ble_eq_true rfl, Nat.le_of_ble_eq_true rfl⟩) ⟨fun a U g mk q => by obtain ⟨q0, q1, qP, qK, qD⟩ := q; exact ⟨q0, q1, qP, va_K.moved (u := U) (U := U.calling g mk a) (Vm.Alike.refl U.vm) qK, qD⟩, fun U hU hW => ⟨rfl, by rw [hU], by rw [hU]; exact hPc, va_K.moved hW.alike hK, hDc.weaken (fun _ _ _ _ => trivial)⟩⟩ rfl rfl hl.1 rfl (lv_room (Nat.le_of_ble_eq_true rfl)) dX8_machineMore_201 ⟨Nat.le_of_ble_eq_true rfl, Nat.le_of_ble_eq_true rfl⟩) hS (fun q _ h => hFc q h) hFc (fun r_201 u t H1 locs ht hvm hw hB hz1 hk1 hS => ?_)
    obtain ⟨z_201, rfl⟩ : ∃ z, z = u := ⟨_, rfl⟩
    obtain ⟨rfl, p0_201⟩ : r_201 = I3 z_201 ∧ (z_201 = if eX v = 2047 ∧ pX v = 0 then 1 else 0) := hw
    obtain ⟨hP1, hK1, hD1⟩ := hB
    rw [ht] at hP1
    obtain ⟨hP, hD⟩ := va_join (wr := [(am, .inr (0, [.int (I3 th), .int (I3 mn), .ref as_, .ref av, .ref aw, .int (I3 sm), .int (I3 wd), .int (I3 lp), .int (I3 mp), .int (I3 re)])), (as_, .inl (dA 0, 60, .inl (iA SG))), (av, .inl (dA 1, 960, .inr (.inl (lA VL)))), (aw, .inl (dA 1, 1024, .inr (.inl (lA wf))))]) (w1 := []) hP hD [] [0, 1, 2, 3] rfl rfl (by decide) (by decide) hk1 hFc hP1 hD1
    generalize H1 = H at hP hS ⊢
    have hP : va_P (dC, dI) vwCl [(am, .inr (0, [.int (I3 th), .int (I3 mn), .ref as_, .ref av, .ref aw, .int (I3 sm), .int (I3 wd), .int (I3 lp), .int (I3 mp), .int (I3 re)])), (as_, .inl (dA 0, 60, .inl (iA SG))), (av, .inl (dA 1, 960, .inr (.inl (lA VL)))), (aw, .inl (dA 1, 1024, .inr (.inl (lA wf))))] H := hP
    have hD : va_D A [(am, .inr (0, [.int (I3 th), .int (I3 mn), .ref as_, .ref av, .ref aw, .int (I3 sm), .int (I3 wd), .int (I3 lp), .int (I3 mp), .int (I3 re)])), (as_, .inl (dA 0, 60, .inl (iA SG))), (av, .inl (dA 1, 960, .inr (.inl (lA VL)))), (aw, .inl (dA 1, 1024, .inr (.inl (lA wf))))] := hD
    have y_201 := b01 p0_201
    refine ix_if_eq (tgt := 211) hx hb (by first | assumption | decide | (constructor <;> omega)) dX8_machineMore_204 (by decide) (fun c_204 => ?_) (fun c_204 => ?_)
    · skip
      refine lv_aload_n hx hb dX8_machineMore_211 rfl (lv_at hl 1 rfl) ?_
      refine lv_lload_n hx hb dX8_machineMore_212 rfl (lv_at hl 3 rfl) ?_
      have h_2 : In6 v := by first | assumption | omega | (constructor <;> omega)
      have hPc := hP.sub (ws' := []) [] rfl
      have hDc := hD.sub (ws' := []) [] (by decide) rfl
      have hFc := va_free (wc := []) hD hS hA [] rfl
      refine va_calll (va_runS (As := [.long (L6 v)]) (rest := [.ref am]) ⟨hx, hb, hml, hown, hts⟩ (metX8_factor l dC dI dA H.size v h_2) (va_cwS 1 hts (lw_S q1032 q1033 q66 q1034) rfl rfl rfl (by decide +kernel) ⟨Nat.le_of_ble_eq_true rfl, Nat.le_of_ble_eq_true rfl⟩) ⟨fun a U g mk q => by obtain ⟨q0, q1, qP, qK, qD⟩ := q; exact ⟨q0, q1, qP, va_K.moved (u := U) (U := U.calling g mk a) (Vm.Alike.refl U.vm) qK, qD⟩, fun U hU hW => ⟨rfl, by rw [hU], by rw [hU]; exact hPc, va_K.moved hW.alike hK, hDc.weaken (fun _ _ _ _ => trivial)⟩⟩ rfl rfl hl.1 rfl (lv_room (Nat.le_of_ble_eq_true rfl)) dX8_machineMore_213 ⟨Nat.le_of_ble_eq_true rfl, Nat.le_of_ble_eq_true rfl⟩) hS (fun q _ h => hFc q h) hFc (fun r_213 u t H1 locs ht hvm hw hB hz1 hk1 hS => ?_)
      obtain ⟨z_213, rfl⟩ : ∃ z, z = u := ⟨_, rfl⟩
      obtain ⟨rfl, p0_213⟩ : r_213 = L6 z_213 ∧ (z_213 = fX v) := hw
      obtain ⟨hP1, hK1, hD1⟩ := hB
      rw [ht] at hP1
      obtain ⟨hP, hD⟩ := va_join (wr := [(am, .inr (0, [.int (I3 th), .int (I3 mn), .ref as_, .ref av, .ref aw, .int (I3 sm), .int (I3 wd), .int (I3 lp), .int (I3 mp), .int (I3 re)])), (as_, .inl (dA 0, 60, .inl (iA SG))), (av, .inl (dA 1, 960, .inr (.inl (lA VL)))), (aw, .inl (dA 1, 1024, .inr (.inl (lA wf))))]) (w1 := []) hP hD [] [0, 1, 2, 3] rfl rfl (by decide) (by decide) hk1 hFc hP1 hD1
      generalize H1 = H at hP hS ⊢
      have hP : va_P (dC, dI) vwCl [(am, .inr (0, [.int (I3 th), .int (I3 mn), .ref as_, .ref av, .ref aw, .int (I3 sm), .int (I3 wd), .int (I3 lp), .int (I3 mp), .int (I3 re)])), (as_, .inl (dA 0, 60, .inl (iA SG))), (av, .inl (dA 1, 960, .inr (.inl (lA VL)))), (aw, .inl (dA 1, 1024, .inr (.inl (lA wf))))] H := hP
      have hD : va_D A [(am, .inr (0, [.int (I3 th), .int (I3 mn), .ref as_, .ref av, .ref aw, .int (I3 sm), .int (I3 wd), .int (I3 lp), .int (I3 mp), .int (I3 re)])), (as_, .inl (dA 0, 60, .inl (iA SG))), (av, .inl (dA 1, 960, .inr (.inl (lA VL)))), (aw, .inl (dA 1, 1024, .inr (.inl (lA wf))))] := hD
      refine lv_lload_n hx hb dX8_machineMore_216 rfl (lv_at hl 3 rfl) ?_
      have h_3 : In6 v := by first | assumption | omega | (constructor <;> omega)
      have hPc := hP.sub (ws' := []) [] rfl
      have hDc := hD.sub (ws' := []) [] (by decide) rfl
      have hFc := va_free (wc := []) hD hS hA [] rfl
      refine va_calli (va_runS (As := [.long (L6 v)]) (rest := [.long (L6 z_213), .ref am]) ⟨hx, hb, hml, hown, hts⟩ (metX8_place l dC dI dA H.size v h_3) (va_cwS 1 hts (lw_S q1040 q1041 q66 q1042) rfl rfl rfl (by decide +kernel) ⟨Nat.le_of_ble_eq_true rfl, Nat.le_of_ble_eq_true rfl⟩) ⟨fun a U g mk q => by obtain ⟨q0, q1, qP, qK, qD⟩ := q; exact ⟨q0, q1, qP, va_K.moved (u := U) (U := U.calling g mk a) (Vm.Alike.refl U.vm) qK, qD⟩, fun U hU hW => ⟨rfl, by rw [hU], by rw [hU]; exact hPc, va_K.moved hW.alike hK, hDc.weaken (fun _ _ _ _ => trivial)⟩⟩ rfl rfl hl.1 rfl (lv_room (Nat.le_of_ble_eq_true rfl)) dX8_machineMore_217 ⟨Nat.le_of_ble_eq_true rfl, Nat.le_of_ble_eq_true rfl⟩) hS (fun q _ h => hFc q h) hFc (fun r_217 u t H1 locs ht hvm hw hB hz1 hk1 hS => ?_)
      obtain ⟨z_217, rfl⟩ : ∃ z, z = u := ⟨_, rfl⟩
      obtain ⟨rfl, p0_217⟩ : r_217 = I3 z_217 ∧ (z_217 = plX v) := hw
      obtain ⟨hP1, hK1, hD1⟩ := hB
      rw [ht] at hP1
      obtain ⟨hP, hD⟩ := va_join (wr := [(am, .inr (0, [.int (I3 th), .int (I3 mn), .ref as_, .ref av, .ref aw, .int (I3 sm), .int (I3 wd), .int (I3 lp), .int (I3 mp), .int (I3 re)])), (as_, .inl (dA 0, 60, .inl (iA SG))), (av, .inl (dA 1, 960, .inr (.inl (lA VL)))), (aw, .inl (dA 1, 1024, .inr (.inl (lA wf))))]) (w1 := []) hP hD [] [0, 1, 2, 3] rfl rfl (by decide) (by decide) hk1 hFc hP1 hD1
      generalize H1 = H at hP hS ⊢
      have hP : va_P (dC, dI) vwCl [(am, .inr (0, [.int (I3 th), .int (I3 mn), .ref as_, .ref av, .ref aw, .int (I3 sm), .int (I3 wd), .int (I3 lp), .int (I3 mp), .int (I3 re)])), (as_, .inl (dA 0, 60, .inl (iA SG))), (av, .inl (dA 1, 960, .inr (.inl (lA VL)))), (aw, .inl (dA 1, 1024, .inr (.inl (lA wf))))] H := hP
      have hD : va_D A [(am, .inr (0, [.int (I3 th), .int (I3 mn), .ref as_, .ref av, .ref aw, .int (I3 sm), .int (I3 wd), .int (I3 lp), .int (I3 mp), .int (I3 re)])), (as_, .inl (dA 0, 60, .inl (iA SG))), (av, .inl (dA 1, 960, .inr (.inl (lA VL)))), (aw, .inl (dA 1, 1024, .inr (.inl (lA wf))))] := hD
      refine lv_iload hx hb dX8_machineMore_220 (lv_at hl 0 rfl) ?_
      refine ix_iadd hx hb dX8_machineMore_222 ?_
      refine lv_iconst (v := I3 (1)) hx hb dX8_machineMore_223 rfl ?_
      have h_4 : Dg wf := by first | assumption | omega | (constructor <;> omega)
      have h_5 : 0 ≤ z_213 ∧ z_213 < 9223372036854775808 := by constructor <;> omega
      have h_6 : -100000 ≤ (z_217 + n) ∧ (z_217 + n) ≤ 100000 := by first | assumption | omega | (constructor <;> omega)
      have h_7 : (1 : Int) = 0 ∨ (1 : Int) = 1 := by exact Or.inr rfl
      have hPc := hP.sub (ws' := [(am, .inr (0, [.int (I3 th), .int (I3 mn), .ref as_, .ref av, .ref aw, .int (I3 sm), .int (I3 wd), .int (I3 lp), .int (I3 mp), .int (I3 re)])), (as_, .inl (dA 0, 60, .inl (iA SG))), (av, .inl (dA 1, 960, .inr (.inl (lA VL)))), (aw, .inl (dA 1, 1024, .inr (.inl (lA wf))))]) [0, 1, 2, 3] rfl
      have hDc := hD.sub (ws' := [(am, .inr (0, [.int (I3 th), .int (I3 mn), .ref as_, .ref av, .ref aw, .int (I3 sm), .int (I3 wd), .int (I3 lp), .int (I3 mp), .int (I3 re)])), (as_, .inl (dA 0, 60, .inl (iA SG))), (av, .inl (dA 1, 960, .inr (.inl (lA VL)))), (aw, .inl (dA 1, 1024, .inr (.inl (lA wf))))]) [0, 1, 2, 3] (by decide) rfl
      have hFc := va_free (wc := [(am, .inr (0, [.int (I3 th), .int (I3 mn), .ref as_, .ref av, .ref aw, .int (I3 sm), .int (I3 wd), .int (I3 lp), .int (I3 mp), .int (I3 re)])), (as_, .inl (dA 0, 60, .inl (iA SG))), (av, .inl (dA 1, 960, .inr (.inl (lA VL)))), (aw, .inl (dA 1, 1024, .inr (.inl (lA wf))))]) hD hS hA [0, 1, 2, 3] rfl
      refine va_calll (va_runV (As := [.long (L6 z_213), .int (I3 (z_217 + n)), .int (I3 1)]) (rest := []) ⟨hx, hb, hml, hown, hts⟩ (metX8_scaled l dC dI dA am as_ av aw H.size th mn sm wd lp mp re SG VL wf z_213 (z_217 + n) 1 h_4 h_5 h_6 h_7) (cwV 3 hts (lw_V q1169 q1171 qs51 q66 q1172) rfl rfl rfl (by decide +kernel) ⟨Nat.le_of_ble_eq_true rfl, Nat.le_of_ble_eq_true rfl⟩) ⟨fun a U g mk q => by obtain ⟨q0, q1, qP, qK, qD⟩ := q; exact ⟨q0, q1, qP, va_K.moved (u := U) (U := U.calling g mk a) (Vm.Alike.refl U.vm) qK, qD⟩, va_recv hK hPc (ci := 0) (q0 := 0) rfl rfl, fun U hU hW => ⟨rfl, by rw [hU], by rw [hU]; exact hPc, va_K.moved hW.alike hK, hDc.weaken (fun _ _ _ _ => trivial)⟩⟩ rfl rfl hl.1 rfl (lv_room (Nat.le_of_ble_eq_true rfl)) dX8_machineMore_224 ⟨Nat.le_of_ble_eq_true rfl, Nat.le_of_ble_eq_true rfl⟩) hS (fun q _ h => hFc q h) hFc (fun r_224 u t H1 locs ht hvm hw hB hz1 hk1 hS => ?_)
      obtain ⟨z_224, W1_224, wd1_224, lp1_224, mp1_224⟩ := u
      obtain ⟨rfl, p0_224, p1_224, p2_224, p3_224, p4_224, p5_224⟩ : r_224 = L6 z_224 ∧ (Dg W1_224) ∧ (z_213 = 0 → z_224 = 0) ∧ (z_213 ≠ 0 → (1 : Int) = 1 → rnB 64 (z_213.toNat * 2 ^ (z_217 + n).toNat) (2 ^ (-(z_217 + n)).toNat) 0 1 z_224) ∧ (z_213 ≠ 0 → (1 : Int) = 0 → rnB 32 (z_213.toNat * 2 ^ (z_217 + n).toNat) (2 ^ (-(z_217 + n)).toNat) 0 1 z_224) ∧ (0 ≤ z_224 ∧ z_224 ≤ 9218868437227405312) ∧ ((1 : Int) = 0 → z_224 ≤ 2139095040) := hw
      obtain ⟨hP1, hK1, hD1⟩ := hB
      rw [ht] at hP1
      obtain ⟨hP, hD⟩ := va_join (wr := []) (w1 := [(am, .inr (0, [.int (I3 th), .int (I3 mn), .ref as_, .ref av, .ref aw, .int (I3 sm), .int (I3 wd1_224), .int (I3 lp1_224), .int (I3 mp1_224), .int (I3 re)])), (as_, .inl (dA 0, 60, .inl (iA SG))), (av, .inl (dA 1, 960, .inr (.inl (lA VL)))), (aw, .inl (dA 1, 1024, .inr (.inl (lA W1_224))))]) hP hD [0, 1, 2, 3] [] rfl rfl (by decide) (by decide) hk1 hFc hP1 hD1
      generalize H1 = H at hP hS ⊢
      have hP : va_P (dC, dI) vwCl [(am, .inr (0, [.int (I3 th), .int (I3 mn), .ref as_, .ref av, .ref aw, .int (I3 sm), .int (I3 wd1_224), .int (I3 lp1_224), .int (I3 mp1_224), .int (I3 re)])), (as_, .inl (dA 0, 60, .inl (iA SG))), (av, .inl (dA 1, 960, .inr (.inl (lA VL)))), (aw, .inl (dA 1, 1024, .inr (.inl (lA W1_224))))] H := hP
      have hD : va_D A [(am, .inr (0, [.int (I3 th), .int (I3 mn), .ref as_, .ref av, .ref aw, .int (I3 sm), .int (I3 wd1_224), .int (I3 lp1_224), .int (I3 mp1_224), .int (I3 re)])), (as_, .inl (dA 0, 60, .inl (iA SG))), (av, .inl (dA 1, 960, .inr (.inl (lA VL)))), (aw, .inl (dA 1, 1024, .inr (.inl (lA W1_224))))] := hD
      refine lv_lload_n hx hb dX8_machineMore_227 rfl (lv_at hl 3 rfl) ?_
      refine lv_ldc2 hx hb hown (hts _ q1153) dX8_machineMore_228 ?_
      refine ix_vl (x := (-9223372036854775808)) (by decide) ?_
      refine ix_land hx hb dX8_machineMore_231 ?_
      refine ix_tl (y := (if v < 0 then -9223372036854775808 else 0)) (by exact zand6_sg hv) ?_
      refine ix_lor hx hb dX8_machineMore_232 ?_
      refine ix_tl (y := sgb v z_224) (by exact sgb_or (by omega)) ?_
      have o_8 : Dg W1_224 := by first | assumption | omega | (constructor <;> omega)
      have o_9 : mmX kind v w (sgb v z_224) := by exact ⟨fun q => by exfalso; omega, fun q => by exfalso; omega, fun q => by exfalso; omega, fun _ => ⟨fun q => absurd q n1, fun q => by first | rfl | (exfalso; omega), fun q => by first | (exfalso; omega) | exact ⟨z_224, ⟨fun q2 => p1_224 (by omega), fun q2 => by rw [← hn, ← p0_213, ← p0_217]; exact p2_224 (by omega) rfl⟩, rfl⟩⟩, fun q => by exfalso; omega⟩
      exact W.lret (v := L6 (sgb v z_224)) hx hb hr (fun t ht hW => ⟨⟨L6 (sgb v z_224), ((sgb v z_224), W1_224, wd1_224, lp1_224, mp1_224), rfl, ⟨rfl, ⟨o_8, o_9⟩⟩, by rw [ht]; exact hP, va_K.moved hW.alike hK, hD⟩, hS.F ht⟩) hS.2.2 dX8_machineMore_233
    · skip
      refine lv_lload_n hx hb dX8_machineMore_207 rfl (lv_at hl 3 rfl) ?_
      refine lv_goto (tgt := 233) hx hb dX8_machineMore_208 (by decide) ?_
      have o_10 : Dg wf := by first | assumption | omega | (constructor <;> omega)
      have o_11 : mmX kind v w v := by exact ⟨fun q => by exfalso; omega, fun q => by exfalso; omega, fun q => by exfalso; omega, fun _ => ⟨fun q => absurd q n1, fun q => by first | rfl | (exfalso; omega), fun q => by first | (exfalso; omega) | exact ⟨z_224, ⟨fun q2 => p1_224 (by omega), fun q2 => by rw [← hn, ← p0_213, ← p0_217]; exact p2_224 (by omega) rfl⟩, rfl⟩⟩, fun q => by exfalso; omega⟩
      exact W.lret (v := L6 v) hx hb hr (fun t ht hW => ⟨⟨L6 v, (v, wf, wd, lp, mp), rfl, ⟨rfl, ⟨o_10, o_11⟩⟩, by rw [ht]; exact hP, va_K.moved hW.alike hK, hD⟩, hS.F ht⟩) hS.2.2 dX8_machineMore_233
  have cut_234 : (kind = 10) → ∀ (H : Heap) (locs : List Loc), va_P (dC, dI) vwCl [(am, .inr (0, [.int (I3 th), .int (I3 mn), .ref as_, .ref av, .ref aw, .int (I3 sm), .int (I3 wd), .int (I3 lp), .int (I3 mp), .int (I3 re)])), (as_, .inl (dA 0, 60, .inl (iA SG))), (av, .inl (dA 1, 960, .inr (.inl (lA VL)))), (aw, .inl (dA 1, 1024, .inr (.inl (lA wf))))] H → va_D A [(am, .inr (0, [.int (I3 th), .int (I3 mn), .ref as_, .ref av, .ref aw, .int (I3 sm), .int (I3 wd), .int (I3 lp), .int (I3 mp), .int (I3 re)])), (as_, .inl (dA 0, 60, .inl (iA SG))), (av, .inl (dA 1, 960, .inr (.inl (lA VL)))), (aw, .inl (dA 1, 1024, .inr (.inl (lA wf))))] → va_S A s.heap H locs → ∀ (ls : Array Slot), lv_has ls 8 [(0, .ref am), (1, .int (I3 kind)), (2, .long (L6 v)), (4, .long (L6 w))] → W p l e (headSpec (ws_ yX8_machineMore cX8_machineMore 8 (some .long)) ({ frames := 5, cells := 0, slots := 0, locals := 200 })).room s m ([.ref am, .int (I3 kind), .long (L6 v), .long (L6 w)] : List Value).toArray below meth c H locs 0 0 (MQ below (QmetX8_machineMore dC dI dA A am as_ av aw th mn sm wd lp mp re SG VL wf kind v w) ([.ref am, .int (I3 kind), .long (L6 v), .long (L6 w)] : List Value).toArray s 0 0 A) (F0 m 234 ls []) := by
    intro  hk10 H locs hP hD hS ls hl
    have xv_ := eX_r v
    have fv_ := fX_r v
    have pv_ := plX_r v
    have qv_ := pX_r v
    have xw_ := eX_r w
    have qw_ := pX_r w
    refine lv_lload_n hx hb dX8_machineMore_234 rfl (lv_at hl 2 rfl) ?_
    have h_12 : In6 v := by first | assumption | omega | (constructor <;> omega)
    have hPc := hP.sub (ws' := []) [] rfl
    have hDc := hD.sub (ws' := []) [] (by decide) rfl
    have hFc := va_free (wc := []) hD hS hA [] rfl
    refine va_calli (va_runS (As := [.long (L6 v)]) (rest := []) ⟨hx, hb, hml, hown, hts⟩ (metX8_isNo l dC dI dA H.size v h_12) (va_cwS 1 hts (lw_S q1127 q1128 q66 q1129) rfl rfl rfl (by decide +kernel) ⟨Nat.le_of_ble_eq_true rfl, Nat.le_of_ble_eq_true rfl⟩) ⟨fun a U g mk q => by obtain ⟨q0, q1, qP, qK, qD⟩ := q; exact ⟨q0, q1, qP, va_K.moved (u := U) (U := U.calling g mk a) (Vm.Alike.refl U.vm) qK, qD⟩, fun U hU hW => ⟨rfl, by rw [hU], by rw [hU]; exact hPc, va_K.moved hW.alike hK, hDc.weaken (fun _ _ _ _ => trivial)⟩⟩ rfl rfl hl.1 rfl (lv_room (Nat.le_of_ble_eq_true rfl)) dX8_machineMore_235 ⟨Nat.le_of_ble_eq_true rfl, Nat.le_of_ble_eq_true rfl⟩) hS (fun q _ h => hFc q h) hFc (fun r_235 u t H1 locs ht hvm hw hB hz1 hk1 hS => ?_)
    obtain ⟨z_235, rfl⟩ : ∃ z, z = u := ⟨_, rfl⟩
    obtain ⟨rfl, p0_235⟩ : r_235 = I3 z_235 ∧ (z_235 = if eX v = 2047 ∧ pX v ≠ 0 then 1 else 0) := hw
    obtain ⟨hP1, hK1, hD1⟩ := hB
    rw [ht] at hP1
    obtain ⟨hP, hD⟩ := va_join (wr := [(am, .inr (0, [.int (I3 th), .int (I3 mn), .ref as_, .ref av, .ref aw, .int (I3 sm), .int (I3 wd), .int (I3 lp), .int (I3 mp), .int (I3 re)])), (as_, .inl (dA 0, 60, .inl (iA SG))), (av, .inl (dA 1, 960, .inr (.inl (lA VL)))), (aw, .inl (dA 1, 1024, .inr (.inl (lA wf))))]) (w1 := []) hP hD [] [0, 1, 2, 3] rfl rfl (by decide) (by decide) hk1 hFc hP1 hD1
    generalize H1 = H at hP hS ⊢
    have hP : va_P (dC, dI) vwCl [(am, .inr (0, [.int (I3 th), .int (I3 mn), .ref as_, .ref av, .ref aw, .int (I3 sm), .int (I3 wd), .int (I3 lp), .int (I3 mp), .int (I3 re)])), (as_, .inl (dA 0, 60, .inl (iA SG))), (av, .inl (dA 1, 960, .inr (.inl (lA VL)))), (aw, .inl (dA 1, 1024, .inr (.inl (lA wf))))] H := hP
    have hD : va_D A [(am, .inr (0, [.int (I3 th), .int (I3 mn), .ref as_, .ref av, .ref aw, .int (I3 sm), .int (I3 wd), .int (I3 lp), .int (I3 mp), .int (I3 re)])), (as_, .inl (dA 0, 60, .inl (iA SG))), (av, .inl (dA 1, 960, .inr (.inl (lA VL)))), (aw, .inl (dA 1, 1024, .inr (.inl (lA wf))))] := hD
    have y_235 := b01 p0_235
    refine ix_if_ne (tgt := 249) hx hb (by first | assumption | decide | (constructor <;> omega)) dX8_machineMore_238 (by decide) (fun c_238 => ?_) (fun c_238 => ?_)
    · skip
      refine lv_ldc2 hx hb hown (hts _ q1193) dX8_machineMore_249 ?_
      refine ix_vl (x := (4)) (by decide) ?_
      have o_13 : Dg wf := by first | assumption | omega | (constructor <;> omega)
      have o_14 : mmX kind v w (4 : Int) := by exact ⟨fun q => by exfalso; omega, fun q => by exfalso; omega, fun q => by exfalso; omega, fun q => by exfalso; omega, fun _ => by first | (rw [if_pos (by omega)]; done) | (rw [if_neg (by omega), if_pos (by omega)]; done) | (rw [if_neg (by omega), if_neg (by omega), if_pos (by omega)]; done) | (rw [if_neg (by omega), if_neg (by omega), if_neg (by omega), if_pos (by omega)]; done) | (rw [if_neg (by omega), if_neg (by omega), if_neg (by omega), if_neg (by omega)]; done) | (rw [if_neg (by omega), if_neg (by omega), if_neg (by omega)]; done) | (rw [if_neg (by omega), if_neg (by omega)]; done) | (rw [if_neg (by omega)]; done)⟩
      exact W.lret (v := L6 4) hx hb hr (fun t ht hW => ⟨⟨L6 4, (4, wf, wd, lp, mp), rfl, ⟨rfl, ⟨o_13, o_14⟩⟩, by rw [ht]; exact hP, va_K.moved hW.alike hK, hD⟩, hS.F ht⟩) hS.2.2 dX8_machineMore_252
    · skip
      refine lv_lload hx hb dX8_machineMore_241 (lv_at hl 3 rfl) ?_
      have h_15 : In6 w := by first | assumption | omega | (constructor <;> omega)
      have hPc := hP.sub (ws' := []) [] rfl
      have hDc := hD.sub (ws' := []) [] (by decide) rfl
      have hFc := va_free (wc := []) hD hS hA [] rfl
      refine va_calli (va_runS (As := [.long (L6 w)]) (rest := []) ⟨hx, hb, hml, hown, hts⟩ (metX8_isNo l dC dI dA H.size w h_15) (va_cwS 1 hts (lw_S q1127 q1128 q66 q1129) rfl rfl rfl (by decide +kernel) ⟨Nat.le_of_ble_eq_true rfl, Nat.le_of_ble_eq_true rfl⟩) ⟨fun a U g mk q => by obtain ⟨q0, q1, qP, qK, qD⟩ := q; exact ⟨q0, q1, qP, va_K.moved (u := U) (U := U.calling g mk a) (Vm.Alike.refl U.vm) qK, qD⟩, fun U hU hW => ⟨rfl, by rw [hU], by rw [hU]; exact hPc, va_K.moved hW.alike hK, hDc.weaken (fun _ _ _ _ => trivial)⟩⟩ rfl rfl hl.1 rfl (lv_room (Nat.le_of_ble_eq_true rfl)) dX8_machineMore_243 ⟨Nat.le_of_ble_eq_true rfl, Nat.le_of_ble_eq_true rfl⟩) hS (fun q _ h => hFc q h) hFc (fun r_243 u t H1 locs ht hvm hw hB hz1 hk1 hS => ?_)
      obtain ⟨z_243, rfl⟩ : ∃ z, z = u := ⟨_, rfl⟩
      obtain ⟨rfl, p0_243⟩ : r_243 = I3 z_243 ∧ (z_243 = if eX w = 2047 ∧ pX w ≠ 0 then 1 else 0) := hw
      obtain ⟨hP1, hK1, hD1⟩ := hB
      rw [ht] at hP1
      obtain ⟨hP, hD⟩ := va_join (wr := [(am, .inr (0, [.int (I3 th), .int (I3 mn), .ref as_, .ref av, .ref aw, .int (I3 sm), .int (I3 wd), .int (I3 lp), .int (I3 mp), .int (I3 re)])), (as_, .inl (dA 0, 60, .inl (iA SG))), (av, .inl (dA 1, 960, .inr (.inl (lA VL)))), (aw, .inl (dA 1, 1024, .inr (.inl (lA wf))))]) (w1 := []) hP hD [] [0, 1, 2, 3] rfl rfl (by decide) (by decide) hk1 hFc hP1 hD1
      generalize H1 = H at hP hS ⊢
      have hP : va_P (dC, dI) vwCl [(am, .inr (0, [.int (I3 th), .int (I3 mn), .ref as_, .ref av, .ref aw, .int (I3 sm), .int (I3 wd), .int (I3 lp), .int (I3 mp), .int (I3 re)])), (as_, .inl (dA 0, 60, .inl (iA SG))), (av, .inl (dA 1, 960, .inr (.inl (lA VL)))), (aw, .inl (dA 1, 1024, .inr (.inl (lA wf))))] H := hP
      have hD : va_D A [(am, .inr (0, [.int (I3 th), .int (I3 mn), .ref as_, .ref av, .ref aw, .int (I3 sm), .int (I3 wd), .int (I3 lp), .int (I3 mp), .int (I3 re)])), (as_, .inl (dA 0, 60, .inl (iA SG))), (av, .inl (dA 1, 960, .inr (.inl (lA VL)))), (aw, .inl (dA 1, 1024, .inr (.inl (lA wf))))] := hD
      have y_243 := b01 p0_243
      refine ix_if_eq (tgt := 253) hx hb (by first | assumption | decide | (constructor <;> omega)) dX8_machineMore_246 (by decide) (fun c_246 => ?_) (fun c_246 => ?_)
      · skip
        refine lv_lload_n hx hb dX8_machineMore_253 rfl (lv_at hl 2 rfl) ?_
        refine lv_iconst (v := I3 (1)) hx hb dX8_machineMore_254 rfl ?_
        refine ix_lshl hx hb (by first | decide | omega) dX8_machineMore_255 ?_
        refine ix_tl (y := v * 2) rfl ?_
        refine ix_cl (y := sm6 (v * 2)) (by exact L6_sm _) ?_
        refine lv_lconst (v := L6 0) hx hb dX8_machineMore_256 (by decide) ?_
        refine ix_lcmp_ne (tgt := 274) hx hb (by exact sm6_in _) (by first | assumption | decide | (constructor <;> omega)) dX8_machineMore_257 dX8_machineMore_258 (by decide) (fun c_257 => ?_) (fun c_257 => ?_)
        · skip
          refine lv_iconst (v := I3 (0)) hx hb dX8_machineMore_274 rfl ?_
          refine lv_istore (lv' := [(7, .int (I3 0)), (0, .ref am), (1, .int (I3 kind)), (2, .long (L6 v)), (4, .long (L6 w))]) hx hb dX8_machineMore_275 hl (by decide) rfl (fun ls hl => ?_)
          have sv_ : sm6 (v * 2) = 0 ↔ v % 9223372036854775808 = 0 := by unfold sm6; omega
          have sw_ : sm6 (w * 2) = 0 ↔ w % 9223372036854775808 = 0 := by unfold sm6; omega
          refine lv_iload hx hb dX8_machineMore_277 (lv_at hl 0 rfl) ?_
          refine ix_if_ne (tgt := 289) hx hb (by first | assumption | decide | (constructor <;> omega)) dX8_machineMore_279 (by decide) (fun c_279 => ?_) (fun c_279 => ?_)
          · skip
            omega
          · skip
            refine lv_lload_n hx hb dX8_machineMore_282 rfl (lv_at hl 3 rfl) ?_
            refine lv_lload hx hb dX8_machineMore_283 (lv_at hl 4 rfl) ?_
            refine ix_lcmp_ne (tgt := 295) hx hb (by first | assumption | decide | (constructor <;> omega)) (by first | assumption | decide | (constructor <;> omega)) dX8_machineMore_285 dX8_machineMore_286 (by decide) (fun c_285 => ?_) (fun c_285 => ?_)
            · skip
              refine lv_lload_n hx hb dX8_machineMore_295 rfl (lv_at hl 3 rfl) ?_
              have h_16 : In6 v := by first | assumption | omega | (constructor <;> omega)
              have hPc := hP.sub (ws' := []) [] rfl
              have hDc := hD.sub (ws' := []) [] (by decide) rfl
              have hFc := va_free (wc := []) hD hS hA [] rfl
              refine va_calll (va_runS (As := [.long (L6 v)]) (rest := []) ⟨hx, hb, hml, hown, hts⟩ (metX8_rank l dC dI dA H.size v h_16) (va_cwS 1 hts (lw_S q1181 q1182 q66 q1183) rfl rfl rfl (by decide +kernel) ⟨Nat.le_of_ble_eq_true rfl, Nat.le_of_ble_eq_true rfl⟩) ⟨fun a U g mk q => by obtain ⟨q0, q1, qP, qK, qD⟩ := q; exact ⟨q0, q1, qP, va_K.moved (u := U) (U := U.calling g mk a) (Vm.Alike.refl U.vm) qK, qD⟩, fun U hU hW => ⟨rfl, by rw [hU], by rw [hU]; exact hPc, va_K.moved hW.alike hK, hDc.weaken (fun _ _ _ _ => trivial)⟩⟩ rfl rfl hl.1 rfl (lv_room (Nat.le_of_ble_eq_true rfl)) dX8_machineMore_296 ⟨Nat.le_of_ble_eq_true rfl, Nat.le_of_ble_eq_true rfl⟩) hS (fun q _ h => hFc q h) hFc (fun r_296 u t H1 locs ht hvm hw hB hz1 hk1 hS => ?_)
              obtain ⟨z_296, rfl⟩ : ∃ z, z = u := ⟨_, rfl⟩
              obtain ⟨rfl, p0_296⟩ : r_296 = L6 z_296 ∧ (z_296 = rkX v) := hw
              obtain ⟨hP1, hK1, hD1⟩ := hB
              rw [ht] at hP1
              obtain ⟨hP, hD⟩ := va_join (wr := [(am, .inr (0, [.int (I3 th), .int (I3 mn), .ref as_, .ref av, .ref aw, .int (I3 sm), .int (I3 wd), .int (I3 lp), .int (I3 mp), .int (I3 re)])), (as_, .inl (dA 0, 60, .inl (iA SG))), (av, .inl (dA 1, 960, .inr (.inl (lA VL)))), (aw, .inl (dA 1, 1024, .inr (.inl (lA wf))))]) (w1 := []) hP hD [] [0, 1, 2, 3] rfl rfl (by decide) (by decide) hk1 hFc hP1 hD1
              generalize H1 = H at hP hS ⊢
              have hP : va_P (dC, dI) vwCl [(am, .inr (0, [.int (I3 th), .int (I3 mn), .ref as_, .ref av, .ref aw, .int (I3 sm), .int (I3 wd), .int (I3 lp), .int (I3 mp), .int (I3 re)])), (as_, .inl (dA 0, 60, .inl (iA SG))), (av, .inl (dA 1, 960, .inr (.inl (lA VL)))), (aw, .inl (dA 1, 1024, .inr (.inl (lA wf))))] H := hP
              have hD : va_D A [(am, .inr (0, [.int (I3 th), .int (I3 mn), .ref as_, .ref av, .ref aw, .int (I3 sm), .int (I3 wd), .int (I3 lp), .int (I3 mp), .int (I3 re)])), (as_, .inl (dA 0, 60, .inl (iA SG))), (av, .inl (dA 1, 960, .inr (.inl (lA VL)))), (aw, .inl (dA 1, 1024, .inr (.inl (lA wf))))] := hD
              have i_296 : In6 z_296 := by rw [p0_296]; exact rkX_r hv
              refine lv_lload hx hb dX8_machineMore_299 (lv_at hl 4 rfl) ?_
              have h_17 : In6 w := by first | assumption | omega | (constructor <;> omega)
              have hPc := hP.sub (ws' := []) [] rfl
              have hDc := hD.sub (ws' := []) [] (by decide) rfl
              have hFc := va_free (wc := []) hD hS hA [] rfl
              refine va_calll (va_runS (As := [.long (L6 w)]) (rest := [.long (L6 z_296)]) ⟨hx, hb, hml, hown, hts⟩ (metX8_rank l dC dI dA H.size w h_17) (va_cwS 1 hts (lw_S q1181 q1182 q66 q1183) rfl rfl rfl (by decide +kernel) ⟨Nat.le_of_ble_eq_true rfl, Nat.le_of_ble_eq_true rfl⟩) ⟨fun a U g mk q => by obtain ⟨q0, q1, qP, qK, qD⟩ := q; exact ⟨q0, q1, qP, va_K.moved (u := U) (U := U.calling g mk a) (Vm.Alike.refl U.vm) qK, qD⟩, fun U hU hW => ⟨rfl, by rw [hU], by rw [hU]; exact hPc, va_K.moved hW.alike hK, hDc.weaken (fun _ _ _ _ => trivial)⟩⟩ rfl rfl hl.1 rfl (lv_room (Nat.le_of_ble_eq_true rfl)) dX8_machineMore_301 ⟨Nat.le_of_ble_eq_true rfl, Nat.le_of_ble_eq_true rfl⟩) hS (fun q _ h => hFc q h) hFc (fun r_301 u t H1 locs ht hvm hw hB hz1 hk1 hS => ?_)
              obtain ⟨z_301, rfl⟩ : ∃ z, z = u := ⟨_, rfl⟩
              obtain ⟨rfl, p0_301⟩ : r_301 = L6 z_301 ∧ (z_301 = rkX w) := hw
              obtain ⟨hP1, hK1, hD1⟩ := hB
              rw [ht] at hP1
              obtain ⟨hP, hD⟩ := va_join (wr := [(am, .inr (0, [.int (I3 th), .int (I3 mn), .ref as_, .ref av, .ref aw, .int (I3 sm), .int (I3 wd), .int (I3 lp), .int (I3 mp), .int (I3 re)])), (as_, .inl (dA 0, 60, .inl (iA SG))), (av, .inl (dA 1, 960, .inr (.inl (lA VL)))), (aw, .inl (dA 1, 1024, .inr (.inl (lA wf))))]) (w1 := []) hP hD [] [0, 1, 2, 3] rfl rfl (by decide) (by decide) hk1 hFc hP1 hD1
              generalize H1 = H at hP hS ⊢
              have hP : va_P (dC, dI) vwCl [(am, .inr (0, [.int (I3 th), .int (I3 mn), .ref as_, .ref av, .ref aw, .int (I3 sm), .int (I3 wd), .int (I3 lp), .int (I3 mp), .int (I3 re)])), (as_, .inl (dA 0, 60, .inl (iA SG))), (av, .inl (dA 1, 960, .inr (.inl (lA VL)))), (aw, .inl (dA 1, 1024, .inr (.inl (lA wf))))] H := hP
              have hD : va_D A [(am, .inr (0, [.int (I3 th), .int (I3 mn), .ref as_, .ref av, .ref aw, .int (I3 sm), .int (I3 wd), .int (I3 lp), .int (I3 mp), .int (I3 re)])), (as_, .inl (dA 0, 60, .inl (iA SG))), (av, .inl (dA 1, 960, .inr (.inl (lA VL)))), (aw, .inl (dA 1, 1024, .inr (.inl (lA wf))))] := hD
              have i_301 : In6 z_301 := by rw [p0_301]; exact rkX_r hw
              refine ix_lcmp_ge (tgt := 312) hx hb (by first | assumption | decide | (constructor <;> omega)) (by first | assumption | decide | (constructor <;> omega)) dX8_machineMore_304 dX8_machineMore_305 (by decide) (fun c_304 => ?_) (fun c_304 => ?_)
              · skip
                refine lv_ldc2 hx hb hown (hts _ q1194) dX8_machineMore_312 ?_
                refine ix_vl (x := (3)) (by decide) ?_
                have o_18 : Dg wf := by first | assumption | omega | (constructor <;> omega)
                have o_19 : mmX kind v w (3 : Int) := by exact ⟨fun q => by exfalso; omega, fun q => by exfalso; omega, fun q => by exfalso; omega, fun q => by exfalso; omega, fun _ => by first | (rw [if_pos (by omega)]; done) | (rw [if_neg (by omega), if_pos (by omega)]; done) | (rw [if_neg (by omega), if_neg (by omega), if_pos (by omega)]; done) | (rw [if_neg (by omega), if_neg (by omega), if_neg (by omega), if_pos (by omega)]; done) | (rw [if_neg (by omega), if_neg (by omega), if_neg (by omega), if_neg (by omega)]; done) | (rw [if_neg (by omega), if_neg (by omega), if_neg (by omega)]; done) | (rw [if_neg (by omega), if_neg (by omega)]; done) | (rw [if_neg (by omega)]; done)⟩
                exact W.lret (v := L6 3) hx hb hr (fun t ht hW => ⟨⟨L6 3, (3, wf, wd, lp, mp), rfl, ⟨rfl, ⟨o_18, o_19⟩⟩, by rw [ht]; exact hP, va_K.moved hW.alike hK, hD⟩, hS.F ht⟩) hS.2.2 dX8_machineMore_315
              · skip
                refine lv_lconst (v := L6 1) hx hb dX8_machineMore_308 (by decide) ?_
                refine lv_goto (tgt := 315) hx hb dX8_machineMore_309 (by decide) ?_
                have o_20 : Dg wf := by first | assumption | omega | (constructor <;> omega)
                have o_21 : mmX kind v w (1 : Int) := by exact ⟨fun q => by exfalso; omega, fun q => by exfalso; omega, fun q => by exfalso; omega, fun q => by exfalso; omega, fun _ => by first | (rw [if_pos (by omega)]; done) | (rw [if_neg (by omega), if_pos (by omega)]; done) | (rw [if_neg (by omega), if_neg (by omega), if_pos (by omega)]; done) | (rw [if_neg (by omega), if_neg (by omega), if_neg (by omega), if_pos (by omega)]; done) | (rw [if_neg (by omega), if_neg (by omega), if_neg (by omega), if_neg (by omega)]; done) | (rw [if_neg (by omega), if_neg (by omega), if_neg (by omega)]; done) | (rw [if_neg (by omega), if_neg (by omega)]; done) | (rw [if_neg (by omega)]; done)⟩
                exact W.lret (v := L6 1) hx hb hr (fun t ht hW => ⟨⟨L6 1, (1, wf, wd, lp, mp), rfl, ⟨rfl, ⟨o_20, o_21⟩⟩, by rw [ht]; exact hP, va_K.moved hW.alike hK, hD⟩, hS.F ht⟩) hS.2.2 dX8_machineMore_315
            · skip
              refine lv_ldc2 hx hb hown (hts _ q1168) dX8_machineMore_289 ?_
              refine ix_vl (x := (2)) (by decide) ?_
              refine lv_goto (tgt := 315) hx hb dX8_machineMore_292 (by decide) ?_
              have o_22 : Dg wf := by first | assumption | omega | (constructor <;> omega)
              have o_23 : mmX kind v w (2 : Int) := by exact ⟨fun q => by exfalso; omega, fun q => by exfalso; omega, fun q => by exfalso; omega, fun q => by exfalso; omega, fun _ => by first | (rw [if_pos (by omega)]; done) | (rw [if_neg (by omega), if_pos (by omega)]; done) | (rw [if_neg (by omega), if_neg (by omega), if_pos (by omega)]; done) | (rw [if_neg (by omega), if_neg (by omega), if_neg (by omega), if_pos (by omega)]; done) | (rw [if_neg (by omega), if_neg (by omega), if_neg (by omega), if_neg (by omega)]; done) | (rw [if_neg (by omega), if_neg (by omega), if_neg (by omega)]; done) | (rw [if_neg (by omega), if_neg (by omega)]; done) | (rw [if_neg (by omega)]; done)⟩
              exact W.lret (v := L6 2) hx hb hr (fun t ht hW => ⟨⟨L6 2, (2, wf, wd, lp, mp), rfl, ⟨rfl, ⟨o_22, o_23⟩⟩, by rw [ht]; exact hP, va_K.moved hW.alike hK, hD⟩, hS.F ht⟩) hS.2.2 dX8_machineMore_315
        · skip
          refine lv_lload hx hb dX8_machineMore_261 (lv_at hl 3 rfl) ?_
          refine lv_iconst (v := I3 (1)) hx hb dX8_machineMore_263 rfl ?_
          refine ix_lshl hx hb (by first | decide | omega) dX8_machineMore_264 ?_
          refine ix_tl (y := w * 2) rfl ?_
          refine ix_cl (y := sm6 (w * 2)) (by exact L6_sm _) ?_
          refine lv_lconst (v := L6 0) hx hb dX8_machineMore_265 (by decide) ?_
          refine ix_lcmp_ne (tgt := 274) hx hb (by exact sm6_in _) (by first | assumption | decide | (constructor <;> omega)) dX8_machineMore_266 dX8_machineMore_267 (by decide) (fun c_266 => ?_) (fun c_266 => ?_)
          · skip
            refine lv_iconst (v := I3 (0)) hx hb dX8_machineMore_274 rfl ?_
            refine lv_istore (lv' := [(7, .int (I3 0)), (0, .ref am), (1, .int (I3 kind)), (2, .long (L6 v)), (4, .long (L6 w))]) hx hb dX8_machineMore_275 hl (by decide) rfl (fun ls hl => ?_)
            have sv_ : sm6 (v * 2) = 0 ↔ v % 9223372036854775808 = 0 := by unfold sm6; omega
            have sw_ : sm6 (w * 2) = 0 ↔ w % 9223372036854775808 = 0 := by unfold sm6; omega
            refine lv_iload hx hb dX8_machineMore_277 (lv_at hl 0 rfl) ?_
            refine ix_if_ne (tgt := 289) hx hb (by first | assumption | decide | (constructor <;> omega)) dX8_machineMore_279 (by decide) (fun c_279 => ?_) (fun c_279 => ?_)
            · skip
              omega
            · skip
              refine lv_lload_n hx hb dX8_machineMore_282 rfl (lv_at hl 3 rfl) ?_
              refine lv_lload hx hb dX8_machineMore_283 (lv_at hl 4 rfl) ?_
              refine ix_lcmp_ne (tgt := 295) hx hb (by first | assumption | decide | (constructor <;> omega)) (by first | assumption | decide | (constructor <;> omega)) dX8_machineMore_285 dX8_machineMore_286 (by decide) (fun c_285 => ?_) (fun c_285 => ?_)
              · skip
                refine lv_lload_n hx hb dX8_machineMore_295 rfl (lv_at hl 3 rfl) ?_
                have h_24 : In6 v := by first | assumption | omega | (constructor <;> omega)
                have hPc := hP.sub (ws' := []) [] rfl
                have hDc := hD.sub (ws' := []) [] (by decide) rfl
                have hFc := va_free (wc := []) hD hS hA [] rfl
                refine va_calll (va_runS (As := [.long (L6 v)]) (rest := []) ⟨hx, hb, hml, hown, hts⟩ (metX8_rank l dC dI dA H.size v h_24) (va_cwS 1 hts (lw_S q1181 q1182 q66 q1183) rfl rfl rfl (by decide +kernel) ⟨Nat.le_of_ble_eq_true rfl, Nat.le_of_ble_eq_true rfl⟩) ⟨fun a U g mk q => by obtain ⟨q0, q1, qP, qK, qD⟩ := q; exact ⟨q0, q1, qP, va_K.moved (u := U) (U := U.calling g mk a) (Vm.Alike.refl U.vm) qK, qD⟩, fun U hU hW => ⟨rfl, by rw [hU], by rw [hU]; exact hPc, va_K.moved hW.alike hK, hDc.weaken (fun _ _ _ _ => trivial)⟩⟩ rfl rfl hl.1 rfl (lv_room (Nat.le_of_ble_eq_true rfl)) dX8_machineMore_296 ⟨Nat.le_of_ble_eq_true rfl, Nat.le_of_ble_eq_true rfl⟩) hS (fun q _ h => hFc q h) hFc (fun r_296 u t H1 locs ht hvm hw hB hz1 hk1 hS => ?_)
                obtain ⟨z_296, rfl⟩ : ∃ z, z = u := ⟨_, rfl⟩
                obtain ⟨rfl, p0_296⟩ : r_296 = L6 z_296 ∧ (z_296 = rkX v) := hw
                obtain ⟨hP1, hK1, hD1⟩ := hB
                rw [ht] at hP1
                obtain ⟨hP, hD⟩ := va_join (wr := [(am, .inr (0, [.int (I3 th), .int (I3 mn), .ref as_, .ref av, .ref aw, .int (I3 sm), .int (I3 wd), .int (I3 lp), .int (I3 mp), .int (I3 re)])), (as_, .inl (dA 0, 60, .inl (iA SG))), (av, .inl (dA 1, 960, .inr (.inl (lA VL)))), (aw, .inl (dA 1, 1024, .inr (.inl (lA wf))))]) (w1 := []) hP hD [] [0, 1, 2, 3] rfl rfl (by decide) (by decide) hk1 hFc hP1 hD1
                generalize H1 = H at hP hS ⊢
                have hP : va_P (dC, dI) vwCl [(am, .inr (0, [.int (I3 th), .int (I3 mn), .ref as_, .ref av, .ref aw, .int (I3 sm), .int (I3 wd), .int (I3 lp), .int (I3 mp), .int (I3 re)])), (as_, .inl (dA 0, 60, .inl (iA SG))), (av, .inl (dA 1, 960, .inr (.inl (lA VL)))), (aw, .inl (dA 1, 1024, .inr (.inl (lA wf))))] H := hP
                have hD : va_D A [(am, .inr (0, [.int (I3 th), .int (I3 mn), .ref as_, .ref av, .ref aw, .int (I3 sm), .int (I3 wd), .int (I3 lp), .int (I3 mp), .int (I3 re)])), (as_, .inl (dA 0, 60, .inl (iA SG))), (av, .inl (dA 1, 960, .inr (.inl (lA VL)))), (aw, .inl (dA 1, 1024, .inr (.inl (lA wf))))] := hD
                have i_296 : In6 z_296 := by rw [p0_296]; exact rkX_r hv
                refine lv_lload hx hb dX8_machineMore_299 (lv_at hl 4 rfl) ?_
                have h_25 : In6 w := by first | assumption | omega | (constructor <;> omega)
                have hPc := hP.sub (ws' := []) [] rfl
                have hDc := hD.sub (ws' := []) [] (by decide) rfl
                have hFc := va_free (wc := []) hD hS hA [] rfl
                refine va_calll (va_runS (As := [.long (L6 w)]) (rest := [.long (L6 z_296)]) ⟨hx, hb, hml, hown, hts⟩ (metX8_rank l dC dI dA H.size w h_25) (va_cwS 1 hts (lw_S q1181 q1182 q66 q1183) rfl rfl rfl (by decide +kernel) ⟨Nat.le_of_ble_eq_true rfl, Nat.le_of_ble_eq_true rfl⟩) ⟨fun a U g mk q => by obtain ⟨q0, q1, qP, qK, qD⟩ := q; exact ⟨q0, q1, qP, va_K.moved (u := U) (U := U.calling g mk a) (Vm.Alike.refl U.vm) qK, qD⟩, fun U hU hW => ⟨rfl, by rw [hU], by rw [hU]; exact hPc, va_K.moved hW.alike hK, hDc.weaken (fun _ _ _ _ => trivial)⟩⟩ rfl rfl hl.1 rfl (lv_room (Nat.le_of_ble_eq_true rfl)) dX8_machineMore_301 ⟨Nat.le_of_ble_eq_true rfl, Nat.le_of_ble_eq_true rfl⟩) hS (fun q _ h => hFc q h) hFc (fun r_301 u t H1 locs ht hvm hw hB hz1 hk1 hS => ?_)
                obtain ⟨z_301, rfl⟩ : ∃ z, z = u := ⟨_, rfl⟩
                obtain ⟨rfl, p0_301⟩ : r_301 = L6 z_301 ∧ (z_301 = rkX w) := hw
                obtain ⟨hP1, hK1, hD1⟩ := hB
                rw [ht] at hP1
                obtain ⟨hP, hD⟩ := va_join (wr := [(am, .inr (0, [.int (I3 th), .int (I3 mn), .ref as_, .ref av, .ref aw, .int (I3 sm), .int (I3 wd), .int (I3 lp), .int (I3 mp), .int (I3 re)])), (as_, .inl (dA 0, 60, .inl (iA SG))), (av, .inl (dA 1, 960, .inr (.inl (lA VL)))), (aw, .inl (dA 1, 1024, .inr (.inl (lA wf))))]) (w1 := []) hP hD [] [0, 1, 2, 3] rfl rfl (by decide) (by decide) hk1 hFc hP1 hD1
                generalize H1 = H at hP hS ⊢
                have hP : va_P (dC, dI) vwCl [(am, .inr (0, [.int (I3 th), .int (I3 mn), .ref as_, .ref av, .ref aw, .int (I3 sm), .int (I3 wd), .int (I3 lp), .int (I3 mp), .int (I3 re)])), (as_, .inl (dA 0, 60, .inl (iA SG))), (av, .inl (dA 1, 960, .inr (.inl (lA VL)))), (aw, .inl (dA 1, 1024, .inr (.inl (lA wf))))] H := hP
                have hD : va_D A [(am, .inr (0, [.int (I3 th), .int (I3 mn), .ref as_, .ref av, .ref aw, .int (I3 sm), .int (I3 wd), .int (I3 lp), .int (I3 mp), .int (I3 re)])), (as_, .inl (dA 0, 60, .inl (iA SG))), (av, .inl (dA 1, 960, .inr (.inl (lA VL)))), (aw, .inl (dA 1, 1024, .inr (.inl (lA wf))))] := hD
                have i_301 : In6 z_301 := by rw [p0_301]; exact rkX_r hw
                refine ix_lcmp_ge (tgt := 312) hx hb (by first | assumption | decide | (constructor <;> omega)) (by first | assumption | decide | (constructor <;> omega)) dX8_machineMore_304 dX8_machineMore_305 (by decide) (fun c_304 => ?_) (fun c_304 => ?_)
                · skip
                  refine lv_ldc2 hx hb hown (hts _ q1194) dX8_machineMore_312 ?_
                  refine ix_vl (x := (3)) (by decide) ?_
                  have o_26 : Dg wf := by first | assumption | omega | (constructor <;> omega)
                  have o_27 : mmX kind v w (3 : Int) := by exact ⟨fun q => by exfalso; omega, fun q => by exfalso; omega, fun q => by exfalso; omega, fun q => by exfalso; omega, fun _ => by first | (rw [if_pos (by omega)]; done) | (rw [if_neg (by omega), if_pos (by omega)]; done) | (rw [if_neg (by omega), if_neg (by omega), if_pos (by omega)]; done) | (rw [if_neg (by omega), if_neg (by omega), if_neg (by omega), if_pos (by omega)]; done) | (rw [if_neg (by omega), if_neg (by omega), if_neg (by omega), if_neg (by omega)]; done) | (rw [if_neg (by omega), if_neg (by omega), if_neg (by omega)]; done) | (rw [if_neg (by omega), if_neg (by omega)]; done) | (rw [if_neg (by omega)]; done)⟩
                  exact W.lret (v := L6 3) hx hb hr (fun t ht hW => ⟨⟨L6 3, (3, wf, wd, lp, mp), rfl, ⟨rfl, ⟨o_26, o_27⟩⟩, by rw [ht]; exact hP, va_K.moved hW.alike hK, hD⟩, hS.F ht⟩) hS.2.2 dX8_machineMore_315
                · skip
                  refine lv_lconst (v := L6 1) hx hb dX8_machineMore_308 (by decide) ?_
                  refine lv_goto (tgt := 315) hx hb dX8_machineMore_309 (by decide) ?_
                  have o_28 : Dg wf := by first | assumption | omega | (constructor <;> omega)
                  have o_29 : mmX kind v w (1 : Int) := by exact ⟨fun q => by exfalso; omega, fun q => by exfalso; omega, fun q => by exfalso; omega, fun q => by exfalso; omega, fun _ => by first | (rw [if_pos (by omega)]; done) | (rw [if_neg (by omega), if_pos (by omega)]; done) | (rw [if_neg (by omega), if_neg (by omega), if_pos (by omega)]; done) | (rw [if_neg (by omega), if_neg (by omega), if_neg (by omega), if_pos (by omega)]; done) | (rw [if_neg (by omega), if_neg (by omega), if_neg (by omega), if_neg (by omega)]; done) | (rw [if_neg (by omega), if_neg (by omega), if_neg (by omega)]; done) | (rw [if_neg (by omega), if_neg (by omega)]; done) | (rw [if_neg (by omega)]; done)⟩
                  exact W.lret (v := L6 1) hx hb hr (fun t ht hW => ⟨⟨L6 1, (1, wf, wd, lp, mp), rfl, ⟨rfl, ⟨o_28, o_29⟩⟩, by rw [ht]; exact hP, va_K.moved hW.alike hK, hD⟩, hS.F ht⟩) hS.2.2 dX8_machineMore_315
              · skip
                refine lv_ldc2 hx hb hown (hts _ q1168) dX8_machineMore_289 ?_
                refine ix_vl (x := (2)) (by decide) ?_
                refine lv_goto (tgt := 315) hx hb dX8_machineMore_292 (by decide) ?_
                have o_30 : Dg wf := by first | assumption | omega | (constructor <;> omega)
                have o_31 : mmX kind v w (2 : Int) := by exact ⟨fun q => by exfalso; omega, fun q => by exfalso; omega, fun q => by exfalso; omega, fun q => by exfalso; omega, fun _ => by first | (rw [if_pos (by omega)]; done) | (rw [if_neg (by omega), if_pos (by omega)]; done) | (rw [if_neg (by omega), if_neg (by omega), if_pos (by omega)]; done) | (rw [if_neg (by omega), if_neg (by omega), if_neg (by omega), if_pos (by omega)]; done) | (rw [if_neg (by omega), if_neg (by omega), if_neg (by omega), if_neg (by omega)]; done) | (rw [if_neg (by omega), if_neg (by omega), if_neg (by omega)]; done) | (rw [if_neg (by omega), if_neg (by omega)]; done) | (rw [if_neg (by omega)]; done)⟩
                exact W.lret (v := L6 2) hx hb hr (fun t ht hW => ⟨⟨L6 2, (2, wf, wd, lp, mp), rfl, ⟨rfl, ⟨o_30, o_31⟩⟩, by rw [ht]; exact hP, va_K.moved hW.alike hK, hD⟩, hS.F ht⟩) hS.2.2 dX8_machineMore_315
          · skip
            refine lv_iconst (v := I3 (1)) hx hb dX8_machineMore_270 rfl ?_
            refine lv_goto (tgt := 275) hx hb dX8_machineMore_271 (by decide) ?_
            refine lv_istore (lv' := [(7, .int (I3 1)), (0, .ref am), (1, .int (I3 kind)), (2, .long (L6 v)), (4, .long (L6 w))]) hx hb dX8_machineMore_275 hl (by decide) rfl (fun ls hl => ?_)
            have sv_ : sm6 (v * 2) = 0 ↔ v % 9223372036854775808 = 0 := by unfold sm6; omega
            have sw_ : sm6 (w * 2) = 0 ↔ w % 9223372036854775808 = 0 := by unfold sm6; omega
            refine lv_iload hx hb dX8_machineMore_277 (lv_at hl 0 rfl) ?_
            refine ix_if_ne (tgt := 289) hx hb (by first | assumption | decide | (constructor <;> omega)) dX8_machineMore_279 (by decide) (fun c_279 => ?_) (fun c_279 => ?_)
            · skip
              refine lv_ldc2 hx hb hown (hts _ q1168) dX8_machineMore_289 ?_
              refine ix_vl (x := (2)) (by decide) ?_
              refine lv_goto (tgt := 315) hx hb dX8_machineMore_292 (by decide) ?_
              have o_32 : Dg wf := by first | assumption | omega | (constructor <;> omega)
              have o_33 : mmX kind v w (2 : Int) := by exact ⟨fun q => by exfalso; omega, fun q => by exfalso; omega, fun q => by exfalso; omega, fun q => by exfalso; omega, fun _ => by first | (rw [if_pos (by omega)]; done) | (rw [if_neg (by omega), if_pos (by omega)]; done) | (rw [if_neg (by omega), if_neg (by omega), if_pos (by omega)]; done) | (rw [if_neg (by omega), if_neg (by omega), if_neg (by omega), if_pos (by omega)]; done) | (rw [if_neg (by omega), if_neg (by omega), if_neg (by omega), if_neg (by omega)]; done) | (rw [if_neg (by omega), if_neg (by omega), if_neg (by omega)]; done) | (rw [if_neg (by omega), if_neg (by omega)]; done) | (rw [if_neg (by omega)]; done)⟩
              exact W.lret (v := L6 2) hx hb hr (fun t ht hW => ⟨⟨L6 2, (2, wf, wd, lp, mp), rfl, ⟨rfl, ⟨o_32, o_33⟩⟩, by rw [ht]; exact hP, va_K.moved hW.alike hK, hD⟩, hS.F ht⟩) hS.2.2 dX8_machineMore_315
            · skip
              omega
      · skip
        refine lv_ldc2 hx hb hown (hts _ q1193) dX8_machineMore_249 ?_
        refine ix_vl (x := (4)) (by decide) ?_
        have o_34 : Dg wf := by first | assumption | omega | (constructor <;> omega)
        have o_35 : mmX kind v w (4 : Int) := by exact ⟨fun q => by exfalso; omega, fun q => by exfalso; omega, fun q => by exfalso; omega, fun q => by exfalso; omega, fun _ => by first | (rw [if_pos (by omega)]; done) | (rw [if_neg (by omega), if_pos (by omega)]; done) | (rw [if_neg (by omega), if_neg (by omega), if_pos (by omega)]; done) | (rw [if_neg (by omega), if_neg (by omega), if_neg (by omega), if_pos (by omega)]; done) | (rw [if_neg (by omega), if_neg (by omega), if_neg (by omega), if_neg (by omega)]; done) | (rw [if_neg (by omega), if_neg (by omega), if_neg (by omega)]; done) | (rw [if_neg (by omega), if_neg (by omega)]; done) | (rw [if_neg (by omega)]; done)⟩
        exact W.lret (v := L6 4) hx hb hr (fun t ht hW => ⟨⟨L6 4, (4, wf, wd, lp, mp), rfl, ⟨rfl, ⟨o_34, o_35⟩⟩, by rw [ht]; exact hP, va_K.moved hW.alike hK, hD⟩, hS.F ht⟩) hS.2.2 dX8_machineMore_252
  have xv_ := eX_r v
  have fv_ := fX_r v
  have pv_ := plX_r v
  have qv_ := pX_r v
  have xw_ := eX_r w
  have qw_ := pX_r w
  refine lv_iload_n hx hb dX8_machineMore_0 rfl (lv_at hl 1 rfl) ?_
  by_cases t_1_0 : kind = 6
  · skip
    refine ix_tabI hx hb 6 t_1_0 (by decide) (by decide) (by decide) (off := 31) rfl (tgt := 32) (by decide) dX8_machineMore_1 ?_
    refine lv_lload_n hx hb dX8_machineMore_32 rfl (lv_at hl 2 rfl) ?_
    have h_36 : In6 v := by first | assumption | omega | (constructor <;> omega)
    have hPc := hP.sub (ws' := []) [] rfl
    have hDc := hD.sub (ws' := []) [] (by decide) rfl
    have hFc := va_free (wc := []) hD hS hA [] rfl
    refine va_calli (va_runS (As := [.long (L6 v)]) (rest := []) ⟨hx, hb, hml, hown, hts⟩ (metX8_isNo l dC dI dA s.heap.size v h_36) (va_cwS 1 hts (lw_S q1127 q1128 q66 q1129) rfl rfl rfl (by decide +kernel) ⟨Nat.le_of_ble_eq_true rfl, Nat.le_of_ble_eq_true rfl⟩) ⟨fun a U g mk q => by obtain ⟨q0, q1, qP, qK, qD⟩ := q; exact ⟨q0, q1, qP, va_K.moved (u := U) (U := U.calling g mk a) (Vm.Alike.refl U.vm) qK, qD⟩, fun U hU hW => ⟨rfl, by rw [hU], by rw [hU]; exact hPc, va_K.moved hW.alike hK, hDc.weaken (fun _ _ _ _ => trivial)⟩⟩ rfl rfl hl.1 rfl (lv_room (Nat.le_of_ble_eq_true rfl)) dX8_machineMore_33 ⟨Nat.le_of_ble_eq_true rfl, Nat.le_of_ble_eq_true rfl⟩) hS (fun q _ h => hFc q h) hFc (fun r_33 u t H1 locs ht hvm hw hB hz1 hk1 hS => ?_)
    obtain ⟨z_33, rfl⟩ : ∃ z, z = u := ⟨_, rfl⟩
    obtain ⟨rfl, p0_33⟩ : r_33 = I3 z_33 ∧ (z_33 = if eX v = 2047 ∧ pX v ≠ 0 then 1 else 0) := hw
    obtain ⟨hP1, hK1, hD1⟩ := hB
    rw [ht] at hP1
    obtain ⟨hP, hD⟩ := va_join (wr := [(am, .inr (0, [.int (I3 th), .int (I3 mn), .ref as_, .ref av, .ref aw, .int (I3 sm), .int (I3 wd), .int (I3 lp), .int (I3 mp), .int (I3 re)])), (as_, .inl (dA 0, 60, .inl (iA SG))), (av, .inl (dA 1, 960, .inr (.inl (lA VL)))), (aw, .inl (dA 1, 1024, .inr (.inl (lA wf))))]) (w1 := []) hP hD [] [0, 1, 2, 3] rfl rfl (by decide) (by decide) hk1 hFc hP1 hD1
    generalize H1 = H at hP hS ⊢
    have hP : va_P (dC, dI) vwCl [(am, .inr (0, [.int (I3 th), .int (I3 mn), .ref as_, .ref av, .ref aw, .int (I3 sm), .int (I3 wd), .int (I3 lp), .int (I3 mp), .int (I3 re)])), (as_, .inl (dA 0, 60, .inl (iA SG))), (av, .inl (dA 1, 960, .inr (.inl (lA VL)))), (aw, .inl (dA 1, 1024, .inr (.inl (lA wf))))] H := hP
    have hD : va_D A [(am, .inr (0, [.int (I3 th), .int (I3 mn), .ref as_, .ref av, .ref aw, .int (I3 sm), .int (I3 wd), .int (I3 lp), .int (I3 mp), .int (I3 re)])), (as_, .inl (dA 0, 60, .inl (iA SG))), (av, .inl (dA 1, 960, .inr (.inl (lA VL)))), (aw, .inl (dA 1, 1024, .inr (.inl (lA wf))))] := hD
    have y_33 := b01 p0_33
    refine ix_if_eq (tgt := 45) hx hb (by first | assumption | decide | (constructor <;> omega)) dX8_machineMore_36 (by decide) (fun c_36 => ?_) (fun c_36 => ?_)
    · skip
      refine lv_lload_n hx hb dX8_machineMore_45 rfl (lv_at hl 2 rfl) ?_
      refine lv_ldc2 hx hb hown (hts _ q1184) dX8_machineMore_46 ?_
      refine ix_vl (x := (9223372036854775807)) (by decide) ?_
      refine ix_landm hx hb 63 (by decide) (by decide) dX8_machineMore_49 ?_
      refine ix_tl (y := v % 9223372036854775808) rfl ?_
      refine lv_lload hx hb dX8_machineMore_50 (lv_at hl 3 rfl) ?_
      refine lv_ldc2 hx hb hown (hts _ q1153) dX8_machineMore_52 ?_
      refine ix_vl (x := (-9223372036854775808)) (by decide) ?_
      refine ix_land hx hb dX8_machineMore_55 ?_
      refine ix_tl (y := (if w < 0 then -9223372036854775808 else 0)) (by exact zand6_sg hw) ?_
      refine ix_lor hx hb dX8_machineMore_56 ?_
      refine ix_tl (y := sgb w (v % 9223372036854775808)) (by exact sgb_or (by omega)) ?_
      have o_37 : Dg wf := by first | assumption | omega | (constructor <;> omega)
      have o_38 : mmX kind v w (sgb w (v % 9223372036854775808)) := by exact ⟨fun _ => by first | (rw [if_pos (by omega)]; done) | (rw [if_neg (by omega), if_pos (by omega)]; done) | (rw [if_neg (by omega), if_neg (by omega), if_pos (by omega)]; done) | (rw [if_neg (by omega), if_neg (by omega), if_neg (by omega), if_pos (by omega)]; done) | (rw [if_neg (by omega), if_neg (by omega), if_neg (by omega), if_neg (by omega)]; done) | (rw [if_neg (by omega), if_neg (by omega), if_neg (by omega)]; done) | (rw [if_neg (by omega), if_neg (by omega)]; done) | (rw [if_neg (by omega)]; done), fun q => by exfalso; omega, fun q => by exfalso; omega, fun q => by exfalso; omega, fun q => by exfalso; omega⟩
      exact W.lret (v := L6 (sgb w (v % 9223372036854775808))) hx hb hr (fun t ht hW => ⟨⟨L6 (sgb w (v % 9223372036854775808)), ((sgb w (v % 9223372036854775808)), wf, wd, lp, mp), rfl, ⟨rfl, ⟨o_37, o_38⟩⟩, by rw [ht]; exact hP, va_K.moved hW.alike hK, hD⟩, hS.F ht⟩) hS.2.2 dX8_machineMore_57
    · skip
      refine lv_ldc2 hx hb hown (hts _ q1167) dX8_machineMore_39 ?_
      refine ix_vl (x := (9221120237041090560)) (by decide) ?_
      refine lv_goto (tgt := 57) hx hb dX8_machineMore_42 (by decide) ?_
      have o_39 : Dg wf := by first | assumption | omega | (constructor <;> omega)
      have o_40 : mmX kind v w (9221120237041090560 : Int) := by exact ⟨fun _ => by first | (rw [if_pos (by omega)]; done) | (rw [if_neg (by omega), if_pos (by omega)]; done) | (rw [if_neg (by omega), if_neg (by omega), if_pos (by omega)]; done) | (rw [if_neg (by omega), if_neg (by omega), if_neg (by omega), if_pos (by omega)]; done) | (rw [if_neg (by omega), if_neg (by omega), if_neg (by omega), if_neg (by omega)]; done) | (rw [if_neg (by omega), if_neg (by omega), if_neg (by omega)]; done) | (rw [if_neg (by omega), if_neg (by omega)]; done) | (rw [if_neg (by omega)]; done), fun q => by exfalso; omega, fun q => by exfalso; omega, fun q => by exfalso; omega, fun q => by exfalso; omega⟩
      exact W.lret (v := L6 9221120237041090560) hx hb hr (fun t ht hW => ⟨⟨L6 9221120237041090560, (9221120237041090560, wf, wd, lp, mp), rfl, ⟨rfl, ⟨o_39, o_40⟩⟩, by rw [ht]; exact hP, va_K.moved hW.alike hK, hD⟩, hS.F ht⟩) hS.2.2 dX8_machineMore_57
  by_cases t_1_1 : kind = 7
  · skip
    refine ix_tabI hx hb 7 t_1_1 (by decide) (by decide) (by decide) (off := 57) rfl (tgt := 58) (by decide) dX8_machineMore_1 ?_
    refine lv_lload_n hx hb dX8_machineMore_58 rfl (lv_at hl 2 rfl) ?_
    have h_41 : In6 v := by first | assumption | omega | (constructor <;> omega)
    have hPc := hP.sub (ws' := []) [] rfl
    have hDc := hD.sub (ws' := []) [] (by decide) rfl
    have hFc := va_free (wc := []) hD hS hA [] rfl
    refine va_calli (va_runS (As := [.long (L6 v)]) (rest := []) ⟨hx, hb, hml, hown, hts⟩ (metX8_isNo l dC dI dA s.heap.size v h_41) (va_cwS 1 hts (lw_S q1127 q1128 q66 q1129) rfl rfl rfl (by decide +kernel) ⟨Nat.le_of_ble_eq_true rfl, Nat.le_of_ble_eq_true rfl⟩) ⟨fun a U g mk q => by obtain ⟨q0, q1, qP, qK, qD⟩ := q; exact ⟨q0, q1, qP, va_K.moved (u := U) (U := U.calling g mk a) (Vm.Alike.refl U.vm) qK, qD⟩, fun U hU hW => ⟨rfl, by rw [hU], by rw [hU]; exact hPc, va_K.moved hW.alike hK, hDc.weaken (fun _ _ _ _ => trivial)⟩⟩ rfl rfl hl.1 rfl (lv_room (Nat.le_of_ble_eq_true rfl)) dX8_machineMore_59 ⟨Nat.le_of_ble_eq_true rfl, Nat.le_of_ble_eq_true rfl⟩) hS (fun q _ h => hFc q h) hFc (fun r_59 u t H1 locs ht hvm hw hB hz1 hk1 hS => ?_)
    obtain ⟨z_59, rfl⟩ : ∃ z, z = u := ⟨_, rfl⟩
    obtain ⟨rfl, p0_59⟩ : r_59 = I3 z_59 ∧ (z_59 = if eX v = 2047 ∧ pX v ≠ 0 then 1 else 0) := hw
    obtain ⟨hP1, hK1, hD1⟩ := hB
    rw [ht] at hP1
    obtain ⟨hP, hD⟩ := va_join (wr := [(am, .inr (0, [.int (I3 th), .int (I3 mn), .ref as_, .ref av, .ref aw, .int (I3 sm), .int (I3 wd), .int (I3 lp), .int (I3 mp), .int (I3 re)])), (as_, .inl (dA 0, 60, .inl (iA SG))), (av, .inl (dA 1, 960, .inr (.inl (lA VL)))), (aw, .inl (dA 1, 1024, .inr (.inl (lA wf))))]) (w1 := []) hP hD [] [0, 1, 2, 3] rfl rfl (by decide) (by decide) hk1 hFc hP1 hD1
    generalize H1 = H at hP hS ⊢
    have hP : va_P (dC, dI) vwCl [(am, .inr (0, [.int (I3 th), .int (I3 mn), .ref as_, .ref av, .ref aw, .int (I3 sm), .int (I3 wd), .int (I3 lp), .int (I3 mp), .int (I3 re)])), (as_, .inl (dA 0, 60, .inl (iA SG))), (av, .inl (dA 1, 960, .inr (.inl (lA VL)))), (aw, .inl (dA 1, 1024, .inr (.inl (lA wf))))] H := hP
    have hD : va_D A [(am, .inr (0, [.int (I3 th), .int (I3 mn), .ref as_, .ref av, .ref aw, .int (I3 sm), .int (I3 wd), .int (I3 lp), .int (I3 mp), .int (I3 re)])), (as_, .inl (dA 0, 60, .inl (iA SG))), (av, .inl (dA 1, 960, .inr (.inl (lA VL)))), (aw, .inl (dA 1, 1024, .inr (.inl (lA wf))))] := hD
    have y_59 := b01 p0_59
    refine ix_if_eq (tgt := 71) hx hb (by first | assumption | decide | (constructor <;> omega)) dX8_machineMore_62 (by decide) (fun c_62 => ?_) (fun c_62 => ?_)
    · skip
      refine lv_lload_n hx hb dX8_machineMore_71 rfl (lv_at hl 2 rfl) ?_
      refine lv_ldc2 hx hb hown (hts _ q1190) dX8_machineMore_72 ?_
      refine ix_vl (x := (9218868437227405312)) (by decide) ?_
      refine ix_lcmp_ne (tgt := 83) hx hb (by first | assumption | decide | (constructor <;> omega)) (by first | assumption | decide | (constructor <;> omega)) dX8_machineMore_75 dX8_machineMore_76 (by decide) (fun c_75 => ?_) (fun c_75 => ?_)
      · skip
        refine lv_lload_n hx hb dX8_machineMore_83 rfl (lv_at hl 2 rfl) ?_
        refine lv_lconst (v := L6 0) hx hb dX8_machineMore_84 (by decide) ?_
        refine ix_lcmp_eq (tgt := 97) hx hb (by first | assumption | decide | (constructor <;> omega)) (by first | assumption | decide | (constructor <;> omega)) dX8_machineMore_85 dX8_machineMore_86 (by decide) (fun c_85 => ?_) (fun c_85 => ?_)
        · skip
          refine lv_lconst (v := L6 1) hx hb dX8_machineMore_97 (by decide) ?_
          refine lv_goto (tgt := 116) hx hb dX8_machineMore_98 (by decide) ?_
          have o_42 : Dg wf := by first | assumption | omega | (constructor <;> omega)
          have o_43 : mmX kind v w (1 : Int) := by exact ⟨fun q => by exfalso; omega, fun _ => by first | (rw [if_pos (by omega)]; done) | (rw [if_neg (by omega), if_pos (by omega)]; done) | (rw [if_neg (by omega), if_neg (by omega), if_pos (by omega)]; done) | (rw [if_neg (by omega), if_neg (by omega), if_neg (by omega), if_pos (by omega)]; done) | (rw [if_neg (by omega), if_neg (by omega), if_neg (by omega), if_neg (by omega)]; done) | (rw [if_neg (by omega), if_neg (by omega), if_neg (by omega)]; done) | (rw [if_neg (by omega), if_neg (by omega)]; done) | (rw [if_neg (by omega)]; done), fun q => by exfalso; omega, fun q => by exfalso; omega, fun q => by exfalso; omega⟩
          exact W.lret (v := L6 1) hx hb hr (fun t ht hW => ⟨⟨L6 1, (1, wf, wd, lp, mp), rfl, ⟨rfl, ⟨o_42, o_43⟩⟩, by rw [ht]; exact hP, va_K.moved hW.alike hK, hD⟩, hS.F ht⟩) hS.2.2 dX8_machineMore_116
        · skip
          refine lv_lload_n hx hb dX8_machineMore_89 rfl (lv_at hl 2 rfl) ?_
          refine lv_ldc2 hx hb hown (hts _ q1153) dX8_machineMore_90 ?_
          refine ix_vl (x := (-9223372036854775808)) (by decide) ?_
          refine ix_lcmp_ne (tgt := 101) hx hb (by first | assumption | decide | (constructor <;> omega)) (by first | assumption | decide | (constructor <;> omega)) dX8_machineMore_93 dX8_machineMore_94 (by decide) (fun c_93 => ?_) (fun c_93 => ?_)
          · skip
            refine lv_lload_n hx hb dX8_machineMore_101 rfl (lv_at hl 2 rfl) ?_
            refine lv_lconst (v := L6 0) hx hb dX8_machineMore_102 (by decide) ?_
            refine ix_lcmp_ge (tgt := 113) hx hb (by first | assumption | decide | (constructor <;> omega)) (by first | assumption | decide | (constructor <;> omega)) dX8_machineMore_103 dX8_machineMore_104 (by decide) (fun c_103 => ?_) (fun c_103 => ?_)
            · skip
              refine lv_lload_n hx hb dX8_machineMore_113 rfl (lv_at hl 2 rfl) ?_
              refine lv_lconst (v := L6 1) hx hb dX8_machineMore_114 (by decide) ?_
              refine ix_ladd hx hb dX8_machineMore_115 ?_
              have o_44 : Dg wf := by first | assumption | omega | (constructor <;> omega)
              have o_45 : mmX kind v w (v + 1) := by exact ⟨fun q => by exfalso; omega, fun _ => by first | (rw [if_pos (by omega)]; done) | (rw [if_neg (by omega), if_pos (by omega)]; done) | (rw [if_neg (by omega), if_neg (by omega), if_pos (by omega)]; done) | (rw [if_neg (by omega), if_neg (by omega), if_neg (by omega), if_pos (by omega)]; done) | (rw [if_neg (by omega), if_neg (by omega), if_neg (by omega), if_neg (by omega)]; done) | (rw [if_neg (by omega), if_neg (by omega), if_neg (by omega)]; done) | (rw [if_neg (by omega), if_neg (by omega)]; done) | (rw [if_neg (by omega)]; done), fun q => by exfalso; omega, fun q => by exfalso; omega, fun q => by exfalso; omega⟩
              exact W.lret (v := L6 (v + 1)) hx hb hr (fun t ht hW => ⟨⟨L6 (v + 1), ((v + 1), wf, wd, lp, mp), rfl, ⟨rfl, ⟨o_44, o_45⟩⟩, by rw [ht]; exact hP, va_K.moved hW.alike hK, hD⟩, hS.F ht⟩) hS.2.2 dX8_machineMore_116
            · skip
              refine lv_lload_n hx hb dX8_machineMore_107 rfl (lv_at hl 2 rfl) ?_
              refine lv_lconst (v := L6 1) hx hb dX8_machineMore_108 (by decide) ?_
              refine ix_lsub hx hb dX8_machineMore_109 ?_
              refine lv_goto (tgt := 116) hx hb dX8_machineMore_110 (by decide) ?_
              have o_46 : Dg wf := by first | assumption | omega | (constructor <;> omega)
              have o_47 : mmX kind v w (v - 1) := by exact ⟨fun q => by exfalso; omega, fun _ => by first | (rw [if_pos (by omega)]; done) | (rw [if_neg (by omega), if_pos (by omega)]; done) | (rw [if_neg (by omega), if_neg (by omega), if_pos (by omega)]; done) | (rw [if_neg (by omega), if_neg (by omega), if_neg (by omega), if_pos (by omega)]; done) | (rw [if_neg (by omega), if_neg (by omega), if_neg (by omega), if_neg (by omega)]; done) | (rw [if_neg (by omega), if_neg (by omega), if_neg (by omega)]; done) | (rw [if_neg (by omega), if_neg (by omega)]; done) | (rw [if_neg (by omega)]; done), fun q => by exfalso; omega, fun q => by exfalso; omega, fun q => by exfalso; omega⟩
              exact W.lret (v := L6 (v - 1)) hx hb hr (fun t ht hW => ⟨⟨L6 (v - 1), ((v - 1), wf, wd, lp, mp), rfl, ⟨rfl, ⟨o_46, o_47⟩⟩, by rw [ht]; exact hP, va_K.moved hW.alike hK, hD⟩, hS.F ht⟩) hS.2.2 dX8_machineMore_116
          · skip
            refine lv_lconst (v := L6 1) hx hb dX8_machineMore_97 (by decide) ?_
            refine lv_goto (tgt := 116) hx hb dX8_machineMore_98 (by decide) ?_
            have o_48 : Dg wf := by first | assumption | omega | (constructor <;> omega)
            have o_49 : mmX kind v w (1 : Int) := by exact ⟨fun q => by exfalso; omega, fun _ => by first | (rw [if_pos (by omega)]; done) | (rw [if_neg (by omega), if_pos (by omega)]; done) | (rw [if_neg (by omega), if_neg (by omega), if_pos (by omega)]; done) | (rw [if_neg (by omega), if_neg (by omega), if_neg (by omega), if_pos (by omega)]; done) | (rw [if_neg (by omega), if_neg (by omega), if_neg (by omega), if_neg (by omega)]; done) | (rw [if_neg (by omega), if_neg (by omega), if_neg (by omega)]; done) | (rw [if_neg (by omega), if_neg (by omega)]; done) | (rw [if_neg (by omega)]; done), fun q => by exfalso; omega, fun q => by exfalso; omega, fun q => by exfalso; omega⟩
            exact W.lret (v := L6 1) hx hb hr (fun t ht hW => ⟨⟨L6 1, (1, wf, wd, lp, mp), rfl, ⟨rfl, ⟨o_48, o_49⟩⟩, by rw [ht]; exact hP, va_K.moved hW.alike hK, hD⟩, hS.F ht⟩) hS.2.2 dX8_machineMore_116
      · skip
        refine lv_lload_n hx hb dX8_machineMore_79 rfl (lv_at hl 2 rfl) ?_
        refine lv_goto (tgt := 116) hx hb dX8_machineMore_80 (by decide) ?_
        have o_50 : Dg wf := by first | assumption | omega | (constructor <;> omega)
        have o_51 : mmX kind v w v := by exact ⟨fun q => by exfalso; omega, fun _ => by first | (rw [if_pos (by omega)]; done) | (rw [if_neg (by omega), if_pos (by omega)]; done) | (rw [if_neg (by omega), if_neg (by omega), if_pos (by omega)]; done) | (rw [if_neg (by omega), if_neg (by omega), if_neg (by omega), if_pos (by omega)]; done) | (rw [if_neg (by omega), if_neg (by omega), if_neg (by omega), if_neg (by omega)]; done) | (rw [if_neg (by omega), if_neg (by omega), if_neg (by omega)]; done) | (rw [if_neg (by omega), if_neg (by omega)]; done) | (rw [if_neg (by omega)]; done), fun q => by exfalso; omega, fun q => by exfalso; omega, fun q => by exfalso; omega⟩
        exact W.lret (v := L6 v) hx hb hr (fun t ht hW => ⟨⟨L6 v, (v, wf, wd, lp, mp), rfl, ⟨rfl, ⟨o_50, o_51⟩⟩, by rw [ht]; exact hP, va_K.moved hW.alike hK, hD⟩, hS.F ht⟩) hS.2.2 dX8_machineMore_116
    · skip
      refine lv_ldc2 hx hb hown (hts _ q1167) dX8_machineMore_65 ?_
      refine ix_vl (x := (9221120237041090560)) (by decide) ?_
      refine lv_goto (tgt := 116) hx hb dX8_machineMore_68 (by decide) ?_
      have o_52 : Dg wf := by first | assumption | omega | (constructor <;> omega)
      have o_53 : mmX kind v w (9221120237041090560 : Int) := by exact ⟨fun q => by exfalso; omega, fun _ => by first | (rw [if_pos (by omega)]; done) | (rw [if_neg (by omega), if_pos (by omega)]; done) | (rw [if_neg (by omega), if_neg (by omega), if_pos (by omega)]; done) | (rw [if_neg (by omega), if_neg (by omega), if_neg (by omega), if_pos (by omega)]; done) | (rw [if_neg (by omega), if_neg (by omega), if_neg (by omega), if_neg (by omega)]; done) | (rw [if_neg (by omega), if_neg (by omega), if_neg (by omega)]; done) | (rw [if_neg (by omega), if_neg (by omega)]; done) | (rw [if_neg (by omega)]; done), fun q => by exfalso; omega, fun q => by exfalso; omega, fun q => by exfalso; omega⟩
      exact W.lret (v := L6 9221120237041090560) hx hb hr (fun t ht hW => ⟨⟨L6 9221120237041090560, (9221120237041090560, wf, wd, lp, mp), rfl, ⟨rfl, ⟨o_52, o_53⟩⟩, by rw [ht]; exact hP, va_K.moved hW.alike hK, hD⟩, hS.F ht⟩) hS.2.2 dX8_machineMore_116
  by_cases t_1_2 : kind = 8
  · skip
    refine ix_tabI hx hb 8 t_1_2 (by decide) (by decide) (by decide) (off := 116) rfl (tgt := 117) (by decide) dX8_machineMore_1 ?_
    refine lv_lload_n hx hb dX8_machineMore_117 rfl (lv_at hl 2 rfl) ?_
    have h_54 : In6 v := by first | assumption | omega | (constructor <;> omega)
    have hPc := hP.sub (ws' := []) [] rfl
    have hDc := hD.sub (ws' := []) [] (by decide) rfl
    have hFc := va_free (wc := []) hD hS hA [] rfl
    refine va_calli (va_runS (As := [.long (L6 v)]) (rest := []) ⟨hx, hb, hml, hown, hts⟩ (metX8_isNo l dC dI dA s.heap.size v h_54) (va_cwS 1 hts (lw_S q1127 q1128 q66 q1129) rfl rfl rfl (by decide +kernel) ⟨Nat.le_of_ble_eq_true rfl, Nat.le_of_ble_eq_true rfl⟩) ⟨fun a U g mk q => by obtain ⟨q0, q1, qP, qK, qD⟩ := q; exact ⟨q0, q1, qP, va_K.moved (u := U) (U := U.calling g mk a) (Vm.Alike.refl U.vm) qK, qD⟩, fun U hU hW => ⟨rfl, by rw [hU], by rw [hU]; exact hPc, va_K.moved hW.alike hK, hDc.weaken (fun _ _ _ _ => trivial)⟩⟩ rfl rfl hl.1 rfl (lv_room (Nat.le_of_ble_eq_true rfl)) dX8_machineMore_118 ⟨Nat.le_of_ble_eq_true rfl, Nat.le_of_ble_eq_true rfl⟩) hS (fun q _ h => hFc q h) hFc (fun r_118 u t H1 locs ht hvm hw hB hz1 hk1 hS => ?_)
    obtain ⟨z_118, rfl⟩ : ∃ z, z = u := ⟨_, rfl⟩
    obtain ⟨rfl, p0_118⟩ : r_118 = I3 z_118 ∧ (z_118 = if eX v = 2047 ∧ pX v ≠ 0 then 1 else 0) := hw
    obtain ⟨hP1, hK1, hD1⟩ := hB
    rw [ht] at hP1
    obtain ⟨hP, hD⟩ := va_join (wr := [(am, .inr (0, [.int (I3 th), .int (I3 mn), .ref as_, .ref av, .ref aw, .int (I3 sm), .int (I3 wd), .int (I3 lp), .int (I3 mp), .int (I3 re)])), (as_, .inl (dA 0, 60, .inl (iA SG))), (av, .inl (dA 1, 960, .inr (.inl (lA VL)))), (aw, .inl (dA 1, 1024, .inr (.inl (lA wf))))]) (w1 := []) hP hD [] [0, 1, 2, 3] rfl rfl (by decide) (by decide) hk1 hFc hP1 hD1
    generalize H1 = H at hP hS ⊢
    have hP : va_P (dC, dI) vwCl [(am, .inr (0, [.int (I3 th), .int (I3 mn), .ref as_, .ref av, .ref aw, .int (I3 sm), .int (I3 wd), .int (I3 lp), .int (I3 mp), .int (I3 re)])), (as_, .inl (dA 0, 60, .inl (iA SG))), (av, .inl (dA 1, 960, .inr (.inl (lA VL)))), (aw, .inl (dA 1, 1024, .inr (.inl (lA wf))))] H := hP
    have hD : va_D A [(am, .inr (0, [.int (I3 th), .int (I3 mn), .ref as_, .ref av, .ref aw, .int (I3 sm), .int (I3 wd), .int (I3 lp), .int (I3 mp), .int (I3 re)])), (as_, .inl (dA 0, 60, .inl (iA SG))), (av, .inl (dA 1, 960, .inr (.inl (lA VL)))), (aw, .inl (dA 1, 1024, .inr (.inl (lA wf))))] := hD
    have y_118 := b01 p0_118
    refine ix_if_eq (tgt := 130) hx hb (by first | assumption | decide | (constructor <;> omega)) dX8_machineMore_121 (by decide) (fun c_121 => ?_) (fun c_121 => ?_)
    · skip
      refine lv_lload_n hx hb dX8_machineMore_130 rfl (lv_at hl 2 rfl) ?_
      have h_55 : In6 v := by first | assumption | omega | (constructor <;> omega)
      have hPc := hP.sub (ws' := []) [] rfl
      have hDc := hD.sub (ws' := []) [] (by decide) rfl
      have hFc := va_free (wc := []) hD hS hA [] rfl
      refine va_calli (va_runS (As := [.long (L6 v)]) (rest := []) ⟨hx, hb, hml, hown, hts⟩ (metX8_isInfinite l dC dI dA H.size v h_55) (va_cwS 1 hts (lw_S q1130 q1131 q66 q1132) rfl rfl rfl (by decide +kernel) ⟨Nat.le_of_ble_eq_true rfl, Nat.le_of_ble_eq_true rfl⟩) ⟨fun a U g mk q => by obtain ⟨q0, q1, qP, qK, qD⟩ := q; exact ⟨q0, q1, qP, va_K.moved (u := U) (U := U.calling g mk a) (Vm.Alike.refl U.vm) qK, qD⟩, fun U hU hW => ⟨rfl, by rw [hU], by rw [hU]; exact hPc, va_K.moved hW.alike hK, hDc.weaken (fun _ _ _ _ => trivial)⟩⟩ rfl rfl hl.1 rfl (lv_room (Nat.le_of_ble_eq_true rfl)) dX8_machineMore_131 ⟨Nat.le_of_ble_eq_true rfl, Nat.le_of_ble_eq_true rfl⟩) hS (fun q _ h => hFc q h) hFc (fun r_131 u t H1 locs ht hvm hw hB hz1 hk1 hS => ?_)
      obtain ⟨z_131, rfl⟩ : ∃ z, z = u := ⟨_, rfl⟩
      obtain ⟨rfl, p0_131⟩ : r_131 = I3 z_131 ∧ (z_131 = if eX v = 2047 ∧ pX v = 0 then 1 else 0) := hw
      obtain ⟨hP1, hK1, hD1⟩ := hB
      rw [ht] at hP1
      obtain ⟨hP, hD⟩ := va_join (wr := [(am, .inr (0, [.int (I3 th), .int (I3 mn), .ref as_, .ref av, .ref aw, .int (I3 sm), .int (I3 wd), .int (I3 lp), .int (I3 mp), .int (I3 re)])), (as_, .inl (dA 0, 60, .inl (iA SG))), (av, .inl (dA 1, 960, .inr (.inl (lA VL)))), (aw, .inl (dA 1, 1024, .inr (.inl (lA wf))))]) (w1 := []) hP hD [] [0, 1, 2, 3] rfl rfl (by decide) (by decide) hk1 hFc hP1 hD1
      generalize H1 = H at hP hS ⊢
      have hP : va_P (dC, dI) vwCl [(am, .inr (0, [.int (I3 th), .int (I3 mn), .ref as_, .ref av, .ref aw, .int (I3 sm), .int (I3 wd), .int (I3 lp), .int (I3 mp), .int (I3 re)])), (as_, .inl (dA 0, 60, .inl (iA SG))), (av, .inl (dA 1, 960, .inr (.inl (lA VL)))), (aw, .inl (dA 1, 1024, .inr (.inl (lA wf))))] H := hP
      have hD : va_D A [(am, .inr (0, [.int (I3 th), .int (I3 mn), .ref as_, .ref av, .ref aw, .int (I3 sm), .int (I3 wd), .int (I3 lp), .int (I3 mp), .int (I3 re)])), (as_, .inl (dA 0, 60, .inl (iA SG))), (av, .inl (dA 1, 960, .inr (.inl (lA VL)))), (aw, .inl (dA 1, 1024, .inr (.inl (lA wf))))] := hD
      have y_131 := b01 p0_131
      refine ix_if_eq (tgt := 143) hx hb (by first | assumption | decide | (constructor <;> omega)) dX8_machineMore_134 (by decide) (fun c_134 => ?_) (fun c_134 => ?_)
      · skip
        refine lv_aload_n hx hb dX8_machineMore_143 rfl (lv_at hl 0 rfl) ?_
        refine lv_lconst (v := L6 1) hx hb dX8_machineMore_144 (by decide) ?_
        refine lv_lload_n hx hb dX8_machineMore_145 rfl (lv_at hl 2 rfl) ?_
        have h_56 : In6 v := by first | assumption | omega | (constructor <;> omega)
        have hPc := hP.sub (ws' := []) [] rfl
        have hDc := hD.sub (ws' := []) [] (by decide) rfl
        have hFc := va_free (wc := []) hD hS hA [] rfl
        refine va_calli (va_runS (As := [.long (L6 v)]) (rest := [.long (L6 1), .ref am]) ⟨hx, hb, hml, hown, hts⟩ (metX8_place l dC dI dA H.size v h_56) (va_cwS 1 hts (lw_S q1040 q1041 q66 q1042) rfl rfl rfl (by decide +kernel) ⟨Nat.le_of_ble_eq_true rfl, Nat.le_of_ble_eq_true rfl⟩) ⟨fun a U g mk q => by obtain ⟨q0, q1, qP, qK, qD⟩ := q; exact ⟨q0, q1, qP, va_K.moved (u := U) (U := U.calling g mk a) (Vm.Alike.refl U.vm) qK, qD⟩, fun U hU hW => ⟨rfl, by rw [hU], by rw [hU]; exact hPc, va_K.moved hW.alike hK, hDc.weaken (fun _ _ _ _ => trivial)⟩⟩ rfl rfl hl.1 rfl (lv_room (Nat.le_of_ble_eq_true rfl)) dX8_machineMore_146 ⟨Nat.le_of_ble_eq_true rfl, Nat.le_of_ble_eq_true rfl⟩) hS (fun q _ h => hFc q h) hFc (fun r_146 u t H1 locs ht hvm hw hB hz1 hk1 hS => ?_)
        obtain ⟨z_146, rfl⟩ : ∃ z, z = u := ⟨_, rfl⟩
        obtain ⟨rfl, p0_146⟩ : r_146 = I3 z_146 ∧ (z_146 = plX v) := hw
        obtain ⟨hP1, hK1, hD1⟩ := hB
        rw [ht] at hP1
        obtain ⟨hP, hD⟩ := va_join (wr := [(am, .inr (0, [.int (I3 th), .int (I3 mn), .ref as_, .ref av, .ref aw, .int (I3 sm), .int (I3 wd), .int (I3 lp), .int (I3 mp), .int (I3 re)])), (as_, .inl (dA 0, 60, .inl (iA SG))), (av, .inl (dA 1, 960, .inr (.inl (lA VL)))), (aw, .inl (dA 1, 1024, .inr (.inl (lA wf))))]) (w1 := []) hP hD [] [0, 1, 2, 3] rfl rfl (by decide) (by decide) hk1 hFc hP1 hD1
        generalize H1 = H at hP hS ⊢
        have hP : va_P (dC, dI) vwCl [(am, .inr (0, [.int (I3 th), .int (I3 mn), .ref as_, .ref av, .ref aw, .int (I3 sm), .int (I3 wd), .int (I3 lp), .int (I3 mp), .int (I3 re)])), (as_, .inl (dA 0, 60, .inl (iA SG))), (av, .inl (dA 1, 960, .inr (.inl (lA VL)))), (aw, .inl (dA 1, 1024, .inr (.inl (lA wf))))] H := hP
        have hD : va_D A [(am, .inr (0, [.int (I3 th), .int (I3 mn), .ref as_, .ref av, .ref aw, .int (I3 sm), .int (I3 wd), .int (I3 lp), .int (I3 mp), .int (I3 re)])), (as_, .inl (dA 0, 60, .inl (iA SG))), (av, .inl (dA 1, 960, .inr (.inl (lA VL)))), (aw, .inl (dA 1, 1024, .inr (.inl (lA wf))))] := hD
        refine lv_iconst (v := I3 (1)) hx hb dX8_machineMore_149 rfl ?_
        have h_57 : Dg wf := by first | assumption | omega | (constructor <;> omega)
        have h_58 : 0 ≤ (1 : Int) ∧ (1 : Int) < 9223372036854775808 := by decide
        have h_59 : -100000 ≤ z_146 ∧ z_146 ≤ 100000 := by first | assumption | omega | (constructor <;> omega)
        have h_60 : (1 : Int) = 0 ∨ (1 : Int) = 1 := by exact Or.inr rfl
        have hPc := hP.sub (ws' := [(am, .inr (0, [.int (I3 th), .int (I3 mn), .ref as_, .ref av, .ref aw, .int (I3 sm), .int (I3 wd), .int (I3 lp), .int (I3 mp), .int (I3 re)])), (as_, .inl (dA 0, 60, .inl (iA SG))), (av, .inl (dA 1, 960, .inr (.inl (lA VL)))), (aw, .inl (dA 1, 1024, .inr (.inl (lA wf))))]) [0, 1, 2, 3] rfl
        have hDc := hD.sub (ws' := [(am, .inr (0, [.int (I3 th), .int (I3 mn), .ref as_, .ref av, .ref aw, .int (I3 sm), .int (I3 wd), .int (I3 lp), .int (I3 mp), .int (I3 re)])), (as_, .inl (dA 0, 60, .inl (iA SG))), (av, .inl (dA 1, 960, .inr (.inl (lA VL)))), (aw, .inl (dA 1, 1024, .inr (.inl (lA wf))))]) [0, 1, 2, 3] (by decide) rfl
        have hFc := va_free (wc := [(am, .inr (0, [.int (I3 th), .int (I3 mn), .ref as_, .ref av, .ref aw, .int (I3 sm), .int (I3 wd), .int (I3 lp), .int (I3 mp), .int (I3 re)])), (as_, .inl (dA 0, 60, .inl (iA SG))), (av, .inl (dA 1, 960, .inr (.inl (lA VL)))), (aw, .inl (dA 1, 1024, .inr (.inl (lA wf))))]) hD hS hA [0, 1, 2, 3] rfl
        refine va_calll (va_runV (As := [.long (L6 1), .int (I3 z_146), .int (I3 1)]) (rest := []) ⟨hx, hb, hml, hown, hts⟩ (metX8_scaled l dC dI dA am as_ av aw H.size th mn sm wd lp mp re SG VL wf 1 z_146 1 h_57 h_58 h_59 h_60) (cwV 3 hts (lw_V q1169 q1171 qs51 q66 q1172) rfl rfl rfl (by decide +kernel) ⟨Nat.le_of_ble_eq_true rfl, Nat.le_of_ble_eq_true rfl⟩) ⟨fun a U g mk q => by obtain ⟨q0, q1, qP, qK, qD⟩ := q; exact ⟨q0, q1, qP, va_K.moved (u := U) (U := U.calling g mk a) (Vm.Alike.refl U.vm) qK, qD⟩, va_recv hK hPc (ci := 0) (q0 := 0) rfl rfl, fun U hU hW => ⟨rfl, by rw [hU], by rw [hU]; exact hPc, va_K.moved hW.alike hK, hDc.weaken (fun _ _ _ _ => trivial)⟩⟩ rfl rfl hl.1 rfl (lv_room (Nat.le_of_ble_eq_true rfl)) dX8_machineMore_150 ⟨Nat.le_of_ble_eq_true rfl, Nat.le_of_ble_eq_true rfl⟩) hS (fun q _ h => hFc q h) hFc (fun r_150 u t H1 locs ht hvm hw hB hz1 hk1 hS => ?_)
        obtain ⟨z_150, W1_150, wd1_150, lp1_150, mp1_150⟩ := u
        obtain ⟨rfl, p0_150, p1_150, p2_150, p3_150, p4_150, p5_150⟩ : r_150 = L6 z_150 ∧ (Dg W1_150) ∧ ((1 : Int) = 0 → z_150 = 0) ∧ ((1 : Int) ≠ 0 → (1 : Int) = 1 → rnB 64 ((1 : Int).toNat * 2 ^ z_146.toNat) (2 ^ (-z_146).toNat) 0 1 z_150) ∧ ((1 : Int) ≠ 0 → (1 : Int) = 0 → rnB 32 ((1 : Int).toNat * 2 ^ z_146.toNat) (2 ^ (-z_146).toNat) 0 1 z_150) ∧ (0 ≤ z_150 ∧ z_150 ≤ 9218868437227405312) ∧ ((1 : Int) = 0 → z_150 ≤ 2139095040) := hw
        obtain ⟨hP1, hK1, hD1⟩ := hB
        rw [ht] at hP1
        obtain ⟨hP, hD⟩ := va_join (wr := []) (w1 := [(am, .inr (0, [.int (I3 th), .int (I3 mn), .ref as_, .ref av, .ref aw, .int (I3 sm), .int (I3 wd1_150), .int (I3 lp1_150), .int (I3 mp1_150), .int (I3 re)])), (as_, .inl (dA 0, 60, .inl (iA SG))), (av, .inl (dA 1, 960, .inr (.inl (lA VL)))), (aw, .inl (dA 1, 1024, .inr (.inl (lA W1_150))))]) hP hD [0, 1, 2, 3] [] rfl rfl (by decide) (by decide) hk1 hFc hP1 hD1
        generalize H1 = H at hP hS ⊢
        have hP : va_P (dC, dI) vwCl [(am, .inr (0, [.int (I3 th), .int (I3 mn), .ref as_, .ref av, .ref aw, .int (I3 sm), .int (I3 wd1_150), .int (I3 lp1_150), .int (I3 mp1_150), .int (I3 re)])), (as_, .inl (dA 0, 60, .inl (iA SG))), (av, .inl (dA 1, 960, .inr (.inl (lA VL)))), (aw, .inl (dA 1, 1024, .inr (.inl (lA W1_150))))] H := hP
        have hD : va_D A [(am, .inr (0, [.int (I3 th), .int (I3 mn), .ref as_, .ref av, .ref aw, .int (I3 sm), .int (I3 wd1_150), .int (I3 lp1_150), .int (I3 mp1_150), .int (I3 re)])), (as_, .inl (dA 0, 60, .inl (iA SG))), (av, .inl (dA 1, 960, .inr (.inl (lA VL)))), (aw, .inl (dA 1, 1024, .inr (.inl (lA W1_150))))] := hD
        have o_61 : Dg W1_150 := by first | assumption | omega | (constructor <;> omega)
        have o_62 : mmX kind v w z_150 := by exact ⟨fun q => by exfalso; omega, fun q => by exfalso; omega, fun _ => ⟨fun q => by first | rfl | (exfalso; omega), fun q => by first | rfl | (exfalso; omega), fun q => by first | (exfalso; omega) | exact ⟨fun q2 => by exfalso; omega, fun q2 => by rw [← p0_146]; exact p2_150 (by decide) rfl⟩⟩, fun q => by exfalso; omega, fun q => by exfalso; omega⟩
        exact W.lret (v := L6 z_150) hx hb hr (fun t ht hW => ⟨⟨L6 z_150, (z_150, W1_150, wd1_150, lp1_150, mp1_150), rfl, ⟨rfl, ⟨o_61, o_62⟩⟩, by rw [ht]; exact hP, va_K.moved hW.alike hK, hD⟩, hS.F ht⟩) hS.2.2 dX8_machineMore_153
      · skip
        refine lv_ldc2 hx hb hown (hts _ q1190) dX8_machineMore_137 ?_
        refine ix_vl (x := (9218868437227405312)) (by decide) ?_
        refine lv_goto (tgt := 153) hx hb dX8_machineMore_140 (by decide) ?_
        have o_63 : Dg wf := by first | assumption | omega | (constructor <;> omega)
        have o_64 : mmX kind v w (9218868437227405312 : Int) := by exact ⟨fun q => by exfalso; omega, fun q => by exfalso; omega, fun _ => ⟨fun q => by first | rfl | (exfalso; omega), fun q => by first | rfl | (exfalso; omega), fun q => by first | (exfalso; omega) | exact ⟨fun q2 => by exfalso; omega, fun q2 => by rw [← p0_146]; exact p2_150 (by decide) rfl⟩⟩, fun q => by exfalso; omega, fun q => by exfalso; omega⟩
        exact W.lret (v := L6 9218868437227405312) hx hb hr (fun t ht hW => ⟨⟨L6 9218868437227405312, (9218868437227405312, wf, wd, lp, mp), rfl, ⟨rfl, ⟨o_63, o_64⟩⟩, by rw [ht]; exact hP, va_K.moved hW.alike hK, hD⟩, hS.F ht⟩) hS.2.2 dX8_machineMore_153
    · skip
      refine lv_ldc2 hx hb hown (hts _ q1167) dX8_machineMore_124 ?_
      refine ix_vl (x := (9221120237041090560)) (by decide) ?_
      refine lv_goto (tgt := 153) hx hb dX8_machineMore_127 (by decide) ?_
      have o_65 : Dg wf := by first | assumption | omega | (constructor <;> omega)
      have o_66 : mmX kind v w (9221120237041090560 : Int) := by exact ⟨fun q => by exfalso; omega, fun q => by exfalso; omega, fun _ => ⟨fun _ => rfl, fun q => by exfalso; omega, fun q => by exfalso; omega⟩, fun q => by exfalso; omega, fun q => by exfalso; omega⟩
      exact W.lret (v := L6 9221120237041090560) hx hb hr (fun t ht hW => ⟨⟨L6 9221120237041090560, (9221120237041090560, wf, wd, lp, mp), rfl, ⟨rfl, ⟨o_65, o_66⟩⟩, by rw [ht]; exact hP, va_K.moved hW.alike hK, hD⟩, hS.F ht⟩) hS.2.2 dX8_machineMore_153
  by_cases t_1_3 : kind = 9
  · skip
    refine ix_tabI hx hb 9 t_1_3 (by decide) (by decide) (by decide) (off := 153) rfl (tgt := 154) (by decide) dX8_machineMore_1 ?_
    refine lv_lload_n hx hb dX8_machineMore_154 rfl (lv_at hl 2 rfl) ?_
    have h_67 : In6 v := by first | assumption | omega | (constructor <;> omega)
    have hPc := hP.sub (ws' := []) [] rfl
    have hDc := hD.sub (ws' := []) [] (by decide) rfl
    have hFc := va_free (wc := []) hD hS hA [] rfl
    refine va_calli (va_runS (As := [.long (L6 v)]) (rest := []) ⟨hx, hb, hml, hown, hts⟩ (metX8_isNo l dC dI dA s.heap.size v h_67) (va_cwS 1 hts (lw_S q1127 q1128 q66 q1129) rfl rfl rfl (by decide +kernel) ⟨Nat.le_of_ble_eq_true rfl, Nat.le_of_ble_eq_true rfl⟩) ⟨fun a U g mk q => by obtain ⟨q0, q1, qP, qK, qD⟩ := q; exact ⟨q0, q1, qP, va_K.moved (u := U) (U := U.calling g mk a) (Vm.Alike.refl U.vm) qK, qD⟩, fun U hU hW => ⟨rfl, by rw [hU], by rw [hU]; exact hPc, va_K.moved hW.alike hK, hDc.weaken (fun _ _ _ _ => trivial)⟩⟩ rfl rfl hl.1 rfl (lv_room (Nat.le_of_ble_eq_true rfl)) dX8_machineMore_155 ⟨Nat.le_of_ble_eq_true rfl, Nat.le_of_ble_eq_true rfl⟩) hS (fun q _ h => hFc q h) hFc (fun r_155 u t H1 locs ht hvm hw hB hz1 hk1 hS => ?_)
    obtain ⟨z_155, rfl⟩ : ∃ z, z = u := ⟨_, rfl⟩
    obtain ⟨rfl, p0_155⟩ : r_155 = I3 z_155 ∧ (z_155 = if eX v = 2047 ∧ pX v ≠ 0 then 1 else 0) := hw
    obtain ⟨hP1, hK1, hD1⟩ := hB
    rw [ht] at hP1
    obtain ⟨hP, hD⟩ := va_join (wr := [(am, .inr (0, [.int (I3 th), .int (I3 mn), .ref as_, .ref av, .ref aw, .int (I3 sm), .int (I3 wd), .int (I3 lp), .int (I3 mp), .int (I3 re)])), (as_, .inl (dA 0, 60, .inl (iA SG))), (av, .inl (dA 1, 960, .inr (.inl (lA VL)))), (aw, .inl (dA 1, 1024, .inr (.inl (lA wf))))]) (w1 := []) hP hD [] [0, 1, 2, 3] rfl rfl (by decide) (by decide) hk1 hFc hP1 hD1
    generalize H1 = H at hP hS ⊢
    have hP : va_P (dC, dI) vwCl [(am, .inr (0, [.int (I3 th), .int (I3 mn), .ref as_, .ref av, .ref aw, .int (I3 sm), .int (I3 wd), .int (I3 lp), .int (I3 mp), .int (I3 re)])), (as_, .inl (dA 0, 60, .inl (iA SG))), (av, .inl (dA 1, 960, .inr (.inl (lA VL)))), (aw, .inl (dA 1, 1024, .inr (.inl (lA wf))))] H := hP
    have hD : va_D A [(am, .inr (0, [.int (I3 th), .int (I3 mn), .ref as_, .ref av, .ref aw, .int (I3 sm), .int (I3 wd), .int (I3 lp), .int (I3 mp), .int (I3 re)])), (as_, .inl (dA 0, 60, .inl (iA SG))), (av, .inl (dA 1, 960, .inr (.inl (lA VL)))), (aw, .inl (dA 1, 1024, .inr (.inl (lA wf))))] := hD
    have y_155 := b01 p0_155
    refine ix_if_eq (tgt := 165) hx hb (by first | assumption | decide | (constructor <;> omega)) dX8_machineMore_158 (by decide) (fun c_158 => ?_) (fun c_158 => ?_)
    · skip
      refine lv_lload hx hb dX8_machineMore_165 (lv_at hl 3 rfl) ?_
      refine lv_ldc2 hx hb hown (hts _ q1191) dX8_machineMore_167 ?_
      refine ix_vl (x := (-3000)) (by decide) ?_
      refine ix_lcmp_ge (tgt := 180) hx hb (by first | assumption | decide | (constructor <;> omega)) (by first | assumption | decide | (constructor <;> omega)) dX8_machineMore_170 dX8_machineMore_171 (by decide) (fun c_170 => ?_) (fun c_170 => ?_)
      · skip
        refine lv_lload hx hb dX8_machineMore_180 (lv_at hl 3 rfl) ?_
        refine lv_ldc2 hx hb hown (hts _ q1192) dX8_machineMore_182 ?_
        refine ix_vl (x := (3000)) (by decide) ?_
        refine ix_lcmp_le (tgt := 195) hx hb (by first | assumption | decide | (constructor <;> omega)) (by first | assumption | decide | (constructor <;> omega)) dX8_machineMore_185 dX8_machineMore_186 (by decide) (fun c_185 => ?_) (fun c_185 => ?_)
        · skip
          refine lv_lload hx hb dX8_machineMore_195 (lv_at hl 3 rfl) ?_
          refine ix_l2i hx hb dX8_machineMore_197 ?_
          have e_68 : kind = 9 := by first | assumption | omega | (constructor <;> omega)
          have e_69 : ¬ noX v := by first | assumption | omega | (constructor <;> omega)
          have e_70 : w = clX w := by unfold clX; first | (rw [if_pos (by omega)]; done) | (rw [if_neg (by omega), if_pos (by omega)]; done) | (rw [if_neg (by omega), if_neg (by omega), if_pos (by omega)]; done) | (rw [if_neg (by omega), if_neg (by omega), if_neg (by omega), if_pos (by omega)]; done) | (rw [if_neg (by omega), if_neg (by omega), if_neg (by omega), if_neg (by omega)]; done) | (rw [if_neg (by omega), if_neg (by omega), if_neg (by omega)]; done) | (rw [if_neg (by omega), if_neg (by omega)]; done) | (rw [if_neg (by omega)]; done)
          have e_71 : -3000 ≤ w ∧ w ≤ 3000 := by first | assumption | omega | (constructor <;> omega)
          exact cut_198 w e_68 e_69 e_70 e_71 _ _ hP hD hS ls (lv_sub hl [0, 1, 2, 3] rfl)
        · skip
          refine lv_sipush (v := I3 (3000)) hx hb dX8_machineMore_189 (by decide) ?_
          refine lv_goto (tgt := 198) hx hb dX8_machineMore_192 (by decide) ?_
          have e_72 : kind = 9 := by first | assumption | omega | (constructor <;> omega)
          have e_73 : ¬ noX v := by first | assumption | omega | (constructor <;> omega)
          have e_74 : (3000 : Int) = clX w := by unfold clX; first | (rw [if_pos (by omega)]; done) | (rw [if_neg (by omega), if_pos (by omega)]; done) | (rw [if_neg (by omega), if_neg (by omega), if_pos (by omega)]; done) | (rw [if_neg (by omega), if_neg (by omega), if_neg (by omega), if_pos (by omega)]; done) | (rw [if_neg (by omega), if_neg (by omega), if_neg (by omega), if_neg (by omega)]; done) | (rw [if_neg (by omega), if_neg (by omega), if_neg (by omega)]; done) | (rw [if_neg (by omega), if_neg (by omega)]; done) | (rw [if_neg (by omega)]; done)
          have e_75 : -3000 ≤ (3000 : Int) ∧ (3000 : Int) ≤ 3000 := by first | assumption | omega | (constructor <;> omega)
          exact cut_198 3000 e_72 e_73 e_74 e_75 _ _ hP hD hS ls (lv_sub hl [0, 1, 2, 3] rfl)
      · skip
        refine lv_sipush (v := I3 (-3000)) hx hb dX8_machineMore_174 (by decide) ?_
        refine lv_goto (tgt := 198) hx hb dX8_machineMore_177 (by decide) ?_
        have e_76 : kind = 9 := by first | assumption | omega | (constructor <;> omega)
        have e_77 : ¬ noX v := by first | assumption | omega | (constructor <;> omega)
        have e_78 : (-3000 : Int) = clX w := by unfold clX; first | (rw [if_pos (by omega)]; done) | (rw [if_neg (by omega), if_pos (by omega)]; done) | (rw [if_neg (by omega), if_neg (by omega), if_pos (by omega)]; done) | (rw [if_neg (by omega), if_neg (by omega), if_neg (by omega), if_pos (by omega)]; done) | (rw [if_neg (by omega), if_neg (by omega), if_neg (by omega), if_neg (by omega)]; done) | (rw [if_neg (by omega), if_neg (by omega), if_neg (by omega)]; done) | (rw [if_neg (by omega), if_neg (by omega)]; done) | (rw [if_neg (by omega)]; done)
        have e_79 : -3000 ≤ (-3000 : Int) ∧ (-3000 : Int) ≤ 3000 := by first | assumption | omega | (constructor <;> omega)
        exact cut_198 (-3000) e_76 e_77 e_78 e_79 _ _ hP hD hS ls (lv_sub hl [0, 1, 2, 3] rfl)
    · skip
      refine lv_ldc2 hx hb hown (hts _ q1167) dX8_machineMore_161 ?_
      refine ix_vl (x := (9221120237041090560)) (by decide) ?_
      have o_80 : Dg wf := by first | assumption | omega | (constructor <;> omega)
      have o_81 : mmX kind v w (9221120237041090560 : Int) := by exact ⟨fun q => by exfalso; omega, fun q => by exfalso; omega, fun q => by exfalso; omega, fun _ => ⟨fun _ => rfl, fun q => by exfalso; omega, fun q => by exfalso; omega⟩, fun q => by exfalso; omega⟩
      exact W.lret (v := L6 9221120237041090560) hx hb hr (fun t ht hW => ⟨⟨L6 9221120237041090560, (9221120237041090560, wf, wd, lp, mp), rfl, ⟨rfl, ⟨o_80, o_81⟩⟩, by rw [ht]; exact hP, va_K.moved hW.alike hK, hD⟩, hS.F ht⟩) hS.2.2 dX8_machineMore_164
  refine ix_tabO hx hb (by first | assumption | decide | (constructor <;> omega)) (by omega) (tgt := 234) (by decide) dX8_machineMore_1 ?_
  have e_82 : kind = 10 := by first | assumption | omega | (constructor <;> omega)
  exact cut_234  e_82 _ _ hP hD hS ls (lv_sub hl [0, 1, 2, 3] rfl)
