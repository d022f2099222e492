/-! the model: the greatest divisor of two rows -/
set_option maxRecDepth 100000
abbrev BmetX8_greatest (dC : Nat → ClassId) (dI : Nat → Nat → Nat) (dA : Nat → ClassId) (A : Nat → Prop) (am : Nat) (as_ : Nat) (av : Nat) (aw : Nat) (th : Int) (mn : Int) (sm : Int) (wd : Int) (lp : Int) (mp : Int) (re : Int) (SG : Int → Int) (VL : Int → Int) (wf : Int → Int) (a : Int) (b : Int) : (Int → Int) → State → Prop := fun u t => (fun (u : (Int → Int)) => (fun (W1 : Int → Int) => va_P (dC, dI) vwCl [(am, .inr (0, [.int (I3 th), .int (I3 mn), .ref as_, .ref av, .ref aw, .int (I3 sm), .int (I3 wd), .int (I3 lp), .int (I3 mp), .int (I3 re)])), (as_, .inl (dA 0, 60, .inl (iA SG))), (av, .inl (dA 1, 960, .inr (.inl (lA VL)))), (aw, .inl (dA 1, 1024, .inr (.inl (lA W1))))] t.heap ∧ va_K (dC, dI) vwCl (tyA dA) t ∧ va_D A [(am, .inr (0, [.int (I3 th), .int (I3 mn), .ref as_, .ref av, .ref aw, .int (I3 sm), .int (I3 wd), .int (I3 lp), .int (I3 mp), .int (I3 re)])), (as_, .inl (dA 0, 60, .inl (iA SG))), (av, .inl (dA 1, 960, .inr (.inl (lA VL)))), (aw, .inl (dA 1, 1024, .inr (.inl (lA W1))))]) u) u
abbrev QmetX8_greatest (dC : Nat → ClassId) (dI : Nat → Nat → Nat) (dA : Nat → ClassId) (A : Nat → Prop) (am : Nat) (as_ : Nat) (av : Nat) (aw : Nat) (th : Int) (mn : Int) (sm : Int) (wd : Int) (lp : Int) (mp : Int) (re : Int) (SG : Int → Int) (VL : Int → Int) (wf : Int → Int) (a : Int) (b : Int) := va_Qv (fun (u : (Int → Int)) => (fun (W1 : Int → Int) => (Dg W1) ∧ (Fr2 wf W1 14 15) ∧ (rv W1 14 = Nat.gcd (rv wf a) (rv wf b))) u) (BmetX8_greatest dC dI dA A am as_ av aw th mn sm wd lp mp re SG VL wf a b) A
set_option maxHeartbeats 1000000 in
set_option maxRecDepth 100000 in
/-- row 14 becomes the greatest divisor of rows a and b -/
theorem metX8_greatest (l : Launch) (dC : Nat → ClassId) (dI : Nat → Nat → Nat) (dA : Nat → ClassId) (am : Nat) (as_ : Nat) (av : Nat) (aw : Nat) (sz : Nat) (th : Int) (mn : Int) (sm : Int) (wd : Int) (lp : Int) (mp : Int) (re : Int) (SG : Int → Int) (VL : Int → Int) (wf : Int → Int) (a : Int) (b : Int) (ha : 0 ≤ a ∧ a < 16) (hb_ : 0 ≤ b ∧ b < 16) (ha4 : a ≠ 14 ∧ a ≠ 15) (hb4 : b ≠ 14 ∧ b ≠ 15) (hW : Dg wf) : Met l yX8_greatest (ws_ yX8_greatest cX8_greatest 4 none) ({ frames := 2, cells := 0, slots := 0, locals := 80 }) (va_Pc [.ref am, .int (I3 a), .int (I3 b)] (fun U => U.heap.size = sz ∧ va_P (dC, dI) vwCl [(am, .inr (0, [.int (I3 th), .int (I3 mn), .ref as_, .ref av, .ref aw, .int (I3 sm), .int (I3 wd), .int (I3 lp), .int (I3 mp), .int (I3 re)])), (as_, .inl (dA 0, 60, .inl (iA SG))), (av, .inl (dA 1, 960, .inr (.inl (lA VL)))), (aw, .inl (dA 1, 1024, .inr (.inl (lA wf))))] U.heap ∧ va_K (dC, dI) vwCl (tyA dA) U ∧ va_D (fun _ => True) [(am, .inr (0, [.int (I3 th), .int (I3 mn), .ref as_, .ref av, .ref aw, .int (I3 sm), .int (I3 wd), .int (I3 lp), .int (I3 mp), .int (I3 re)])), (as_, .inl (dA 0, 60, .inl (iA SG))), (av, .inl (dA 1, 960, .inr (.inl (lA VL)))), (aw, .inl (dA 1, 1024, .inr (.inl (lA wf))))])) (QmetX8_greatest dC dI dA (va_A [(am, .inr (0, [.int (I3 th), .int (I3 mn), .ref as_, .ref av, .ref aw, .int (I3 sm), .int (I3 wd), .int (I3 lp), .int (I3 mp), .int (I3 re)])), (as_, .inl (dA 0, 60, .inl (iA SG))), (av, .inl (dA 1, 960, .inr (.inl (lA VL)))), (aw, .inl (dA 1, 1024, .inr (.inl (lA wf))))] sz) am as_ av aw th mn sm wd lp mp re SG VL wf a b) 0 0 (va_A [(am, .inr (0, [.int (I3 th), .int (I3 mn), .ref as_, .ref av, .ref aw, .int (I3 sm), .int (I3 wd), .int (I3 lp), .int (I3 mp), .int (I3 re)])), (as_, .inl (dA 0, 60, .inl (iA SG))), (av, .inl (dA 1, 960, .inr (.inl (lA VL)))), (aw, .inl (dA 1, 1024, .inr (.inl (lA wf))))] sz) := by
  refine Met.ofW (cc := cX8_greatest) (maxL := 4) (ret := none) (by decide) rfl ?_
  intro p e s m args below meth c s₁ B hml hv
  obtain ⟨rfl, hsz, hP, hK, hD0⟩ := hv
  have hx := B.exec
  have hb := B.bytes
  have hr := B.returns
  have hts := atoms_spec (ws := (ws_ yX8_greatest cX8_greatest 4 none)) B.pre
  have hts : ∀ w ∈ lw_all, w.before _ s = true := fun w h => hts w (List.mem_cons_of_mem _ h)
  have hown : s.vm.findClass RX8 = some m.cls := findClass_of_methodNamed B.named
  have hlocks := B.notSynchronized
  subst hsz
  have hD := hD0.self (sz := s.heap.size)
  generalize hAe : va_A [(am, .inr (0, [.int (I3 th), .int (I3 mn), .ref as_, .ref av, .ref aw, .int (I3 sm), .int (I3 wd), .int (I3 lp), .int (I3 mp), .int (I3 re)])), (as_, .inl (dA 0, 60, .inl (iA SG))), (av, .inl (dA 1, 960, .inr (.inl (lA VL)))), (aw, .inl (dA 1, 1024, .inr (.inl (lA wf))))] s.heap.size = A at hD ⊢
  have hA : ∀ q : Nat, s.heap.size ≤ q → A q := fun q h => by rw [← hAe]; exact Or.inr h
  have hS : va_S A s.heap s.heap [] := va_S.rf
  have hP : va_P (dC, dI) vwCl [(am, .inr (0, [.int (I3 th), .int (I3 mn), .ref as_, .ref av, .ref aw, .int (I3 sm), .int (I3 wd), .int (I3 lp), .int (I3 mp), .int (I3 re)])), (as_, .inl (dA 0, 60, .inl (iA SG))), (av, .inl (dA 1, 960, .inr (.inl (lA VL)))), (aw, .inl (dA 1, 1024, .inr (.inl (lA wf))))] s.heap := hP
  have hl := lv_entry ([.ref am, .int (I3 a), .int (I3 b)]) (n := 4) (Nat.le_of_ble_eq_true rfl)
  rw [lg_entry_eq]
  generalize (lg_sl ([.ref am, .int (I3 a), .int (I3 b)]) ++ List.replicate (4 - (lg_sl ([.ref am, .int (I3 a), .int (I3 b)])).length) Slot.unset).toArray = ls at hl ⊢
  have hl : lv_has ls 4 [(0, .ref am), (1, .int (I3 a)), (2, .int (I3 b))] := hl
  have cut_88 : ∀ (fuel_88 : Nat), ∀ (tw : Int) (W1 : Int → Int), (0 ≤ tw ∧ tw < 2048) → (Dg W1) → (Fr2 wf W1 14 15) → (rv W1 14 ≠ 0) → (Nat.gcd (rv W1 14) (rv W1 15) % 2 = 1) → (Nat.gcd (rv W1 14) (rv W1 15) * 2 ^ tw.toNat = Nat.gcd (rv wf a) (rv wf b)) → (Nat.gcd (rv wf a) (rv wf b) < BN) → (rv W1 14 + rv W1 15 < fuel_88) → ∀ (H : Heap) (locs : List Loc), va_P (dC, dI) vwCl [(am, .inr (0, [.int (I3 th), .int (I3 mn), .ref as_, .ref av, .ref aw, .int (I3 sm), .int (I3 wd), .int (I3 lp), .int (I3 mp), .int (I3 re)])), (as_, .inl (dA 0, 60, .inl (iA SG))), (av, .inl (dA 1, 960, .inr (.inl (lA VL)))), (aw, .inl (dA 1, 1024, .inr (.inl (lA W1))))] H → va_D A [(am, .inr (0, [.int (I3 th), .int (I3 mn), .ref as_, .ref av, .ref aw, .int (I3 sm), .int (I3 wd), .int (I3 lp), .int (I3 mp), .int (I3 re)])), (as_, .inl (dA 0, 60, .inl (iA SG))), (av, .inl (dA 1, 960, .inr (.inl (lA VL)))), (aw, .inl (dA 1, 1024, .inr (.inl (lA W1))))] → va_S A s.heap H locs → ∀ (ls : Array Slot), lv_has ls 4 [(0, .ref am), (1, .int (I3 a)), (2, .int (I3 b)), (3, .int (I3 tw))] → W p l e (headSpec (ws_ yX8_greatest cX8_greatest 4 none) ({ frames := 2, cells := 0, slots := 0, locals := 80 })).room s m ([.ref am, .int (I3 a), .int (I3 b)] : List Value).toArray below meth c H locs 0 0 (MQ below (QmetX8_greatest dC dI dA A am as_ av aw th mn sm wd lp mp re SG VL wf a b) ([.ref am, .int (I3 a), .int (I3 b)] : List Value).toArray s 0 0 A) (F0 m 88 ls []) := by
    intro fuel_88
    induction fuel_88 with
    | zero =>
      intro tw W1 htw hW1 hF hne hodd hg hG hm
      exact absurd hm (Nat.not_lt_zero _)
    | succ fuel_88 ih_88 =>
      intro tw W1 htw hW1 hF hne hodd hg hG hm_88 H locs hP hD hS ls hl
      have cut_115 : ∀ (fuel_115 : Nat), ∀ (W3 : Int → Int), (Dg W3) → (Fr2 wf W3 14 15) → (rv W3 14 ≠ 0) → (rv W3 15 ≠ 0) → (Nat.gcd (rv W3 14) (rv W3 15) = Nat.gcd (rv W1 14) (rv W1 15)) → (rv W3 14 + rv W3 15 ≤ rv W1 14 + rv W1 15) → (rv W3 15 < fuel_115) → ∀ (H : Heap) (locs : List Loc), va_P (dC, dI) vwCl [(am, .inr (0, [.int (I3 th), .int (I3 mn), .ref as_, .ref av, .ref aw, .int (I3 sm), .int (I3 wd), .int (I3 lp), .int (I3 mp), .int (I3 re)])), (as_, .inl (dA 0, 60, .inl (iA SG))), (av, .inl (dA 1, 960, .inr (.inl (lA VL)))), (aw, .inl (dA 1, 1024, .inr (.inl (lA W3))))] H → va_D A [(am, .inr (0, [.int (I3 th), .int (I3 mn), .ref as_, .ref av, .ref aw, .int (I3 sm), .int (I3 wd), .int (I3 lp), .int (I3 mp), .int (I3 re)])), (as_, .inl (dA 0, 60, .inl (iA SG))), (av, .inl (dA 1, 960, .inr (.inl (lA VL)))), (aw, .inl (dA 1, 1024, .inr (.inl (lA W3))))] → va_S A s.heap H locs → ∀ (ls : Array Slot), lv_has ls 4 [(0, .ref am), (1, .int (I3 a)), (2, .int (I3 b)), (3, .int (I3 tw))] → W p l e (headSpec (ws_ yX8_greatest cX8_greatest 4 none) ({ frames := 2, cells := 0, slots := 0, locals := 80 })).room s m ([.ref am, .int (I3 a), .int (I3 b)] : List Value).toArray below meth c H locs 0 0 (MQ below (QmetX8_greatest dC dI dA A am as_ av aw th mn sm wd lp mp re SG VL wf a b) ([.ref am, .int (I3 a), .int (I3 b)] : List Value).toArray s 0 0 A) (F0 m 115 ls []) := by
        intro fuel_115
        induction fuel_115 with
        | zero =>
          intro W3 hW3 hF3 hn14 hn15 hg3 hle3 hm
          exact absurd hm (Nat.not_lt_zero _)
        | succ fuel_115 ih_115 =>
          intro W3 hW3 hF3 hn14 hn15 hg3 hle3 hm_115 H locs hP hD hS ls hl
          refine lv_aload_n hx hb dX8_greatest_115 rfl (lv_at hl 0 rfl) ?_
          refine lv_bipush (v := I3 (15)) hx hb dX8_greatest_116 (by decide) ?_
          have h_1 : 0 ≤ (15 : Int) ∧ (15 : Int) < 16 := by first | assumption | omega | (constructor <;> omega)
          have h_2 : Dg W3 := by first | assumption | omega | (constructor <;> omega)
          have hPc := hP.sub (ws' := [(am, .inr (0, [.int (I3 th), .int (I3 mn), .ref as_, .ref av, .ref aw, .int (I3 sm), .int (I3 wd), .int (I3 lp), .int (I3 mp), .int (I3 re)])), (as_, .inl (dA 0, 60, .inl (iA SG))), (av, .inl (dA 1, 960, .inr (.inl (lA VL)))), (aw, .inl (dA 1, 1024, .inr (.inl (lA W3))))]) [0, 1, 2, 3] rfl
          have hDc := hD.sub (ws' := [(am, .inr (0, [.int (I3 th), .int (I3 mn), .ref as_, .ref av, .ref aw, .int (I3 sm), .int (I3 wd), .int (I3 lp), .int (I3 mp), .int (I3 re)])), (as_, .inl (dA 0, 60, .inl (iA SG))), (av, .inl (dA 1, 960, .inr (.inl (lA VL)))), (aw, .inl (dA 1, 1024, .inr (.inl (lA W3))))]) [0, 1, 2, 3] (by decide) rfl
          have hFc := va_free (wc := [(am, .inr (0, [.int (I3 th), .int (I3 mn), .ref as_, .ref av, .ref aw, .int (I3 sm), .int (I3 wd), .int (I3 lp), .int (I3 mp), .int (I3 re)])), (as_, .inl (dA 0, 60, .inl (iA SG))), (av, .inl (dA 1, 960, .inr (.inl (lA VL)))), (aw, .inl (dA 1, 1024, .inr (.inl (lA W3))))]) hD hS hA [0, 1, 2, 3] rfl
          refine va_calli (va_runV (As := [.int (I3 15)]) (rest := []) ⟨hx, hb, hml, hown, hts⟩ (metX8_isEven l dC dI dA am as_ av aw H.size th mn sm wd lp mp re SG VL W3 15 h_1 h_2) (cwV 1 hts (lw_V q980 q982 qs25 q66 q983) rfl rfl rfl (by decide +kernel) ⟨Nat.le_of_ble_eq_true rfl, Nat.le_of_ble_eq_true rfl⟩) ⟨fun a U g mk q => by obtain ⟨q0, q1, qP, qK, qD⟩ := q; exact ⟨q0, q1, qP, va_K.moved (u := U) (U := U.calling g mk a) (Vm.Alike.refl U.vm) qK, qD⟩, va_recv hK hPc (ci := 0) (q0 := 0) rfl rfl, fun U hU hW => ⟨rfl, by rw [hU], by rw [hU]; exact hPc, va_K.moved hW.alike hK, hDc.weaken (fun _ _ _ _ => trivial)⟩⟩ rfl rfl hl.1 rfl (lv_room (Nat.le_of_ble_eq_true rfl)) dX8_greatest_118 ⟨Nat.le_of_ble_eq_true rfl, Nat.le_of_ble_eq_true rfl⟩) hS (fun q _ h => hFc q h) hFc (fun r_118 u t H1 locs ht hvm hw hB hz1 hk1 hS => ?_)
          obtain ⟨z_118, rfl⟩ : ∃ z, z = u := ⟨_, rfl⟩
          obtain ⟨rfl, p0_118⟩ : r_118 = I3 z_118 ∧ (z_118 = if rv W3 (15 : Int) % 2 = 0 then 1 else 0) := hw
          obtain ⟨hP1, hK1, hD1⟩ := hB
          rw [ht] at hP1
          obtain ⟨hP, hD⟩ := va_join (wr := []) (w1 := [(am, .inr (0, [.int (I3 th), .int (I3 mn), .ref as_, .ref av, .ref aw, .int (I3 sm), .int (I3 wd), .int (I3 lp), .int (I3 mp), .int (I3 re)])), (as_, .inl (dA 0, 60, .inl (iA SG))), (av, .inl (dA 1, 960, .inr (.inl (lA VL)))), (aw, .inl (dA 1, 1024, .inr (.inl (lA W3))))]) hP hD [0, 1, 2, 3] [] rfl rfl (by decide) (by decide) hk1 hFc hP1 hD1
          generalize H1 = H at hP hS ⊢
          have hP : va_P (dC, dI) vwCl [(am, .inr (0, [.int (I3 th), .int (I3 mn), .ref as_, .ref av, .ref aw, .int (I3 sm), .int (I3 wd), .int (I3 lp), .int (I3 mp), .int (I3 re)])), (as_, .inl (dA 0, 60, .inl (iA SG))), (av, .inl (dA 1, 960, .inr (.inl (lA VL)))), (aw, .inl (dA 1, 1024, .inr (.inl (lA W3))))] H := hP
          have hD : va_D A [(am, .inr (0, [.int (I3 th), .int (I3 mn), .ref as_, .ref av, .ref aw, .int (I3 sm), .int (I3 wd), .int (I3 lp), .int (I3 mp), .int (I3 re)])), (as_, .inl (dA 0, 60, .inl (iA SG))), (av, .inl (dA 1, 960, .inr (.inl (lA VL)))), (aw, .inl (dA 1, 1024, .inr (.inl (lA W3))))] := hD
          have y_118 := b01 p0_118
          refine ix_if_eq (tgt := 133) hx hb (by first | decide | assumption | (constructor <;> omega)) dX8_greatest_121 (by decide) (fun c_121 => ?_) (fun c_121 => ?_)
          · skip
            refine lv_aload_n hx hb dX8_greatest_133 rfl (lv_at hl 0 rfl) ?_
            refine lv_bipush (v := I3 (14)) hx hb dX8_greatest_134 (by decide) ?_
            refine lv_bipush (v := I3 (15)) hx hb dX8_greatest_136 (by decide) ?_
            have h_3 : 0 ≤ (14 : Int) ∧ (14 : Int) < 16 := by first | assumption | omega | (constructor <;> omega)
            have h_4 : 0 ≤ (15 : Int) ∧ (15 : Int) < 16 := by first | assumption | omega | (constructor <;> omega)
            have h_5 : Dg W3 := by first | assumption | omega | (constructor <;> omega)
            have hPc := hP.sub (ws' := [(am, .inr (0, [.int (I3 th), .int (I3 mn), .ref as_, .ref av, .ref aw, .int (I3 sm), .int (I3 wd), .int (I3 lp), .int (I3 mp), .int (I3 re)])), (as_, .inl (dA 0, 60, .inl (iA SG))), (av, .inl (dA 1, 960, .inr (.inl (lA VL)))), (aw, .inl (dA 1, 1024, .inr (.inl (lA W3))))]) [0, 1, 2, 3] rfl
            have hDc := hD.sub (ws' := [(am, .inr (0, [.int (I3 th), .int (I3 mn), .ref as_, .ref av, .ref aw, .int (I3 sm), .int (I3 wd), .int (I3 lp), .int (I3 mp), .int (I3 re)])), (as_, .inl (dA 0, 60, .inl (iA SG))), (av, .inl (dA 1, 960, .inr (.inl (lA VL)))), (aw, .inl (dA 1, 1024, .inr (.inl (lA W3))))]) [0, 1, 2, 3] (by decide) rfl
            have hFc := va_free (wc := [(am, .inr (0, [.int (I3 th), .int (I3 mn), .ref as_, .ref av, .ref aw, .int (I3 sm), .int (I3 wd), .int (I3 lp), .int (I3 mp), .int (I3 re)])), (as_, .inl (dA 0, 60, .inl (iA SG))), (av, .inl (dA 1, 960, .inr (.inl (lA VL)))), (aw, .inl (dA 1, 1024, .inr (.inl (lA W3))))]) hD hS hA [0, 1, 2, 3] rfl
            refine va_calli (va_runV (As := [.int (I3 14), .int (I3 15)]) (rest := []) ⟨hx, hb, hml, hown, hts⟩ (metX8_compare l dC dI dA am as_ av aw H.size th mn sm wd lp mp re SG VL W3 14 15 h_3 h_4 h_5) (cwV 2 hts (lw_V q988 q990 qs27 q66 q991) rfl rfl rfl (by decide +kernel) ⟨Nat.le_of_ble_eq_true rfl, Nat.le_of_ble_eq_true rfl⟩) ⟨fun a U g mk q => by obtain ⟨q0, q1, qP, qK, qD⟩ := q; exact ⟨q0, q1, qP, va_K.moved (u := U) (U := U.calling g mk a) (Vm.Alike.refl U.vm) qK, qD⟩, va_recv hK hPc (ci := 0) (q0 := 0) rfl rfl, fun U hU hW => ⟨rfl, by rw [hU], by rw [hU]; exact hPc, va_K.moved hW.alike hK, hDc.weaken (fun _ _ _ _ => trivial)⟩⟩ rfl rfl hl.1 rfl (lv_room (Nat.le_of_ble_eq_true rfl)) dX8_greatest_138 ⟨Nat.le_of_ble_eq_true rfl, Nat.le_of_ble_eq_true rfl⟩) hS (fun q _ h => hFc q h) hFc (fun r_138 u t H1 locs ht hvm hw hB hz1 hk1 hS => ?_)
            obtain ⟨z_138, rfl⟩ : ∃ z, z = u := ⟨_, rfl⟩
            obtain ⟨rfl, p0_138⟩ : r_138 = I3 z_138 ∧ (z_138 = cmpN (rv W3 (14 : Int)) (rv W3 (15 : Int))) := hw
            obtain ⟨hP1, hK1, hD1⟩ := hB
            rw [ht] at hP1
            obtain ⟨hP, hD⟩ := va_join (wr := []) (w1 := [(am, .inr (0, [.int (I3 th), .int (I3 mn), .ref as_, .ref av, .ref aw, .int (I3 sm), .int (I3 wd), .int (I3 lp), .int (I3 mp), .int (I3 re)])), (as_, .inl (dA 0, 60, .inl (iA SG))), (av, .inl (dA 1, 960, .inr (.inl (lA VL)))), (aw, .inl (dA 1, 1024, .inr (.inl (lA W3))))]) hP hD [0, 1, 2, 3] [] rfl rfl (by decide) (by decide) hk1 hFc hP1 hD1
            generalize H1 = H at hP hS ⊢
            have hP : va_P (dC, dI) vwCl [(am, .inr (0, [.int (I3 th), .int (I3 mn), .ref as_, .ref av, .ref aw, .int (I3 sm), .int (I3 wd), .int (I3 lp), .int (I3 mp), .int (I3 re)])), (as_, .inl (dA 0, 60, .inl (iA SG))), (av, .inl (dA 1, 960, .inr (.inl (lA VL)))), (aw, .inl (dA 1, 1024, .inr (.inl (lA W3))))] H := hP
            have hD : va_D A [(am, .inr (0, [.int (I3 th), .int (I3 mn), .ref as_, .ref av, .ref aw, .int (I3 sm), .int (I3 wd), .int (I3 lp), .int (I3 mp), .int (I3 re)])), (as_, .inl (dA 0, 60, .inl (iA SG))), (av, .inl (dA 1, 960, .inr (.inl (lA VL)))), (aw, .inl (dA 1, 1024, .inr (.inl (lA W3))))] := hD
            refine ix_if_le (tgt := 152) hx hb (by have q := cmpN3 p0_138; constructor <;> omega) dX8_greatest_141 (by decide) (fun c_141 => ?_) (fun c_141 => ?_)
            · skip
              refine lv_aload_n hx hb dX8_greatest_152 rfl (lv_at hl 0 rfl) ?_
              refine lv_bipush (v := I3 (15)) hx hb dX8_greatest_153 (by decide) ?_
              refine lv_bipush (v := I3 (14)) hx hb dX8_greatest_155 (by decide) ?_
              have h_6 : 0 ≤ (15 : Int) ∧ (15 : Int) < 16 := by first | assumption | omega | (constructor <;> omega)
              have h_7 : 0 ≤ (14 : Int) ∧ (14 : Int) < 16 := by first | assumption | omega | (constructor <;> omega)
              have h_8 : (15 : Int) ≠ (14 : Int) := by first | assumption | omega | (constructor <;> omega)
              have h_9 : rv W3 (14 : Int) ≤ rv W3 (15 : Int) := by first | (have q := cmpN3 p0_138; rw [p2_149, p3_149]; omega) | (have q := cmpN3 p0_138; omega)
              have h_10 : Dg W3 := by first | assumption | omega | (constructor <;> omega)
              have hPc := hP.sub (ws' := [(am, .inr (0, [.int (I3 th), .int (I3 mn), .ref as_, .ref av, .ref aw, .int (I3 sm), .int (I3 wd), .int (I3 lp), .int (I3 mp), .int (I3 re)])), (as_, .inl (dA 0, 60, .inl (iA SG))), (av, .inl (dA 1, 960, .inr (.inl (lA VL)))), (aw, .inl (dA 1, 1024, .inr (.inl (lA W3))))]) [0, 1, 2, 3] rfl
              have hDc := hD.sub (ws' := [(am, .inr (0, [.int (I3 th), .int (I3 mn), .ref as_, .ref av, .ref aw, .int (I3 sm), .int (I3 wd), .int (I3 lp), .int (I3 mp), .int (I3 re)])), (as_, .inl (dA 0, 60, .inl (iA SG))), (av, .inl (dA 1, 960, .inr (.inl (lA VL)))), (aw, .inl (dA 1, 1024, .inr (.inl (lA W3))))]) [0, 1, 2, 3] (by decide) rfl
              have hFc := va_free (wc := [(am, .inr (0, [.int (I3 th), .int (I3 mn), .ref as_, .ref av, .ref aw, .int (I3 sm), .int (I3 wd), .int (I3 lp), .int (I3 mp), .int (I3 re)])), (as_, .inl (dA 0, 60, .inl (iA SG))), (av, .inl (dA 1, 960, .inr (.inl (lA VL)))), (aw, .inl (dA 1, 1024, .inr (.inl (lA W3))))]) hD hS hA [0, 1, 2, 3] rfl
              refine va_callv (va_runV (As := [.int (I3 15), .int (I3 14)]) (rest := []) ⟨hx, hb, hml, hown, hts⟩ (metX8_take l dC dI dA am as_ av aw H.size th mn sm wd lp mp re SG VL W3 15 14 h_6 h_7 h_8 h_9 h_10) (cwV 2 hts (lw_V q996 q998 qs29 q66 q999) rfl rfl rfl (by decide +kernel) ⟨Nat.le_of_ble_eq_true rfl, Nat.le_of_ble_eq_true rfl⟩) ⟨fun a U g mk q => by obtain ⟨q0, q1, qP, qK, qD⟩ := q; exact ⟨q0, q1, qP, va_K.moved (u := U) (U := U.calling g mk a) (Vm.Alike.refl U.vm) qK, qD⟩, va_recv hK hPc (ci := 0) (q0 := 0) rfl rfl, fun U hU hW => ⟨rfl, by rw [hU], by rw [hU]; exact hPc, va_K.moved hW.alike hK, hDc.weaken (fun _ _ _ _ => trivial)⟩⟩ rfl rfl hl.1 rfl (lv_room (Nat.le_of_ble_eq_true rfl)) dX8_greatest_157 ⟨Nat.le_of_ble_eq_true rfl, Nat.le_of_ble_eq_true rfl⟩) hS (fun q _ h => hFc q h) hFc (fun u t H1 locs ht hvm hw hB hz1 hk1 hS => ?_)
              obtain ⟨W1_157, rfl⟩ : ∃ z, z = u := ⟨_, rfl⟩
              obtain ⟨p0_157, p1_157, p2_157⟩ : (Dg W1_157) ∧ (Fr W3 W1_157 (15 : Int)) ∧ (rv W1_157 (15 : Int) = rv W3 (15 : Int) - rv W3 (14 : Int)) := hw
              obtain ⟨hP1, hK1, hD1⟩ := hB
              rw [ht] at hP1
              obtain ⟨hP, hD⟩ := va_join (wr := []) (w1 := [(am, .inr (0, [.int (I3 th), .int (I3 mn), .ref as_, .ref av, .ref aw, .int (I3 sm), .int (I3 wd), .int (I3 lp), .int (I3 mp), .int (I3 re)])), (as_, .inl (dA 0, 60, .inl (iA SG))), (av, .inl (dA 1, 960, .inr (.inl (lA VL)))), (aw, .inl (dA 1, 1024, .inr (.inl (lA W1_157))))]) hP hD [0, 1, 2, 3] [] rfl rfl (by decide) (by decide) hk1 hFc hP1 hD1
              generalize H1 = H at hP hS ⊢
              have hP : va_P (dC, dI) vwCl [(am, .inr (0, [.int (I3 th), .int (I3 mn), .ref as_, .ref av, .ref aw, .int (I3 sm), .int (I3 wd), .int (I3 lp), .int (I3 mp), .int (I3 re)])), (as_, .inl (dA 0, 60, .inl (iA SG))), (av, .inl (dA 1, 960, .inr (.inl (lA VL)))), (aw, .inl (dA 1, 1024, .inr (.inl (lA W1_157))))] H := hP
              have hD : va_D A [(am, .inr (0, [.int (I3 th), .int (I3 mn), .ref as_, .ref av, .ref aw, .int (I3 sm), .int (I3 wd), .int (I3 lp), .int (I3 mp), .int (I3 re)])), (as_, .inl (dA 0, 60, .inl (iA SG))), (av, .inl (dA 1, 960, .inr (.inl (lA VL)))), (aw, .inl (dA 1, 1024, .inr (.inl (lA W1_157))))] := hD
              refine lv_goto (tgt := 88) hx hb dX8_greatest_160 (by decide) ?_
              have q3 := cmpN3 p0_138
              have e5 : rv W1_157 14 = rv W3 14 := Fr_rv p1_157 (by decide)
              have e_11 : 0 ≤ tw ∧ tw < 2048 := by first | exact htw | exact tw_gt htw hne hg hG
              have e_12 : Dg W1_157 := by first | assumption | omega | (constructor <;> omega)
              have e_13 : Fr2 wf W1_157 14 15 := by exact Fr2_2 hF3 p1_157
              have e_14 : rv W1_157 14 ≠ 0 := by rw [e5]; exact hn14
              have e_15 : Nat.gcd (rv W1_157 14) (rv W1_157 15) % 2 = 1 := by rw [e5, p2_157, Nat.gcd_sub_self_right (by omega), hg3]; exact hodd
              have e_16 : Nat.gcd (rv W1_157 14) (rv W1_157 15) * 2 ^ tw.toNat = Nat.gcd (rv wf a) (rv wf b) := by rw [e5, p2_157, Nat.gcd_sub_self_right (by omega), hg3]; exact hg
              have e_17 : Nat.gcd (rv wf a) (rv wf b) < BN := by first | assumption | omega | (constructor <;> omega)
              have e_18 : rv W1_157 14 + rv W1_157 15 < fuel_88 := by omega
              exact ih_88 tw W1_157 e_11 e_12 e_13 e_14 e_15 e_16 e_17 e_18 _ _ hP hD hS ls (lv_sub hl [0, 1, 2, 3] rfl)
            · skip
              refine lv_aload_n hx hb dX8_greatest_144 rfl (lv_at hl 0 rfl) ?_
              refine lv_bipush (v := I3 (14)) hx hb dX8_greatest_145 (by decide) ?_
              refine lv_bipush (v := I3 (15)) hx hb dX8_greatest_147 (by decide) ?_
              have h_19 : 0 ≤ (14 : Int) ∧ (14 : Int) < 16 := by first | assumption | omega | (constructor <;> omega)
              have h_20 : 0 ≤ (15 : Int) ∧ (15 : Int) < 16 := by first | assumption | omega | (constructor <;> omega)
              have h_21 : (14 : Int) ≠ (15 : Int) := by first | assumption | omega | (constructor <;> omega)
              have h_22 : Dg W3 := by first | assumption | omega | (constructor <;> omega)
              have hPc := hP.sub (ws' := [(am, .inr (0, [.int (I3 th), .int (I3 mn), .ref as_, .ref av, .ref aw, .int (I3 sm), .int (I3 wd), .int (I3 lp), .int (I3 mp), .int (I3 re)])), (as_, .inl (dA 0, 60, .inl (iA SG))), (av, .inl (dA 1, 960, .inr (.inl (lA VL)))), (aw, .inl (dA 1, 1024, .inr (.inl (lA W3))))]) [0, 1, 2, 3] rfl
              have hDc := hD.sub (ws' := [(am, .inr (0, [.int (I3 th), .int (I3 mn), .ref as_, .ref av, .ref aw, .int (I3 sm), .int (I3 wd), .int (I3 lp), .int (I3 mp), .int (I3 re)])), (as_, .inl (dA 0, 60, .inl (iA SG))), (av, .inl (dA 1, 960, .inr (.inl (lA VL)))), (aw, .inl (dA 1, 1024, .inr (.inl (lA W3))))]) [0, 1, 2, 3] (by decide) rfl
              have hFc := va_free (wc := [(am, .inr (0, [.int (I3 th), .int (I3 mn), .ref as_, .ref av, .ref aw, .int (I3 sm), .int (I3 wd), .int (I3 lp), .int (I3 mp), .int (I3 re)])), (as_, .inl (dA 0, 60, .inl (iA SG))), (av, .inl (dA 1, 960, .inr (.inl (lA VL)))), (aw, .inl (dA 1, 1024, .inr (.inl (lA W3))))]) hD hS hA [0, 1, 2, 3] rfl
              refine va_callv (va_runV (As := [.int (I3 14), .int (I3 15)]) (rest := []) ⟨hx, hb, hml, hown, hts⟩ (metX8_swap l dC dI dA am as_ av aw H.size th mn sm wd lp mp re SG VL W3 14 15 h_19 h_20 h_21 h_22) (cwV 2 hts (lw_V q992 q994 qs28 q66 q995) rfl rfl rfl (by decide +kernel) ⟨Nat.le_of_ble_eq_true rfl, Nat.le_of_ble_eq_true rfl⟩) ⟨fun a U g mk q => by obtain ⟨q0, q1, qP, qK, qD⟩ := q; exact ⟨q0, q1, qP, va_K.moved (u := U) (U := U.calling g mk a) (Vm.Alike.refl U.vm) qK, qD⟩, va_recv hK hPc (ci := 0) (q0 := 0) rfl rfl, fun U hU hW => ⟨rfl, by rw [hU], by rw [hU]; exact hPc, va_K.moved hW.alike hK, hDc.weaken (fun _ _ _ _ => trivial)⟩⟩ rfl rfl hl.1 rfl (lv_room (Nat.le_of_ble_eq_true rfl)) dX8_greatest_149 ⟨Nat.le_of_ble_eq_true rfl, Nat.le_of_ble_eq_true rfl⟩) hS (fun q _ h => hFc q h) hFc (fun u t H1 locs ht hvm hw hB hz1 hk1 hS => ?_)
              obtain ⟨W1_149, rfl⟩ : ∃ z, z = u := ⟨_, rfl⟩
              obtain ⟨p0_149, p1_149, p2_149, p3_149⟩ : (Dg W1_149) ∧ (∀ i : Int, ¬ (64 * (14 : Int) ≤ i ∧ i < 64 * (14 : Int) + 64) → ¬ (64 * (15 : Int) ≤ i ∧ i < 64 * (15 : Int) + 64) → W1_149 i = W3 i) ∧ (rv W1_149 (14 : Int) = rv W3 (15 : Int)) ∧ (rv W1_149 (15 : Int) = rv W3 (14 : Int)) := hw
              obtain ⟨hP1, hK1, hD1⟩ := hB
              rw [ht] at hP1
              obtain ⟨hP, hD⟩ := va_join (wr := []) (w1 := [(am, .inr (0, [.int (I3 th), .int (I3 mn), .ref as_, .ref av, .ref aw, .int (I3 sm), .int (I3 wd), .int (I3 lp), .int (I3 mp), .int (I3 re)])), (as_, .inl (dA 0, 60, .inl (iA SG))), (av, .inl (dA 1, 960, .inr (.inl (lA VL)))), (aw, .inl (dA 1, 1024, .inr (.inl (lA W1_149))))]) hP hD [0, 1, 2, 3] [] rfl rfl (by decide) (by decide) hk1 hFc hP1 hD1
              generalize H1 = H at hP hS ⊢
              have hP : va_P (dC, dI) vwCl [(am, .inr (0, [.int (I3 th), .int (I3 mn), .ref as_, .ref av, .ref aw, .int (I3 sm), .int (I3 wd), .int (I3 lp), .int (I3 mp), .int (I3 re)])), (as_, .inl (dA 0, 60, .inl (iA SG))), (av, .inl (dA 1, 960, .inr (.inl (lA VL)))), (aw, .inl (dA 1, 1024, .inr (.inl (lA W1_149))))] H := hP
              have hD : va_D A [(am, .inr (0, [.int (I3 th), .int (I3 mn), .ref as_, .ref av, .ref aw, .int (I3 sm), .int (I3 wd), .int (I3 lp), .int (I3 mp), .int (I3 re)])), (as_, .inl (dA 0, 60, .inl (iA SG))), (av, .inl (dA 1, 960, .inr (.inl (lA VL)))), (aw, .inl (dA 1, 1024, .inr (.inl (lA W1_149))))] := hD
              refine lv_aload_n hx hb dX8_greatest_152 rfl (lv_at hl 0 rfl) ?_
              refine lv_bipush (v := I3 (15)) hx hb dX8_greatest_153 (by decide) ?_
              refine lv_bipush (v := I3 (14)) hx hb dX8_greatest_155 (by decide) ?_
              have h_23 : 0 ≤ (15 : Int) ∧ (15 : Int) < 16 := by first | assumption | omega | (constructor <;> omega)
              have h_24 : 0 ≤ (14 : Int) ∧ (14 : Int) < 16 := by first | assumption | omega | (constructor <;> omega)
              have h_25 : (15 : Int) ≠ (14 : Int) := by first | assumption | omega | (constructor <;> omega)
              have h_26 : rv W1_149 (14 : Int) ≤ rv W1_149 (15 : Int) := by first | (have q := cmpN3 p0_138; rw [p2_149, p3_149]; omega) | (have q := cmpN3 p0_138; omega)
              have h_27 : Dg W1_149 := by first | assumption | omega | (constructor <;> omega)
              have hPc := hP.sub (ws' := [(am, .inr (0, [.int (I3 th), .int (I3 mn), .ref as_, .ref av, .ref aw, .int (I3 sm), .int (I3 wd), .int (I3 lp), .int (I3 mp), .int (I3 re)])), (as_, .inl (dA 0, 60, .inl (iA SG))), (av, .inl (dA 1, 960, .inr (.inl (lA VL)))), (aw, .inl (dA 1, 1024, .inr (.inl (lA W1_149))))]) [0, 1, 2, 3] rfl
              have hDc := hD.sub (ws' := [(am, .inr (0, [.int (I3 th), .int (I3 mn), .ref as_, .ref av, .ref aw, .int (I3 sm), .int (I3 wd), .int (I3 lp), .int (I3 mp), .int (I3 re)])), (as_, .inl (dA 0, 60, .inl (iA SG))), (av, .inl (dA 1, 960, .inr (.inl (lA VL)))), (aw, .inl (dA 1, 1024, .inr (.inl (lA W1_149))))]) [0, 1, 2, 3] (by decide) rfl
              have hFc := va_free (wc := [(am, .inr (0, [.int (I3 th), .int (I3 mn), .ref as_, .ref av, .ref aw, .int (I3 sm), .int (I3 wd), .int (I3 lp), .int (I3 mp), .int (I3 re)])), (as_, .inl (dA 0, 60, .inl (iA SG))), (av, .inl (dA 1, 960, .inr (.inl (lA VL)))), (aw, .inl (dA 1, 1024, .inr (.inl (lA W1_149))))]) hD hS hA [0, 1, 2, 3] rfl
              refine va_callv (va_runV (As := [.int (I3 15), .int (I3 14)]) (rest := []) ⟨hx, hb, hml, hown, hts⟩ (metX8_take l dC dI dA am as_ av aw H.size th mn sm wd lp mp re SG VL W1_149 15 14 h_23 h_24 h_25 h_26 h_27) (cwV 2 hts (lw_V q996 q998 qs29 q66 q999) rfl rfl rfl (by decide +kernel) ⟨Nat.le_of_ble_eq_true rfl, Nat.le_of_ble_eq_true rfl⟩) ⟨fun a U g mk q => by obtain ⟨q0, q1, qP, qK, qD⟩ := q; exact ⟨q0, q1, qP, va_K.moved (u := U) (U := U.calling g mk a) (Vm.Alike.refl U.vm) qK, qD⟩, va_recv hK hPc (ci := 0) (q0 := 0) rfl rfl, fun U hU hW => ⟨rfl, by rw [hU], by rw [hU]; exact hPc, va_K.moved hW.alike hK, hDc.weaken (fun _ _ _ _ => trivial)⟩⟩ rfl rfl hl.1 rfl (lv_room (Nat.le_of_ble_eq_true rfl)) dX8_greatest_157 ⟨Nat.le_of_ble_eq_true rfl, Nat.le_of_ble_eq_true rfl⟩) hS (fun q _ h => hFc q h) hFc (fun u t H1 locs ht hvm hw hB hz1 hk1 hS => ?_)
              obtain ⟨W1_157, rfl⟩ : ∃ z, z = u := ⟨_, rfl⟩
              obtain ⟨p0_157, p1_157, p2_157⟩ : (Dg W1_157) ∧ (Fr W1_149 W1_157 (15 : Int)) ∧ (rv W1_157 (15 : Int) = rv W1_149 (15 : Int) - rv W1_149 (14 : Int)) := hw
              obtain ⟨hP1, hK1, hD1⟩ := hB
              rw [ht] at hP1
              obtain ⟨hP, hD⟩ := va_join (wr := []) (w1 := [(am, .inr (0, [.int (I3 th), .int (I3 mn), .ref as_, .ref av, .ref aw, .int (I3 sm), .int (I3 wd), .int (I3 lp), .int (I3 mp), .int (I3 re)])), (as_, .inl (dA 0, 60, .inl (iA SG))), (av, .inl (dA 1, 960, .inr (.inl (lA VL)))), (aw, .inl (dA 1, 1024, .inr (.inl (lA W1_157))))]) hP hD [0, 1, 2, 3] [] rfl rfl (by decide) (by decide) hk1 hFc hP1 hD1
              generalize H1 = H at hP hS ⊢
              have hP : va_P (dC, dI) vwCl [(am, .inr (0, [.int (I3 th), .int (I3 mn), .ref as_, .ref av, .ref aw, .int (I3 sm), .int (I3 wd), .int (I3 lp), .int (I3 mp), .int (I3 re)])), (as_, .inl (dA 0, 60, .inl (iA SG))), (av, .inl (dA 1, 960, .inr (.inl (lA VL)))), (aw, .inl (dA 1, 1024, .inr (.inl (lA W1_157))))] H := hP
              have hD : va_D A [(am, .inr (0, [.int (I3 th), .int (I3 mn), .ref as_, .ref av, .ref aw, .int (I3 sm), .int (I3 wd), .int (I3 lp), .int (I3 mp), .int (I3 re)])), (as_, .inl (dA 0, 60, .inl (iA SG))), (av, .inl (dA 1, 960, .inr (.inl (lA VL)))), (aw, .inl (dA 1, 1024, .inr (.inl (lA W1_157))))] := hD
              refine lv_goto (tgt := 88) hx hb dX8_greatest_160 (by decide) ?_
              have q3 := cmpN3 p0_138
              have e5 : rv W1_157 14 = rv W1_149 14 := Fr_rv p1_157 (by decide)
              have e_28 : 0 ≤ tw ∧ tw < 2048 := by first | exact htw | exact tw_gt htw hne hg hG
              have e_29 : Dg W1_157 := by first | assumption | omega | (constructor <;> omega)
              have e_30 : Fr2 wf W1_157 14 15 := by exact Fr2_2 (Fr2_tr hF3 p1_149) p1_157
              have e_31 : rv W1_157 14 ≠ 0 := by rw [e5, p2_149]; exact hn15
              have e_32 : Nat.gcd (rv W1_157 14) (rv W1_157 15) % 2 = 1 := by rw [e5, p2_157, p2_149, p3_149, Nat.gcd_sub_self_right (by omega), Nat.gcd_comm, hg3]; exact hodd
              have e_33 : Nat.gcd (rv W1_157 14) (rv W1_157 15) * 2 ^ tw.toNat = Nat.gcd (rv wf a) (rv wf b) := by rw [e5, p2_157, p2_149, p3_149, Nat.gcd_sub_self_right (by omega), Nat.gcd_comm, hg3]; exact hg
              have e_34 : Nat.gcd (rv wf a) (rv wf b) < BN := by first | assumption | omega | (constructor <;> omega)
              have e_35 : rv W1_157 14 + rv W1_157 15 < fuel_88 := by omega
              exact ih_88 tw W1_157 e_28 e_29 e_30 e_31 e_32 e_33 e_34 e_35 _ _ hP hD hS ls (lv_sub hl [0, 1, 2, 3] rfl)
          · skip
            refine lv_aload_n hx hb dX8_greatest_124 rfl (lv_at hl 0 rfl) ?_
            refine lv_bipush (v := I3 (15)) hx hb dX8_greatest_125 (by decide) ?_
            have h_36 : 0 ≤ (15 : Int) ∧ (15 : Int) < 16 := by first | assumption | omega | (constructor <;> omega)
            have h_37 : Dg W3 := by first | assumption | omega | (constructor <;> omega)
            have hPc := hP.sub (ws' := [(am, .inr (0, [.int (I3 th), .int (I3 mn), .ref as_, .ref av, .ref aw, .int (I3 sm), .int (I3 wd), .int (I3 lp), .int (I3 mp), .int (I3 re)])), (as_, .inl (dA 0, 60, .inl (iA SG))), (av, .inl (dA 1, 960, .inr (.inl (lA VL)))), (aw, .inl (dA 1, 1024, .inr (.inl (lA W3))))]) [0, 1, 2, 3] rfl
            have hDc := hD.sub (ws' := [(am, .inr (0, [.int (I3 th), .int (I3 mn), .ref as_, .ref av, .ref aw, .int (I3 sm), .int (I3 wd), .int (I3 lp), .int (I3 mp), .int (I3 re)])), (as_, .inl (dA 0, 60, .inl (iA SG))), (av, .inl (dA 1, 960, .inr (.inl (lA VL)))), (aw, .inl (dA 1, 1024, .inr (.inl (lA W3))))]) [0, 1, 2, 3] (by decide) rfl
            have hFc := va_free (wc := [(am, .inr (0, [.int (I3 th), .int (I3 mn), .ref as_, .ref av, .ref aw, .int (I3 sm), .int (I3 wd), .int (I3 lp), .int (I3 mp), .int (I3 re)])), (as_, .inl (dA 0, 60, .inl (iA SG))), (av, .inl (dA 1, 960, .inr (.inl (lA VL)))), (aw, .inl (dA 1, 1024, .inr (.inl (lA W3))))]) hD hS hA [0, 1, 2, 3] rfl
            refine va_callv (va_runV (As := [.int (I3 15)]) (rest := []) ⟨hx, hb, hml, hown, hts⟩ (metX8_halve l dC dI dA am as_ av aw H.size th mn sm wd lp mp re SG VL W3 15 h_36 h_37) (cwV 1 hts (lw_V q984 q986 qs26 q66 q987) rfl rfl rfl (by decide +kernel) ⟨Nat.le_of_ble_eq_true rfl, Nat.le_of_ble_eq_true rfl⟩) ⟨fun a U g mk q => by obtain ⟨q0, q1, qP, qK, qD⟩ := q; exact ⟨q0, q1, qP, va_K.moved (u := U) (U := U.calling g mk a) (Vm.Alike.refl U.vm) qK, qD⟩, va_recv hK hPc (ci := 0) (q0 := 0) rfl rfl, fun U hU hW => ⟨rfl, by rw [hU], by rw [hU]; exact hPc, va_K.moved hW.alike hK, hDc.weaken (fun _ _ _ _ => trivial)⟩⟩ rfl rfl hl.1 rfl (lv_room (Nat.le_of_ble_eq_true rfl)) dX8_greatest_127 ⟨Nat.le_of_ble_eq_true rfl, Nat.le_of_ble_eq_true rfl⟩) hS (fun q _ h => hFc q h) hFc (fun u t H1 locs ht hvm hw hB hz1 hk1 hS => ?_)
            obtain ⟨W1_127, rfl⟩ : ∃ z, z = u := ⟨_, rfl⟩
            obtain ⟨p0_127, p1_127, p2_127⟩ : (Dg W1_127) ∧ (Fr W3 W1_127 (15 : Int)) ∧ (rv W1_127 (15 : Int) = rv W3 (15 : Int) / 2) := hw
            obtain ⟨hP1, hK1, hD1⟩ := hB
            rw [ht] at hP1
            obtain ⟨hP, hD⟩ := va_join (wr := []) (w1 := [(am, .inr (0, [.int (I3 th), .int (I3 mn), .ref as_, .ref av, .ref aw, .int (I3 sm), .int (I3 wd), .int (I3 lp), .int (I3 mp), .int (I3 re)])), (as_, .inl (dA 0, 60, .inl (iA SG))), (av, .inl (dA 1, 960, .inr (.inl (lA VL)))), (aw, .inl (dA 1, 1024, .inr (.inl (lA W1_127))))]) hP hD [0, 1, 2, 3] [] rfl rfl (by decide) (by decide) hk1 hFc hP1 hD1
            generalize H1 = H at hP hS ⊢
            have hP : va_P (dC, dI) vwCl [(am, .inr (0, [.int (I3 th), .int (I3 mn), .ref as_, .ref av, .ref aw, .int (I3 sm), .int (I3 wd), .int (I3 lp), .int (I3 mp), .int (I3 re)])), (as_, .inl (dA 0, 60, .inl (iA SG))), (av, .inl (dA 1, 960, .inr (.inl (lA VL)))), (aw, .inl (dA 1, 1024, .inr (.inl (lA W1_127))))] H := hP
            have hD : va_D A [(am, .inr (0, [.int (I3 th), .int (I3 mn), .ref as_, .ref av, .ref aw, .int (I3 sm), .int (I3 wd), .int (I3 lp), .int (I3 mp), .int (I3 re)])), (as_, .inl (dA 0, 60, .inl (iA SG))), (av, .inl (dA 1, 960, .inr (.inl (lA VL)))), (aw, .inl (dA 1, 1024, .inr (.inl (lA W1_127))))] := hD
            refine lv_goto (tgt := 115) hx hb dX8_greatest_130 (by decide) ?_
            have e4 : rv W1_127 14 = rv W3 14 := Fr_rv p1_127 (by decide)
            have e_38 : Dg W1_127 := by first | assumption | omega | (constructor <;> omega)
            have e_39 : Fr2 wf W1_127 14 15 := by exact Fr2_2 hF3 p1_127
            have e_40 : rv W1_127 14 ≠ 0 := by rw [e4]; exact hn14
            have e_41 : rv W1_127 15 ≠ 0 := by omega
            have e_42 : Nat.gcd (rv W1_127 14) (rv W1_127 15) = Nat.gcd (rv W1 14) (rv W1 15) := by rw [e4, p2_127, Nat.gcd_comm, gcd_half (by omega) (by rw [Nat.gcd_comm, hg3]; exact hodd), Nat.gcd_comm]; exact hg3
            have e_43 : rv W1_127 14 + rv W1_127 15 ≤ rv W1 14 + rv W1 15 := by omega
            have e_44 : rv W1_127 15 < fuel_115 := by omega
            exact ih_115 W1_127 e_38 e_39 e_40 e_41 e_42 e_43 e_44 _ _ hP hD hS ls (lv_sub hl [0, 1, 2, 3] rfl)
      have cut_97 : ∀ (fuel_97 : Nat), ∀ (W2 : Int → Int), (Dg W2) → (Fr2 wf W2 14 15) → (rv W2 14 ≠ 0) → (rv W2 15 ≠ 0) → (Nat.gcd (rv W2 14) (rv W2 15) = Nat.gcd (rv W1 14) (rv W1 15)) → (rv W2 14 + rv W2 15 ≤ rv W1 14 + rv W1 15) → (rv W2 14 < fuel_97) → ∀ (H : Heap) (locs : List Loc), va_P (dC, dI) vwCl [(am, .inr (0, [.int (I3 th), .int (I3 mn), .ref as_, .ref av, .ref aw, .int (I3 sm), .int (I3 wd), .int (I3 lp), .int (I3 mp), .int (I3 re)])), (as_, .inl (dA 0, 60, .inl (iA SG))), (av, .inl (dA 1, 960, .inr (.inl (lA VL)))), (aw, .inl (dA 1, 1024, .inr (.inl (lA W2))))] H → va_D A [(am, .inr (0, [.int (I3 th), .int (I3 mn), .ref as_, .ref av, .ref aw, .int (I3 sm), .int (I3 wd), .int (I3 lp), .int (I3 mp), .int (I3 re)])), (as_, .inl (dA 0, 60, .inl (iA SG))), (av, .inl (dA 1, 960, .inr (.inl (lA VL)))), (aw, .inl (dA 1, 1024, .inr (.inl (lA W2))))] → va_S A s.heap H locs → ∀ (ls : Array Slot), lv_has ls 4 [(0, .ref am), (1, .int (I3 a)), (2, .int (I3 b)), (3, .int (I3 tw))] → W p l e (headSpec (ws_ yX8_greatest cX8_greatest 4 none) ({ frames := 2, cells := 0, slots := 0, locals := 80 })).room s m ([.ref am, .int (I3 a), .int (I3 b)] : List Value).toArray below meth c H locs 0 0 (MQ below (QmetX8_greatest dC dI dA A am as_ av aw th mn sm wd lp mp re SG VL wf a b) ([.ref am, .int (I3 a), .int (I3 b)] : List Value).toArray s 0 0 A) (F0 m 97 ls []) := by
        intro fuel_97
        induction fuel_97 with
        | zero =>
          intro W2 hW2 hF2 hn24 hn25 hg2 hle2 hm
          exact absurd hm (Nat.not_lt_zero _)
        | succ fuel_97 ih_97 =>
          intro W2 hW2 hF2 hn24 hn25 hg2 hle2 hm_97 H locs hP hD hS ls hl
          refine lv_aload_n hx hb dX8_greatest_97 rfl (lv_at hl 0 rfl) ?_
          refine lv_bipush (v := I3 (14)) hx hb dX8_greatest_98 (by decide) ?_
          have h_45 : 0 ≤ (14 : Int) ∧ (14 : Int) < 16 := by first | assumption | omega | (constructor <;> omega)
          have h_46 : Dg W2 := by first | assumption | omega | (constructor <;> omega)
          have hPc := hP.sub (ws' := [(am, .inr (0, [.int (I3 th), .int (I3 mn), .ref as_, .ref av, .ref aw, .int (I3 sm), .int (I3 wd), .int (I3 lp), .int (I3 mp), .int (I3 re)])), (as_, .inl (dA 0, 60, .inl (iA SG))), (av, .inl (dA 1, 960, .inr (.inl (lA VL)))), (aw, .inl (dA 1, 1024, .inr (.inl (lA W2))))]) [0, 1, 2, 3] rfl
          have hDc := hD.sub (ws' := [(am, .inr (0, [.int (I3 th), .int (I3 mn), .ref as_, .ref av, .ref aw, .int (I3 sm), .int (I3 wd), .int (I3 lp), .int (I3 mp), .int (I3 re)])), (as_, .inl (dA 0, 60, .inl (iA SG))), (av, .inl (dA 1, 960, .inr (.inl (lA VL)))), (aw, .inl (dA 1, 1024, .inr (.inl (lA W2))))]) [0, 1, 2, 3] (by decide) rfl
          have hFc := va_free (wc := [(am, .inr (0, [.int (I3 th), .int (I3 mn), .ref as_, .ref av, .ref aw, .int (I3 sm), .int (I3 wd), .int (I3 lp), .int (I3 mp), .int (I3 re)])), (as_, .inl (dA 0, 60, .inl (iA SG))), (av, .inl (dA 1, 960, .inr (.inl (lA VL)))), (aw, .inl (dA 1, 1024, .inr (.inl (lA W2))))]) hD hS hA [0, 1, 2, 3] rfl
          refine va_calli (va_runV (As := [.int (I3 14)]) (rest := []) ⟨hx, hb, hml, hown, hts⟩ (metX8_isEven l dC dI dA am as_ av aw H.size th mn sm wd lp mp re SG VL W2 14 h_45 h_46) (cwV 1 hts (lw_V q980 q982 qs25 q66 q983) rfl rfl rfl (by decide +kernel) ⟨Nat.le_of_ble_eq_true rfl, Nat.le_of_ble_eq_true rfl⟩) ⟨fun a U g mk q => by obtain ⟨q0, q1, qP, qK, qD⟩ := q; exact ⟨q0, q1, qP, va_K.moved (u := U) (U := U.calling g mk a) (Vm.Alike.refl U.vm) qK, qD⟩, va_recv hK hPc (ci := 0) (q0 := 0) rfl rfl, fun U hU hW => ⟨rfl, by rw [hU], by rw [hU]; exact hPc, va_K.moved hW.alike hK, hDc.weaken (fun _ _ _ _ => trivial)⟩⟩ rfl rfl hl.1 rfl (lv_room (Nat.le_of_ble_eq_true rfl)) dX8_greatest_100 ⟨Nat.le_of_ble_eq_true rfl, Nat.le_of_ble_eq_true rfl⟩) hS (fun q _ h => hFc q h) hFc (fun r_100 u t H1 locs ht hvm hw hB hz1 hk1 hS => ?_)
          obtain ⟨z_100, rfl⟩ : ∃ z, z = u := ⟨_, rfl⟩
          obtain ⟨rfl, p0_100⟩ : r_100 = I3 z_100 ∧ (z_100 = if rv W2 (14 : Int) % 2 = 0 then 1 else 0) := hw
          obtain ⟨hP1, hK1, hD1⟩ := hB
          rw [ht] at hP1
          obtain ⟨hP, hD⟩ := va_join (wr := []) (w1 := [(am, .inr (0, [.int (I3 th), .int (I3 mn), .ref as_, .ref av, .ref aw, .int (I3 sm), .int (I3 wd), .int (I3 lp), .int (I3 mp), .int (I3 re)])), (as_, .inl (dA 0, 60, .inl (iA SG))), (av, .inl (dA 1, 960, .inr (.inl (lA VL)))), (aw, .inl (dA 1, 1024, .inr (.inl (lA W2))))]) hP hD [0, 1, 2, 3] [] rfl rfl (by decide) (by decide) hk1 hFc hP1 hD1
          generalize H1 = H at hP hS ⊢
          have hP : va_P (dC, dI) vwCl [(am, .inr (0, [.int (I3 th), .int (I3 mn), .ref as_, .ref av, .ref aw, .int (I3 sm), .int (I3 wd), .int (I3 lp), .int (I3 mp), .int (I3 re)])), (as_, .inl (dA 0, 60, .inl (iA SG))), (av, .inl (dA 1, 960, .inr (.inl (lA VL)))), (aw, .inl (dA 1, 1024, .inr (.inl (lA W2))))] H := hP
          have hD : va_D A [(am, .inr (0, [.int (I3 th), .int (I3 mn), .ref as_, .ref av, .ref aw, .int (I3 sm), .int (I3 wd), .int (I3 lp), .int (I3 mp), .int (I3 re)])), (as_, .inl (dA 0, 60, .inl (iA SG))), (av, .inl (dA 1, 960, .inr (.inl (lA VL)))), (aw, .inl (dA 1, 1024, .inr (.inl (lA W2))))] := hD
          have y_100 := b01 p0_100
          refine ix_if_eq (tgt := 115) hx hb (by first | decide | assumption | (constructor <;> omega)) dX8_greatest_103 (by decide) (fun c_103 => ?_) (fun c_103 => ?_)
          · skip
            have e_47 : Dg W2 := by first | assumption | omega | (constructor <;> omega)
            have e_48 : Fr2 wf W2 14 15 := by first | assumption | omega | (constructor <;> omega)
            have e_49 : rv W2 14 ≠ 0 := by first | assumption | omega | (constructor <;> omega)
            have e_50 : rv W2 15 ≠ 0 := by first | assumption | omega | (constructor <;> omega)
            have e_51 : Nat.gcd (rv W2 14) (rv W2 15) = Nat.gcd (rv W1 14) (rv W1 15) := by first | assumption | omega | (constructor <;> omega)
            have e_52 : rv W2 14 + rv W2 15 ≤ rv W1 14 + rv W1 15 := by first | assumption | omega | (constructor <;> omega)
            exact cut_115 (rv W2 15 + 1) W2 e_47 e_48 e_49 e_50 e_51 e_52 (Nat.lt_succ_self _) _ _ hP hD hS ls (lv_sub hl [0, 1, 2, 3] rfl)
          · skip
            refine lv_aload_n hx hb dX8_greatest_106 rfl (lv_at hl 0 rfl) ?_
            refine lv_bipush (v := I3 (14)) hx hb dX8_greatest_107 (by decide) ?_
            have h_53 : 0 ≤ (14 : Int) ∧ (14 : Int) < 16 := by first | assumption | omega | (constructor <;> omega)
            have h_54 : Dg W2 := by first | assumption | omega | (constructor <;> omega)
            have hPc := hP.sub (ws' := [(am, .inr (0, [.int (I3 th), .int (I3 mn), .ref as_, .ref av, .ref aw, .int (I3 sm), .int (I3 wd), .int (I3 lp), .int (I3 mp), .int (I3 re)])), (as_, .inl (dA 0, 60, .inl (iA SG))), (av, .inl (dA 1, 960, .inr (.inl (lA VL)))), (aw, .inl (dA 1, 1024, .inr (.inl (lA W2))))]) [0, 1, 2, 3] rfl
            have hDc := hD.sub (ws' := [(am, .inr (0, [.int (I3 th), .int (I3 mn), .ref as_, .ref av, .ref aw, .int (I3 sm), .int (I3 wd), .int (I3 lp), .int (I3 mp), .int (I3 re)])), (as_, .inl (dA 0, 60, .inl (iA SG))), (av, .inl (dA 1, 960, .inr (.inl (lA VL)))), (aw, .inl (dA 1, 1024, .inr (.inl (lA W2))))]) [0, 1, 2, 3] (by decide) rfl
            have hFc := va_free (wc := [(am, .inr (0, [.int (I3 th), .int (I3 mn), .ref as_, .ref av, .ref aw, .int (I3 sm), .int (I3 wd), .int (I3 lp), .int (I3 mp), .int (I3 re)])), (as_, .inl (dA 0, 60, .inl (iA SG))), (av, .inl (dA 1, 960, .inr (.inl (lA VL)))), (aw, .inl (dA 1, 1024, .inr (.inl (lA W2))))]) hD hS hA [0, 1, 2, 3] rfl
            refine va_callv (va_runV (As := [.int (I3 14)]) (rest := []) ⟨hx, hb, hml, hown, hts⟩ (metX8_halve l dC dI dA am as_ av aw H.size th mn sm wd lp mp re SG VL W2 14 h_53 h_54) (cwV 1 hts (lw_V q984 q986 qs26 q66 q987) rfl rfl rfl (by decide +kernel) ⟨Nat.le_of_ble_eq_true rfl, Nat.le_of_ble_eq_true rfl⟩) ⟨fun a U g mk q => by obtain ⟨q0, q1, qP, qK, qD⟩ := q; exact ⟨q0, q1, qP, va_K.moved (u := U) (U := U.calling g mk a) (Vm.Alike.refl U.vm) qK, qD⟩, va_recv hK hPc (ci := 0) (q0 := 0) rfl rfl, fun U hU hW => ⟨rfl, by rw [hU], by rw [hU]; exact hPc, va_K.moved hW.alike hK, hDc.weaken (fun _ _ _ _ => trivial)⟩⟩ rfl rfl hl.1 rfl (lv_room (Nat.le_of_ble_eq_true rfl)) dX8_greatest_109 ⟨Nat.le_of_ble_eq_true rfl, Nat.le_of_ble_eq_true rfl⟩) hS (fun q _ h => hFc q h) hFc (fun u t H1 locs ht hvm hw hB hz1 hk1 hS => ?_)
            obtain ⟨W1_109, rfl⟩ : ∃ z, z = u := ⟨_, rfl⟩
            obtain ⟨p0_109, p1_109, p2_109⟩ : (Dg W1_109) ∧ (Fr W2 W1_109 (14 : Int)) ∧ (rv W1_109 (14 : Int) = rv W2 (14 : Int) / 2) := hw
            obtain ⟨hP1, hK1, hD1⟩ := hB
            rw [ht] at hP1
            obtain ⟨hP, hD⟩ := va_join (wr := []) (w1 := [(am, .inr (0, [.int (I3 th), .int (I3 mn), .ref as_, .ref av, .ref aw, .int (I3 sm), .int (I3 wd), .int (I3 lp), .int (I3 mp), .int (I3 re)])), (as_, .inl (dA 0, 60, .inl (iA SG))), (av, .inl (dA 1, 960, .inr (.inl (lA VL)))), (aw, .inl (dA 1, 1024, .inr (.inl (lA W1_109))))]) hP hD [0, 1, 2, 3] [] rfl rfl (by decide) (by decide) hk1 hFc hP1 hD1
            generalize H1 = H at hP hS ⊢
            have hP : va_P (dC, dI) vwCl [(am, .inr (0, [.int (I3 th), .int (I3 mn), .ref as_, .ref av, .ref aw, .int (I3 sm), .int (I3 wd), .int (I3 lp), .int (I3 mp), .int (I3 re)])), (as_, .inl (dA 0, 60, .inl (iA SG))), (av, .inl (dA 1, 960, .inr (.inl (lA VL)))), (aw, .inl (dA 1, 1024, .inr (.inl (lA W1_109))))] H := hP
            have hD : va_D A [(am, .inr (0, [.int (I3 th), .int (I3 mn), .ref as_, .ref av, .ref aw, .int (I3 sm), .int (I3 wd), .int (I3 lp), .int (I3 mp), .int (I3 re)])), (as_, .inl (dA 0, 60, .inl (iA SG))), (av, .inl (dA 1, 960, .inr (.inl (lA VL)))), (aw, .inl (dA 1, 1024, .inr (.inl (lA W1_109))))] := hD
            refine lv_goto (tgt := 97) hx hb dX8_greatest_112 (by decide) ?_
            have e4 : rv W1_109 15 = rv W2 15 := Fr_rv p1_109 (by decide)
            have e_55 : Dg W1_109 := by first | assumption | omega | (constructor <;> omega)
            have e_56 : Fr2 wf W1_109 14 15 := by exact Fr2_1 hF2 p1_109
            have e_57 : rv W1_109 14 ≠ 0 := by omega
            have e_58 : rv W1_109 15 ≠ 0 := by rw [e4]; exact hn25
            have e_59 : Nat.gcd (rv W1_109 14) (rv W1_109 15) = Nat.gcd (rv W1 14) (rv W1 15) := by rw [e4, p2_109, gcd_half (by omega) (by rw [hg2]; exact hodd)]; exact hg2
            have e_60 : rv W1_109 14 + rv W1_109 15 ≤ rv W1 14 + rv W1 15 := by omega
            have e_61 : rv W1_109 14 < fuel_97 := by omega
            exact ih_97 W1_109 e_55 e_56 e_57 e_58 e_59 e_60 e_61 _ _ hP hD hS ls (lv_sub hl [0, 1, 2, 3] rfl)
      refine lv_aload_n hx hb dX8_greatest_88 rfl (lv_at hl 0 rfl) ?_
      refine lv_bipush (v := I3 (15)) hx hb dX8_greatest_89 (by decide) ?_
      have h_62 : 0 ≤ (15 : Int) ∧ (15 : Int) < 16 := by first | assumption | omega | (constructor <;> omega)
      have h_63 : Dg W1 := by first | assumption | omega | (constructor <;> omega)
      have hPc := hP.sub (ws' := [(am, .inr (0, [.int (I3 th), .int (I3 mn), .ref as_, .ref av, .ref aw, .int (I3 sm), .int (I3 wd), .int (I3 lp), .int (I3 mp), .int (I3 re)])), (as_, .inl (dA 0, 60, .inl (iA SG))), (av, .inl (dA 1, 960, .inr (.inl (lA VL)))), (aw, .inl (dA 1, 1024, .inr (.inl (lA W1))))]) [0, 1, 2, 3] rfl
      have hDc := hD.sub (ws' := [(am, .inr (0, [.int (I3 th), .int (I3 mn), .ref as_, .ref av, .ref aw, .int (I3 sm), .int (I3 wd), .int (I3 lp), .int (I3 mp), .int (I3 re)])), (as_, .inl (dA 0, 60, .inl (iA SG))), (av, .inl (dA 1, 960, .inr (.inl (lA VL)))), (aw, .inl (dA 1, 1024, .inr (.inl (lA W1))))]) [0, 1, 2, 3] (by decide) rfl
      have hFc := va_free (wc := [(am, .inr (0, [.int (I3 th), .int (I3 mn), .ref as_, .ref av, .ref aw, .int (I3 sm), .int (I3 wd), .int (I3 lp), .int (I3 mp), .int (I3 re)])), (as_, .inl (dA 0, 60, .inl (iA SG))), (av, .inl (dA 1, 960, .inr (.inl (lA VL)))), (aw, .inl (dA 1, 1024, .inr (.inl (lA W1))))]) hD hS hA [0, 1, 2, 3] rfl
      refine va_calli (va_runV (As := [.int (I3 15)]) (rest := []) ⟨hx, hb, hml, hown, hts⟩ (metX8_isZero l dC dI dA am as_ av aw H.size th mn sm wd lp mp re SG VL W1 15 h_62 h_63) (cwV 1 hts (lw_V q968 q970 qs22 q66 q971) rfl rfl rfl (by decide +kernel) ⟨Nat.le_of_ble_eq_true rfl, Nat.le_of_ble_eq_true rfl⟩) ⟨fun a U g mk q => by obtain ⟨q0, q1, qP, qK, qD⟩ := q; exact ⟨q0, q1, qP, va_K.moved (u := U) (U := U.calling g mk a) (Vm.Alike.refl U.vm) qK, qD⟩, va_recv hK hPc (ci := 0) (q0 := 0) rfl rfl, fun U hU hW => ⟨rfl, by rw [hU], by rw [hU]; exact hPc, va_K.moved hW.alike hK, hDc.weaken (fun _ _ _ _ => trivial)⟩⟩ rfl rfl hl.1 rfl (lv_room (Nat.le_of_ble_eq_true rfl)) dX8_greatest_91 ⟨Nat.le_of_ble_eq_true rfl, Nat.le_of_ble_eq_true rfl⟩) hS (fun q _ h => hFc q h) hFc (fun r_91 u t H1 locs ht hvm hw hB hz1 hk1 hS => ?_)
      obtain ⟨z_91, rfl⟩ : ∃ z, z = u := ⟨_, rfl⟩
      obtain ⟨rfl, p0_91⟩ : r_91 = I3 z_91 ∧ (z_91 = if rv W1 (15 : Int) = 0 then 1 else 0) := hw
      obtain ⟨hP1, hK1, hD1⟩ := hB
      rw [ht] at hP1
      obtain ⟨hP, hD⟩ := va_join (wr := []) (w1 := [(am, .inr (0, [.int (I3 th), .int (I3 mn), .ref as_, .ref av, .ref aw, .int (I3 sm), .int (I3 wd), .int (I3 lp), .int (I3 mp), .int (I3 re)])), (as_, .inl (dA 0, 60, .inl (iA SG))), (av, .inl (dA 1, 960, .inr (.inl (lA VL)))), (aw, .inl (dA 1, 1024, .inr (.inl (lA W1))))]) hP hD [0, 1, 2, 3] [] rfl rfl (by decide) (by decide) hk1 hFc hP1 hD1
      generalize H1 = H at hP hS ⊢
      have hP : va_P (dC, dI) vwCl [(am, .inr (0, [.int (I3 th), .int (I3 mn), .ref as_, .ref av, .ref aw, .int (I3 sm), .int (I3 wd), .int (I3 lp), .int (I3 mp), .int (I3 re)])), (as_, .inl (dA 0, 60, .inl (iA SG))), (av, .inl (dA 1, 960, .inr (.inl (lA VL)))), (aw, .inl (dA 1, 1024, .inr (.inl (lA W1))))] H := hP
      have hD : va_D A [(am, .inr (0, [.int (I3 th), .int (I3 mn), .ref as_, .ref av, .ref aw, .int (I3 sm), .int (I3 wd), .int (I3 lp), .int (I3 mp), .int (I3 re)])), (as_, .inl (dA 0, 60, .inl (iA SG))), (av, .inl (dA 1, 960, .inr (.inl (lA VL)))), (aw, .inl (dA 1, 1024, .inr (.inl (lA W1))))] := hD
      have y_91 := b01 p0_91
      refine ix_if_ne (tgt := 163) hx hb (by first | decide | assumption | (constructor <;> omega)) dX8_greatest_94 (by decide) (fun c_94 => ?_) (fun c_94 => ?_)
      · skip
        refine lv_aload_n hx hb dX8_greatest_163 rfl (lv_at hl 0 rfl) ?_
        refine lv_bipush (v := I3 (14)) hx hb dX8_greatest_164 (by decide) ?_
        refine lv_iload_n hx hb dX8_greatest_166 rfl (lv_at hl 3 rfl) ?_
        have h_64 : 0 ≤ (14 : Int) ∧ (14 : Int) < 16 := by first | assumption | omega | (constructor <;> omega)
        have h_65 : 0 ≤ tw ∧ tw < 2048 := by first | assumption | omega | (constructor <;> omega)
        have h_66 : Dg W1 := by first | assumption | omega | (constructor <;> omega)
        have hPc := hP.sub (ws' := [(am, .inr (0, [.int (I3 th), .int (I3 mn), .ref as_, .ref av, .ref aw, .int (I3 sm), .int (I3 wd), .int (I3 lp), .int (I3 mp), .int (I3 re)])), (as_, .inl (dA 0, 60, .inl (iA SG))), (av, .inl (dA 1, 960, .inr (.inl (lA VL)))), (aw, .inl (dA 1, 1024, .inr (.inl (lA W1))))]) [0, 1, 2, 3] rfl
        have hDc := hD.sub (ws' := [(am, .inr (0, [.int (I3 th), .int (I3 mn), .ref as_, .ref av, .ref aw, .int (I3 sm), .int (I3 wd), .int (I3 lp), .int (I3 mp), .int (I3 re)])), (as_, .inl (dA 0, 60, .inl (iA SG))), (av, .inl (dA 1, 960, .inr (.inl (lA VL)))), (aw, .inl (dA 1, 1024, .inr (.inl (lA W1))))]) [0, 1, 2, 3] (by decide) rfl
        have hFc := va_free (wc := [(am, .inr (0, [.int (I3 th), .int (I3 mn), .ref as_, .ref av, .ref aw, .int (I3 sm), .int (I3 wd), .int (I3 lp), .int (I3 mp), .int (I3 re)])), (as_, .inl (dA 0, 60, .inl (iA SG))), (av, .inl (dA 1, 960, .inr (.inl (lA VL)))), (aw, .inl (dA 1, 1024, .inr (.inl (lA W1))))]) hD hS hA [0, 1, 2, 3] rfl
        refine va_callv (va_runV (As := [.int (I3 14), .int (I3 tw)]) (rest := []) ⟨hx, hb, hml, hown, hts⟩ (metX8_up l dC dI dA am as_ av aw H.size th mn sm wd lp mp re SG VL W1 14 tw h_64 h_65 h_66) (cwV 2 hts (lw_V q1000 q1002 qs30 q66 q1003) rfl rfl rfl (by decide +kernel) ⟨Nat.le_of_ble_eq_true rfl, Nat.le_of_ble_eq_true rfl⟩) ⟨fun a U g mk q => by obtain ⟨q0, q1, qP, qK, qD⟩ := q; exact ⟨q0, q1, qP, va_K.moved (u := U) (U := U.calling g mk a) (Vm.Alike.refl U.vm) qK, qD⟩, va_recv hK hPc (ci := 0) (q0 := 0) rfl rfl, fun U hU hW => ⟨rfl, by rw [hU], by rw [hU]; exact hPc, va_K.moved hW.alike hK, hDc.weaken (fun _ _ _ _ => trivial)⟩⟩ rfl rfl hl.1 rfl (lv_room (Nat.le_of_ble_eq_true rfl)) dX8_greatest_167 ⟨Nat.le_of_ble_eq_true rfl, Nat.le_of_ble_eq_true rfl⟩) hS (fun q _ h => hFc q h) hFc (fun u t H1 locs ht hvm hw hB hz1 hk1 hS => ?_)
        obtain ⟨W1_167, rfl⟩ : ∃ z, z = u := ⟨_, rfl⟩
        obtain ⟨p0_167, p1_167, p2_167⟩ : (Dg W1_167) ∧ (Fr W1 W1_167 (14 : Int)) ∧ (rv W1_167 (14 : Int) = rv W1 (14 : Int) * 2 ^ tw.toNat % BN) := hw
        obtain ⟨hP1, hK1, hD1⟩ := hB
        rw [ht] at hP1
        obtain ⟨hP, hD⟩ := va_join (wr := []) (w1 := [(am, .inr (0, [.int (I3 th), .int (I3 mn), .ref as_, .ref av, .ref aw, .int (I3 sm), .int (I3 wd), .int (I3 lp), .int (I3 mp), .int (I3 re)])), (as_, .inl (dA 0, 60, .inl (iA SG))), (av, .inl (dA 1, 960, .inr (.inl (lA VL)))), (aw, .inl (dA 1, 1024, .inr (.inl (lA W1_167))))]) hP hD [0, 1, 2, 3] [] rfl rfl (by decide) (by decide) hk1 hFc hP1 hD1
        generalize H1 = H at hP hS ⊢
        have hP : va_P (dC, dI) vwCl [(am, .inr (0, [.int (I3 th), .int (I3 mn), .ref as_, .ref av, .ref aw, .int (I3 sm), .int (I3 wd), .int (I3 lp), .int (I3 mp), .int (I3 re)])), (as_, .inl (dA 0, 60, .inl (iA SG))), (av, .inl (dA 1, 960, .inr (.inl (lA VL)))), (aw, .inl (dA 1, 1024, .inr (.inl (lA W1_167))))] H := hP
        have hD : va_D A [(am, .inr (0, [.int (I3 th), .int (I3 mn), .ref as_, .ref av, .ref aw, .int (I3 sm), .int (I3 wd), .int (I3 lp), .int (I3 mp), .int (I3 re)])), (as_, .inl (dA 0, 60, .inl (iA SG))), (av, .inl (dA 1, 960, .inr (.inl (lA VL)))), (aw, .inl (dA 1, 1024, .inr (.inl (lA W1_167))))] := hD
        have e15 : rv W1 15 = 0 := by omega
        rw [e15, Nat.gcd_zero_right] at hg
        have o_67 : Dg W1_167 := by first | assumption | omega | (constructor <;> omega)
        have o_68 : Fr2 wf W1_167 14 15 := by exact Fr2_1 hF p1_167
        have o_69 : rv W1_167 14 = Nat.gcd (rv wf a) (rv wf b) := by rw [p2_167, hg]; exact mod_BN hG
        exact W.vret hx hb hr (fun t ht hW => ⟨⟨W1_167, rfl, ⟨o_67, o_68, o_69⟩, by rw [ht]; exact hP, va_K.moved hW.alike hK, hD⟩, hS.F ht⟩) hS.2.2 dX8_greatest_170
      · skip
        have e_70 : Dg W1 := by first | assumption | omega | (constructor <;> omega)
        have e_71 : Fr2 wf W1 14 15 := by first | assumption | omega | (constructor <;> omega)
        have e_72 : rv W1 14 ≠ 0 := by first | assumption | omega | (constructor <;> omega)
        have e_73 : rv W1 15 ≠ 0 := by first | assumption | omega | (constructor <;> omega)
        have e_74 : Nat.gcd (rv W1 14) (rv W1 15) = Nat.gcd (rv W1 14) (rv W1 15) := by first | assumption | omega | (constructor <;> omega)
        have e_75 : rv W1 14 + rv W1 15 ≤ rv W1 14 + rv W1 15 := by first | assumption | omega | (constructor <;> omega)
        exact cut_97 (rv W1 14 + 1) W1 e_70 e_71 e_72 e_73 e_74 e_75 (Nat.lt_succ_self _) _ _ hP hD hS ls (lv_sub hl [0, 1, 2, 3] rfl)
  have cut_52 : ∀ (fuel_52 : Nat), ∀ (tw : Int) (W1 : Int → Int), (0 ≤ tw) → (Dg W1) → (Fr2 wf W1 14 15) → (rv W1 14 ≠ 0) → (rv W1 15 ≠ 0) → (Nat.gcd (rv W1 14) (rv W1 15) * 2 ^ tw.toNat = Nat.gcd (rv wf a) (rv wf b)) → (Nat.gcd (rv wf a) (rv wf b) < BN) → (rv W1 14 < fuel_52) → ∀ (H : Heap) (locs : List Loc), va_P (dC, dI) vwCl [(am, .inr (0, [.int (I3 th), .int (I3 mn), .ref as_, .ref av, .ref aw, .int (I3 sm), .int (I3 wd), .int (I3 lp), .int (I3 mp), .int (I3 re)])), (as_, .inl (dA 0, 60, .inl (iA SG))), (av, .inl (dA 1, 960, .inr (.inl (lA VL)))), (aw, .inl (dA 1, 1024, .inr (.inl (lA W1))))] H → va_D A [(am, .inr (0, [.int (I3 th), .int (I3 mn), .ref as_, .ref av, .ref aw, .int (I3 sm), .int (I3 wd), .int (I3 lp), .int (I3 mp), .int (I3 re)])), (as_, .inl (dA 0, 60, .inl (iA SG))), (av, .inl (dA 1, 960, .inr (.inl (lA VL)))), (aw, .inl (dA 1, 1024, .inr (.inl (lA W1))))] → va_S A s.heap H locs → ∀ (ls : Array Slot), lv_has ls 4 [(0, .ref am), (1, .int (I3 a)), (2, .int (I3 b)), (3, .int (I3 tw))] → W p l e (headSpec (ws_ yX8_greatest cX8_greatest 4 none) ({ frames := 2, cells := 0, slots := 0, locals := 80 })).room s m ([.ref am, .int (I3 a), .int (I3 b)] : List Value).toArray below meth c H locs 0 0 (MQ below (QmetX8_greatest dC dI dA A am as_ av aw th mn sm wd lp mp re SG VL wf a b) ([.ref am, .int (I3 a), .int (I3 b)] : List Value).toArray s 0 0 A) (F0 m 52 ls []) := by
    intro fuel_52
    induction fuel_52 with
    | zero =>
      intro tw W1 htw hW1 hF hne hne2 hg hG hm
      exact absurd hm (Nat.not_lt_zero _)
    | succ fuel_52 ih_52 =>
      intro tw W1 htw hW1 hF hne hne2 hg hG hm_52 H locs hP hD hS ls hl
      refine lv_aload_n hx hb dX8_greatest_52 rfl (lv_at hl 0 rfl) ?_
      refine lv_bipush (v := I3 (14)) hx hb dX8_greatest_53 (by decide) ?_
      have h_76 : 0 ≤ (14 : Int) ∧ (14 : Int) < 16 := by first | assumption | omega | (constructor <;> omega)
      have h_77 : Dg W1 := by first | assumption | omega | (constructor <;> omega)
      have hPc := hP.sub (ws' := [(am, .inr (0, [.int (I3 th), .int (I3 mn), .ref as_, .ref av, .ref aw, .int (I3 sm), .int (I3 wd), .int (I3 lp), .int (I3 mp), .int (I3 re)])), (as_, .inl (dA 0, 60, .inl (iA SG))), (av, .inl (dA 1, 960, .inr (.inl (lA VL)))), (aw, .inl (dA 1, 1024, .inr (.inl (lA W1))))]) [0, 1, 2, 3] rfl
      have hDc := hD.sub (ws' := [(am, .inr (0, [.int (I3 th), .int (I3 mn), .ref as_, .ref av, .ref aw, .int (I3 sm), .int (I3 wd), .int (I3 lp), .int (I3 mp), .int (I3 re)])), (as_, .inl (dA 0, 60, .inl (iA SG))), (av, .inl (dA 1, 960, .inr (.inl (lA VL)))), (aw, .inl (dA 1, 1024, .inr (.inl (lA W1))))]) [0, 1, 2, 3] (by decide) rfl
      have hFc := va_free (wc := [(am, .inr (0, [.int (I3 th), .int (I3 mn), .ref as_, .ref av, .ref aw, .int (I3 sm), .int (I3 wd), .int (I3 lp), .int (I3 mp), .int (I3 re)])), (as_, .inl (dA 0, 60, .inl (iA SG))), (av, .inl (dA 1, 960, .inr (.inl (lA VL)))), (aw, .inl (dA 1, 1024, .inr (.inl (lA W1))))]) hD hS hA [0, 1, 2, 3] rfl
      refine va_calli (va_runV (As := [.int (I3 14)]) (rest := []) ⟨hx, hb, hml, hown, hts⟩ (metX8_isEven l dC dI dA am as_ av aw H.size th mn sm wd lp mp re SG VL W1 14 h_76 h_77) (cwV 1 hts (lw_V q980 q982 qs25 q66 q983) rfl rfl rfl (by decide +kernel) ⟨Nat.le_of_ble_eq_true rfl, Nat.le_of_ble_eq_true rfl⟩) ⟨fun a U g mk q => by obtain ⟨q0, q1, qP, qK, qD⟩ := q; exact ⟨q0, q1, qP, va_K.moved (u := U) (U := U.calling g mk a) (Vm.Alike.refl U.vm) qK, qD⟩, va_recv hK hPc (ci := 0) (q0 := 0) rfl rfl, fun U hU hW => ⟨rfl, by rw [hU], by rw [hU]; exact hPc, va_K.moved hW.alike hK, hDc.weaken (fun _ _ _ _ => trivial)⟩⟩ rfl rfl hl.1 rfl (lv_room (Nat.le_of_ble_eq_true rfl)) dX8_greatest_55 ⟨Nat.le_of_ble_eq_true rfl, Nat.le_of_ble_eq_true rfl⟩) hS (fun q _ h => hFc q h) hFc (fun r_55 u t H1 locs ht hvm hw hB hz1 hk1 hS => ?_)
      obtain ⟨z_55, rfl⟩ : ∃ z, z = u := ⟨_, rfl⟩
      obtain ⟨rfl, p0_55⟩ : r_55 = I3 z_55 ∧ (z_55 = if rv W1 (14 : Int) % 2 = 0 then 1 else 0) := hw
      obtain ⟨hP1, hK1, hD1⟩ := hB
      rw [ht] at hP1
      obtain ⟨hP, hD⟩ := va_join (wr := []) (w1 := [(am, .inr (0, [.int (I3 th), .int (I3 mn), .ref as_, .ref av, .ref aw, .int (I3 sm), .int (I3 wd), .int (I3 lp), .int (I3 mp), .int (I3 re)])), (as_, .inl (dA 0, 60, .inl (iA SG))), (av, .inl (dA 1, 960, .inr (.inl (lA VL)))), (aw, .inl (dA 1, 1024, .inr (.inl (lA W1))))]) hP hD [0, 1, 2, 3] [] rfl rfl (by decide) (by decide) hk1 hFc hP1 hD1
      generalize H1 = H at hP hS ⊢
      have hP : va_P (dC, dI) vwCl [(am, .inr (0, [.int (I3 th), .int (I3 mn), .ref as_, .ref av, .ref aw, .int (I3 sm), .int (I3 wd), .int (I3 lp), .int (I3 mp), .int (I3 re)])), (as_, .inl (dA 0, 60, .inl (iA SG))), (av, .inl (dA 1, 960, .inr (.inl (lA VL)))), (aw, .inl (dA 1, 1024, .inr (.inl (lA W1))))] H := hP
      have hD : va_D A [(am, .inr (0, [.int (I3 th), .int (I3 mn), .ref as_, .ref av, .ref aw, .int (I3 sm), .int (I3 wd), .int (I3 lp), .int (I3 mp), .int (I3 re)])), (as_, .inl (dA 0, 60, .inl (iA SG))), (av, .inl (dA 1, 960, .inr (.inl (lA VL)))), (aw, .inl (dA 1, 1024, .inr (.inl (lA W1))))] := hD
      have y_55 := b01 p0_55
      refine ix_if_eq (tgt := 88) hx hb (by first | decide | assumption | (constructor <;> omega)) dX8_greatest_58 (by decide) (fun c_58 => ?_) (fun c_58 => ?_)
      · skip
        have e_78 : 0 ≤ tw ∧ tw < 2048 := by first | exact htw | exact tw_gt htw hne hg hG
        have e_79 : Dg W1 := by first | assumption | omega | (constructor <;> omega)
        have e_80 : Fr2 wf W1 14 15 := by first | assumption | omega | (constructor <;> omega)
        have e_81 : rv W1 14 ≠ 0 := by first | assumption | omega | (constructor <;> omega)
        have e_82 : Nat.gcd (rv W1 14) (rv W1 15) % 2 = 1 := by exact gcd_odd (by omega)
        have e_83 : Nat.gcd (rv W1 14) (rv W1 15) * 2 ^ tw.toNat = Nat.gcd (rv wf a) (rv wf b) := by first | assumption | omega | (constructor <;> omega)
        have e_84 : Nat.gcd (rv wf a) (rv wf b) < BN := by first | assumption | omega | (constructor <;> omega)
        exact cut_88 (rv W1 14 + rv W1 15 + 1) tw W1 e_78 e_79 e_80 e_81 e_82 e_83 e_84 (Nat.lt_succ_self _) _ _ hP hD hS ls (lv_sub hl [0, 1, 2, 3] rfl)
      · skip
        refine lv_aload_n hx hb dX8_greatest_61 rfl (lv_at hl 0 rfl) ?_
        refine lv_bipush (v := I3 (15)) hx hb dX8_greatest_62 (by decide) ?_
        have h_85 : 0 ≤ (15 : Int) ∧ (15 : Int) < 16 := by first | assumption | omega | (constructor <;> omega)
        have h_86 : Dg W1 := by first | assumption | omega | (constructor <;> omega)
        have hPc := hP.sub (ws' := [(am, .inr (0, [.int (I3 th), .int (I3 mn), .ref as_, .ref av, .ref aw, .int (I3 sm), .int (I3 wd), .int (I3 lp), .int (I3 mp), .int (I3 re)])), (as_, .inl (dA 0, 60, .inl (iA SG))), (av, .inl (dA 1, 960, .inr (.inl (lA VL)))), (aw, .inl (dA 1, 1024, .inr (.inl (lA W1))))]) [0, 1, 2, 3] rfl
        have hDc := hD.sub (ws' := [(am, .inr (0, [.int (I3 th), .int (I3 mn), .ref as_, .ref av, .ref aw, .int (I3 sm), .int (I3 wd), .int (I3 lp), .int (I3 mp), .int (I3 re)])), (as_, .inl (dA 0, 60, .inl (iA SG))), (av, .inl (dA 1, 960, .inr (.inl (lA VL)))), (aw, .inl (dA 1, 1024, .inr (.inl (lA W1))))]) [0, 1, 2, 3] (by decide) rfl
        have hFc := va_free (wc := [(am, .inr (0, [.int (I3 th), .int (I3 mn), .ref as_, .ref av, .ref aw, .int (I3 sm), .int (I3 wd), .int (I3 lp), .int (I3 mp), .int (I3 re)])), (as_, .inl (dA 0, 60, .inl (iA SG))), (av, .inl (dA 1, 960, .inr (.inl (lA VL)))), (aw, .inl (dA 1, 1024, .inr (.inl (lA W1))))]) hD hS hA [0, 1, 2, 3] rfl
        refine va_calli (va_runV (As := [.int (I3 15)]) (rest := []) ⟨hx, hb, hml, hown, hts⟩ (metX8_isEven l dC dI dA am as_ av aw H.size th mn sm wd lp mp re SG VL W1 15 h_85 h_86) (cwV 1 hts (lw_V q980 q982 qs25 q66 q983) rfl rfl rfl (by decide +kernel) ⟨Nat.le_of_ble_eq_true rfl, Nat.le_of_ble_eq_true rfl⟩) ⟨fun a U g mk q => by obtain ⟨q0, q1, qP, qK, qD⟩ := q; exact ⟨q0, q1, qP, va_K.moved (u := U) (U := U.calling g mk a) (Vm.Alike.refl U.vm) qK, qD⟩, va_recv hK hPc (ci := 0) (q0 := 0) rfl rfl, fun U hU hW => ⟨rfl, by rw [hU], by rw [hU]; exact hPc, va_K.moved hW.alike hK, hDc.weaken (fun _ _ _ _ => trivial)⟩⟩ rfl rfl hl.1 rfl (lv_room (Nat.le_of_ble_eq_true rfl)) dX8_greatest_64 ⟨Nat.le_of_ble_eq_true rfl, Nat.le_of_ble_eq_true rfl⟩) hS (fun q _ h => hFc q h) hFc (fun r_64 u t H1 locs ht hvm hw hB hz1 hk1 hS => ?_)
        obtain ⟨z_64, rfl⟩ : ∃ z, z = u := ⟨_, rfl⟩
        obtain ⟨rfl, p0_64⟩ : r_64 = I3 z_64 ∧ (z_64 = if rv W1 (15 : Int) % 2 = 0 then 1 else 0) := hw
        obtain ⟨hP1, hK1, hD1⟩ := hB
        rw [ht] at hP1
        obtain ⟨hP, hD⟩ := va_join (wr := []) (w1 := [(am, .inr (0, [.int (I3 th), .int (I3 mn), .ref as_, .ref av, .ref aw, .int (I3 sm), .int (I3 wd), .int (I3 lp), .int (I3 mp), .int (I3 re)])), (as_, .inl (dA 0, 60, .inl (iA SG))), (av, .inl (dA 1, 960, .inr (.inl (lA VL)))), (aw, .inl (dA 1, 1024, .inr (.inl (lA W1))))]) hP hD [0, 1, 2, 3] [] rfl rfl (by decide) (by decide) hk1 hFc hP1 hD1
        generalize H1 = H at hP hS ⊢
        have hP : va_P (dC, dI) vwCl [(am, .inr (0, [.int (I3 th), .int (I3 mn), .ref as_, .ref av, .ref aw, .int (I3 sm), .int (I3 wd), .int (I3 lp), .int (I3 mp), .int (I3 re)])), (as_, .inl (dA 0, 60, .inl (iA SG))), (av, .inl (dA 1, 960, .inr (.inl (lA VL)))), (aw, .inl (dA 1, 1024, .inr (.inl (lA W1))))] H := hP
        have hD : va_D A [(am, .inr (0, [.int (I3 th), .int (I3 mn), .ref as_, .ref av, .ref aw, .int (I3 sm), .int (I3 wd), .int (I3 lp), .int (I3 mp), .int (I3 re)])), (as_, .inl (dA 0, 60, .inl (iA SG))), (av, .inl (dA 1, 960, .inr (.inl (lA VL)))), (aw, .inl (dA 1, 1024, .inr (.inl (lA W1))))] := hD
        have y_64 := b01 p0_64
        refine ix_if_eq (tgt := 88) hx hb (by first | decide | assumption | (constructor <;> omega)) dX8_greatest_67 (by decide) (fun c_67 => ?_) (fun c_67 => ?_)
        · skip
          have e_87 : 0 ≤ tw ∧ tw < 2048 := by first | exact htw | exact tw_gt htw hne hg hG
          have e_88 : Dg W1 := by first | assumption | omega | (constructor <;> omega)
          have e_89 : Fr2 wf W1 14 15 := by first | assumption | omega | (constructor <;> omega)
          have e_90 : rv W1 14 ≠ 0 := by first | assumption | omega | (constructor <;> omega)
          have e_91 : Nat.gcd (rv W1 14) (rv W1 15) % 2 = 1 := by exact gcd_odd (by omega)
          have e_92 : Nat.gcd (rv W1 14) (rv W1 15) * 2 ^ tw.toNat = Nat.gcd (rv wf a) (rv wf b) := by first | assumption | omega | (constructor <;> omega)
          have e_93 : Nat.gcd (rv wf a) (rv wf b) < BN := by first | assumption | omega | (constructor <;> omega)
          exact cut_88 (rv W1 14 + rv W1 15 + 1) tw W1 e_87 e_88 e_89 e_90 e_91 e_92 e_93 (Nat.lt_succ_self _) _ _ hP hD hS ls (lv_sub hl [0, 1, 2, 3] rfl)
        · skip
          refine lv_aload_n hx hb dX8_greatest_70 rfl (lv_at hl 0 rfl) ?_
          refine lv_bipush (v := I3 (14)) hx hb dX8_greatest_71 (by decide) ?_
          have h_94 : 0 ≤ (14 : Int) ∧ (14 : Int) < 16 := by first | assumption | omega | (constructor <;> omega)
          have h_95 : Dg W1 := by first | assumption | omega | (constructor <;> omega)
          have hPc := hP.sub (ws' := [(am, .inr (0, [.int (I3 th), .int (I3 mn), .ref as_, .ref av, .ref aw, .int (I3 sm), .int (I3 wd), .int (I3 lp), .int (I3 mp), .int (I3 re)])), (as_, .inl (dA 0, 60, .inl (iA SG))), (av, .inl (dA 1, 960, .inr (.inl (lA VL)))), (aw, .inl (dA 1, 1024, .inr (.inl (lA W1))))]) [0, 1, 2, 3] rfl
          have hDc := hD.sub (ws' := [(am, .inr (0, [.int (I3 th), .int (I3 mn), .ref as_, .ref av, .ref aw, .int (I3 sm), .int (I3 wd), .int (I3 lp), .int (I3 mp), .int (I3 re)])), (as_, .inl (dA 0, 60, .inl (iA SG))), (av, .inl (dA 1, 960, .inr (.inl (lA VL)))), (aw, .inl (dA 1, 1024, .inr (.inl (lA W1))))]) [0, 1, 2, 3] (by decide) rfl
          have hFc := va_free (wc := [(am, .inr (0, [.int (I3 th), .int (I3 mn), .ref as_, .ref av, .ref aw, .int (I3 sm), .int (I3 wd), .int (I3 lp), .int (I3 mp), .int (I3 re)])), (as_, .inl (dA 0, 60, .inl (iA SG))), (av, .inl (dA 1, 960, .inr (.inl (lA VL)))), (aw, .inl (dA 1, 1024, .inr (.inl (lA W1))))]) hD hS hA [0, 1, 2, 3] rfl
          refine va_callv (va_runV (As := [.int (I3 14)]) (rest := []) ⟨hx, hb, hml, hown, hts⟩ (metX8_halve l dC dI dA am as_ av aw H.size th mn sm wd lp mp re SG VL W1 14 h_94 h_95) (cwV 1 hts (lw_V q984 q986 qs26 q66 q987) rfl rfl rfl (by decide +kernel) ⟨Nat.le_of_ble_eq_true rfl, Nat.le_of_ble_eq_true rfl⟩) ⟨fun a U g mk q => by obtain ⟨q0, q1, qP, qK, qD⟩ := q; exact ⟨q0, q1, qP, va_K.moved (u := U) (U := U.calling g mk a) (Vm.Alike.refl U.vm) qK, qD⟩, va_recv hK hPc (ci := 0) (q0 := 0) rfl rfl, fun U hU hW => ⟨rfl, by rw [hU], by rw [hU]; exact hPc, va_K.moved hW.alike hK, hDc.weaken (fun _ _ _ _ => trivial)⟩⟩ rfl rfl hl.1 rfl (lv_room (Nat.le_of_ble_eq_true rfl)) dX8_greatest_73 ⟨Nat.le_of_ble_eq_true rfl, Nat.le_of_ble_eq_true rfl⟩) hS (fun q _ h => hFc q h) hFc (fun u t H1 locs ht hvm hw hB hz1 hk1 hS => ?_)
          obtain ⟨W1_73, rfl⟩ : ∃ z, z = u := ⟨_, rfl⟩
          obtain ⟨p0_73, p1_73, p2_73⟩ : (Dg W1_73) ∧ (Fr W1 W1_73 (14 : Int)) ∧ (rv W1_73 (14 : Int) = rv W1 (14 : Int) / 2) := hw
          obtain ⟨hP1, hK1, hD1⟩ := hB
          rw [ht] at hP1
          obtain ⟨hP, hD⟩ := va_join (wr := []) (w1 := [(am, .inr (0, [.int (I3 th), .int (I3 mn), .ref as_, .ref av, .ref aw, .int (I3 sm), .int (I3 wd), .int (I3 lp), .int (I3 mp), .int (I3 re)])), (as_, .inl (dA 0, 60, .inl (iA SG))), (av, .inl (dA 1, 960, .inr (.inl (lA VL)))), (aw, .inl (dA 1, 1024, .inr (.inl (lA W1_73))))]) hP hD [0, 1, 2, 3] [] rfl rfl (by decide) (by decide) hk1 hFc hP1 hD1
          generalize H1 = H at hP hS ⊢
          have hP : va_P (dC, dI) vwCl [(am, .inr (0, [.int (I3 th), .int (I3 mn), .ref as_, .ref av, .ref aw, .int (I3 sm), .int (I3 wd), .int (I3 lp), .int (I3 mp), .int (I3 re)])), (as_, .inl (dA 0, 60, .inl (iA SG))), (av, .inl (dA 1, 960, .inr (.inl (lA VL)))), (aw, .inl (dA 1, 1024, .inr (.inl (lA W1_73))))] H := hP
          have hD : va_D A [(am, .inr (0, [.int (I3 th), .int (I3 mn), .ref as_, .ref av, .ref aw, .int (I3 sm), .int (I3 wd), .int (I3 lp), .int (I3 mp), .int (I3 re)])), (as_, .inl (dA 0, 60, .inl (iA SG))), (av, .inl (dA 1, 960, .inr (.inl (lA VL)))), (aw, .inl (dA 1, 1024, .inr (.inl (lA W1_73))))] := hD
          refine lv_aload_n hx hb dX8_greatest_76 rfl (lv_at hl 0 rfl) ?_
          refine lv_bipush (v := I3 (15)) hx hb dX8_greatest_77 (by decide) ?_
          have h_96 : 0 ≤ (15 : Int) ∧ (15 : Int) < 16 := by first | assumption | omega | (constructor <;> omega)
          have h_97 : Dg W1_73 := by first | assumption | omega | (constructor <;> omega)
          have hPc := hP.sub (ws' := [(am, .inr (0, [.int (I3 th), .int (I3 mn), .ref as_, .ref av, .ref aw, .int (I3 sm), .int (I3 wd), .int (I3 lp), .int (I3 mp), .int (I3 re)])), (as_, .inl (dA 0, 60, .inl (iA SG))), (av, .inl (dA 1, 960, .inr (.inl (lA VL)))), (aw, .inl (dA 1, 1024, .inr (.inl (lA W1_73))))]) [0, 1, 2, 3] rfl
          have hDc := hD.sub (ws' := [(am, .inr (0, [.int (I3 th), .int (I3 mn), .ref as_, .ref av, .ref aw, .int (I3 sm), .int (I3 wd), .int (I3 lp), .int (I3 mp), .int (I3 re)])), (as_, .inl (dA 0, 60, .inl (iA SG))), (av, .inl (dA 1, 960, .inr (.inl (lA VL)))), (aw, .inl (dA 1, 1024, .inr (.inl (lA W1_73))))]) [0, 1, 2, 3] (by decide) rfl
          have hFc := va_free (wc := [(am, .inr (0, [.int (I3 th), .int (I3 mn), .ref as_, .ref av, .ref aw, .int (I3 sm), .int (I3 wd), .int (I3 lp), .int (I3 mp), .int (I3 re)])), (as_, .inl (dA 0, 60, .inl (iA SG))), (av, .inl (dA 1, 960, .inr (.inl (lA VL)))), (aw, .inl (dA 1, 1024, .inr (.inl (lA W1_73))))]) hD hS hA [0, 1, 2, 3] rfl
          refine va_callv (va_runV (As := [.int (I3 15)]) (rest := []) ⟨hx, hb, hml, hown, hts⟩ (metX8_halve l dC dI dA am as_ av aw H.size th mn sm wd lp mp re SG VL W1_73 15 h_96 h_97) (cwV 1 hts (lw_V q984 q986 qs26 q66 q987) rfl rfl rfl (by decide +kernel) ⟨Nat.le_of_ble_eq_true rfl, Nat.le_of_ble_eq_true rfl⟩) ⟨fun a U g mk q => by obtain ⟨q0, q1, qP, qK, qD⟩ := q; exact ⟨q0, q1, qP, va_K.moved (u := U) (U := U.calling g mk a) (Vm.Alike.refl U.vm) qK, qD⟩, va_recv hK hPc (ci := 0) (q0 := 0) rfl rfl, fun U hU hW => ⟨rfl, by rw [hU], by rw [hU]; exact hPc, va_K.moved hW.alike hK, hDc.weaken (fun _ _ _ _ => trivial)⟩⟩ rfl rfl hl.1 rfl (lv_room (Nat.le_of_ble_eq_true rfl)) dX8_greatest_79 ⟨Nat.le_of_ble_eq_true rfl, Nat.le_of_ble_eq_true rfl⟩) hS (fun q _ h => hFc q h) hFc (fun u t H1 locs ht hvm hw hB hz1 hk1 hS => ?_)
          obtain ⟨W1_79, rfl⟩ : ∃ z, z = u := ⟨_, rfl⟩
          obtain ⟨p0_79, p1_79, p2_79⟩ : (Dg W1_79) ∧ (Fr W1_73 W1_79 (15 : Int)) ∧ (rv W1_79 (15 : Int) = rv W1_73 (15 : Int) / 2) := hw
          obtain ⟨hP1, hK1, hD1⟩ := hB
          rw [ht] at hP1
          obtain ⟨hP, hD⟩ := va_join (wr := []) (w1 := [(am, .inr (0, [.int (I3 th), .int (I3 mn), .ref as_, .ref av, .ref aw, .int (I3 sm), .int (I3 wd), .int (I3 lp), .int (I3 mp), .int (I3 re)])), (as_, .inl (dA 0, 60, .inl (iA SG))), (av, .inl (dA 1, 960, .inr (.inl (lA VL)))), (aw, .inl (dA 1, 1024, .inr (.inl (lA W1_79))))]) hP hD [0, 1, 2, 3] [] rfl rfl (by decide) (by decide) hk1 hFc hP1 hD1
          generalize H1 = H at hP hS ⊢
          have hP : va_P (dC, dI) vwCl [(am, .inr (0, [.int (I3 th), .int (I3 mn), .ref as_, .ref av, .ref aw, .int (I3 sm), .int (I3 wd), .int (I3 lp), .int (I3 mp), .int (I3 re)])), (as_, .inl (dA 0, 60, .inl (iA SG))), (av, .inl (dA 1, 960, .inr (.inl (lA VL)))), (aw, .inl (dA 1, 1024, .inr (.inl (lA W1_79))))] H := hP
          have hD : va_D A [(am, .inr (0, [.int (I3 th), .int (I3 mn), .ref as_, .ref av, .ref aw, .int (I3 sm), .int (I3 wd), .int (I3 lp), .int (I3 mp), .int (I3 re)])), (as_, .inl (dA 0, 60, .inl (iA SG))), (av, .inl (dA 1, 960, .inr (.inl (lA VL)))), (aw, .inl (dA 1, 1024, .inr (.inl (lA W1_79))))] := hD
          refine lv_iinc (v := I3 (tw + 1)) (lv' := [(3, .int (I3 (tw + 1))), (0, .ref am), (1, .int (I3 a)), (2, .int (I3 b))]) hx hb dX8_greatest_82 hl (k := 3) rfl (I3_add _ _) (by decide) rfl (fun ls hl => ?_)
          refine lv_goto (tgt := 52) hx hb dX8_greatest_85 (by decide) ?_
          have e4 : rv W1_79 14 = rv W1_73 14 := Fr_rv p1_79 (by decide)
          have e5 : rv W1_73 15 = rv W1 15 := Fr_rv p1_73 (by decide)
          have e6 : rv W1_79 15 = rv W1 15 / 2 := p2_79.trans (congrArg (fun x => x / 2) e5)
          have e_98 : 0 ≤ (tw + 1) := by first | assumption | omega | (constructor <;> omega)
          have e_99 : Dg W1_79 := by first | assumption | omega | (constructor <;> omega)
          have e_100 : Fr2 wf W1_79 14 15 := by exact Fr2_2 (Fr2_1 hF p1_73) p1_79
          have e_101 : rv W1_79 14 ≠ 0 := by omega
          have e_102 : rv W1_79 15 ≠ 0 := by omega
          have e_103 : Nat.gcd (rv W1_79 14) (rv W1_79 15) * 2 ^ (tw + 1).toNat = Nat.gcd (rv wf a) (rv wf b) := by rw [tw_s htw, e4, e6, p2_73, ← gcd_half2 (by omega) (by omega)]; exact hg
          have e_104 : Nat.gcd (rv wf a) (rv wf b) < BN := by first | assumption | omega | (constructor <;> omega)
          have e_105 : rv W1_79 14 < fuel_52 := by omega
          exact ih_52 (tw + 1) W1_79 e_98 e_99 e_100 e_101 e_102 e_103 e_104 e_105 _ _ hP hD hS ls (lv_sub hl [1, 2, 3, 0] rfl)
  refine lv_aload_n hx hb dX8_greatest_0 rfl (lv_at hl 0 rfl) ?_
  refine lv_iload_n hx hb dX8_greatest_1 rfl (lv_at hl 1 rfl) ?_
  refine lv_bipush (v := I3 (14)) hx hb dX8_greatest_2 (by decide) ?_
  have h_106 : 0 ≤ a ∧ a < 16 := by first | assumption | omega | (constructor <;> omega)
  have h_107 : 0 ≤ (14 : Int) ∧ (14 : Int) < 16 := by first | assumption | omega | (constructor <;> omega)
  have h_108 : a ≠ (14 : Int) := by first | assumption | omega | (constructor <;> omega)
  have h_109 : Dg wf := by first | assumption | omega | (constructor <;> omega)
  have hPc := hP.sub (ws' := [(am, .inr (0, [.int (I3 th), .int (I3 mn), .ref as_, .ref av, .ref aw, .int (I3 sm), .int (I3 wd), .int (I3 lp), .int (I3 mp), .int (I3 re)])), (as_, .inl (dA 0, 60, .inl (iA SG))), (av, .inl (dA 1, 960, .inr (.inl (lA VL)))), (aw, .inl (dA 1, 1024, .inr (.inl (lA wf))))]) [0, 1, 2, 3] rfl
  have hDc := hD.sub (ws' := [(am, .inr (0, [.int (I3 th), .int (I3 mn), .ref as_, .ref av, .ref aw, .int (I3 sm), .int (I3 wd), .int (I3 lp), .int (I3 mp), .int (I3 re)])), (as_, .inl (dA 0, 60, .inl (iA SG))), (av, .inl (dA 1, 960, .inr (.inl (lA VL)))), (aw, .inl (dA 1, 1024, .inr (.inl (lA wf))))]) [0, 1, 2, 3] (by decide) rfl
  have hFc := va_free (wc := [(am, .inr (0, [.int (I3 th), .int (I3 mn), .ref as_, .ref av, .ref aw, .int (I3 sm), .int (I3 wd), .int (I3 lp), .int (I3 mp), .int (I3 re)])), (as_, .inl (dA 0, 60, .inl (iA SG))), (av, .inl (dA 1, 960, .inr (.inl (lA VL)))), (aw, .inl (dA 1, 1024, .inr (.inl (lA wf))))]) hD hS hA [0, 1, 2, 3] rfl
  refine va_callv (va_runV (As := [.int (I3 a), .int (I3 14)]) (rest := []) ⟨hx, hb, hml, hown, hts⟩ (metX8_copy l dC dI dA am as_ av aw s.heap.size th mn sm wd lp mp re SG VL wf a 14 h_106 h_107 h_108 h_109) (cwV 2 hts (lw_V q976 q978 qs24 q66 q979) rfl rfl rfl (by decide +kernel) ⟨Nat.le_of_ble_eq_true rfl, Nat.le_of_ble_eq_true rfl⟩) ⟨fun a U g mk q => by obtain ⟨q0, q1, qP, qK, qD⟩ := q; exact ⟨q0, q1, qP, va_K.moved (u := U) (U := U.calling g mk a) (Vm.Alike.refl U.vm) qK, qD⟩, va_recv hK hPc (ci := 0) (q0 := 0) rfl rfl, fun U hU hW => ⟨rfl, by rw [hU], by rw [hU]; exact hPc, va_K.moved hW.alike hK, hDc.weaken (fun _ _ _ _ => trivial)⟩⟩ rfl rfl hl.1 rfl (lv_room (Nat.le_of_ble_eq_true rfl)) dX8_greatest_4 ⟨Nat.le_of_ble_eq_true rfl, Nat.le_of_ble_eq_true rfl⟩) hS (fun q _ h => hFc q h) hFc (fun u t H1 locs ht hvm hw hB hz1 hk1 hS => ?_)
  obtain ⟨W1_4, rfl⟩ : ∃ z, z = u := ⟨_, rfl⟩
  obtain ⟨p0_4, p1_4, p2_4⟩ : (Dg W1_4) ∧ (Fr wf W1_4 (14 : Int)) ∧ (rv W1_4 (14 : Int) = rv wf a) := hw
  obtain ⟨hP1, hK1, hD1⟩ := hB
  rw [ht] at hP1
  obtain ⟨hP, hD⟩ := va_join (wr := []) (w1 := [(am, .inr (0, [.int (I3 th), .int (I3 mn), .ref as_, .ref av, .ref aw, .int (I3 sm), .int (I3 wd), .int (I3 lp), .int (I3 mp), .int (I3 re)])), (as_, .inl (dA 0, 60, .inl (iA SG))), (av, .inl (dA 1, 960, .inr (.inl (lA VL)))), (aw, .inl (dA 1, 1024, .inr (.inl (lA W1_4))))]) hP hD [0, 1, 2, 3] [] rfl rfl (by decide) (by decide) hk1 hFc hP1 hD1
  generalize H1 = H at hP hS ⊢
  have hP : va_P (dC, dI) vwCl [(am, .inr (0, [.int (I3 th), .int (I3 mn), .ref as_, .ref av, .ref aw, .int (I3 sm), .int (I3 wd), .int (I3 lp), .int (I3 mp), .int (I3 re)])), (as_, .inl (dA 0, 60, .inl (iA SG))), (av, .inl (dA 1, 960, .inr (.inl (lA VL)))), (aw, .inl (dA 1, 1024, .inr (.inl (lA W1_4))))] H := hP
  have hD : va_D A [(am, .inr (0, [.int (I3 th), .int (I3 mn), .ref as_, .ref av, .ref aw, .int (I3 sm), .int (I3 wd), .int (I3 lp), .int (I3 mp), .int (I3 re)])), (as_, .inl (dA 0, 60, .inl (iA SG))), (av, .inl (dA 1, 960, .inr (.inl (lA VL)))), (aw, .inl (dA 1, 1024, .inr (.inl (lA W1_4))))] := hD
  refine lv_aload_n hx hb dX8_greatest_7 rfl (lv_at hl 0 rfl) ?_
  refine lv_iload_n hx hb dX8_greatest_8 rfl (lv_at hl 2 rfl) ?_
  refine lv_bipush (v := I3 (15)) hx hb dX8_greatest_9 (by decide) ?_
  have h_110 : 0 ≤ b ∧ b < 16 := by first | assumption | omega | (constructor <;> omega)
  have h_111 : 0 ≤ (15 : Int) ∧ (15 : Int) < 16 := by first | assumption | omega | (constructor <;> omega)
  have h_112 : b ≠ (15 : Int) := by first | assumption | omega | (constructor <;> omega)
  have h_113 : Dg W1_4 := by first | assumption | omega | (constructor <;> omega)
  have hPc := hP.sub (ws' := [(am, .inr (0, [.int (I3 th), .int (I3 mn), .ref as_, .ref av, .ref aw, .int (I3 sm), .int (I3 wd), .int (I3 lp), .int (I3 mp), .int (I3 re)])), (as_, .inl (dA 0, 60, .inl (iA SG))), (av, .inl (dA 1, 960, .inr (.inl (lA VL)))), (aw, .inl (dA 1, 1024, .inr (.inl (lA W1_4))))]) [0, 1, 2, 3] rfl
  have hDc := hD.sub (ws' := [(am, .inr (0, [.int (I3 th), .int (I3 mn), .ref as_, .ref av, .ref aw, .int (I3 sm), .int (I3 wd), .int (I3 lp), .int (I3 mp), .int (I3 re)])), (as_, .inl (dA 0, 60, .inl (iA SG))), (av, .inl (dA 1, 960, .inr (.inl (lA VL)))), (aw, .inl (dA 1, 1024, .inr (.inl (lA W1_4))))]) [0, 1, 2, 3] (by decide) rfl
  have hFc := va_free (wc := [(am, .inr (0, [.int (I3 th), .int (I3 mn), .ref as_, .ref av, .ref aw, .int (I3 sm), .int (I3 wd), .int (I3 lp), .int (I3 mp), .int (I3 re)])), (as_, .inl (dA 0, 60, .inl (iA SG))), (av, .inl (dA 1, 960, .inr (.inl (lA VL)))), (aw, .inl (dA 1, 1024, .inr (.inl (lA W1_4))))]) hD hS hA [0, 1, 2, 3] rfl
  refine va_callv (va_runV (As := [.int (I3 b), .int (I3 15)]) (rest := []) ⟨hx, hb, hml, hown, hts⟩ (metX8_copy l dC dI dA am as_ av aw H.size th mn sm wd lp mp re SG VL W1_4 b 15 h_110 h_111 h_112 h_113) (cwV 2 hts (lw_V q976 q978 qs24 q66 q979) rfl rfl rfl (by decide +kernel) ⟨Nat.le_of_ble_eq_true rfl, Nat.le_of_ble_eq_true rfl⟩) ⟨fun a U g mk q => by obtain ⟨q0, q1, qP, qK, qD⟩ := q; exact ⟨q0, q1, qP, va_K.moved (u := U) (U := U.calling g mk a) (Vm.Alike.refl U.vm) qK, qD⟩, va_recv hK hPc (ci := 0) (q0 := 0) rfl rfl, fun U hU hW => ⟨rfl, by rw [hU], by rw [hU]; exact hPc, va_K.moved hW.alike hK, hDc.weaken (fun _ _ _ _ => trivial)⟩⟩ rfl rfl hl.1 rfl (lv_room (Nat.le_of_ble_eq_true rfl)) dX8_greatest_11 ⟨Nat.le_of_ble_eq_true rfl, Nat.le_of_ble_eq_true rfl⟩) hS (fun q _ h => hFc q h) hFc (fun u t H1 locs ht hvm hw hB hz1 hk1 hS => ?_)
  obtain ⟨W1_11, rfl⟩ : ∃ z, z = u := ⟨_, rfl⟩
  obtain ⟨p0_11, p1_11, p2_11⟩ : (Dg W1_11) ∧ (Fr W1_4 W1_11 (15 : Int)) ∧ (rv W1_11 (15 : Int) = rv W1_4 b) := hw
  obtain ⟨hP1, hK1, hD1⟩ := hB
  rw [ht] at hP1
  obtain ⟨hP, hD⟩ := va_join (wr := []) (w1 := [(am, .inr (0, [.int (I3 th), .int (I3 mn), .ref as_, .ref av, .ref aw, .int (I3 sm), .int (I3 wd), .int (I3 lp), .int (I3 mp), .int (I3 re)])), (as_, .inl (dA 0, 60, .inl (iA SG))), (av, .inl (dA 1, 960, .inr (.inl (lA VL)))), (aw, .inl (dA 1, 1024, .inr (.inl (lA W1_11))))]) hP hD [0, 1, 2, 3] [] rfl rfl (by decide) (by decide) hk1 hFc hP1 hD1
  generalize H1 = H at hP hS ⊢
  have hP : va_P (dC, dI) vwCl [(am, .inr (0, [.int (I3 th), .int (I3 mn), .ref as_, .ref av, .ref aw, .int (I3 sm), .int (I3 wd), .int (I3 lp), .int (I3 mp), .int (I3 re)])), (as_, .inl (dA 0, 60, .inl (iA SG))), (av, .inl (dA 1, 960, .inr (.inl (lA VL)))), (aw, .inl (dA 1, 1024, .inr (.inl (lA W1_11))))] H := hP
  have hD : va_D A [(am, .inr (0, [.int (I3 th), .int (I3 mn), .ref as_, .ref av, .ref aw, .int (I3 sm), .int (I3 wd), .int (I3 lp), .int (I3 mp), .int (I3 re)])), (as_, .inl (dA 0, 60, .inl (iA SG))), (av, .inl (dA 1, 960, .inr (.inl (lA VL)))), (aw, .inl (dA 1, 1024, .inr (.inl (lA W1_11))))] := hD
  have e14 : rv W1_11 14 = rv wf a := (Fr_rv p1_11 (by decide)).trans p2_4
  have e15 : rv W1_11 15 = rv wf b := p2_11.trans (Fr_rv p1_4 hb4.1)
  have hF0 : Fr2 wf W1_11 14 15 := Fr2_2 (Fr2_1 Fr2_rf p1_4) p1_11
  refine lv_aload_n hx hb dX8_greatest_14 rfl (lv_at hl 0 rfl) ?_
  refine lv_bipush (v := I3 (14)) hx hb dX8_greatest_15 (by decide) ?_
  have h_114 : 0 ≤ (14 : Int) ∧ (14 : Int) < 16 := by first | assumption | omega | (constructor <;> omega)
  have h_115 : Dg W1_11 := by first | assumption | omega | (constructor <;> omega)
  have hPc := hP.sub (ws' := [(am, .inr (0, [.int (I3 th), .int (I3 mn), .ref as_, .ref av, .ref aw, .int (I3 sm), .int (I3 wd), .int (I3 lp), .int (I3 mp), .int (I3 re)])), (as_, .inl (dA 0, 60, .inl (iA SG))), (av, .inl (dA 1, 960, .inr (.inl (lA VL)))), (aw, .inl (dA 1, 1024, .inr (.inl (lA W1_11))))]) [0, 1, 2, 3] rfl
  have hDc := hD.sub (ws' := [(am, .inr (0, [.int (I3 th), .int (I3 mn), .ref as_, .ref av, .ref aw, .int (I3 sm), .int (I3 wd), .int (I3 lp), .int (I3 mp), .int (I3 re)])), (as_, .inl (dA 0, 60, .inl (iA SG))), (av, .inl (dA 1, 960, .inr (.inl (lA VL)))), (aw, .inl (dA 1, 1024, .inr (.inl (lA W1_11))))]) [0, 1, 2, 3] (by decide) rfl
  have hFc := va_free (wc := [(am, .inr (0, [.int (I3 th), .int (I3 mn), .ref as_, .ref av, .ref aw, .int (I3 sm), .int (I3 wd), .int (I3 lp), .int (I3 mp), .int (I3 re)])), (as_, .inl (dA 0, 60, .inl (iA SG))), (av, .inl (dA 1, 960, .inr (.inl (lA VL)))), (aw, .inl (dA 1, 1024, .inr (.inl (lA W1_11))))]) hD hS hA [0, 1, 2, 3] rfl
  refine va_calli (va_runV (As := [.int (I3 14)]) (rest := []) ⟨hx, hb, hml, hown, hts⟩ (metX8_isZero l dC dI dA am as_ av aw H.size th mn sm wd lp mp re SG VL W1_11 14 h_114 h_115) (cwV 1 hts (lw_V q968 q970 qs22 q66 q971) rfl rfl rfl (by decide +kernel) ⟨Nat.le_of_ble_eq_true rfl, Nat.le_of_ble_eq_true rfl⟩) ⟨fun a U g mk q => by obtain ⟨q0, q1, qP, qK, qD⟩ := q; exact ⟨q0, q1, qP, va_K.moved (u := U) (U := U.calling g mk a) (Vm.Alike.refl U.vm) qK, qD⟩, va_recv hK hPc (ci := 0) (q0 := 0) rfl rfl, fun U hU hW => ⟨rfl, by rw [hU], by rw [hU]; exact hPc, va_K.moved hW.alike hK, hDc.weaken (fun _ _ _ _ => trivial)⟩⟩ rfl rfl hl.1 rfl (lv_room (Nat.le_of_ble_eq_true rfl)) dX8_greatest_17 ⟨Nat.le_of_ble_eq_true rfl, Nat.le_of_ble_eq_true rfl⟩) hS (fun q _ h => hFc q h) hFc (fun r_17 u t H1 locs ht hvm hw hB hz1 hk1 hS => ?_)
  obtain ⟨z_17, rfl⟩ : ∃ z, z = u := ⟨_, rfl⟩
  obtain ⟨rfl, p0_17⟩ : r_17 = I3 z_17 ∧ (z_17 = if rv W1_11 (14 : Int) = 0 then 1 else 0) := hw
  obtain ⟨hP1, hK1, hD1⟩ := hB
  rw [ht] at hP1
  obtain ⟨hP, hD⟩ := va_join (wr := []) (w1 := [(am, .inr (0, [.int (I3 th), .int (I3 mn), .ref as_, .ref av, .ref aw, .int (I3 sm), .int (I3 wd), .int (I3 lp), .int (I3 mp), .int (I3 re)])), (as_, .inl (dA 0, 60, .inl (iA SG))), (av, .inl (dA 1, 960, .inr (.inl (lA VL)))), (aw, .inl (dA 1, 1024, .inr (.inl (lA W1_11))))]) hP hD [0, 1, 2, 3] [] rfl rfl (by decide) (by decide) hk1 hFc hP1 hD1
  generalize H1 = H at hP hS ⊢
  have hP : va_P (dC, dI) vwCl [(am, .inr (0, [.int (I3 th), .int (I3 mn), .ref as_, .ref av, .ref aw, .int (I3 sm), .int (I3 wd), .int (I3 lp), .int (I3 mp), .int (I3 re)])), (as_, .inl (dA 0, 60, .inl (iA SG))), (av, .inl (dA 1, 960, .inr (.inl (lA VL)))), (aw, .inl (dA 1, 1024, .inr (.inl (lA W1_11))))] H := hP
  have hD : va_D A [(am, .inr (0, [.int (I3 th), .int (I3 mn), .ref as_, .ref av, .ref aw, .int (I3 sm), .int (I3 wd), .int (I3 lp), .int (I3 mp), .int (I3 re)])), (as_, .inl (dA 0, 60, .inl (iA SG))), (av, .inl (dA 1, 960, .inr (.inl (lA VL)))), (aw, .inl (dA 1, 1024, .inr (.inl (lA W1_11))))] := hD
  have y_17 := b01 p0_17
  refine ix_if_ne (tgt := 32) hx hb (by first | decide | assumption | (constructor <;> omega)) dX8_greatest_20 (by decide) (fun c_20 => ?_) (fun c_20 => ?_)
  · skip
    refine lv_aload_n hx hb dX8_greatest_32 rfl (lv_at hl 0 rfl) ?_
    refine lv_bipush (v := I3 (14)) hx hb dX8_greatest_33 (by decide) ?_
    have h_116 : 0 ≤ (14 : Int) ∧ (14 : Int) < 16 := by first | assumption | omega | (constructor <;> omega)
    have h_117 : Dg W1_11 := by first | assumption | omega | (constructor <;> omega)
    have hPc := hP.sub (ws' := [(am, .inr (0, [.int (I3 th), .int (I3 mn), .ref as_, .ref av, .ref aw, .int (I3 sm), .int (I3 wd), .int (I3 lp), .int (I3 mp), .int (I3 re)])), (as_, .inl (dA 0, 60, .inl (iA SG))), (av, .inl (dA 1, 960, .inr (.inl (lA VL)))), (aw, .inl (dA 1, 1024, .inr (.inl (lA W1_11))))]) [0, 1, 2, 3] rfl
    have hDc := hD.sub (ws' := [(am, .inr (0, [.int (I3 th), .int (I3 mn), .ref as_, .ref av, .ref aw, .int (I3 sm), .int (I3 wd), .int (I3 lp), .int (I3 mp), .int (I3 re)])), (as_, .inl (dA 0, 60, .inl (iA SG))), (av, .inl (dA 1, 960, .inr (.inl (lA VL)))), (aw, .inl (dA 1, 1024, .inr (.inl (lA W1_11))))]) [0, 1, 2, 3] (by decide) rfl
    have hFc := va_free (wc := [(am, .inr (0, [.int (I3 th), .int (I3 mn), .ref as_, .ref av, .ref aw, .int (I3 sm), .int (I3 wd), .int (I3 lp), .int (I3 mp), .int (I3 re)])), (as_, .inl (dA 0, 60, .inl (iA SG))), (av, .inl (dA 1, 960, .inr (.inl (lA VL)))), (aw, .inl (dA 1, 1024, .inr (.inl (lA W1_11))))]) hD hS hA [0, 1, 2, 3] rfl
    refine va_calli (va_runV (As := [.int (I3 14)]) (rest := []) ⟨hx, hb, hml, hown, hts⟩ (metX8_isZero l dC dI dA am as_ av aw H.size th mn sm wd lp mp re SG VL W1_11 14 h_116 h_117) (cwV 1 hts (lw_V q968 q970 qs22 q66 q971) rfl rfl rfl (by decide +kernel) ⟨Nat.le_of_ble_eq_true rfl, Nat.le_of_ble_eq_true rfl⟩) ⟨fun a U g mk q => by obtain ⟨q0, q1, qP, qK, qD⟩ := q; exact ⟨q0, q1, qP, va_K.moved (u := U) (U := U.calling g mk a) (Vm.Alike.refl U.vm) qK, qD⟩, va_recv hK hPc (ci := 0) (q0 := 0) rfl rfl, fun U hU hW => ⟨rfl, by rw [hU], by rw [hU]; exact hPc, va_K.moved hW.alike hK, hDc.weaken (fun _ _ _ _ => trivial)⟩⟩ rfl rfl hl.1 rfl (lv_room (Nat.le_of_ble_eq_true rfl)) dX8_greatest_35 ⟨Nat.le_of_ble_eq_true rfl, Nat.le_of_ble_eq_true rfl⟩) hS (fun q _ h => hFc q h) hFc (fun r_35 u t H1 locs ht hvm hw hB hz1 hk1 hS => ?_)
    obtain ⟨z_35, rfl⟩ : ∃ z, z = u := ⟨_, rfl⟩
    obtain ⟨rfl, p0_35⟩ : r_35 = I3 z_35 ∧ (z_35 = if rv W1_11 (14 : Int) = 0 then 1 else 0) := hw
    obtain ⟨hP1, hK1, hD1⟩ := hB
    rw [ht] at hP1
    obtain ⟨hP, hD⟩ := va_join (wr := []) (w1 := [(am, .inr (0, [.int (I3 th), .int (I3 mn), .ref as_, .ref av, .ref aw, .int (I3 sm), .int (I3 wd), .int (I3 lp), .int (I3 mp), .int (I3 re)])), (as_, .inl (dA 0, 60, .inl (iA SG))), (av, .inl (dA 1, 960, .inr (.inl (lA VL)))), (aw, .inl (dA 1, 1024, .inr (.inl (lA W1_11))))]) hP hD [0, 1, 2, 3] [] rfl rfl (by decide) (by decide) hk1 hFc hP1 hD1
    generalize H1 = H at hP hS ⊢
    have hP : va_P (dC, dI) vwCl [(am, .inr (0, [.int (I3 th), .int (I3 mn), .ref as_, .ref av, .ref aw, .int (I3 sm), .int (I3 wd), .int (I3 lp), .int (I3 mp), .int (I3 re)])), (as_, .inl (dA 0, 60, .inl (iA SG))), (av, .inl (dA 1, 960, .inr (.inl (lA VL)))), (aw, .inl (dA 1, 1024, .inr (.inl (lA W1_11))))] H := hP
    have hD : va_D A [(am, .inr (0, [.int (I3 th), .int (I3 mn), .ref as_, .ref av, .ref aw, .int (I3 sm), .int (I3 wd), .int (I3 lp), .int (I3 mp), .int (I3 re)])), (as_, .inl (dA 0, 60, .inl (iA SG))), (av, .inl (dA 1, 960, .inr (.inl (lA VL)))), (aw, .inl (dA 1, 1024, .inr (.inl (lA W1_11))))] := hD
    have y_35 := b01 p0_35
    refine ix_if_eq (tgt := 49) hx hb (by first | decide | assumption | (constructor <;> omega)) dX8_greatest_38 (by decide) (fun c_38 => ?_) (fun c_38 => ?_)
    · skip
      have o_118 : Dg W1_11 := by first | assumption | omega | (constructor <;> omega)
      have o_119 : Fr2 wf W1_11 14 15 := by exact hF0
      have o_120 : rv W1_11 14 = Nat.gcd (rv wf a) (rv wf b) := by rw [e14, show rv wf b = 0 by omega, Nat.gcd_zero_right]
      exact W.vret hx hb hr (fun t ht hW => ⟨⟨W1_11, rfl, ⟨o_118, o_119, o_120⟩, by rw [ht]; exact hP, va_K.moved hW.alike hK, hD⟩, hS.F ht⟩) hS.2.2 dX8_greatest_49
    · skip
      refine lv_aload_n hx hb dX8_greatest_41 rfl (lv_at hl 0 rfl) ?_
      refine lv_bipush (v := I3 (15)) hx hb dX8_greatest_42 (by decide) ?_
      refine lv_bipush (v := I3 (14)) hx hb dX8_greatest_44 (by decide) ?_
      have h_121 : 0 ≤ (15 : Int) ∧ (15 : Int) < 16 := by first | assumption | omega | (constructor <;> omega)
      have h_122 : 0 ≤ (14 : Int) ∧ (14 : Int) < 16 := by first | assumption | omega | (constructor <;> omega)
      have h_123 : (15 : Int) ≠ (14 : Int) := by first | assumption | omega | (constructor <;> omega)
      have h_124 : Dg W1_11 := by first | assumption | omega | (constructor <;> omega)
      have hPc := hP.sub (ws' := [(am, .inr (0, [.int (I3 th), .int (I3 mn), .ref as_, .ref av, .ref aw, .int (I3 sm), .int (I3 wd), .int (I3 lp), .int (I3 mp), .int (I3 re)])), (as_, .inl (dA 0, 60, .inl (iA SG))), (av, .inl (dA 1, 960, .inr (.inl (lA VL)))), (aw, .inl (dA 1, 1024, .inr (.inl (lA W1_11))))]) [0, 1, 2, 3] rfl
      have hDc := hD.sub (ws' := [(am, .inr (0, [.int (I3 th), .int (I3 mn), .ref as_, .ref av, .ref aw, .int (I3 sm), .int (I3 wd), .int (I3 lp), .int (I3 mp), .int (I3 re)])), (as_, .inl (dA 0, 60, .inl (iA SG))), (av, .inl (dA 1, 960, .inr (.inl (lA VL)))), (aw, .inl (dA 1, 1024, .inr (.inl (lA W1_11))))]) [0, 1, 2, 3] (by decide) rfl
      have hFc := va_free (wc := [(am, .inr (0, [.int (I3 th), .int (I3 mn), .ref as_, .ref av, .ref aw, .int (I3 sm), .int (I3 wd), .int (I3 lp), .int (I3 mp), .int (I3 re)])), (as_, .inl (dA 0, 60, .inl (iA SG))), (av, .inl (dA 1, 960, .inr (.inl (lA VL)))), (aw, .inl (dA 1, 1024, .inr (.inl (lA W1_11))))]) hD hS hA [0, 1, 2, 3] rfl
      refine va_callv (va_runV (As := [.int (I3 15), .int (I3 14)]) (rest := []) ⟨hx, hb, hml, hown, hts⟩ (metX8_copy l dC dI dA am as_ av aw H.size th mn sm wd lp mp re SG VL W1_11 15 14 h_121 h_122 h_123 h_124) (cwV 2 hts (lw_V q976 q978 qs24 q66 q979) rfl rfl rfl (by decide +kernel) ⟨Nat.le_of_ble_eq_true rfl, Nat.le_of_ble_eq_true rfl⟩) ⟨fun a U g mk q => by obtain ⟨q0, q1, qP, qK, qD⟩ := q; exact ⟨q0, q1, qP, va_K.moved (u := U) (U := U.calling g mk a) (Vm.Alike.refl U.vm) qK, qD⟩, va_recv hK hPc (ci := 0) (q0 := 0) rfl rfl, fun U hU hW => ⟨rfl, by rw [hU], by rw [hU]; exact hPc, va_K.moved hW.alike hK, hDc.weaken (fun _ _ _ _ => trivial)⟩⟩ rfl rfl hl.1 rfl (lv_room (Nat.le_of_ble_eq_true rfl)) dX8_greatest_46 ⟨Nat.le_of_ble_eq_true rfl, Nat.le_of_ble_eq_true rfl⟩) hS (fun q _ h => hFc q h) hFc (fun u t H1 locs ht hvm hw hB hz1 hk1 hS => ?_)
      obtain ⟨W1_46, rfl⟩ : ∃ z, z = u := ⟨_, rfl⟩
      obtain ⟨p0_46, p1_46, p2_46⟩ : (Dg W1_46) ∧ (Fr W1_11 W1_46 (14 : Int)) ∧ (rv W1_46 (14 : Int) = rv W1_11 (15 : Int)) := hw
      obtain ⟨hP1, hK1, hD1⟩ := hB
      rw [ht] at hP1
      obtain ⟨hP, hD⟩ := va_join (wr := []) (w1 := [(am, .inr (0, [.int (I3 th), .int (I3 mn), .ref as_, .ref av, .ref aw, .int (I3 sm), .int (I3 wd), .int (I3 lp), .int (I3 mp), .int (I3 re)])), (as_, .inl (dA 0, 60, .inl (iA SG))), (av, .inl (dA 1, 960, .inr (.inl (lA VL)))), (aw, .inl (dA 1, 1024, .inr (.inl (lA W1_46))))]) hP hD [0, 1, 2, 3] [] rfl rfl (by decide) (by decide) hk1 hFc hP1 hD1
      generalize H1 = H at hP hS ⊢
      have hP : va_P (dC, dI) vwCl [(am, .inr (0, [.int (I3 th), .int (I3 mn), .ref as_, .ref av, .ref aw, .int (I3 sm), .int (I3 wd), .int (I3 lp), .int (I3 mp), .int (I3 re)])), (as_, .inl (dA 0, 60, .inl (iA SG))), (av, .inl (dA 1, 960, .inr (.inl (lA VL)))), (aw, .inl (dA 1, 1024, .inr (.inl (lA W1_46))))] H := hP
      have hD : va_D A [(am, .inr (0, [.int (I3 th), .int (I3 mn), .ref as_, .ref av, .ref aw, .int (I3 sm), .int (I3 wd), .int (I3 lp), .int (I3 mp), .int (I3 re)])), (as_, .inl (dA 0, 60, .inl (iA SG))), (av, .inl (dA 1, 960, .inr (.inl (lA VL)))), (aw, .inl (dA 1, 1024, .inr (.inl (lA W1_46))))] := hD
      have o_125 : Dg W1_46 := by first | assumption | omega | (constructor <;> omega)
      have o_126 : Fr2 wf W1_46 14 15 := by exact Fr2_1 hF0 p1_46
      have o_127 : rv W1_46 14 = Nat.gcd (rv wf a) (rv wf b) := by rw [p2_46, e15, show rv wf a = 0 by omega, Nat.gcd_zero_left]
      exact W.vret hx hb hr (fun t ht hW => ⟨⟨W1_46, rfl, ⟨o_125, o_126, o_127⟩, by rw [ht]; exact hP, va_K.moved hW.alike hK, hD⟩, hS.F ht⟩) hS.2.2 dX8_greatest_49
  · skip
    refine lv_aload_n hx hb dX8_greatest_23 rfl (lv_at hl 0 rfl) ?_
    refine lv_bipush (v := I3 (15)) hx hb dX8_greatest_24 (by decide) ?_
    have h_128 : 0 ≤ (15 : Int) ∧ (15 : Int) < 16 := by first | assumption | omega | (constructor <;> omega)
    have h_129 : Dg W1_11 := by first | assumption | omega | (constructor <;> omega)
    have hPc := hP.sub (ws' := [(am, .inr (0, [.int (I3 th), .int (I3 mn), .ref as_, .ref av, .ref aw, .int (I3 sm), .int (I3 wd), .int (I3 lp), .int (I3 mp), .int (I3 re)])), (as_, .inl (dA 0, 60, .inl (iA SG))), (av, .inl (dA 1, 960, .inr (.inl (lA VL)))), (aw, .inl (dA 1, 1024, .inr (.inl (lA W1_11))))]) [0, 1, 2, 3] rfl
    have hDc := hD.sub (ws' := [(am, .inr (0, [.int (I3 th), .int (I3 mn), .ref as_, .ref av, .ref aw, .int (I3 sm), .int (I3 wd), .int (I3 lp), .int (I3 mp), .int (I3 re)])), (as_, .inl (dA 0, 60, .inl (iA SG))), (av, .inl (dA 1, 960, .inr (.inl (lA VL)))), (aw, .inl (dA 1, 1024, .inr (.inl (lA W1_11))))]) [0, 1, 2, 3] (by decide) rfl
    have hFc := va_free (wc := [(am, .inr (0, [.int (I3 th), .int (I3 mn), .ref as_, .ref av, .ref aw, .int (I3 sm), .int (I3 wd), .int (I3 lp), .int (I3 mp), .int (I3 re)])), (as_, .inl (dA 0, 60, .inl (iA SG))), (av, .inl (dA 1, 960, .inr (.inl (lA VL)))), (aw, .inl (dA 1, 1024, .inr (.inl (lA W1_11))))]) hD hS hA [0, 1, 2, 3] rfl
    refine va_calli (va_runV (As := [.int (I3 15)]) (rest := []) ⟨hx, hb, hml, hown, hts⟩ (metX8_isZero l dC dI dA am as_ av aw H.size th mn sm wd lp mp re SG VL W1_11 15 h_128 h_129) (cwV 1 hts (lw_V q968 q970 qs22 q66 q971) rfl rfl rfl (by decide +kernel) ⟨Nat.le_of_ble_eq_true rfl, Nat.le_of_ble_eq_true rfl⟩) ⟨fun a U g mk q => by obtain ⟨q0, q1, qP, qK, qD⟩ := q; exact ⟨q0, q1, qP, va_K.moved (u := U) (U := U.calling g mk a) (Vm.Alike.refl U.vm) qK, qD⟩, va_recv hK hPc (ci := 0) (q0 := 0) rfl rfl, fun U hU hW => ⟨rfl, by rw [hU], by rw [hU]; exact hPc, va_K.moved hW.alike hK, hDc.weaken (fun _ _ _ _ => trivial)⟩⟩ rfl rfl hl.1 rfl (lv_room (Nat.le_of_ble_eq_true rfl)) dX8_greatest_26 ⟨Nat.le_of_ble_eq_true rfl, Nat.le_of_ble_eq_true rfl⟩) hS (fun q _ h => hFc q h) hFc (fun r_26 u t H1 locs ht hvm hw hB hz1 hk1 hS => ?_)
    obtain ⟨z_26, rfl⟩ : ∃ z, z = u := ⟨_, rfl⟩
    obtain ⟨rfl, p0_26⟩ : r_26 = I3 z_26 ∧ (z_26 = if rv W1_11 (15 : Int) = 0 then 1 else 0) := hw
    obtain ⟨hP1, hK1, hD1⟩ := hB
    rw [ht] at hP1
    obtain ⟨hP, hD⟩ := va_join (wr := []) (w1 := [(am, .inr (0, [.int (I3 th), .int (I3 mn), .ref as_, .ref av, .ref aw, .int (I3 sm), .int (I3 wd), .int (I3 lp), .int (I3 mp), .int (I3 re)])), (as_, .inl (dA 0, 60, .inl (iA SG))), (av, .inl (dA 1, 960, .inr (.inl (lA VL)))), (aw, .inl (dA 1, 1024, .inr (.inl (lA W1_11))))]) hP hD [0, 1, 2, 3] [] rfl rfl (by decide) (by decide) hk1 hFc hP1 hD1
    generalize H1 = H at hP hS ⊢
    have hP : va_P (dC, dI) vwCl [(am, .inr (0, [.int (I3 th), .int (I3 mn), .ref as_, .ref av, .ref aw, .int (I3 sm), .int (I3 wd), .int (I3 lp), .int (I3 mp), .int (I3 re)])), (as_, .inl (dA 0, 60, .inl (iA SG))), (av, .inl (dA 1, 960, .inr (.inl (lA VL)))), (aw, .inl (dA 1, 1024, .inr (.inl (lA W1_11))))] H := hP
    have hD : va_D A [(am, .inr (0, [.int (I3 th), .int (I3 mn), .ref as_, .ref av, .ref aw, .int (I3 sm), .int (I3 wd), .int (I3 lp), .int (I3 mp), .int (I3 re)])), (as_, .inl (dA 0, 60, .inl (iA SG))), (av, .inl (dA 1, 960, .inr (.inl (lA VL)))), (aw, .inl (dA 1, 1024, .inr (.inl (lA W1_11))))] := hD
    have y_26 := b01 p0_26
    refine ix_if_eq (tgt := 50) hx hb (by first | decide | assumption | (constructor <;> omega)) dX8_greatest_29 (by decide) (fun c_29 => ?_) (fun c_29 => ?_)
    · skip
      refine lv_iconst (v := I3 (0)) hx hb dX8_greatest_50 rfl ?_
      refine lv_istore_n (lv' := [(3, .int (I3 0)), (0, .ref am), (1, .int (I3 a)), (2, .int (I3 b))]) hx hb dX8_greatest_51 rfl hl (by decide) rfl (fun ls hl => ?_)
      have e0 : ¬ rv wf a = 0 := by omega
      have e_130 : 0 ≤ (0 : Int) := by first | assumption | omega | (constructor <;> omega)
      have e_131 : Dg W1_11 := by first | assumption | omega | (constructor <;> omega)
      have e_132 : Fr2 wf W1_11 14 15 := by exact hF0
      have e_133 : rv W1_11 14 ≠ 0 := by omega
      have e_134 : rv W1_11 15 ≠ 0 := by omega
      have e_135 : Nat.gcd (rv W1_11 14) (rv W1_11 15) * 2 ^ (0 : Int).toNat = Nat.gcd (rv wf a) (rv wf b) := by rw [e14, e15]; exact Nat.mul_one _
      have e_136 : Nat.gcd (rv wf a) (rv wf b) < BN := by exact gcd_lt_BN e0 (rv_lt hW a)
      exact cut_52 (rv W1_11 14 + 1) 0 W1_11 e_130 e_131 e_132 e_133 e_134 e_135 e_136 (Nat.lt_succ_self _) _ _ hP hD hS ls (lv_sub hl [1, 2, 3, 0] rfl)
    · skip
      refine lv_aload_n hx hb dX8_greatest_32 rfl (lv_at hl 0 rfl) ?_
      refine lv_bipush (v := I3 (14)) hx hb dX8_greatest_33 (by decide) ?_
      have h_137 : 0 ≤ (14 : Int) ∧ (14 : Int) < 16 := by first | assumption | omega | (constructor <;> omega)
      have h_138 : Dg W1_11 := by first | assumption | omega | (constructor <;> omega)
      have hPc := hP.sub (ws' := [(am, .inr (0, [.int (I3 th), .int (I3 mn), .ref as_, .ref av, .ref aw, .int (I3 sm), .int (I3 wd), .int (I3 lp), .int (I3 mp), .int (I3 re)])), (as_, .inl (dA 0, 60, .inl (iA SG))), (av, .inl (dA 1, 960, .inr (.inl (lA VL)))), (aw, .inl (dA 1, 1024, .inr (.inl (lA W1_11))))]) [0, 1, 2, 3] rfl
      have hDc := hD.sub (ws' := [(am, .inr (0, [.int (I3 th), .int (I3 mn), .ref as_, .ref av, .ref aw, .int (I3 sm), .int (I3 wd), .int (I3 lp), .int (I3 mp), .int (I3 re)])), (as_, .inl (dA 0, 60, .inl (iA SG))), (av, .inl (dA 1, 960, .inr (.inl (lA VL)))), (aw, .inl (dA 1, 1024, .inr (.inl (lA W1_11))))]) [0, 1, 2, 3] (by decide) rfl
      have hFc := va_free (wc := [(am, .inr (0, [.int (I3 th), .int (I3 mn), .ref as_, .ref av, .ref aw, .int (I3 sm), .int (I3 wd), .int (I3 lp), .int (I3 mp), .int (I3 re)])), (as_, .inl (dA 0, 60, .inl (iA SG))), (av, .inl (dA 1, 960, .inr (.inl (lA VL)))), (aw, .inl (dA 1, 1024, .inr (.inl (lA W1_11))))]) hD hS hA [0, 1, 2, 3] rfl
      refine va_calli (va_runV (As := [.int (I3 14)]) (rest := []) ⟨hx, hb, hml, hown, hts⟩ (metX8_isZero l dC dI dA am as_ av aw H.size th mn sm wd lp mp re SG VL W1_11 14 h_137 h_138) (cwV 1 hts (lw_V q968 q970 qs22 q66 q971) rfl rfl rfl (by decide +kernel) ⟨Nat.le_of_ble_eq_true rfl, Nat.le_of_ble_eq_true rfl⟩) ⟨fun a U g mk q => by obtain ⟨q0, q1, qP, qK, qD⟩ := q; exact ⟨q0, q1, qP, va_K.moved (u := U) (U := U.calling g mk a) (Vm.Alike.refl U.vm) qK, qD⟩, va_recv hK hPc (ci := 0) (q0 := 0) rfl rfl, fun U hU hW => ⟨rfl, by rw [hU], by rw [hU]; exact hPc, va_K.moved hW.alike hK, hDc.weaken (fun _ _ _ _ => trivial)⟩⟩ rfl rfl hl.1 rfl (lv_room (Nat.le_of_ble_eq_true rfl)) dX8_greatest_35 ⟨Nat.le_of_ble_eq_true rfl, Nat.le_of_ble_eq_true rfl⟩) hS (fun q _ h => hFc q h) hFc (fun r_35 u t H1 locs ht hvm hw hB hz1 hk1 hS => ?_)
      obtain ⟨z_35, rfl⟩ : ∃ z, z = u := ⟨_, rfl⟩
      obtain ⟨rfl, p0_35⟩ : r_35 = I3 z_35 ∧ (z_35 = if rv W1_11 (14 : Int) = 0 then 1 else 0) := hw
      obtain ⟨hP1, hK1, hD1⟩ := hB
      rw [ht] at hP1
      obtain ⟨hP, hD⟩ := va_join (wr := []) (w1 := [(am, .inr (0, [.int (I3 th), .int (I3 mn), .ref as_, .ref av, .ref aw, .int (I3 sm), .int (I3 wd), .int (I3 lp), .int (I3 mp), .int (I3 re)])), (as_, .inl (dA 0, 60, .inl (iA SG))), (av, .inl (dA 1, 960, .inr (.inl (lA VL)))), (aw, .inl (dA 1, 1024, .inr (.inl (lA W1_11))))]) hP hD [0, 1, 2, 3] [] rfl rfl (by decide) (by decide) hk1 hFc hP1 hD1
      generalize H1 = H at hP hS ⊢
      have hP : va_P (dC, dI) vwCl [(am, .inr (0, [.int (I3 th), .int (I3 mn), .ref as_, .ref av, .ref aw, .int (I3 sm), .int (I3 wd), .int (I3 lp), .int (I3 mp), .int (I3 re)])), (as_, .inl (dA 0, 60, .inl (iA SG))), (av, .inl (dA 1, 960, .inr (.inl (lA VL)))), (aw, .inl (dA 1, 1024, .inr (.inl (lA W1_11))))] H := hP
      have hD : va_D A [(am, .inr (0, [.int (I3 th), .int (I3 mn), .ref as_, .ref av, .ref aw, .int (I3 sm), .int (I3 wd), .int (I3 lp), .int (I3 mp), .int (I3 re)])), (as_, .inl (dA 0, 60, .inl (iA SG))), (av, .inl (dA 1, 960, .inr (.inl (lA VL)))), (aw, .inl (dA 1, 1024, .inr (.inl (lA W1_11))))] := hD
      have y_35 := b01 p0_35
      refine ix_if_eq (tgt := 49) hx hb (by first | decide | assumption | (constructor <;> omega)) dX8_greatest_38 (by decide) (fun c_38 => ?_) (fun c_38 => ?_)
      · skip
        have o_139 : Dg W1_11 := by first | assumption | omega | (constructor <;> omega)
        have o_140 : Fr2 wf W1_11 14 15 := by exact hF0
        have o_141 : rv W1_11 14 = Nat.gcd (rv wf a) (rv wf b) := by rw [e14, show rv wf b = 0 by omega, Nat.gcd_zero_right]
        exact W.vret hx hb hr (fun t ht hW => ⟨⟨W1_11, rfl, ⟨o_139, o_140, o_141⟩, by rw [ht]; exact hP, va_K.moved hW.alike hK, hD⟩, hS.F ht⟩) hS.2.2 dX8_greatest_49
      · skip
        refine lv_aload_n hx hb dX8_greatest_41 rfl (lv_at hl 0 rfl) ?_
        refine lv_bipush (v := I3 (15)) hx hb dX8_greatest_42 (by decide) ?_
        refine lv_bipush (v := I3 (14)) hx hb dX8_greatest_44 (by decide) ?_
        have h_142 : 0 ≤ (15 : Int) ∧ (15 : Int) < 16 := by first | assumption | omega | (constructor <;> omega)
        have h_143 : 0 ≤ (14 : Int) ∧ (14 : Int) < 16 := by first | assumption | omega | (constructor <;> omega)
        have h_144 : (15 : Int) ≠ (14 : Int) := by first | assumption | omega | (constructor <;> omega)
        have h_145 : Dg W1_11 := by first | assumption | omega | (constructor <;> omega)
        have hPc := hP.sub (ws' := [(am, .inr (0, [.int (I3 th), .int (I3 mn), .ref as_, .ref av, .ref aw, .int (I3 sm), .int (I3 wd), .int (I3 lp), .int (I3 mp), .int (I3 re)])), (as_, .inl (dA 0, 60, .inl (iA SG))), (av, .inl (dA 1, 960, .inr (.inl (lA VL)))), (aw, .inl (dA 1, 1024, .inr (.inl (lA W1_11))))]) [0, 1, 2, 3] rfl
        have hDc := hD.sub (ws' := [(am, .inr (0, [.int (I3 th), .int (I3 mn), .ref as_, .ref av, .ref aw, .int (I3 sm), .int (I3 wd), .int (I3 lp), .int (I3 mp), .int (I3 re)])), (as_, .inl (dA 0, 60, .inl (iA SG))), (av, .inl (dA 1, 960, .inr (.inl (lA VL)))), (aw, .inl (dA 1, 1024, .inr (.inl (lA W1_11))))]) [0, 1, 2, 3] (by decide) rfl
        have hFc := va_free (wc := [(am, .inr (0, [.int (I3 th), .int (I3 mn), .ref as_, .ref av, .ref aw, .int (I3 sm), .int (I3 wd), .int (I3 lp), .int (I3 mp), .int (I3 re)])), (as_, .inl (dA 0, 60, .inl (iA SG))), (av, .inl (dA 1, 960, .inr (.inl (lA VL)))), (aw, .inl (dA 1, 1024, .inr (.inl (lA W1_11))))]) hD hS hA [0, 1, 2, 3] rfl
        refine va_callv (va_runV (As := [.int (I3 15), .int (I3 14)]) (rest := []) ⟨hx, hb, hml, hown, hts⟩ (metX8_copy l dC dI dA am as_ av aw H.size th mn sm wd lp mp re SG VL W1_11 15 14 h_142 h_143 h_144 h_145) (cwV 2 hts (lw_V q976 q978 qs24 q66 q979) rfl rfl rfl (by decide +kernel) ⟨Nat.le_of_ble_eq_true rfl, Nat.le_of_ble_eq_true rfl⟩) ⟨fun a U g mk q => by obtain ⟨q0, q1, qP, qK, qD⟩ := q; exact ⟨q0, q1, qP, va_K.moved (u := U) (U := U.calling g mk a) (Vm.Alike.refl U.vm) qK, qD⟩, va_recv hK hPc (ci := 0) (q0 := 0) rfl rfl, fun U hU hW => ⟨rfl, by rw [hU], by rw [hU]; exact hPc, va_K.moved hW.alike hK, hDc.weaken (fun _ _ _ _ => trivial)⟩⟩ rfl rfl hl.1 rfl (lv_room (Nat.le_of_ble_eq_true rfl)) dX8_greatest_46 ⟨Nat.le_of_ble_eq_true rfl, Nat.le_of_ble_eq_true rfl⟩) hS (fun q _ h => hFc q h) hFc (fun u t H1 locs ht hvm hw hB hz1 hk1 hS => ?_)
        obtain ⟨W1_46, rfl⟩ : ∃ z, z = u := ⟨_, rfl⟩
        obtain ⟨p0_46, p1_46, p2_46⟩ : (Dg W1_46) ∧ (Fr W1_11 W1_46 (14 : Int)) ∧ (rv W1_46 (14 : Int) = rv W1_11 (15 : Int)) := hw
        obtain ⟨hP1, hK1, hD1⟩ := hB
        rw [ht] at hP1
        obtain ⟨hP, hD⟩ := va_join (wr := []) (w1 := [(am, .inr (0, [.int (I3 th), .int (I3 mn), .ref as_, .ref av, .ref aw, .int (I3 sm), .int (I3 wd), .int (I3 lp), .int (I3 mp), .int (I3 re)])), (as_, .inl (dA 0, 60, .inl (iA SG))), (av, .inl (dA 1, 960, .inr (.inl (lA VL)))), (aw, .inl (dA 1, 1024, .inr (.inl (lA W1_46))))]) hP hD [0, 1, 2, 3] [] rfl rfl (by decide) (by decide) hk1 hFc hP1 hD1
        generalize H1 = H at hP hS ⊢
        have hP : va_P (dC, dI) vwCl [(am, .inr (0, [.int (I3 th), .int (I3 mn), .ref as_, .ref av, .ref aw, .int (I3 sm), .int (I3 wd), .int (I3 lp), .int (I3 mp), .int (I3 re)])), (as_, .inl (dA 0, 60, .inl (iA SG))), (av, .inl (dA 1, 960, .inr (.inl (lA VL)))), (aw, .inl (dA 1, 1024, .inr (.inl (lA W1_46))))] H := hP
        have hD : va_D A [(am, .inr (0, [.int (I3 th), .int (I3 mn), .ref as_, .ref av, .ref aw, .int (I3 sm), .int (I3 wd), .int (I3 lp), .int (I3 mp), .int (I3 re)])), (as_, .inl (dA 0, 60, .inl (iA SG))), (av, .inl (dA 1, 960, .inr (.inl (lA VL)))), (aw, .inl (dA 1, 1024, .inr (.inl (lA W1_46))))] := hD
        have o_146 : Dg W1_46 := by first | assumption | omega | (constructor <;> omega)
        have o_147 : Fr2 wf W1_46 14 15 := by exact Fr2_1 hF0 p1_46
        have o_148 : rv W1_46 14 = Nat.gcd (rv wf a) (rv wf b) := by rw [p2_46, e15, show rv wf a = 0 by omega, Nat.gcd_zero_left]
        exact W.vret hx hb hr (fun t ht hW => ⟨⟨W1_46, rfl, ⟨o_146, o_147, o_148⟩, by rw [ht]; exact hP, va_K.moved hW.alike hK, hD⟩, hS.F ht⟩) hS.2.2 dX8_greatest_49
