/-! the model: division of rows -/
set_option maxRecDepth 100000
abbrev BmetX8_divide (dC : Nat → ClassId) (dI : Nat → Nat → Nat) (dA : Nat → ClassId) (A : Nat → Prop) (am : Nat) (as_ : Nat) (av : Nat) (aw : Nat) (th : Int) (mn : Int) (sm : Int) (wd : Int) (lp : Int) (mp : Int) (re : Int) (SG : Int → Int) (VL : Int → Int) (wf : Int → Int) (a : Int) (b : Int) (q : Int) (rs : Int) : (Int → Int) → State → Prop := fun u t => (fun (u : (Int → Int)) => (fun (W1 : Int → Int) => va_P (dC, dI) vwCl [(am, .inr (0, [.int (I3 th), .int (I3 mn), .ref as_, .ref av, .ref aw, .int (I3 sm), .int (I3 wd), .int (I3 lp), .int (I3 mp), .int (I3 re)])), (as_, .inl (dA 0, 60, .inl (iA SG))), (av, .inl (dA 1, 960, .inr (.inl (lA VL)))), (aw, .inl (dA 1, 1024, .inr (.inl (lA W1))))] t.heap ∧ va_K (dC, dI) vwCl (tyA dA) t ∧ va_D A [(am, .inr (0, [.int (I3 th), .int (I3 mn), .ref as_, .ref av, .ref aw, .int (I3 sm), .int (I3 wd), .int (I3 lp), .int (I3 mp), .int (I3 re)])), (as_, .inl (dA 0, 60, .inl (iA SG))), (av, .inl (dA 1, 960, .inr (.inl (lA VL)))), (aw, .inl (dA 1, 1024, .inr (.inl (lA W1))))]) u) u
abbrev QmetX8_divide (dC : Nat → ClassId) (dI : Nat → Nat → Nat) (dA : Nat → ClassId) (A : Nat → Prop) (am : Nat) (as_ : Nat) (av : Nat) (aw : Nat) (th : Int) (mn : Int) (sm : Int) (wd : Int) (lp : Int) (mp : Int) (re : Int) (SG : Int → Int) (VL : Int → Int) (wf : Int → Int) (a : Int) (b : Int) (q : Int) (rs : Int) := va_Qv (fun (u : (Int → Int)) => (fun (W1 : Int → Int) => (Dg W1) ∧ (Fr2 wf W1 q rs) ∧ (rv W1 q = rv wf a / rv wf b) ∧ (rv W1 rs = rv wf a % rv wf b)) u) (BmetX8_divide dC dI dA A am as_ av aw th mn sm wd lp mp re SG VL wf a b q rs) A
set_option maxHeartbeats 1000000 in
set_option maxRecDepth 100000 in
/-- row a over row b: rows q and rs -/
theorem metX8_divide (l : Launch) (dC : Nat → ClassId) (dI : Nat → Nat → Nat) (dA : Nat → ClassId) (am : Nat) (as_ : Nat) (av : Nat) (aw : Nat) (sz : Nat) (th : Int) (mn : Int) (sm : Int) (wd : Int) (lp : Int) (mp : Int) (re : Int) (SG : Int → Int) (VL : Int → Int) (wf : Int → Int) (a : Int) (b : Int) (q : Int) (rs : Int) (ha : 0 ≤ a ∧ a < 16) (hb_ : 0 ≤ b ∧ b < 16) (hq_ : 0 ≤ q ∧ q < 16) (hrs_ : 0 ≤ rs ∧ rs < 16) (haq : a ≠ q) (hars : a ≠ rs) (hbq : b ≠ q) (hbrs : b ≠ rs) (hqrs : q ≠ rs) (hB : rv wf b ≠ 0) (hb2 : 2 * rv wf b ≤ BN) (hW : Dg wf) : Met l yX8_divide (ws_ yX8_divide cX8_divide 6 none) ({ frames := 2, cells := 0, slots := 0, locals := 80 }) (va_Pc [.ref am, .int (I3 a), .int (I3 b), .int (I3 q), .int (I3 rs)] (fun U => U.heap.size = sz ∧ va_P (dC, dI) vwCl [(am, .inr (0, [.int (I3 th), .int (I3 mn), .ref as_, .ref av, .ref aw, .int (I3 sm), .int (I3 wd), .int (I3 lp), .int (I3 mp), .int (I3 re)])), (as_, .inl (dA 0, 60, .inl (iA SG))), (av, .inl (dA 1, 960, .inr (.inl (lA VL)))), (aw, .inl (dA 1, 1024, .inr (.inl (lA wf))))] U.heap ∧ va_K (dC, dI) vwCl (tyA dA) U ∧ va_D (fun _ => True) [(am, .inr (0, [.int (I3 th), .int (I3 mn), .ref as_, .ref av, .ref aw, .int (I3 sm), .int (I3 wd), .int (I3 lp), .int (I3 mp), .int (I3 re)])), (as_, .inl (dA 0, 60, .inl (iA SG))), (av, .inl (dA 1, 960, .inr (.inl (lA VL)))), (aw, .inl (dA 1, 1024, .inr (.inl (lA wf))))])) (QmetX8_divide dC dI dA (va_A [(am, .inr (0, [.int (I3 th), .int (I3 mn), .ref as_, .ref av, .ref aw, .int (I3 sm), .int (I3 wd), .int (I3 lp), .int (I3 mp), .int (I3 re)])), (as_, .inl (dA 0, 60, .inl (iA SG))), (av, .inl (dA 1, 960, .inr (.inl (lA VL)))), (aw, .inl (dA 1, 1024, .inr (.inl (lA wf))))] sz) am as_ av aw th mn sm wd lp mp re SG VL wf a b q rs) 0 0 (va_A [(am, .inr (0, [.int (I3 th), .int (I3 mn), .ref as_, .ref av, .ref aw, .int (I3 sm), .int (I3 wd), .int (I3 lp), .int (I3 mp), .int (I3 re)])), (as_, .inl (dA 0, 60, .inl (iA SG))), (av, .inl (dA 1, 960, .inr (.inl (lA VL)))), (aw, .inl (dA 1, 1024, .inr (.inl (lA wf))))] sz) := by
  refine Met.ofW (cc := cX8_divide) (maxL := 6) (ret := none) (by decide) rfl ?_
  intro p e s m args below meth c s₁ B hml hv
  obtain ⟨rfl, hsz, hP, hK, hD0⟩ := hv
  have hx := B.exec
  have hb := B.bytes
  have hr := B.returns
  have hts := atoms_spec (ws := (ws_ yX8_divide cX8_divide 6 none)) B.pre
  have hts : ∀ w ∈ lw_all, w.before _ s = true := fun w h => hts w (List.mem_cons_of_mem _ h)
  have hown : s.vm.findClass RX8 = some m.cls := findClass_of_methodNamed B.named
  have hlocks := B.notSynchronized
  subst hsz
  have hD := hD0.self (sz := s.heap.size)
  generalize hAe : va_A [(am, .inr (0, [.int (I3 th), .int (I3 mn), .ref as_, .ref av, .ref aw, .int (I3 sm), .int (I3 wd), .int (I3 lp), .int (I3 mp), .int (I3 re)])), (as_, .inl (dA 0, 60, .inl (iA SG))), (av, .inl (dA 1, 960, .inr (.inl (lA VL)))), (aw, .inl (dA 1, 1024, .inr (.inl (lA wf))))] s.heap.size = A at hD ⊢
  have hA : ∀ q : Nat, s.heap.size ≤ q → A q := fun q h => by rw [← hAe]; exact Or.inr h
  have hS : va_S A s.heap s.heap [] := va_S.rf
  have hP : va_P (dC, dI) vwCl [(am, .inr (0, [.int (I3 th), .int (I3 mn), .ref as_, .ref av, .ref aw, .int (I3 sm), .int (I3 wd), .int (I3 lp), .int (I3 mp), .int (I3 re)])), (as_, .inl (dA 0, 60, .inl (iA SG))), (av, .inl (dA 1, 960, .inr (.inl (lA VL)))), (aw, .inl (dA 1, 1024, .inr (.inl (lA wf))))] s.heap := hP
  have hl := lv_entry ([.ref am, .int (I3 a), .int (I3 b), .int (I3 q), .int (I3 rs)]) (n := 6) (Nat.le_of_ble_eq_true rfl)
  rw [lg_entry_eq]
  generalize (lg_sl ([.ref am, .int (I3 a), .int (I3 b), .int (I3 q), .int (I3 rs)]) ++ List.replicate (6 - (lg_sl ([.ref am, .int (I3 a), .int (I3 b), .int (I3 q), .int (I3 rs)])).length) Slot.unset).toArray = ls at hl ⊢
  have hl : lv_has ls 6 [(0, .ref am), (1, .int (I3 a)), (2, .int (I3 b)), (3, .int (I3 q)), (4, .int (I3 rs))] := hl
  have cut_20 : ∀ (fuel_20 : Nat), ∀ (i : Int) (W1 : Int → Int), (-1 ≤ i ∧ i < 2048) → (Dg W1) → (Fr2 wf W1 q rs) → (rv W1 q = rv wf a / 2 ^ (i + 1).toNat / rv wf b * 2 ^ (i + 1).toNat) → (rv W1 rs = rv wf a / 2 ^ (i + 1).toNat % rv wf b) → ((i + 1).toNat < fuel_20) → ∀ (H : Heap) (locs : List Loc), va_P (dC, dI) vwCl [(am, .inr (0, [.int (I3 th), .int (I3 mn), .ref as_, .ref av, .ref aw, .int (I3 sm), .int (I3 wd), .int (I3 lp), .int (I3 mp), .int (I3 re)])), (as_, .inl (dA 0, 60, .inl (iA SG))), (av, .inl (dA 1, 960, .inr (.inl (lA VL)))), (aw, .inl (dA 1, 1024, .inr (.inl (lA W1))))] H → va_D A [(am, .inr (0, [.int (I3 th), .int (I3 mn), .ref as_, .ref av, .ref aw, .int (I3 sm), .int (I3 wd), .int (I3 lp), .int (I3 mp), .int (I3 re)])), (as_, .inl (dA 0, 60, .inl (iA SG))), (av, .inl (dA 1, 960, .inr (.inl (lA VL)))), (aw, .inl (dA 1, 1024, .inr (.inl (lA W1))))] → va_S A s.heap H locs → ∀ (ls : Array Slot), lv_has ls 6 [(0, .ref am), (1, .int (I3 a)), (2, .int (I3 b)), (3, .int (I3 q)), (4, .int (I3 rs)), (5, .int (I3 i))] → W p l e (headSpec (ws_ yX8_divide cX8_divide 6 none) ({ frames := 2, cells := 0, slots := 0, locals := 80 })).room s m ([.ref am, .int (I3 a), .int (I3 b), .int (I3 q), .int (I3 rs)] : List Value).toArray below meth c H locs 0 0 (MQ below (QmetX8_divide dC dI dA A am as_ av aw th mn sm wd lp mp re SG VL wf a b q rs) ([.ref am, .int (I3 a), .int (I3 b), .int (I3 q), .int (I3 rs)] : List Value).toArray s 0 0 A) (F0 m 20 ls []) := by
    intro fuel_20
    induction fuel_20 with
    | zero =>
      intro i W1 hi hW1 hF hq hrs hm
      exact absurd hm (Nat.not_lt_zero _)
    | succ fuel_20 ih_20 =>
      intro i W1 hi hW1 hF hq hrs hm_20 H locs hP hD hS ls hl
      refine lv_iload hx hb dX8_divide_20 (lv_at hl 5 rfl) ?_
      refine ix_if_lt (tgt := 100) hx hb (by first | decide | assumption | (constructor <;> omega)) dX8_divide_22 (by decide) (fun c_22 => ?_) (fun c_22 => ?_)
      · skip
        have hi0 : i = -1 := by omega
        subst hi0
        have e1 : ((-1 : Int) + 1).toNat = 0 := rfl
        rw [e1, Nat.pow_zero, Nat.div_one] at hq hrs
        rw [Nat.mul_one] at hq
        have o_1 : Dg W1 := by first | assumption | omega | (constructor <;> omega)
        have o_2 : Fr2 wf W1 q rs := by first | assumption | omega | (constructor <;> omega)
        have o_3 : rv W1 q = rv wf a / rv wf b := by first | assumption | omega | (constructor <;> omega)
        have o_4 : rv W1 rs = rv wf a % rv wf b := by first | assumption | omega | (constructor <;> omega)
        exact W.vret hx hb hr (fun t ht hW => ⟨⟨W1, rfl, ⟨o_1, o_2, o_3, o_4⟩, by rw [ht]; exact hP, va_K.moved hW.alike hK, hD⟩, hS.F ht⟩) hS.2.2 dX8_divide_100
      · skip
        refine lv_aload_n hx hb dX8_divide_25 rfl (lv_at hl 0 rfl) ?_
        refine lv_iload hx hb dX8_divide_26 (lv_at hl 4 rfl) ?_
        refine lv_iconst (v := I3 (1)) hx hb dX8_divide_28 rfl ?_
        have h_5 : 0 ≤ rs ∧ rs < 16 := by first | assumption | omega | (constructor <;> omega)
        have h_6 : 0 ≤ (1 : Int) ∧ (1 : Int) < 2048 := by first | assumption | omega | (constructor <;> omega)
        have h_7 : Dg W1 := by first | assumption | omega | (constructor <;> omega)
        have hPc := hP.sub (ws' := [(am, .inr (0, [.int (I3 th), .int (I3 mn), .ref as_, .ref av, .ref aw, .int (I3 sm), .int (I3 wd), .int (I3 lp), .int (I3 mp), .int (I3 re)])), (as_, .inl (dA 0, 60, .inl (iA SG))), (av, .inl (dA 1, 960, .inr (.inl (lA VL)))), (aw, .inl (dA 1, 1024, .inr (.inl (lA W1))))]) [0, 1, 2, 3] rfl
        have hDc := hD.sub (ws' := [(am, .inr (0, [.int (I3 th), .int (I3 mn), .ref as_, .ref av, .ref aw, .int (I3 sm), .int (I3 wd), .int (I3 lp), .int (I3 mp), .int (I3 re)])), (as_, .inl (dA 0, 60, .inl (iA SG))), (av, .inl (dA 1, 960, .inr (.inl (lA VL)))), (aw, .inl (dA 1, 1024, .inr (.inl (lA W1))))]) [0, 1, 2, 3] (by decide) rfl
        have hFc := va_free (wc := [(am, .inr (0, [.int (I3 th), .int (I3 mn), .ref as_, .ref av, .ref aw, .int (I3 sm), .int (I3 wd), .int (I3 lp), .int (I3 mp), .int (I3 re)])), (as_, .inl (dA 0, 60, .inl (iA SG))), (av, .inl (dA 1, 960, .inr (.inl (lA VL)))), (aw, .inl (dA 1, 1024, .inr (.inl (lA W1))))]) hD hS hA [0, 1, 2, 3] rfl
        refine va_callv (va_runV (As := [.int (I3 rs), .int (I3 1)]) (rest := []) ⟨hx, hb, hml, hown, hts⟩ (metX8_up l dC dI dA am as_ av aw H.size th mn sm wd lp mp re SG VL W1 rs 1 h_5 h_6 h_7) (cwV 2 hts (lw_V q1000 q1002 qs30 q66 q1003) rfl rfl rfl (by decide +kernel) ⟨Nat.le_of_ble_eq_true rfl, Nat.le_of_ble_eq_true rfl⟩) ⟨fun a U g mk q => by obtain ⟨q0, q1, qP, qK, qD⟩ := q; exact ⟨q0, q1, qP, va_K.moved (u := U) (U := U.calling g mk a) (Vm.Alike.refl U.vm) qK, qD⟩, va_recv hK hPc (ci := 0) (q0 := 0) rfl rfl, fun U hU hW => ⟨rfl, by rw [hU], by rw [hU]; exact hPc, va_K.moved hW.alike hK, hDc.weaken (fun _ _ _ _ => trivial)⟩⟩ rfl rfl hl.1 rfl (lv_room (Nat.le_of_ble_eq_true rfl)) dX8_divide_29 ⟨Nat.le_of_ble_eq_true rfl, Nat.le_of_ble_eq_true rfl⟩) hS (fun q _ h => hFc q h) hFc (fun u t H1 locs ht hvm hw hB hz1 hk1 hS => ?_)
        obtain ⟨W1_29, rfl⟩ : ∃ z, z = u := ⟨_, rfl⟩
        obtain ⟨p0_29, p1_29, p2_29⟩ : (Dg W1_29) ∧ (Fr W1 W1_29 rs) ∧ (rv W1_29 rs = rv W1 rs * 2 ^ (1 : Int).toNat % BN) := hw
        obtain ⟨hP1, hK1, hD1⟩ := hB
        rw [ht] at hP1
        obtain ⟨hP, hD⟩ := va_join (wr := []) (w1 := [(am, .inr (0, [.int (I3 th), .int (I3 mn), .ref as_, .ref av, .ref aw, .int (I3 sm), .int (I3 wd), .int (I3 lp), .int (I3 mp), .int (I3 re)])), (as_, .inl (dA 0, 60, .inl (iA SG))), (av, .inl (dA 1, 960, .inr (.inl (lA VL)))), (aw, .inl (dA 1, 1024, .inr (.inl (lA W1_29))))]) hP hD [0, 1, 2, 3] [] rfl rfl (by decide) (by decide) hk1 hFc hP1 hD1
        generalize H1 = H at hP hS ⊢
        have hP : va_P (dC, dI) vwCl [(am, .inr (0, [.int (I3 th), .int (I3 mn), .ref as_, .ref av, .ref aw, .int (I3 sm), .int (I3 wd), .int (I3 lp), .int (I3 mp), .int (I3 re)])), (as_, .inl (dA 0, 60, .inl (iA SG))), (av, .inl (dA 1, 960, .inr (.inl (lA VL)))), (aw, .inl (dA 1, 1024, .inr (.inl (lA W1_29))))] H := hP
        have hD : va_D A [(am, .inr (0, [.int (I3 th), .int (I3 mn), .ref as_, .ref av, .ref aw, .int (I3 sm), .int (I3 wd), .int (I3 lp), .int (I3 mp), .int (I3 re)])), (as_, .inl (dA 0, 60, .inl (iA SG))), (av, .inl (dA 1, 960, .inr (.inl (lA VL)))), (aw, .inl (dA 1, 1024, .inr (.inl (lA W1_29))))] := hD
        have er : rv W1 rs < rv wf b := by rw [hrs]; exact Nat.mod_lt _ (Nat.pos_of_ne_zero hB)
        have e29 : rv W1_29 rs = rv W1 rs * 2 := by rw [p2_29, show (2 : Nat) ^ (1 : Int).toNat = 2 from rfl]; exact Nat.mod_eq_of_lt (by omega)
        refine lv_aload_n hx hb dX8_divide_32 rfl (lv_at hl 0 rfl) ?_
        refine va_get (D := (dC, dI)) (ci := 0) (v := .ref aw) (C := RX8) (T := TX8) (N := 10) hx hb hts in_X8 hown hK hP 0 rfl rfl 4 (by decide) (hts _ q917) (fun _ h9 => h9) rfl dX8_divide_33 ?_
        refine lv_bipush (v := I3 (64)) hx hb dX8_divide_36 (by decide) ?_
        refine lv_iload hx hb dX8_divide_38 (lv_at hl 4 rfl) ?_
        refine ix_imul hx hb dX8_divide_40 ?_
        refine lv_dup2_11 hx hb dX8_divide_41 rfl rfl ?_
        refine ix_lald hx hb hK hP 3 1 rfl rfl (Nat.le_of_ble_eq_true rfl) (by omega) dX8_divide_42 ?_
        have g_42 := p0_29 (64 * rs)
        refine lv_aload_n hx hb dX8_divide_43 rfl (lv_at hl 0 rfl) ?_
        refine lv_iload_n hx hb dX8_divide_44 rfl (lv_at hl 1 rfl) ?_
        refine lv_iload hx hb dX8_divide_45 (lv_at hl 5 rfl) ?_
        have h_8 : 0 ≤ a ∧ a < 16 := by first | assumption | omega | (constructor <;> omega)
        have h_9 : 0 ≤ i ∧ i < 2048 := by first | assumption | omega | (constructor <;> omega)
        have h_10 : Dg W1_29 := by first | assumption | omega | (constructor <;> omega)
        have hPc := hP.sub (ws' := [(am, .inr (0, [.int (I3 th), .int (I3 mn), .ref as_, .ref av, .ref aw, .int (I3 sm), .int (I3 wd), .int (I3 lp), .int (I3 mp), .int (I3 re)])), (as_, .inl (dA 0, 60, .inl (iA SG))), (av, .inl (dA 1, 960, .inr (.inl (lA VL)))), (aw, .inl (dA 1, 1024, .inr (.inl (lA W1_29))))]) [0, 1, 2, 3] rfl
        have hDc := hD.sub (ws' := [(am, .inr (0, [.int (I3 th), .int (I3 mn), .ref as_, .ref av, .ref aw, .int (I3 sm), .int (I3 wd), .int (I3 lp), .int (I3 mp), .int (I3 re)])), (as_, .inl (dA 0, 60, .inl (iA SG))), (av, .inl (dA 1, 960, .inr (.inl (lA VL)))), (aw, .inl (dA 1, 1024, .inr (.inl (lA W1_29))))]) [0, 1, 2, 3] (by decide) rfl
        have hFc := va_free (wc := [(am, .inr (0, [.int (I3 th), .int (I3 mn), .ref as_, .ref av, .ref aw, .int (I3 sm), .int (I3 wd), .int (I3 lp), .int (I3 mp), .int (I3 re)])), (as_, .inl (dA 0, 60, .inl (iA SG))), (av, .inl (dA 1, 960, .inr (.inl (lA VL)))), (aw, .inl (dA 1, 1024, .inr (.inl (lA W1_29))))]) hD hS hA [0, 1, 2, 3] rfl
        refine va_calll (va_runV (As := [.int (I3 a), .int (I3 i)]) (rest := [.long (L6 (W1_29 (64 * rs))), .int (I3 (64 * rs)), .ref aw]) ⟨hx, hb, hml, hown, hts⟩ (metX8_bit l dC dI dA am as_ av aw H.size th mn sm wd lp mp re SG VL W1_29 a i h_8 h_9 h_10) (cwV 2 hts (lw_V q1012 q1014 qs33 q66 q1015) rfl rfl rfl (by decide +kernel) ⟨Nat.le_of_ble_eq_true rfl, Nat.le_of_ble_eq_true rfl⟩) ⟨fun a U g mk q => by obtain ⟨q0, q1, qP, qK, qD⟩ := q; exact ⟨q0, q1, qP, va_K.moved (u := U) (U := U.calling g mk a) (Vm.Alike.refl U.vm) qK, qD⟩, va_recv hK hPc (ci := 0) (q0 := 0) rfl rfl, fun U hU hW => ⟨rfl, by rw [hU], by rw [hU]; exact hPc, va_K.moved hW.alike hK, hDc.weaken (fun _ _ _ _ => trivial)⟩⟩ rfl rfl hl.1 rfl (lv_room (Nat.le_of_ble_eq_true rfl)) dX8_divide_47 ⟨Nat.le_of_ble_eq_true rfl, Nat.le_of_ble_eq_true rfl⟩) hS (fun q _ h => hFc q h) hFc (fun r_47 u t H1 locs ht hvm hw hB hz1 hk1 hS => ?_)
        obtain ⟨z_47, rfl⟩ : ∃ z, z = u := ⟨_, rfl⟩
        obtain ⟨rfl, p0_47⟩ : r_47 = L6 z_47 ∧ (z_47 = ((rv W1_29 a / 2 ^ i.toNat % 2 : Nat) : Int)) := hw
        obtain ⟨hP1, hK1, hD1⟩ := hB
        rw [ht] at hP1
        obtain ⟨hP, hD⟩ := va_join (wr := []) (w1 := [(am, .inr (0, [.int (I3 th), .int (I3 mn), .ref as_, .ref av, .ref aw, .int (I3 sm), .int (I3 wd), .int (I3 lp), .int (I3 mp), .int (I3 re)])), (as_, .inl (dA 0, 60, .inl (iA SG))), (av, .inl (dA 1, 960, .inr (.inl (lA VL)))), (aw, .inl (dA 1, 1024, .inr (.inl (lA W1_29))))]) hP hD [0, 1, 2, 3] [] rfl rfl (by decide) (by decide) hk1 hFc hP1 hD1
        generalize H1 = H at hP hS ⊢
        have hP : va_P (dC, dI) vwCl [(am, .inr (0, [.int (I3 th), .int (I3 mn), .ref as_, .ref av, .ref aw, .int (I3 sm), .int (I3 wd), .int (I3 lp), .int (I3 mp), .int (I3 re)])), (as_, .inl (dA 0, 60, .inl (iA SG))), (av, .inl (dA 1, 960, .inr (.inl (lA VL)))), (aw, .inl (dA 1, 1024, .inr (.inl (lA W1_29))))] H := hP
        have hD : va_D A [(am, .inr (0, [.int (I3 th), .int (I3 mn), .ref as_, .ref av, .ref aw, .int (I3 sm), .int (I3 wd), .int (I3 lp), .int (I3 mp), .int (I3 re)])), (as_, .inl (dA 0, 60, .inl (iA SG))), (av, .inl (dA 1, 960, .inr (.inl (lA VL)))), (aw, .inl (dA 1, 1024, .inr (.inl (lA W1_29))))] := hD
        have hae : rv W1_29 a = rv wf a := (Fr_rv p1_29 hars).trans (Fr2_rv hF haq hars)
        have hz : 0 ≤ z_47 ∧ z_47 < 2 := by omega
        have hdb := dv_bit p0_29 (r := rs) hz (by omega)
        refine ix_lor hx hb dX8_divide_50 ?_
        refine ix_tl (y := W1_29 (64 * rs) + z_47) (by exact zor6_bit (p0_29 _) hdb.2.2 hz) ?_
        refine ix_last hx hb hK hP hD hS 3 1 rfl rfl (Nat.le_of_ble_eq_true rfl) (by omega) dX8_divide_51 (fun H locs hP hD hS => ?_)
        have hP : va_P (dC, dI) vwCl [(am, .inr (0, [.int (I3 th), .int (I3 mn), .ref as_, .ref av, .ref aw, .int (I3 sm), .int (I3 wd), .int (I3 lp), .int (I3 mp), .int (I3 re)])), (as_, .inl (dA 0, 60, .inl (iA SG))), (av, .inl (dA 1, 960, .inr (.inl (lA VL)))), (aw, .inl (dA 1, 1024, .inr (.inl (lA (uZ W1_29 (64 * rs) (W1_29 (64 * rs) + z_47))))))] H := hP
        have hD : va_D A [(am, .inr (0, [.int (I3 th), .int (I3 mn), .ref as_, .ref av, .ref aw, .int (I3 sm), .int (I3 wd), .int (I3 lp), .int (I3 mp), .int (I3 re)])), (as_, .inl (dA 0, 60, .inl (iA SG))), (av, .inl (dA 1, 960, .inr (.inl (lA VL)))), (aw, .inl (dA 1, 1024, .inr (.inl (lA (uZ W1_29 (64 * rs) (W1_29 (64 * rs) + z_47))))))] := hD
        refine lv_aload_n hx hb dX8_divide_52 rfl (lv_at hl 0 rfl) ?_
        refine lv_iload hx hb dX8_divide_53 (lv_at hl 4 rfl) ?_
        refine lv_iload_n hx hb dX8_divide_55 rfl (lv_at hl 2 rfl) ?_
        have h_11 : 0 ≤ rs ∧ rs < 16 := by first | assumption | omega | (constructor <;> omega)
        have h_12 : 0 ≤ b ∧ b < 16 := by first | assumption | omega | (constructor <;> omega)
        have h_13 : Dg (uZ W1_29 (64 * rs) (W1_29 (64 * rs) + z_47)) := by exact hdb.1
        have hPc := hP.sub (ws' := [(am, .inr (0, [.int (I3 th), .int (I3 mn), .ref as_, .ref av, .ref aw, .int (I3 sm), .int (I3 wd), .int (I3 lp), .int (I3 mp), .int (I3 re)])), (as_, .inl (dA 0, 60, .inl (iA SG))), (av, .inl (dA 1, 960, .inr (.inl (lA VL)))), (aw, .inl (dA 1, 1024, .inr (.inl (lA ((uZ W1_29 (64 * rs) (W1_29 (64 * rs) + z_47)))))))]) [0, 1, 2, 3] rfl
        have hDc := hD.sub (ws' := [(am, .inr (0, [.int (I3 th), .int (I3 mn), .ref as_, .ref av, .ref aw, .int (I3 sm), .int (I3 wd), .int (I3 lp), .int (I3 mp), .int (I3 re)])), (as_, .inl (dA 0, 60, .inl (iA SG))), (av, .inl (dA 1, 960, .inr (.inl (lA VL)))), (aw, .inl (dA 1, 1024, .inr (.inl (lA ((uZ W1_29 (64 * rs) (W1_29 (64 * rs) + z_47)))))))]) [0, 1, 2, 3] (by decide) rfl
        have hFc := va_free (wc := [(am, .inr (0, [.int (I3 th), .int (I3 mn), .ref as_, .ref av, .ref aw, .int (I3 sm), .int (I3 wd), .int (I3 lp), .int (I3 mp), .int (I3 re)])), (as_, .inl (dA 0, 60, .inl (iA SG))), (av, .inl (dA 1, 960, .inr (.inl (lA VL)))), (aw, .inl (dA 1, 1024, .inr (.inl (lA ((uZ W1_29 (64 * rs) (W1_29 (64 * rs) + z_47)))))))]) hD hS hA [0, 1, 2, 3] rfl
        refine va_calli (va_runV (As := [.int (I3 rs), .int (I3 b)]) (rest := []) ⟨hx, hb, hml, hown, hts⟩ (metX8_compare l dC dI dA am as_ av aw H.size th mn sm wd lp mp re SG VL (uZ W1_29 (64 * rs) (W1_29 (64 * rs) + z_47)) rs b h_11 h_12 h_13) (cwV 2 hts (lw_V q988 q990 qs27 q66 q991) rfl rfl rfl (by decide +kernel) ⟨Nat.le_of_ble_eq_true rfl, Nat.le_of_ble_eq_true rfl⟩) ⟨fun a U g mk q => by obtain ⟨q0, q1, qP, qK, qD⟩ := q; exact ⟨q0, q1, qP, va_K.moved (u := U) (U := U.calling g mk a) (Vm.Alike.refl U.vm) qK, qD⟩, va_recv hK hPc (ci := 0) (q0 := 0) rfl rfl, fun U hU hW => ⟨rfl, by rw [hU], by rw [hU]; exact hPc, va_K.moved hW.alike hK, hDc.weaken (fun _ _ _ _ => trivial)⟩⟩ rfl rfl hl.1 rfl (lv_room (Nat.le_of_ble_eq_true rfl)) dX8_divide_56 ⟨Nat.le_of_ble_eq_true rfl, Nat.le_of_ble_eq_true rfl⟩) hS (fun q _ h => hFc q h) hFc (fun r_56 u t H1 locs ht hvm hw hB hz1 hk1 hS => ?_)
        obtain ⟨z_56, rfl⟩ : ∃ z, z = u := ⟨_, rfl⟩
        obtain ⟨rfl, p0_56⟩ : r_56 = I3 z_56 ∧ (z_56 = cmpN (rv (uZ W1_29 (64 * rs) (W1_29 (64 * rs) + z_47)) rs) (rv (uZ W1_29 (64 * rs) (W1_29 (64 * rs) + z_47)) b)) := hw
        obtain ⟨hP1, hK1, hD1⟩ := hB
        rw [ht] at hP1
        obtain ⟨hP, hD⟩ := va_join (wr := []) (w1 := [(am, .inr (0, [.int (I3 th), .int (I3 mn), .ref as_, .ref av, .ref aw, .int (I3 sm), .int (I3 wd), .int (I3 lp), .int (I3 mp), .int (I3 re)])), (as_, .inl (dA 0, 60, .inl (iA SG))), (av, .inl (dA 1, 960, .inr (.inl (lA VL)))), (aw, .inl (dA 1, 1024, .inr (.inl (lA ((uZ W1_29 (64 * rs) (W1_29 (64 * rs) + z_47)))))))]) hP hD [0, 1, 2, 3] [] rfl rfl (by decide) (by decide) hk1 hFc hP1 hD1
        generalize H1 = H at hP hS ⊢
        have hP : va_P (dC, dI) vwCl [(am, .inr (0, [.int (I3 th), .int (I3 mn), .ref as_, .ref av, .ref aw, .int (I3 sm), .int (I3 wd), .int (I3 lp), .int (I3 mp), .int (I3 re)])), (as_, .inl (dA 0, 60, .inl (iA SG))), (av, .inl (dA 1, 960, .inr (.inl (lA VL)))), (aw, .inl (dA 1, 1024, .inr (.inl (lA ((uZ W1_29 (64 * rs) (W1_29 (64 * rs) + z_47)))))))] H := hP
        have hD : va_D A [(am, .inr (0, [.int (I3 th), .int (I3 mn), .ref as_, .ref av, .ref aw, .int (I3 sm), .int (I3 wd), .int (I3 lp), .int (I3 mp), .int (I3 re)])), (as_, .inl (dA 0, 60, .inl (iA SG))), (av, .inl (dA 1, 960, .inr (.inl (lA VL)))), (aw, .inl (dA 1, 1024, .inr (.inl (lA ((uZ W1_29 (64 * rs) (W1_29 (64 * rs) + z_47)))))))] := hD
        refine ix_if_lt (tgt := 94) hx hb (by have q := cmpN3 p0_56; constructor <;> omega) dX8_divide_59 (by decide) (fun c_59 => ?_) (fun c_59 => ?_)
        · skip
          refine lv_iinc (v := I3 (i - 1)) (lv' := [(5, .int (I3 (i - 1))), (0, .ref am), (1, .int (I3 a)), (2, .int (I3 b)), (3, .int (I3 q)), (4, .int (I3 rs))]) hx hb dX8_divide_94 hl (k := 5) rfl ((I3_add _ _).trans (congrArg I3 (by omega))) (by decide) rfl (fun ls hl => ?_)
          refine lv_goto (tgt := 20) hx hb dX8_divide_97 (by decide) ?_
          have hii := dv_i (show 0 ≤ i by omega)
          have hq := hq
          have hrs := hrs
          rw [hii.2] at hq hrs
          have hbe : rv W1_29 b = rv wf b := (Fr_rv p1_29 hbrs).trans (Fr2_rv hF hbq hbrs)
          have hfu : Fr W1_29 (uZ W1_29 (64 * rs) (W1_29 (64 * rs) + z_47)) rs := Fr_uZ Fr_rf (by omega)
          have hbu : rv (uZ W1_29 (64 * rs) (W1_29 (64 * rs) + z_47)) b = rv wf b := (Fr_rv hfu hbrs).trans hbe
          have hqu : rv (uZ W1_29 (64 * rs) (W1_29 (64 * rs) + z_47)) q = rv W1 q := (Fr_rv hfu hqrs).trans (Fr_rv p1_29 hqrs)
          have hru : rv (uZ W1_29 (64 * rs) (W1_29 (64 * rs) + z_47)) rs = 2 * (rv wf a / 2 ^ (i.toNat + 1) % rv wf b) + rv wf a / 2 ^ i.toNat % 2 := by have q1 := hdb.2.1; rw [hae] at p0_47; omega
          obtain ⟨t1, t2⟩ := dv_lo (X := 0) hB (hqu.trans hq) hru (by have q2 := cmpN3 p0_56; rw [hbu] at q2; omega)
          have e_14 : -1 ≤ (i - 1) ∧ (i - 1) < 2048 := by first | assumption | omega | (constructor <;> omega)
          have e_15 : Dg ((uZ W1_29 (64 * rs) (W1_29 (64 * rs) + z_47))) := by exact hdb.1
          have e_16 : Fr2 wf ((uZ W1_29 (64 * rs) (W1_29 (64 * rs) + z_47))) q rs := by exact Fr2_2 (Fr2_2 hF p1_29) hfu
          have e_17 : rv ((uZ W1_29 (64 * rs) (W1_29 (64 * rs) + z_47))) q = rv wf a / 2 ^ ((i - 1) + 1).toNat / rv wf b * 2 ^ ((i - 1) + 1).toNat := by rw [hii.1]; exact t1
          have e_18 : rv ((uZ W1_29 (64 * rs) (W1_29 (64 * rs) + z_47))) rs = rv wf a / 2 ^ ((i - 1) + 1).toNat % rv wf b := by rw [hii.1]; exact t2
          have e_19 : ((i - 1) + 1).toNat < fuel_20 := by omega
          exact ih_20 (i - 1) ((uZ W1_29 (64 * rs) (W1_29 (64 * rs) + z_47))) e_14 e_15 e_16 e_17 e_18 e_19 _ _ hP hD hS ls (lv_sub hl [1, 2, 3, 4, 5, 0] rfl)
        · skip
          refine lv_aload_n hx hb dX8_divide_62 rfl (lv_at hl 0 rfl) ?_
          refine lv_iload hx hb dX8_divide_63 (lv_at hl 4 rfl) ?_
          refine lv_iload_n hx hb dX8_divide_65 rfl (lv_at hl 2 rfl) ?_
          have h_20 : 0 ≤ rs ∧ rs < 16 := by first | assumption | omega | (constructor <;> omega)
          have h_21 : 0 ≤ b ∧ b < 16 := by first | assumption | omega | (constructor <;> omega)
          have h_22 : rs ≠ b := by exact Ne.symm hbrs
          have h_23 : rv ((uZ W1_29 (64 * rs) (W1_29 (64 * rs) + z_47))) b ≤ rv ((uZ W1_29 (64 * rs) (W1_29 (64 * rs) + z_47))) rs := by have q2 := cmpN3 p0_56; omega
          have h_24 : Dg ((uZ W1_29 (64 * rs) (W1_29 (64 * rs) + z_47))) := by exact hdb.1
          have hPc := hP.sub (ws' := [(am, .inr (0, [.int (I3 th), .int (I3 mn), .ref as_, .ref av, .ref aw, .int (I3 sm), .int (I3 wd), .int (I3 lp), .int (I3 mp), .int (I3 re)])), (as_, .inl (dA 0, 60, .inl (iA SG))), (av, .inl (dA 1, 960, .inr (.inl (lA VL)))), (aw, .inl (dA 1, 1024, .inr (.inl (lA (((uZ W1_29 (64 * rs) (W1_29 (64 * rs) + z_47))))))))]) [0, 1, 2, 3] rfl
          have hDc := hD.sub (ws' := [(am, .inr (0, [.int (I3 th), .int (I3 mn), .ref as_, .ref av, .ref aw, .int (I3 sm), .int (I3 wd), .int (I3 lp), .int (I3 mp), .int (I3 re)])), (as_, .inl (dA 0, 60, .inl (iA SG))), (av, .inl (dA 1, 960, .inr (.inl (lA VL)))), (aw, .inl (dA 1, 1024, .inr (.inl (lA (((uZ W1_29 (64 * rs) (W1_29 (64 * rs) + z_47))))))))]) [0, 1, 2, 3] (by decide) rfl
          have hFc := va_free (wc := [(am, .inr (0, [.int (I3 th), .int (I3 mn), .ref as_, .ref av, .ref aw, .int (I3 sm), .int (I3 wd), .int (I3 lp), .int (I3 mp), .int (I3 re)])), (as_, .inl (dA 0, 60, .inl (iA SG))), (av, .inl (dA 1, 960, .inr (.inl (lA VL)))), (aw, .inl (dA 1, 1024, .inr (.inl (lA (((uZ W1_29 (64 * rs) (W1_29 (64 * rs) + z_47))))))))]) hD hS hA [0, 1, 2, 3] rfl
          refine va_callv (va_runV (As := [.int (I3 rs), .int (I3 b)]) (rest := []) ⟨hx, hb, hml, hown, hts⟩ (metX8_take l dC dI dA am as_ av aw H.size th mn sm wd lp mp re SG VL ((uZ W1_29 (64 * rs) (W1_29 (64 * rs) + z_47))) rs b h_20 h_21 h_22 h_23 h_24) (cwV 2 hts (lw_V q996 q998 qs29 q66 q999) rfl rfl rfl (by decide +kernel) ⟨Nat.le_of_ble_eq_true rfl, Nat.le_of_ble_eq_true rfl⟩) ⟨fun a U g mk q => by obtain ⟨q0, q1, qP, qK, qD⟩ := q; exact ⟨q0, q1, qP, va_K.moved (u := U) (U := U.calling g mk a) (Vm.Alike.refl U.vm) qK, qD⟩, va_recv hK hPc (ci := 0) (q0 := 0) rfl rfl, fun U hU hW => ⟨rfl, by rw [hU], by rw [hU]; exact hPc, va_K.moved hW.alike hK, hDc.weaken (fun _ _ _ _ => trivial)⟩⟩ rfl rfl hl.1 rfl (lv_room (Nat.le_of_ble_eq_true rfl)) dX8_divide_66 ⟨Nat.le_of_ble_eq_true rfl, Nat.le_of_ble_eq_true rfl⟩) hS (fun q _ h => hFc q h) hFc (fun u t H1 locs ht hvm hw hB hz1 hk1 hS => ?_)
          obtain ⟨W1_66, rfl⟩ : ∃ z, z = u := ⟨_, rfl⟩
          obtain ⟨p0_66, p1_66, p2_66⟩ : (Dg W1_66) ∧ (Fr ((uZ W1_29 (64 * rs) (W1_29 (64 * rs) + z_47))) W1_66 rs) ∧ (rv W1_66 rs = rv ((uZ W1_29 (64 * rs) (W1_29 (64 * rs) + z_47))) rs - rv ((uZ W1_29 (64 * rs) (W1_29 (64 * rs) + z_47))) b) := hw
          obtain ⟨hP1, hK1, hD1⟩ := hB
          rw [ht] at hP1
          obtain ⟨hP, hD⟩ := va_join (wr := []) (w1 := [(am, .inr (0, [.int (I3 th), .int (I3 mn), .ref as_, .ref av, .ref aw, .int (I3 sm), .int (I3 wd), .int (I3 lp), .int (I3 mp), .int (I3 re)])), (as_, .inl (dA 0, 60, .inl (iA SG))), (av, .inl (dA 1, 960, .inr (.inl (lA VL)))), (aw, .inl (dA 1, 1024, .inr (.inl (lA W1_66))))]) hP hD [0, 1, 2, 3] [] rfl rfl (by decide) (by decide) hk1 hFc hP1 hD1
          generalize H1 = H at hP hS ⊢
          have hP : va_P (dC, dI) vwCl [(am, .inr (0, [.int (I3 th), .int (I3 mn), .ref as_, .ref av, .ref aw, .int (I3 sm), .int (I3 wd), .int (I3 lp), .int (I3 mp), .int (I3 re)])), (as_, .inl (dA 0, 60, .inl (iA SG))), (av, .inl (dA 1, 960, .inr (.inl (lA VL)))), (aw, .inl (dA 1, 1024, .inr (.inl (lA W1_66))))] H := hP
          have hD : va_D A [(am, .inr (0, [.int (I3 th), .int (I3 mn), .ref as_, .ref av, .ref aw, .int (I3 sm), .int (I3 wd), .int (I3 lp), .int (I3 mp), .int (I3 re)])), (as_, .inl (dA 0, 60, .inl (iA SG))), (av, .inl (dA 1, 960, .inr (.inl (lA VL)))), (aw, .inl (dA 1, 1024, .inr (.inl (lA W1_66))))] := hD
          have hqq : rv W1_66 q = rv W1 q := (Fr_rv p1_66 hqrs).trans ((Fr_rv (Fr_uZ Fr_rf (by omega)) hqrs).trans (Fr_rv p1_29 hqrs))
          have hmod : rv W1_66 q % 2 ^ (i + 1).toNat = 0 := by rw [hqq, hq]; exact Nat.mul_mod_left _ _
          have hdq := dv_q p0_66 (q := q) (i := i) (by omega) hmod
          have hdw := dv_w p0_66 (q := q) (i := i) (by omega) hmod
          refine lv_aload_n hx hb dX8_divide_69 rfl (lv_at hl 0 rfl) ?_
          refine va_get (D := (dC, dI)) (ci := 0) (v := .ref aw) (C := RX8) (T := TX8) (N := 10) hx hb hts in_X8 hown hK hP 0 rfl rfl 4 (by decide) (hts _ q917) (fun _ h9 => h9) rfl dX8_divide_70 ?_
          refine lv_bipush (v := I3 (64)) hx hb dX8_divide_73 (by decide) ?_
          refine lv_iload_n hx hb dX8_divide_75 rfl (lv_at hl 3 rfl) ?_
          refine ix_imul hx hb dX8_divide_76 ?_
          refine lv_iload hx hb dX8_divide_77 (lv_at hl 5 rfl) ?_
          refine lv_bipush (v := I3 (32)) hx hb dX8_divide_79 (by decide) ?_
          refine ix_idiv hx hb (by constructor <;> omega) (by first | decide | (constructor <;> omega)) (by first | decide | omega) (by omega) dX8_divide_81 ?_
          refine ix_ti (y := i / 32) (by exact Int.tdiv_eq_ediv_of_nonneg (by omega)) ?_
          refine ix_iadd hx hb dX8_divide_82 ?_
          refine lv_dup2_11 hx hb dX8_divide_83 rfl rfl ?_
          refine ix_lald hx hb hK hP 3 1 rfl rfl (Nat.le_of_ble_eq_true rfl) (by omega) dX8_divide_84 ?_
          have g_84 := p0_66 ((64 * q) + (i / 32))
          refine lv_lconst (v := L6 1) hx hb dX8_divide_85 (by decide) ?_
          refine lv_iload hx hb dX8_divide_86 (lv_at hl 5 rfl) ?_
          refine lv_bipush (v := I3 (32)) hx hb dX8_divide_88 (by decide) ?_
          refine ix_irem hx hb (by constructor <;> omega) (by first | decide | (constructor <;> omega)) (by first | decide | omega) (by omega) dX8_divide_90 ?_
          refine ix_ti (y := i % 32) (by exact Int.tmod_eq_emod_of_nonneg (by omega)) ?_
          refine ix_lshl hx hb (by first | decide | omega) dX8_divide_91 ?_
          refine ix_lor hx hb dX8_divide_92 ?_
          refine ix_tl (y := W1_66 (64 * q + i / 32) + 2 ^ (i % 32).toNat) (by exact hdq.1) ?_
          refine ix_last hx hb hK hP hD hS 3 1 rfl rfl (Nat.le_of_ble_eq_true rfl) (by omega) dX8_divide_93 (fun H locs hP hD hS => ?_)
          have hP : va_P (dC, dI) vwCl [(am, .inr (0, [.int (I3 th), .int (I3 mn), .ref as_, .ref av, .ref aw, .int (I3 sm), .int (I3 wd), .int (I3 lp), .int (I3 mp), .int (I3 re)])), (as_, .inl (dA 0, 60, .inl (iA SG))), (av, .inl (dA 1, 960, .inr (.inl (lA VL)))), (aw, .inl (dA 1, 1024, .inr (.inl (lA (uZ W1_66 ((64 * q) + (i / 32)) (W1_66 (64 * q + i / 32) + 2 ^ (i % 32).toNat))))))] H := hP
          have hD : va_D A [(am, .inr (0, [.int (I3 th), .int (I3 mn), .ref as_, .ref av, .ref aw, .int (I3 sm), .int (I3 wd), .int (I3 lp), .int (I3 mp), .int (I3 re)])), (as_, .inl (dA 0, 60, .inl (iA SG))), (av, .inl (dA 1, 960, .inr (.inl (lA VL)))), (aw, .inl (dA 1, 1024, .inr (.inl (lA (uZ W1_66 ((64 * q) + (i / 32)) (W1_66 (64 * q + i / 32) + 2 ^ (i % 32).toNat))))))] := hD
          refine lv_iinc (v := I3 (i - 1)) (lv' := [(5, .int (I3 (i - 1))), (0, .ref am), (1, .int (I3 a)), (2, .int (I3 b)), (3, .int (I3 q)), (4, .int (I3 rs))]) hx hb dX8_divide_94 hl (k := 5) rfl ((I3_add _ _).trans (congrArg I3 (by omega))) (by decide) rfl (fun ls hl => ?_)
          refine lv_goto (tgt := 20) hx hb dX8_divide_97 (by decide) ?_
          have hii := dv_i (show 0 ≤ i by omega)
          have hq := hq
          have hrs := hrs
          rw [hii.2] at hq hrs
          have hbe : rv W1_29 b = rv wf b := (Fr_rv p1_29 hbrs).trans (Fr2_rv hF hbq hbrs)
          have hfu : Fr W1_29 (uZ W1_29 (64 * rs) (W1_29 (64 * rs) + z_47)) rs := Fr_uZ Fr_rf (by omega)
          have hbu : rv (uZ W1_29 (64 * rs) (W1_29 (64 * rs) + z_47)) b = rv wf b := (Fr_rv hfu hbrs).trans hbe
          have hqu : rv (uZ W1_29 (64 * rs) (W1_29 (64 * rs) + z_47)) q = rv W1 q := (Fr_rv hfu hqrs).trans (Fr_rv p1_29 hqrs)
          have hru : rv (uZ W1_29 (64 * rs) (W1_29 (64 * rs) + z_47)) rs = 2 * (rv wf a / 2 ^ (i.toNat + 1) % rv wf b) + rv wf a / 2 ^ i.toNat % 2 := by have q1 := hdb.2.1; rw [hae] at p0_47; omega
          have hle : rv wf b ≤ rv (uZ W1_29 (64 * rs) (W1_29 (64 * rs) + z_47)) rs := by have q2 := cmpN3 p0_56; rw [hbu] at q2; omega
          obtain ⟨t1, t2⟩ := dv_hi hB (hqu.trans hq) hru hle
          have e_25 : -1 ≤ (i - 1) ∧ (i - 1) < 2048 := by first | assumption | omega | (constructor <;> omega)
          have e_26 : Dg (uZ W1_66 ((64 * q) + (i / 32)) (W1_66 (64 * q + i / 32) + 2 ^ (i % 32).toNat)) := by exact hdw.1
          have e_27 : Fr2 wf (uZ W1_66 ((64 * q) + (i / 32)) (W1_66 (64 * q + i / 32) + 2 ^ (i % 32).toNat)) q rs := by exact Fr2_1 (Fr2_2 (Fr2_2 (Fr2_2 hF p1_29) hfu) p1_66) (Fr_uZ Fr_rf (by omega))
          have e_28 : rv (uZ W1_66 ((64 * q) + (i / 32)) (W1_66 (64 * q + i / 32) + 2 ^ (i % 32).toNat)) q = rv wf a / 2 ^ ((i - 1) + 1).toNat / rv wf b * 2 ^ ((i - 1) + 1).toNat := by rw [hii.1, hdw.2, Fr_rv p1_66 hqrs]; exact t1
          have e_29 : rv (uZ W1_66 ((64 * q) + (i / 32)) (W1_66 (64 * q + i / 32) + 2 ^ (i % 32).toNat)) rs = rv wf a / 2 ^ ((i - 1) + 1).toNat % rv wf b := by rw [hii.1, Fr_rv (Fr_uZ Fr_rf (by omega)) (Ne.symm hqrs), p2_66, hbu]; exact t2
          have e_30 : ((i - 1) + 1).toNat < fuel_20 := by omega
          exact ih_20 (i - 1) (uZ W1_66 ((64 * q) + (i / 32)) (W1_66 (64 * q + i / 32) + 2 ^ (i % 32).toNat)) e_25 e_26 e_27 e_28 e_29 e_30 _ _ hP hD hS ls (lv_sub hl [1, 2, 3, 4, 5, 0] rfl)
  refine lv_aload_n hx hb dX8_divide_0 rfl (lv_at hl 0 rfl) ?_
  refine lv_iload_n hx hb dX8_divide_1 rfl (lv_at hl 3 rfl) ?_
  have h_31 : 0 ≤ q ∧ q < 16 := by first | assumption | omega | (constructor <;> omega)
  have h_32 : Dg wf := by first | assumption | omega | (constructor <;> omega)
  have hPc := hP.sub (ws' := [(am, .inr (0, [.int (I3 th), .int (I3 mn), .ref as_, .ref av, .ref aw, .int (I3 sm), .int (I3 wd), .int (I3 lp), .int (I3 mp), .int (I3 re)])), (as_, .inl (dA 0, 60, .inl (iA SG))), (av, .inl (dA 1, 960, .inr (.inl (lA VL)))), (aw, .inl (dA 1, 1024, .inr (.inl (lA wf))))]) [0, 1, 2, 3] rfl
  have hDc := hD.sub (ws' := [(am, .inr (0, [.int (I3 th), .int (I3 mn), .ref as_, .ref av, .ref aw, .int (I3 sm), .int (I3 wd), .int (I3 lp), .int (I3 mp), .int (I3 re)])), (as_, .inl (dA 0, 60, .inl (iA SG))), (av, .inl (dA 1, 960, .inr (.inl (lA VL)))), (aw, .inl (dA 1, 1024, .inr (.inl (lA wf))))]) [0, 1, 2, 3] (by decide) rfl
  have hFc := va_free (wc := [(am, .inr (0, [.int (I3 th), .int (I3 mn), .ref as_, .ref av, .ref aw, .int (I3 sm), .int (I3 wd), .int (I3 lp), .int (I3 mp), .int (I3 re)])), (as_, .inl (dA 0, 60, .inl (iA SG))), (av, .inl (dA 1, 960, .inr (.inl (lA VL)))), (aw, .inl (dA 1, 1024, .inr (.inl (lA wf))))]) hD hS hA [0, 1, 2, 3] rfl
  refine va_callv (va_runV (As := [.int (I3 q)]) (rest := []) ⟨hx, hb, hml, hown, hts⟩ (metX8_zero l dC dI dA am as_ av aw s.heap.size th mn sm wd lp mp re SG VL wf q h_31 h_32) (cwV 1 hts (lw_V q959 q961 qs20 q66 q962) rfl rfl rfl (by decide +kernel) ⟨Nat.le_of_ble_eq_true rfl, Nat.le_of_ble_eq_true rfl⟩) ⟨fun a U g mk q => by obtain ⟨q0, q1, qP, qK, qD⟩ := q; exact ⟨q0, q1, qP, va_K.moved (u := U) (U := U.calling g mk a) (Vm.Alike.refl U.vm) qK, qD⟩, va_recv hK hPc (ci := 0) (q0 := 0) rfl rfl, fun U hU hW => ⟨rfl, by rw [hU], by rw [hU]; exact hPc, va_K.moved hW.alike hK, hDc.weaken (fun _ _ _ _ => trivial)⟩⟩ rfl rfl hl.1 rfl (lv_room (Nat.le_of_ble_eq_true rfl)) dX8_divide_2 ⟨Nat.le_of_ble_eq_true rfl, Nat.le_of_ble_eq_true rfl⟩) hS (fun q _ h => hFc q h) hFc (fun u t H1 locs ht hvm hw hB hz1 hk1 hS => ?_)
  obtain ⟨W1_2, rfl⟩ : ∃ z, z = u := ⟨_, rfl⟩
  obtain ⟨p0_2, p1_2, p2_2⟩ : (Dg W1_2) ∧ (Fr wf W1_2 q) ∧ (∀ i : Int, 64 * q ≤ i → i < 64 * q + 64 → W1_2 i = 0) := hw
  obtain ⟨hP1, hK1, hD1⟩ := hB
  rw [ht] at hP1
  obtain ⟨hP, hD⟩ := va_join (wr := []) (w1 := [(am, .inr (0, [.int (I3 th), .int (I3 mn), .ref as_, .ref av, .ref aw, .int (I3 sm), .int (I3 wd), .int (I3 lp), .int (I3 mp), .int (I3 re)])), (as_, .inl (dA 0, 60, .inl (iA SG))), (av, .inl (dA 1, 960, .inr (.inl (lA VL)))), (aw, .inl (dA 1, 1024, .inr (.inl (lA W1_2))))]) hP hD [0, 1, 2, 3] [] rfl rfl (by decide) (by decide) hk1 hFc hP1 hD1
  generalize H1 = H at hP hS ⊢
  have hP : va_P (dC, dI) vwCl [(am, .inr (0, [.int (I3 th), .int (I3 mn), .ref as_, .ref av, .ref aw, .int (I3 sm), .int (I3 wd), .int (I3 lp), .int (I3 mp), .int (I3 re)])), (as_, .inl (dA 0, 60, .inl (iA SG))), (av, .inl (dA 1, 960, .inr (.inl (lA VL)))), (aw, .inl (dA 1, 1024, .inr (.inl (lA W1_2))))] H := hP
  have hD : va_D A [(am, .inr (0, [.int (I3 th), .int (I3 mn), .ref as_, .ref av, .ref aw, .int (I3 sm), .int (I3 wd), .int (I3 lp), .int (I3 mp), .int (I3 re)])), (as_, .inl (dA 0, 60, .inl (iA SG))), (av, .inl (dA 1, 960, .inr (.inl (lA VL)))), (aw, .inl (dA 1, 1024, .inr (.inl (lA W1_2))))] := hD
  refine lv_aload_n hx hb dX8_divide_5 rfl (lv_at hl 0 rfl) ?_
  refine lv_iload hx hb dX8_divide_6 (lv_at hl 4 rfl) ?_
  have h_33 : 0 ≤ rs ∧ rs < 16 := by first | assumption | omega | (constructor <;> omega)
  have h_34 : Dg W1_2 := by first | assumption | omega | (constructor <;> omega)
  have hPc := hP.sub (ws' := [(am, .inr (0, [.int (I3 th), .int (I3 mn), .ref as_, .ref av, .ref aw, .int (I3 sm), .int (I3 wd), .int (I3 lp), .int (I3 mp), .int (I3 re)])), (as_, .inl (dA 0, 60, .inl (iA SG))), (av, .inl (dA 1, 960, .inr (.inl (lA VL)))), (aw, .inl (dA 1, 1024, .inr (.inl (lA W1_2))))]) [0, 1, 2, 3] rfl
  have hDc := hD.sub (ws' := [(am, .inr (0, [.int (I3 th), .int (I3 mn), .ref as_, .ref av, .ref aw, .int (I3 sm), .int (I3 wd), .int (I3 lp), .int (I3 mp), .int (I3 re)])), (as_, .inl (dA 0, 60, .inl (iA SG))), (av, .inl (dA 1, 960, .inr (.inl (lA VL)))), (aw, .inl (dA 1, 1024, .inr (.inl (lA W1_2))))]) [0, 1, 2, 3] (by decide) rfl
  have hFc := va_free (wc := [(am, .inr (0, [.int (I3 th), .int (I3 mn), .ref as_, .ref av, .ref aw, .int (I3 sm), .int (I3 wd), .int (I3 lp), .int (I3 mp), .int (I3 re)])), (as_, .inl (dA 0, 60, .inl (iA SG))), (av, .inl (dA 1, 960, .inr (.inl (lA VL)))), (aw, .inl (dA 1, 1024, .inr (.inl (lA W1_2))))]) hD hS hA [0, 1, 2, 3] rfl
  refine va_callv (va_runV (As := [.int (I3 rs)]) (rest := []) ⟨hx, hb, hml, hown, hts⟩ (metX8_zero l dC dI dA am as_ av aw H.size th mn sm wd lp mp re SG VL W1_2 rs h_33 h_34) (cwV 1 hts (lw_V q959 q961 qs20 q66 q962) rfl rfl rfl (by decide +kernel) ⟨Nat.le_of_ble_eq_true rfl, Nat.le_of_ble_eq_true rfl⟩) ⟨fun a U g mk q => by obtain ⟨q0, q1, qP, qK, qD⟩ := q; exact ⟨q0, q1, qP, va_K.moved (u := U) (U := U.calling g mk a) (Vm.Alike.refl U.vm) qK, qD⟩, va_recv hK hPc (ci := 0) (q0 := 0) rfl rfl, fun U hU hW => ⟨rfl, by rw [hU], by rw [hU]; exact hPc, va_K.moved hW.alike hK, hDc.weaken (fun _ _ _ _ => trivial)⟩⟩ rfl rfl hl.1 rfl (lv_room (Nat.le_of_ble_eq_true rfl)) dX8_divide_8 ⟨Nat.le_of_ble_eq_true rfl, Nat.le_of_ble_eq_true rfl⟩) hS (fun q _ h => hFc q h) hFc (fun u t H1 locs ht hvm hw hB hz1 hk1 hS => ?_)
  obtain ⟨W1_8, rfl⟩ : ∃ z, z = u := ⟨_, rfl⟩
  obtain ⟨p0_8, p1_8, p2_8⟩ : (Dg W1_8) ∧ (Fr W1_2 W1_8 rs) ∧ (∀ i : Int, 64 * rs ≤ i → i < 64 * rs + 64 → W1_8 i = 0) := hw
  obtain ⟨hP1, hK1, hD1⟩ := hB
  rw [ht] at hP1
  obtain ⟨hP, hD⟩ := va_join (wr := []) (w1 := [(am, .inr (0, [.int (I3 th), .int (I3 mn), .ref as_, .ref av, .ref aw, .int (I3 sm), .int (I3 wd), .int (I3 lp), .int (I3 mp), .int (I3 re)])), (as_, .inl (dA 0, 60, .inl (iA SG))), (av, .inl (dA 1, 960, .inr (.inl (lA VL)))), (aw, .inl (dA 1, 1024, .inr (.inl (lA W1_8))))]) hP hD [0, 1, 2, 3] [] rfl rfl (by decide) (by decide) hk1 hFc hP1 hD1
  generalize H1 = H at hP hS ⊢
  have hP : va_P (dC, dI) vwCl [(am, .inr (0, [.int (I3 th), .int (I3 mn), .ref as_, .ref av, .ref aw, .int (I3 sm), .int (I3 wd), .int (I3 lp), .int (I3 mp), .int (I3 re)])), (as_, .inl (dA 0, 60, .inl (iA SG))), (av, .inl (dA 1, 960, .inr (.inl (lA VL)))), (aw, .inl (dA 1, 1024, .inr (.inl (lA W1_8))))] H := hP
  have hD : va_D A [(am, .inr (0, [.int (I3 th), .int (I3 mn), .ref as_, .ref av, .ref aw, .int (I3 sm), .int (I3 wd), .int (I3 lp), .int (I3 mp), .int (I3 re)])), (as_, .inl (dA 0, 60, .inl (iA SG))), (av, .inl (dA 1, 960, .inr (.inl (lA VL)))), (aw, .inl (dA 1, 1024, .inr (.inl (lA W1_8))))] := hD
  refine lv_aload_n hx hb dX8_divide_11 rfl (lv_at hl 0 rfl) ?_
  refine lv_iload_n hx hb dX8_divide_12 rfl (lv_at hl 1 rfl) ?_
  have h_35 : 0 ≤ a ∧ a < 16 := by first | assumption | omega | (constructor <;> omega)
  have h_36 : Dg W1_8 := by first | assumption | omega | (constructor <;> omega)
  have hPc := hP.sub (ws' := [(am, .inr (0, [.int (I3 th), .int (I3 mn), .ref as_, .ref av, .ref aw, .int (I3 sm), .int (I3 wd), .int (I3 lp), .int (I3 mp), .int (I3 re)])), (as_, .inl (dA 0, 60, .inl (iA SG))), (av, .inl (dA 1, 960, .inr (.inl (lA VL)))), (aw, .inl (dA 1, 1024, .inr (.inl (lA W1_8))))]) [0, 1, 2, 3] rfl
  have hDc := hD.sub (ws' := [(am, .inr (0, [.int (I3 th), .int (I3 mn), .ref as_, .ref av, .ref aw, .int (I3 sm), .int (I3 wd), .int (I3 lp), .int (I3 mp), .int (I3 re)])), (as_, .inl (dA 0, 60, .inl (iA SG))), (av, .inl (dA 1, 960, .inr (.inl (lA VL)))), (aw, .inl (dA 1, 1024, .inr (.inl (lA W1_8))))]) [0, 1, 2, 3] (by decide) rfl
  have hFc := va_free (wc := [(am, .inr (0, [.int (I3 th), .int (I3 mn), .ref as_, .ref av, .ref aw, .int (I3 sm), .int (I3 wd), .int (I3 lp), .int (I3 mp), .int (I3 re)])), (as_, .inl (dA 0, 60, .inl (iA SG))), (av, .inl (dA 1, 960, .inr (.inl (lA VL)))), (aw, .inl (dA 1, 1024, .inr (.inl (lA W1_8))))]) hD hS hA [0, 1, 2, 3] rfl
  refine va_calli (va_runV (As := [.int (I3 a)]) (rest := []) ⟨hx, hb, hml, hown, hts⟩ (metX8_length l dC dI dA am as_ av aw H.size th mn sm wd lp mp re SG VL W1_8 a h_35 h_36) (cwV 1 hts (lw_V q1008 q1010 qs32 q66 q1011) rfl rfl rfl (by decide +kernel) ⟨Nat.le_of_ble_eq_true rfl, Nat.le_of_ble_eq_true rfl⟩) ⟨fun a U g mk q => by obtain ⟨q0, q1, qP, qK, qD⟩ := q; exact ⟨q0, q1, qP, va_K.moved (u := U) (U := U.calling g mk a) (Vm.Alike.refl U.vm) qK, qD⟩, va_recv hK hPc (ci := 0) (q0 := 0) rfl rfl, fun U hU hW => ⟨rfl, by rw [hU], by rw [hU]; exact hPc, va_K.moved hW.alike hK, hDc.weaken (fun _ _ _ _ => trivial)⟩⟩ rfl rfl hl.1 rfl (lv_room (Nat.le_of_ble_eq_true rfl)) dX8_divide_13 ⟨Nat.le_of_ble_eq_true rfl, Nat.le_of_ble_eq_true rfl⟩) hS (fun q _ h => hFc q h) hFc (fun r_13 u t H1 locs ht hvm hw hB hz1 hk1 hS => ?_)
  obtain ⟨z_13, rfl⟩ : ∃ z, z = u := ⟨_, rfl⟩
  obtain ⟨rfl, p0_13⟩ : r_13 = I3 z_13 ∧ (z_13 = ((bl (rv W1_8 a) : Nat) : Int)) := hw
  obtain ⟨hP1, hK1, hD1⟩ := hB
  rw [ht] at hP1
  obtain ⟨hP, hD⟩ := va_join (wr := []) (w1 := [(am, .inr (0, [.int (I3 th), .int (I3 mn), .ref as_, .ref av, .ref aw, .int (I3 sm), .int (I3 wd), .int (I3 lp), .int (I3 mp), .int (I3 re)])), (as_, .inl (dA 0, 60, .inl (iA SG))), (av, .inl (dA 1, 960, .inr (.inl (lA VL)))), (aw, .inl (dA 1, 1024, .inr (.inl (lA W1_8))))]) hP hD [0, 1, 2, 3] [] rfl rfl (by decide) (by decide) hk1 hFc hP1 hD1
  generalize H1 = H at hP hS ⊢
  have hP : va_P (dC, dI) vwCl [(am, .inr (0, [.int (I3 th), .int (I3 mn), .ref as_, .ref av, .ref aw, .int (I3 sm), .int (I3 wd), .int (I3 lp), .int (I3 mp), .int (I3 re)])), (as_, .inl (dA 0, 60, .inl (iA SG))), (av, .inl (dA 1, 960, .inr (.inl (lA VL)))), (aw, .inl (dA 1, 1024, .inr (.inl (lA W1_8))))] H := hP
  have hD : va_D A [(am, .inr (0, [.int (I3 th), .int (I3 mn), .ref as_, .ref av, .ref aw, .int (I3 sm), .int (I3 wd), .int (I3 lp), .int (I3 mp), .int (I3 re)])), (as_, .inl (dA 0, 60, .inl (iA SG))), (av, .inl (dA 1, 960, .inr (.inl (lA VL)))), (aw, .inl (dA 1, 1024, .inr (.inl (lA W1_8))))] := hD
  refine lv_iconst (v := I3 (1)) hx hb dX8_divide_16 rfl ?_
  refine ix_isub hx hb dX8_divide_17 ?_
  refine lv_istore (lv' := [(5, .int (I3 (z_13 - 1))), (0, .ref am), (1, .int (I3 a)), (2, .int (I3 b)), (3, .int (I3 q)), (4, .int (I3 rs))]) hx hb dX8_divide_18 hl (by decide) rfl (fun ls hl => ?_)
  have ea : rv W1_8 a = rv wf a := (Fr_rv p1_8 hars).trans (Fr_rv p1_2 haq)
  rw [ea] at p0_13
  have hbl : bl (rv wf a) ≤ 2048 := bl_le.mpr (rv_lt hW a)
  have e0 : rv wf a / 2 ^ (z_13 - 1 + 1).toNat = 0 := by rw [p0_13, show (((bl (rv wf a) : Nat) : Int) - 1 + 1).toNat = bl (rv wf a) by omega]; exact Nat.div_eq_of_lt (bl_hi _)
  have e_37 : -1 ≤ (z_13 - 1) ∧ (z_13 - 1) < 2048 := by first | assumption | omega | (constructor <;> omega)
  have e_38 : Dg W1_8 := by first | assumption | omega | (constructor <;> omega)
  have e_39 : Fr2 wf W1_8 q rs := by intro t h1 h2; exact (p1_8 t h2).trans (p1_2 t h1)
  have e_40 : rv W1_8 q = rv wf a / 2 ^ ((z_13 - 1) + 1).toNat / rv wf b * 2 ^ ((z_13 - 1) + 1).toNat := by rw [e0, Nat.zero_div, Nat.zero_mul]; exact (Fr_rv p1_8 hqrs).trans (rv_zero p2_2)
  have e_41 : rv W1_8 rs = rv wf a / 2 ^ ((z_13 - 1) + 1).toNat % rv wf b := by rw [e0, Nat.zero_mod]; exact rv_zero p2_8
  exact cut_20 (((z_13 - 1) + 1).toNat + 1) (z_13 - 1) W1_8 e_37 e_38 e_39 e_40 e_41 (Nat.lt_succ_self _) _ _ hP hD hS ls (lv_sub hl [1, 2, 3, 4, 5, 0] rfl)
