/-! the model: act -/
set_option maxRecDepth 100000
abbrev BmetX8_act (dC : Nat → ClassId) (dI : Nat → Nat → Nat) (dA : Nat → ClassId) (A : Nat → Prop) (am : Nat) (as_ : Nat) (av : Nat) (aw : Nat) (th : Int) (mn : Int) (sm : Int) (wd : Int) (lp : Int) (mp : Int) (re : Int) (SG : Int → Int) (VL : Int → Int) (wf : Int → Int) (act : Int) (a : Int) (b : Int) : Int × Int × Int × (Int → Int) × (Int → Int) × (Int → Int) × Int → State → Prop := fun u t => (fun (u : Int × Int × Int × (Int → Int) × (Int → Int) × (Int → Int) × Int) => (fun (z : Int) (th1 : Int) (mn1 : Int) (SG1 : Int → Int) (VL1 : Int → Int) (W1 : Int → Int) (sm1 : Int) => va_P (dC, dI) vwCl [(am, .inr (0, [.int (I3 th1), .int (I3 mn1), .ref as_, .ref av, .ref aw, .int (I3 sm1), .int (I3 wd), .int (I3 lp), .int (I3 mp), .int (I3 re)])), (as_, .inl (dA 0, 60, .inl (iA SG1))), (av, .inl (dA 1, 960, .inr (.inl (lA VL1)))), (aw, .inl (dA 1, 1024, .inr (.inl (lA W1))))] t.heap ∧ va_K (dC, dI) vwCl (tyA dA) t ∧ va_D A [(am, .inr (0, [.int (I3 th1), .int (I3 mn1), .ref as_, .ref av, .ref aw, .int (I3 sm1), .int (I3 wd), .int (I3 lp), .int (I3 mp), .int (I3 re)])), (as_, .inl (dA 0, 60, .inl (iA SG1))), (av, .inl (dA 1, 960, .inr (.inl (lA VL1)))), (aw, .inl (dA 1, 1024, .inr (.inl (lA W1))))]) u.1 u.2.1 u.2.2.1 u.2.2.2.1 u.2.2.2.2.1 u.2.2.2.2.2.1 u.2.2.2.2.2.2) u
abbrev QmetX8_act (dC : Nat → ClassId) (dI : Nat → Nat → Nat) (dA : Nat → ClassId) (A : Nat → Prop) (am : Nat) (as_ : Nat) (av : Nat) (aw : Nat) (th : Int) (mn : Int) (sm : Int) (wd : Int) (lp : Int) (mp : Int) (re : Int) (SG : Int → Int) (VL : Int → Int) (wf : Int → Int) (act : Int) (a : Int) (b : Int) := va_Qi (fun (rt_ : Int32) => fun (u : Int × Int × Int × (Int → Int) × (Int → Int) × (Int → Int) × Int) => (fun (z : Int) (th1 : Int) (mn1 : Int) (SG1 : Int → Int) (VL1 : Int → Int) (W1 : Int → Int) (sm1 : Int) => rt_ = I3 z ∧ (Dg W1) ∧ (MI mn1 SG1 VL1) ∧ (AcR mn SG VL act a b z th1 mn1 SG1 VL1)) u.1 u.2.1 u.2.2.1 u.2.2.2.1 u.2.2.2.2.1 u.2.2.2.2.2.1 u.2.2.2.2.2.2) (BmetX8_act dC dI dA A am as_ av aw th mn sm wd lp mp re SG VL wf act a b) A
set_option maxHeartbeats 16000000 in
set_option maxRecDepth 100000 in
/-- act -/
theorem metX8_act (l : Launch) (dC : Nat → ClassId) (dI : Nat → Nat → Nat) (dA : Nat → ClassId) (am : Nat) (as_ : Nat) (av : Nat) (aw : Nat) (sz : Nat) (th : Int) (mn : Int) (sm : Int) (wd : Int) (lp : Int) (mp : Int) (re : Int) (SG : Int → Int) (VL : Int → Int) (wf : Int → Int) (act : Int) (a : Int) (b : Int) (hW : Dg wf) (hI : MI mn SG VL) (hact3 : In3 act) (ha3 : In3 a) (hb3 : In3 b) : Met l yX8_act (ws_ yX8_act cX8_act 6 (some .int)) ({ frames := 6, cells := 0, slots := 0, locals := 240 }) (va_Pc [.ref am, .int (I3 act), .int (I3 a), .int (I3 b)] (fun U => U.heap.size = sz ∧ va_P (dC, dI) vwCl [(am, .inr (0, [.int (I3 th), .int (I3 mn), .ref as_, .ref av, .ref aw, .int (I3 sm), .int (I3 wd), .int (I3 lp), .int (I3 mp), .int (I3 re)])), (as_, .inl (dA 0, 60, .inl (iA SG))), (av, .inl (dA 1, 960, .inr (.inl (lA VL)))), (aw, .inl (dA 1, 1024, .inr (.inl (lA wf))))] U.heap ∧ va_K (dC, dI) vwCl (tyA dA) U ∧ va_D (fun _ => True) [(am, .inr (0, [.int (I3 th), .int (I3 mn), .ref as_, .ref av, .ref aw, .int (I3 sm), .int (I3 wd), .int (I3 lp), .int (I3 mp), .int (I3 re)])), (as_, .inl (dA 0, 60, .inl (iA SG))), (av, .inl (dA 1, 960, .inr (.inl (lA VL)))), (aw, .inl (dA 1, 1024, .inr (.inl (lA wf))))])) (QmetX8_act dC dI dA (va_A [(am, .inr (0, [.int (I3 th), .int (I3 mn), .ref as_, .ref av, .ref aw, .int (I3 sm), .int (I3 wd), .int (I3 lp), .int (I3 mp), .int (I3 re)])), (as_, .inl (dA 0, 60, .inl (iA SG))), (av, .inl (dA 1, 960, .inr (.inl (lA VL)))), (aw, .inl (dA 1, 1024, .inr (.inl (lA wf))))] sz) am as_ av aw th mn sm wd lp mp re SG VL wf act a b) 0 0 (va_A [(am, .inr (0, [.int (I3 th), .int (I3 mn), .ref as_, .ref av, .ref aw, .int (I3 sm), .int (I3 wd), .int (I3 lp), .int (I3 mp), .int (I3 re)])), (as_, .inl (dA 0, 60, .inl (iA SG))), (av, .inl (dA 1, 960, .inr (.inl (lA VL)))), (aw, .inl (dA 1, 1024, .inr (.inl (lA wf))))] sz) := by
  refine Met.ofW (cc := cX8_act) (maxL := 6) (ret := (some .int)) (by decide) rfl ?_
  intro p e s m args below meth c s₁ B hml hv
  obtain ⟨rfl, hsz, hP, hK, hD0⟩ := hv
  have hx := B.exec
  have hb := B.bytes
  have hr := B.returns
  have hts := atoms_spec (ws := (ws_ yX8_act cX8_act 6 (some .int))) B.pre
  have hts : ∀ w ∈ lw_all, w.before _ s = true := fun w h => hts w (List.mem_cons_of_mem _ h)
  have hown : s.vm.findClass RX8 = some m.cls := findClass_of_methodNamed B.named
  have hlocks := B.notSynchronized
  subst hsz
  have hD := hD0.self (sz := s.heap.size)
  generalize hAe : va_A [(am, .inr (0, [.int (I3 th), .int (I3 mn), .ref as_, .ref av, .ref aw, .int (I3 sm), .int (I3 wd), .int (I3 lp), .int (I3 mp), .int (I3 re)])), (as_, .inl (dA 0, 60, .inl (iA SG))), (av, .inl (dA 1, 960, .inr (.inl (lA VL)))), (aw, .inl (dA 1, 1024, .inr (.inl (lA wf))))] s.heap.size = A at hD ⊢
  have hA : ∀ q : Nat, s.heap.size ≤ q → A q := fun q h => by rw [← hAe]; exact Or.inr h
  have hS : va_S A s.heap s.heap [] := va_S.rf
  have hP : va_P (dC, dI) vwCl [(am, .inr (0, [.int (I3 th), .int (I3 mn), .ref as_, .ref av, .ref aw, .int (I3 sm), .int (I3 wd), .int (I3 lp), .int (I3 mp), .int (I3 re)])), (as_, .inl (dA 0, 60, .inl (iA SG))), (av, .inl (dA 1, 960, .inr (.inl (lA VL)))), (aw, .inl (dA 1, 1024, .inr (.inl (lA wf))))] s.heap := hP
  have hl := lv_entry ([.ref am, .int (I3 act), .int (I3 a), .int (I3 b)]) (n := 6) (Nat.le_of_ble_eq_true rfl)
  rw [lg_entry_eq]
  generalize (lg_sl ([.ref am, .int (I3 act), .int (I3 a), .int (I3 b)]) ++ List.replicate (6 - (lg_sl ([.ref am, .int (I3 act), .int (I3 a), .int (I3 b)])).length) Slot.unset).toArray = ls at hl ⊢
  have hl : lv_has ls 6 [(0, .ref am), (1, .int (I3 act)), (2, .int (I3 a)), (3, .int (I3 b))] := hl
  have cut_221 : ∀ (f : Int) (s5 : Int) (th5 : Int) (W5 : Int → Int), (((0 ≤ a ∧ a < mn) ∧ 0 ≤ b ∧ b < mn)) → (acGd VL act a b) → (¬ acB3 SG VL act a b) → (act = 11 ∨ act = 12) → (Dg W5) → (f = (if act = 11 then (if ordS SG VL a b ≤ 0 then a else b) else (if ordS SG VL a b ≤ 0 then b else a))) → (f = a ∨ f = b) → ∀ (H : Heap) (locs : List Loc), va_P (dC, dI) vwCl [(am, .inr (0, [.int (I3 th5), .int (I3 mn), .ref as_, .ref av, .ref aw, .int (I3 s5), .int (I3 wd), .int (I3 lp), .int (I3 mp), .int (I3 re)])), (as_, .inl (dA 0, 60, .inl (iA SG))), (av, .inl (dA 1, 960, .inr (.inl (lA VL)))), (aw, .inl (dA 1, 1024, .inr (.inl (lA W5))))] H → va_D A [(am, .inr (0, [.int (I3 th5), .int (I3 mn), .ref as_, .ref av, .ref aw, .int (I3 s5), .int (I3 wd), .int (I3 lp), .int (I3 mp), .int (I3 re)])), (as_, .inl (dA 0, 60, .inl (iA SG))), (av, .inl (dA 1, 960, .inr (.inl (lA VL)))), (aw, .inl (dA 1, 1024, .inr (.inl (lA W5))))] → va_S A s.heap H locs → ∀ (ls : Array Slot), lv_has ls 6 [(0, .ref am), (1, .int (I3 act)), (2, .int (I3 a)), (3, .int (I3 b))] → W p l e (headSpec (ws_ yX8_act cX8_act 6 (some .int)) ({ frames := 6, cells := 0, slots := 0, locals := 240 })).room s m ([.ref am, .int (I3 act), .int (I3 a), .int (I3 b)] : List Value).toArray below meth c H locs 0 0 (MQ below (QmetX8_act dC dI dA A am as_ av aw th mn sm wd lp mp re SG VL wf act a b) ([.ref am, .int (I3 act), .int (I3 a), .int (I3 b)] : List Value).toArray s 0 0 A) (F0 m 221 ls [.int (I3 f)]) := by
    intro f s5 th5 W5 hnum hgd hb3_ hact11 hW5 hf hf2 H locs hP hD hS ls hl
    obtain ⟨hmn, hV, hAll⟩ := id hI
    have ha2 := hAll a (by omega) (by omega)
    have hb2 := hAll b (by omega) (by omega)
    have i_act : In3 act := hact3
    have i_a : In3 (SG a) := ⟨by omega, by omega⟩
    have i_b : In3 (SG b) := ⟨by omega, by omega⟩
    have hB82 := B8_2
    have lqa := qv_lt hV a
    have lqb := qv_lt hV b
    have hf60 : 0 ≤ f ∧ f < 60 := by omega
    have hfn : 0 ≤ f ∧ f < mn := by omega
    have hff := hAll f hfn.1 hfn.2
    have i_f : In3 (SG f) := ⟨by omega, by omega⟩
    have lqf := qv_lt hV f
    refine lv_istore (lv' := [(5, .int (I3 f)), (0, .ref am), (1, .int (I3 act)), (2, .int (I3 a)), (3, .int (I3 b))]) hx hb dX8_act_221 hl (by decide) rfl (fun ls hl => ?_)
    refine lv_aload_n hx hb dX8_act_223 rfl (lv_at hl 1 rfl) ?_
    refine lv_iload hx hb dX8_act_224 (lv_at hl 0 rfl) ?_
    refine lv_iconst (v := I3 (0)) hx hb dX8_act_226 rfl ?_
    have h_1 : 0 ≤ f ∧ f < 60 := by first | assumption | omega | (constructor <;> omega)
    have h_2 : 0 ≤ (0 : Int) ∧ (0 : Int) < 16 := by decide
    have h_3 : Dg W5 := by first | assumption | omega | (constructor <;> omega)
    have h_4 : Dg VL := by first | assumption | omega | (constructor <;> omega)
    have hPc := hP.sub (ws' := [(am, .inr (0, [.int (I3 th5), .int (I3 mn), .ref as_, .ref av, .ref aw, .int (I3 s5), .int (I3 wd), .int (I3 lp), .int (I3 mp), .int (I3 re)])), (as_, .inl (dA 0, 60, .inl (iA SG))), (av, .inl (dA 1, 960, .inr (.inl (lA VL)))), (aw, .inl (dA 1, 1024, .inr (.inl (lA W5))))]) [0, 1, 2, 3] rfl
    have hDc := hD.sub (ws' := [(am, .inr (0, [.int (I3 th5), .int (I3 mn), .ref as_, .ref av, .ref aw, .int (I3 s5), .int (I3 wd), .int (I3 lp), .int (I3 mp), .int (I3 re)])), (as_, .inl (dA 0, 60, .inl (iA SG))), (av, .inl (dA 1, 960, .inr (.inl (lA VL)))), (aw, .inl (dA 1, 1024, .inr (.inl (lA W5))))]) [0, 1, 2, 3] (by decide) rfl
    have hFc := va_free (wc := [(am, .inr (0, [.int (I3 th5), .int (I3 mn), .ref as_, .ref av, .ref aw, .int (I3 s5), .int (I3 wd), .int (I3 lp), .int (I3 mp), .int (I3 re)])), (as_, .inl (dA 0, 60, .inl (iA SG))), (av, .inl (dA 1, 960, .inr (.inl (lA VL)))), (aw, .inl (dA 1, 1024, .inr (.inl (lA W5))))]) hD hS hA [0, 1, 2, 3] rfl
    refine va_callv (va_runV (As := [.int (I3 f), .int (I3 0)]) (rest := []) ⟨hx, hb, hml, hown, hts⟩ (metX8_loadP l dC dI dA am as_ av aw H.size th5 mn s5 wd lp mp re SG VL W5 f 0 h_1 h_2 h_3 h_4) (cwV 2 hts (lw_V q1066 q1068 qs39 q66 q1069) rfl rfl rfl (by decide +kernel) ⟨Nat.le_of_ble_eq_true rfl, Nat.le_of_ble_eq_true rfl⟩) ⟨fun a U g mk q => by obtain ⟨q0, q1, qP, qK, qD⟩ := q; exact ⟨q0, q1, qP, va_K.moved (u := U) (U := U.calling g mk a) (Vm.Alike.refl U.vm) qK, qD⟩, va_recv hK hPc (ci := 0) (q0 := 0) rfl rfl, fun U hU hW => ⟨rfl, by rw [hU], by rw [hU]; exact hPc, va_K.moved hW.alike hK, hDc.weaken (fun _ _ _ _ => trivial)⟩⟩ rfl rfl hl.1 rfl (lv_room (Nat.le_of_ble_eq_true rfl)) dX8_act_227 ⟨Nat.le_of_ble_eq_true rfl, Nat.le_of_ble_eq_true rfl⟩) hS (fun q _ h => hFc q h) hFc (fun u t H1 locs ht hvm hw hB hz1 hk1 hS => ?_)
    obtain ⟨W1_227, rfl⟩ : ∃ z, z = u := ⟨_, rfl⟩
    obtain ⟨p0_227, p1_227, p2_227⟩ : (Dg W1_227) ∧ (Fr W5 W1_227 (0 : Int)) ∧ (rv W1_227 (0 : Int) = pv VL f) := hw
    obtain ⟨hP1, hK1, hD1⟩ := hB
    rw [ht] at hP1
    obtain ⟨hP, hD⟩ := va_join (wr := []) (w1 := [(am, .inr (0, [.int (I3 th5), .int (I3 mn), .ref as_, .ref av, .ref aw, .int (I3 s5), .int (I3 wd), .int (I3 lp), .int (I3 mp), .int (I3 re)])), (as_, .inl (dA 0, 60, .inl (iA SG))), (av, .inl (dA 1, 960, .inr (.inl (lA VL)))), (aw, .inl (dA 1, 1024, .inr (.inl (lA W1_227))))]) hP hD [0, 1, 2, 3] [] rfl rfl (by decide) (by decide) hk1 hFc hP1 hD1
    generalize H1 = H at hP hS ⊢
    have hP : va_P (dC, dI) vwCl [(am, .inr (0, [.int (I3 th5), .int (I3 mn), .ref as_, .ref av, .ref aw, .int (I3 s5), .int (I3 wd), .int (I3 lp), .int (I3 mp), .int (I3 re)])), (as_, .inl (dA 0, 60, .inl (iA SG))), (av, .inl (dA 1, 960, .inr (.inl (lA VL)))), (aw, .inl (dA 1, 1024, .inr (.inl (lA W1_227))))] H := hP
    have hD : va_D A [(am, .inr (0, [.int (I3 th5), .int (I3 mn), .ref as_, .ref av, .ref aw, .int (I3 s5), .int (I3 wd), .int (I3 lp), .int (I3 mp), .int (I3 re)])), (as_, .inl (dA 0, 60, .inl (iA SG))), (av, .inl (dA 1, 960, .inr (.inl (lA VL)))), (aw, .inl (dA 1, 1024, .inr (.inl (lA W1_227))))] := hD
    refine lv_aload_n hx hb dX8_act_230 rfl (lv_at hl 1 rfl) ?_
    refine lv_iload hx hb dX8_act_231 (lv_at hl 0 rfl) ?_
    refine lv_iconst (v := I3 (1)) hx hb dX8_act_233 rfl ?_
    have h_5 : 0 ≤ f ∧ f < 60 := by first | assumption | omega | (constructor <;> omega)
    have h_6 : 0 ≤ (1 : Int) ∧ (1 : Int) < 16 := by decide
    have h_7 : Dg W1_227 := by first | assumption | omega | (constructor <;> omega)
    have h_8 : Dg VL := by first | assumption | omega | (constructor <;> omega)
    have hPc := hP.sub (ws' := [(am, .inr (0, [.int (I3 th5), .int (I3 mn), .ref as_, .ref av, .ref aw, .int (I3 s5), .int (I3 wd), .int (I3 lp), .int (I3 mp), .int (I3 re)])), (as_, .inl (dA 0, 60, .inl (iA SG))), (av, .inl (dA 1, 960, .inr (.inl (lA VL)))), (aw, .inl (dA 1, 1024, .inr (.inl (lA W1_227))))]) [0, 1, 2, 3] rfl
    have hDc := hD.sub (ws' := [(am, .inr (0, [.int (I3 th5), .int (I3 mn), .ref as_, .ref av, .ref aw, .int (I3 s5), .int (I3 wd), .int (I3 lp), .int (I3 mp), .int (I3 re)])), (as_, .inl (dA 0, 60, .inl (iA SG))), (av, .inl (dA 1, 960, .inr (.inl (lA VL)))), (aw, .inl (dA 1, 1024, .inr (.inl (lA W1_227))))]) [0, 1, 2, 3] (by decide) rfl
    have hFc := va_free (wc := [(am, .inr (0, [.int (I3 th5), .int (I3 mn), .ref as_, .ref av, .ref aw, .int (I3 s5), .int (I3 wd), .int (I3 lp), .int (I3 mp), .int (I3 re)])), (as_, .inl (dA 0, 60, .inl (iA SG))), (av, .inl (dA 1, 960, .inr (.inl (lA VL)))), (aw, .inl (dA 1, 1024, .inr (.inl (lA W1_227))))]) hD hS hA [0, 1, 2, 3] rfl
    refine va_callv (va_runV (As := [.int (I3 f), .int (I3 1)]) (rest := []) ⟨hx, hb, hml, hown, hts⟩ (metX8_loadQ l dC dI dA am as_ av aw H.size th5 mn s5 wd lp mp re SG VL W1_227 f 1 h_5 h_6 h_7 h_8) (cwV 2 hts (lw_V q1070 q1072 qs40 q66 q1073) rfl rfl rfl (by decide +kernel) ⟨Nat.le_of_ble_eq_true rfl, Nat.le_of_ble_eq_true rfl⟩) ⟨fun a U g mk q => by obtain ⟨q0, q1, qP, qK, qD⟩ := q; exact ⟨q0, q1, qP, va_K.moved (u := U) (U := U.calling g mk a) (Vm.Alike.refl U.vm) qK, qD⟩, va_recv hK hPc (ci := 0) (q0 := 0) rfl rfl, fun U hU hW => ⟨rfl, by rw [hU], by rw [hU]; exact hPc, va_K.moved hW.alike hK, hDc.weaken (fun _ _ _ _ => trivial)⟩⟩ rfl rfl hl.1 rfl (lv_room (Nat.le_of_ble_eq_true rfl)) dX8_act_234 ⟨Nat.le_of_ble_eq_true rfl, Nat.le_of_ble_eq_true rfl⟩) hS (fun q _ h => hFc q h) hFc (fun u t H1 locs ht hvm hw hB hz1 hk1 hS => ?_)
    obtain ⟨W1_234, rfl⟩ : ∃ z, z = u := ⟨_, rfl⟩
    obtain ⟨p0_234, p1_234, p2_234⟩ : (Dg W1_234) ∧ (Fr W1_227 W1_234 (1 : Int)) ∧ (rv W1_234 (1 : Int) = qv VL f) := hw
    obtain ⟨hP1, hK1, hD1⟩ := hB
    rw [ht] at hP1
    obtain ⟨hP, hD⟩ := va_join (wr := []) (w1 := [(am, .inr (0, [.int (I3 th5), .int (I3 mn), .ref as_, .ref av, .ref aw, .int (I3 s5), .int (I3 wd), .int (I3 lp), .int (I3 mp), .int (I3 re)])), (as_, .inl (dA 0, 60, .inl (iA SG))), (av, .inl (dA 1, 960, .inr (.inl (lA VL)))), (aw, .inl (dA 1, 1024, .inr (.inl (lA W1_234))))]) hP hD [0, 1, 2, 3] [] rfl rfl (by decide) (by decide) hk1 hFc hP1 hD1
    generalize H1 = H at hP hS ⊢
    have hP : va_P (dC, dI) vwCl [(am, .inr (0, [.int (I3 th5), .int (I3 mn), .ref as_, .ref av, .ref aw, .int (I3 s5), .int (I3 wd), .int (I3 lp), .int (I3 mp), .int (I3 re)])), (as_, .inl (dA 0, 60, .inl (iA SG))), (av, .inl (dA 1, 960, .inr (.inl (lA VL)))), (aw, .inl (dA 1, 1024, .inr (.inl (lA W1_234))))] H := hP
    have hD : va_D A [(am, .inr (0, [.int (I3 th5), .int (I3 mn), .ref as_, .ref av, .ref aw, .int (I3 s5), .int (I3 wd), .int (I3 lp), .int (I3 mp), .int (I3 re)])), (as_, .inl (dA 0, 60, .inl (iA SG))), (av, .inl (dA 1, 960, .inr (.inl (lA VL)))), (aw, .inl (dA 1, 1024, .inr (.inl (lA W1_234))))] := hD
    have f0 : rv W1_234 0 = pv VL f := (Fr_rv p1_234 (by decide)).trans p2_227
    refine lv_aload_n hx hb dX8_act_237 rfl (lv_at hl 1 rfl) ?_
    refine lv_aload_n hx hb dX8_act_238 rfl (lv_at hl 1 rfl) ?_
    refine va_get (D := (dC, dI)) (ci := 0) (v := .ref as_) (C := RX8) (T := TX8) (N := 10) hx hb hts in_X8 hown hK hP 0 rfl rfl 2 (by decide) (hts _ q915) (fun _ h9 => h9) rfl dX8_act_239 ?_
    refine lv_iload hx hb dX8_act_242 (lv_at hl 0 rfl) ?_
    refine ix_iald hx hb hK hP 1 0 rfl rfl (Nat.le_of_ble_eq_true rfl) (by omega) dX8_act_244 ?_
    refine lv_iconst (v := I3 (4)) hx hb dX8_act_245 rfl ?_
    have h_9 : Dg W1_234 := by first | assumption | omega | (constructor <;> omega)
    have h_10 : Dg VL := by exact hV
    have h_11 : 0 ≤ mn ∧ mn ≤ 60 := by exact hmn
    have h_12 : In3 (SG f) := by first | assumption | omega | (constructor <;> omega)
    have h_13 : In3 (4 : Int) := by first | assumption | omega | (constructor <;> omega)
    have h_14 : rv W1_234 1 ≠ 0 := by rw [p2_234]; exact hff.2.2.1
    have h_15 : 2 * rv W1_234 1 ≤ BN := by rw [p2_234]; omega
    have hPc := hP.sub (ws' := [(am, .inr (0, [.int (I3 th5), .int (I3 mn), .ref as_, .ref av, .ref aw, .int (I3 s5), .int (I3 wd), .int (I3 lp), .int (I3 mp), .int (I3 re)])), (as_, .inl (dA 0, 60, .inl (iA SG))), (av, .inl (dA 1, 960, .inr (.inl (lA VL)))), (aw, .inl (dA 1, 1024, .inr (.inl (lA W1_234))))]) [0, 1, 2, 3] rfl
    have hDc := hD.sub (ws' := [(am, .inr (0, [.int (I3 th5), .int (I3 mn), .ref as_, .ref av, .ref aw, .int (I3 s5), .int (I3 wd), .int (I3 lp), .int (I3 mp), .int (I3 re)])), (as_, .inl (dA 0, 60, .inl (iA SG))), (av, .inl (dA 1, 960, .inr (.inl (lA VL)))), (aw, .inl (dA 1, 1024, .inr (.inl (lA W1_234))))]) [0, 1, 2, 3] (by decide) rfl
    have hFc := va_free (wc := [(am, .inr (0, [.int (I3 th5), .int (I3 mn), .ref as_, .ref av, .ref aw, .int (I3 s5), .int (I3 wd), .int (I3 lp), .int (I3 mp), .int (I3 re)])), (as_, .inl (dA 0, 60, .inl (iA SG))), (av, .inl (dA 1, 960, .inr (.inl (lA VL)))), (aw, .inl (dA 1, 1024, .inr (.inl (lA W1_234))))]) hD hS hA [0, 1, 2, 3] rfl
    refine va_calli (va_runV (As := [.int (I3 (SG f)), .int (I3 4)]) (rest := []) ⟨hx, hb, hml, hown, hts⟩ (metX8_make l dC dI dA am as_ av aw H.size th5 mn s5 wd lp mp re SG VL W1_234 (SG f) 4 h_9 h_10 h_11 h_12 h_13 h_14 h_15) (cwV 2 hts (lw_V q964 q966 qs21 q66 q967) rfl rfl rfl (by decide +kernel) ⟨Nat.le_of_ble_eq_true rfl, Nat.le_of_ble_eq_true rfl⟩) ⟨fun a U g mk q => by obtain ⟨q0, q1, qP, qK, qD⟩ := q; exact ⟨q0, q1, qP, va_K.moved (u := U) (U := U.calling g mk a) (Vm.Alike.refl U.vm) qK, qD⟩, va_recv hK hPc (ci := 0) (q0 := 0) rfl rfl, fun U hU hW => ⟨rfl, by rw [hU], by rw [hU]; exact hPc, va_K.moved hW.alike hK, hDc.weaken (fun _ _ _ _ => trivial)⟩⟩ rfl rfl hl.1 rfl (lv_room (Nat.le_of_ble_eq_true rfl)) dX8_act_246 ⟨Nat.le_of_ble_eq_true rfl, Nat.le_of_ble_eq_true rfl⟩) hS (fun q _ h => hFc q h) hFc (fun r_246 u t H1 locs ht hvm hw hB hz1 hk1 hS => ?_)
    obtain ⟨z_246, th1_246, mn1_246, SG1_246, VL1_246, W1_246⟩ := u
    obtain ⟨rfl, p0_246, p1_246, p2_246, p3_246⟩ : r_246 = I3 z_246 ∧ (Dg W1_246) ∧ (Dg VL1_246) ∧ (0 ≤ mn1_246 ∧ mn1_246 ≤ 60) ∧ (Mde mn SG VL (SG f) (rv W1_234 0) (rv W1_234 1) (4 : Int) z_246 th1_246 mn1_246 SG1_246 VL1_246) := hw
    obtain ⟨hP1, hK1, hD1⟩ := hB
    rw [ht] at hP1
    obtain ⟨hP, hD⟩ := va_join (wr := []) (w1 := [(am, .inr (0, [.int (I3 th1_246), .int (I3 mn1_246), .ref as_, .ref av, .ref aw, .int (I3 s5), .int (I3 wd), .int (I3 lp), .int (I3 mp), .int (I3 re)])), (as_, .inl (dA 0, 60, .inl (iA SG1_246))), (av, .inl (dA 1, 960, .inr (.inl (lA VL1_246)))), (aw, .inl (dA 1, 1024, .inr (.inl (lA W1_246))))]) hP hD [0, 1, 2, 3] [] rfl rfl (by decide) (by decide) hk1 hFc hP1 hD1
    generalize H1 = H at hP hS ⊢
    have hP : va_P (dC, dI) vwCl [(am, .inr (0, [.int (I3 th1_246), .int (I3 mn1_246), .ref as_, .ref av, .ref aw, .int (I3 s5), .int (I3 wd), .int (I3 lp), .int (I3 mp), .int (I3 re)])), (as_, .inl (dA 0, 60, .inl (iA SG1_246))), (av, .inl (dA 1, 960, .inr (.inl (lA VL1_246)))), (aw, .inl (dA 1, 1024, .inr (.inl (lA W1_246))))] H := hP
    have hD : va_D A [(am, .inr (0, [.int (I3 th1_246), .int (I3 mn1_246), .ref as_, .ref av, .ref aw, .int (I3 s5), .int (I3 wd), .int (I3 lp), .int (I3 mp), .int (I3 re)])), (as_, .inl (dA 0, 60, .inl (iA SG1_246))), (av, .inl (dA 1, 960, .inr (.inl (lA VL1_246)))), (aw, .inl (dA 1, 1024, .inr (.inl (lA W1_246))))] := hD
    have hM := p3_246
    rw [f0, p2_234] at hM
    have o_16 : Dg W1_246 := by first | assumption | omega | (constructor <;> omega)
    have o_17 : MI mn1_246 SG1_246 VL1_246 := by exact MI_Mde hI hff.2.2.1 hff.1 hff.2.1.mp p1_246 p2_246 hM
    have o_18 : AcR mn SG VL act a b z_246 th1_246 mn1_246 SG1_246 VL1_246 := by rcases hact11 with e1 | e1; exact AcR_11 hnum hgd hb3_ e1 (by rw [hf, if_pos e1] at hM; exact hM); exact AcR_12 hnum hgd hb3_ e1 (by rw [hf, if_neg (by omega)] at hM; exact hM)
    exact W.iret (v := I3 z_246) hx hb hr (fun t ht hW => ⟨⟨I3 z_246, (z_246, th1_246, mn1_246, SG1_246, VL1_246, W1_246, s5), rfl, ⟨rfl, ⟨o_16, o_17, o_18⟩⟩, by rw [ht]; exact hP, va_K.moved hW.alike hK, hD⟩, hS.F ht⟩) hS.2.2 dX8_act_249
  have cut_166 : ∀ (s5 : Int), (((0 ≤ a ∧ a < mn) ∧ 0 ≤ b ∧ b < mn)) → (acGd VL act a b) → (¬ acB3 SG VL act a b) → ((act = 9 ∨ act = 10 → s5 = acSm SG VL b)) → ∀ (H : Heap) (locs : List Loc), va_P (dC, dI) vwCl [(am, .inr (0, [.int (I3 th), .int (I3 mn), .ref as_, .ref av, .ref aw, .int (I3 s5), .int (I3 wd), .int (I3 lp), .int (I3 mp), .int (I3 re)])), (as_, .inl (dA 0, 60, .inl (iA SG))), (av, .inl (dA 1, 960, .inr (.inl (lA VL)))), (aw, .inl (dA 1, 1024, .inr (.inl (lA wf))))] H → va_D A [(am, .inr (0, [.int (I3 th), .int (I3 mn), .ref as_, .ref av, .ref aw, .int (I3 s5), .int (I3 wd), .int (I3 lp), .int (I3 mp), .int (I3 re)])), (as_, .inl (dA 0, 60, .inl (iA SG))), (av, .inl (dA 1, 960, .inr (.inl (lA VL)))), (aw, .inl (dA 1, 1024, .inr (.inl (lA wf))))] → va_S A s.heap H locs → ∀ (ls : Array Slot), lv_has ls 6 [(0, .ref am), (1, .int (I3 act)), (2, .int (I3 a)), (3, .int (I3 b))] → W p l e (headSpec (ws_ yX8_act cX8_act 6 (some .int)) ({ frames := 6, cells := 0, slots := 0, locals := 240 })).room s m ([.ref am, .int (I3 act), .int (I3 a), .int (I3 b)] : List Value).toArray below meth c H locs 0 0 (MQ below (QmetX8_act dC dI dA A am as_ av aw th mn sm wd lp mp re SG VL wf act a b) ([.ref am, .int (I3 act), .int (I3 a), .int (I3 b)] : List Value).toArray s 0 0 A) (F0 m 166 ls []) := by
    intro s5 hnum hgd hb3_ hsm H locs hP hD hS ls hl
    obtain ⟨hmn, hV, hAll⟩ := id hI
    have ha2 := hAll a (by omega) (by omega)
    have hb2 := hAll b (by omega) (by omega)
    have i_act : In3 act := hact3
    have i_a : In3 (SG a) := ⟨by omega, by omega⟩
    have i_b : In3 (SG b) := ⟨by omega, by omega⟩
    have i_s : act = 9 ∨ act = 10 → -600 ≤ s5 ∧ s5 ≤ 600 := fun q => by rw [hsm q]; exact acSm_r hb2.1 (by rcases q with q | q; (have q2 := (hgd.2.2.1 q).2; omega); exact (hgd.2.2.2 q).2)
    have la := pv_lt hV a
    have lb := pv_lt hV b
    have ma := qv_lt hV a
    have mb := qv_lt hV b
    have hB82 := B8_2
    refine lv_iload_n hx hb dX8_act_166 rfl (lv_at hl 1 rfl) ?_
    refine lv_bipush (v := I3 (9)) hx hb dX8_act_167 (by decide) ?_
    refine ix_icmp_ne (tgt := 182) hx hb (by first | assumption | decide | (constructor <;> omega)) (by first | assumption | decide | (constructor <;> omega)) dX8_act_169 (by decide) (fun c_169 => ?_) (fun c_169 => ?_)
    · skip
      refine lv_iload_n hx hb dX8_act_182 rfl (lv_at hl 1 rfl) ?_
      refine lv_bipush (v := I3 (11)) hx hb dX8_act_183 (by decide) ?_
      refine ix_icmp_lt (tgt := 250) hx hb (by first | assumption | decide | (constructor <;> omega)) (by first | assumption | decide | (constructor <;> omega)) dX8_act_185 (by decide) (fun c_185 => ?_) (fun c_185 => ?_)
      · skip
        refine lv_iload_n hx hb dX8_act_250 rfl (lv_at hl 1 rfl) ?_
        refine lv_bipush (v := I3 (8)) hx hb dX8_act_251 (by decide) ?_
        refine ix_icmp_ne (tgt := 294) hx hb (by first | assumption | decide | (constructor <;> omega)) (by first | assumption | decide | (constructor <;> omega)) dX8_act_253 (by decide) (fun c_253 => ?_) (fun c_253 => ?_)
        · skip
          refine lv_iload_n hx hb dX8_act_294 rfl (lv_at hl 1 rfl) ?_
          refine lv_bipush (v := I3 (10)) hx hb dX8_act_295 (by decide) ?_
          refine ix_icmp_ne (tgt := 359) hx hb (by first | assumption | decide | (constructor <;> omega)) (by first | assumption | decide | (constructor <;> omega)) dX8_act_297 (by decide) (fun c_297 => ?_) (fun c_297 => ?_)
          · skip
            refine lv_aload_n hx hb dX8_act_359 rfl (lv_at hl 0 rfl) ?_
            refine lv_iload_n hx hb dX8_act_360 rfl (lv_at hl 1 rfl) ?_
            refine lv_iload_n hx hb dX8_act_361 rfl (lv_at hl 2 rfl) ?_
            refine lv_iload_n hx hb dX8_act_362 rfl (lv_at hl 3 rfl) ?_
            have h_19 : Dg wf := by first | assumption | omega | (constructor <;> omega)
            have h_20 : MI mn SG VL := by first | assumption | omega | (constructor <;> omega)
            have h_21 : 0 ≤ act ∧ act ≤ 7 := by have := hgd.1; omega
            have h_22 : 0 ≤ a ∧ a < mn := by first | assumption | omega | (constructor <;> omega)
            have h_23 : 0 ≤ b ∧ b < mn := by first | assumption | omega | (constructor <;> omega)
            have h_24 : 3 ≤ act → SG b ≠ 0 := by intro q w; exact hb3_ (Or.inl ⟨q, by have := hgd.1; omega, w⟩)
            have hPc := hP.sub (ws' := [(am, .inr (0, [.int (I3 th), .int (I3 mn), .ref as_, .ref av, .ref aw, .int (I3 s5), .int (I3 wd), .int (I3 lp), .int (I3 mp), .int (I3 re)])), (as_, .inl (dA 0, 60, .inl (iA SG))), (av, .inl (dA 1, 960, .inr (.inl (lA VL)))), (aw, .inl (dA 1, 1024, .inr (.inl (lA wf))))]) [0, 1, 2, 3] rfl
            have hDc := hD.sub (ws' := [(am, .inr (0, [.int (I3 th), .int (I3 mn), .ref as_, .ref av, .ref aw, .int (I3 s5), .int (I3 wd), .int (I3 lp), .int (I3 mp), .int (I3 re)])), (as_, .inl (dA 0, 60, .inl (iA SG))), (av, .inl (dA 1, 960, .inr (.inl (lA VL)))), (aw, .inl (dA 1, 1024, .inr (.inl (lA wf))))]) [0, 1, 2, 3] (by decide) rfl
            have hFc := va_free (wc := [(am, .inr (0, [.int (I3 th), .int (I3 mn), .ref as_, .ref av, .ref aw, .int (I3 s5), .int (I3 wd), .int (I3 lp), .int (I3 mp), .int (I3 re)])), (as_, .inl (dA 0, 60, .inl (iA SG))), (av, .inl (dA 1, 960, .inr (.inl (lA VL)))), (aw, .inl (dA 1, 1024, .inr (.inl (lA wf))))]) hD hS hA [0, 1, 2, 3] rfl
            refine va_calli (va_runV (As := [.int (I3 act), .int (I3 a), .int (I3 b)]) (rest := []) ⟨hx, hb, hml, hown, hts⟩ (metX8_reckon l dC dI dA am as_ av aw H.size th mn s5 wd lp mp re SG VL wf act a b h_19 h_20 h_21 h_22 h_23 h_24) (cwV 3 hts (lw_V q1086 q1088 qs43 q66 q1089) rfl rfl rfl (by decide +kernel) ⟨Nat.le_of_ble_eq_true rfl, Nat.le_of_ble_eq_true rfl⟩) ⟨fun a U g mk q => by obtain ⟨q0, q1, qP, qK, qD⟩ := q; exact ⟨q0, q1, qP, va_K.moved (u := U) (U := U.calling g mk a) (Vm.Alike.refl U.vm) qK, qD⟩, va_recv hK hPc (ci := 0) (q0 := 0) rfl rfl, fun U hU hW => ⟨rfl, by rw [hU], by rw [hU]; exact hPc, va_K.moved hW.alike hK, hDc.weaken (fun _ _ _ _ => trivial)⟩⟩ rfl rfl hl.1 rfl (lv_room (Nat.le_of_ble_eq_true rfl)) dX8_act_363 ⟨Nat.le_of_ble_eq_true rfl, Nat.le_of_ble_eq_true rfl⟩) hS (fun q _ h => hFc q h) hFc (fun r_363 u t H1 locs ht hvm hw hB hz1 hk1 hS => ?_)
            obtain ⟨z_363, th1_363, mn1_363, SG1_363, VL1_363, W1_363⟩ := u
            obtain ⟨rfl, p0_363, p1_363, p2_363⟩ : r_363 = I3 z_363 ∧ (Dg W1_363) ∧ (MI mn1_363 SG1_363 VL1_363) ∧ (Mde mn SG VL (recG act (SG a) (SG b) (pv VL a * qv VL b) (pv VL b * qv VL a)) (recP act (SG a) (SG b) (pv VL a) (pv VL b) (pv VL a * qv VL b) (pv VL b * qv VL a)) (recQ act (pv VL b * qv VL a) (qv VL a * qv VL b)) 4 z_363 th1_363 mn1_363 SG1_363 VL1_363) := hw
            obtain ⟨hP1, hK1, hD1⟩ := hB
            rw [ht] at hP1
            obtain ⟨hP, hD⟩ := va_join (wr := []) (w1 := [(am, .inr (0, [.int (I3 th1_363), .int (I3 mn1_363), .ref as_, .ref av, .ref aw, .int (I3 s5), .int (I3 wd), .int (I3 lp), .int (I3 mp), .int (I3 re)])), (as_, .inl (dA 0, 60, .inl (iA SG1_363))), (av, .inl (dA 1, 960, .inr (.inl (lA VL1_363)))), (aw, .inl (dA 1, 1024, .inr (.inl (lA W1_363))))]) hP hD [0, 1, 2, 3] [] rfl rfl (by decide) (by decide) hk1 hFc hP1 hD1
            generalize H1 = H at hP hS ⊢
            have hP : va_P (dC, dI) vwCl [(am, .inr (0, [.int (I3 th1_363), .int (I3 mn1_363), .ref as_, .ref av, .ref aw, .int (I3 s5), .int (I3 wd), .int (I3 lp), .int (I3 mp), .int (I3 re)])), (as_, .inl (dA 0, 60, .inl (iA SG1_363))), (av, .inl (dA 1, 960, .inr (.inl (lA VL1_363)))), (aw, .inl (dA 1, 1024, .inr (.inl (lA W1_363))))] H := hP
            have hD : va_D A [(am, .inr (0, [.int (I3 th1_363), .int (I3 mn1_363), .ref as_, .ref av, .ref aw, .int (I3 s5), .int (I3 wd), .int (I3 lp), .int (I3 mp), .int (I3 re)])), (as_, .inl (dA 0, 60, .inl (iA SG1_363))), (av, .inl (dA 1, 960, .inr (.inl (lA VL1_363)))), (aw, .inl (dA 1, 1024, .inr (.inl (lA W1_363))))] := hD
            have o_25 : Dg W1_363 := by first | assumption | omega | (constructor <;> omega)
            have o_26 : MI mn1_363 SG1_363 VL1_363 := by exact p1_363
            have o_27 : AcR mn SG VL act a b z_363 th1_363 mn1_363 SG1_363 VL1_363 := by exact AcR_m hnum hgd hb3_ (by have := hgd.1; omega) p2_363
            exact W.iret (v := I3 z_363) hx hb hr (fun t ht hW => ⟨⟨I3 z_363, (z_363, th1_363, mn1_363, SG1_363, VL1_363, W1_363, s5), rfl, ⟨rfl, ⟨o_25, o_26, o_27⟩⟩, by rw [ht]; exact hP, va_K.moved hW.alike hK, hD⟩, hS.F ht⟩) hS.2.2 dX8_act_366
          · skip
            refine lv_aload_n hx hb dX8_act_300 rfl (lv_at hl 0 rfl) ?_
            refine lv_iload_n hx hb dX8_act_301 rfl (lv_at hl 2 rfl) ?_
            refine lv_iconst (v := I3 (0)) hx hb dX8_act_302 rfl ?_
            have h_28 : 0 ≤ a ∧ a < 60 := by first | assumption | omega | (constructor <;> omega)
            have h_29 : 0 ≤ (0 : Int) ∧ (0 : Int) < 16 := by decide
            have h_30 : Dg wf := by first | assumption | omega | (constructor <;> omega)
            have h_31 : Dg VL := by first | assumption | omega | (constructor <;> omega)
            have hPc := hP.sub (ws' := [(am, .inr (0, [.int (I3 th), .int (I3 mn), .ref as_, .ref av, .ref aw, .int (I3 s5), .int (I3 wd), .int (I3 lp), .int (I3 mp), .int (I3 re)])), (as_, .inl (dA 0, 60, .inl (iA SG))), (av, .inl (dA 1, 960, .inr (.inl (lA VL)))), (aw, .inl (dA 1, 1024, .inr (.inl (lA wf))))]) [0, 1, 2, 3] rfl
            have hDc := hD.sub (ws' := [(am, .inr (0, [.int (I3 th), .int (I3 mn), .ref as_, .ref av, .ref aw, .int (I3 s5), .int (I3 wd), .int (I3 lp), .int (I3 mp), .int (I3 re)])), (as_, .inl (dA 0, 60, .inl (iA SG))), (av, .inl (dA 1, 960, .inr (.inl (lA VL)))), (aw, .inl (dA 1, 1024, .inr (.inl (lA wf))))]) [0, 1, 2, 3] (by decide) rfl
            have hFc := va_free (wc := [(am, .inr (0, [.int (I3 th), .int (I3 mn), .ref as_, .ref av, .ref aw, .int (I3 s5), .int (I3 wd), .int (I3 lp), .int (I3 mp), .int (I3 re)])), (as_, .inl (dA 0, 60, .inl (iA SG))), (av, .inl (dA 1, 960, .inr (.inl (lA VL)))), (aw, .inl (dA 1, 1024, .inr (.inl (lA wf))))]) hD hS hA [0, 1, 2, 3] rfl
            refine va_callv (va_runV (As := [.int (I3 a), .int (I3 0)]) (rest := []) ⟨hx, hb, hml, hown, hts⟩ (metX8_loadP l dC dI dA am as_ av aw H.size th mn s5 wd lp mp re SG VL wf a 0 h_28 h_29 h_30 h_31) (cwV 2 hts (lw_V q1066 q1068 qs39 q66 q1069) rfl rfl rfl (by decide +kernel) ⟨Nat.le_of_ble_eq_true rfl, Nat.le_of_ble_eq_true rfl⟩) ⟨fun a U g mk q => by obtain ⟨q0, q1, qP, qK, qD⟩ := q; exact ⟨q0, q1, qP, va_K.moved (u := U) (U := U.calling g mk a) (Vm.Alike.refl U.vm) qK, qD⟩, va_recv hK hPc (ci := 0) (q0 := 0) rfl rfl, fun U hU hW => ⟨rfl, by rw [hU], by rw [hU]; exact hPc, va_K.moved hW.alike hK, hDc.weaken (fun _ _ _ _ => trivial)⟩⟩ rfl rfl hl.1 rfl (lv_room (Nat.le_of_ble_eq_true rfl)) dX8_act_303 ⟨Nat.le_of_ble_eq_true rfl, Nat.le_of_ble_eq_true rfl⟩) hS (fun q _ h => hFc q h) hFc (fun u t H1 locs ht hvm hw hB hz1 hk1 hS => ?_)
            obtain ⟨W1_303, rfl⟩ : ∃ z, z = u := ⟨_, rfl⟩
            obtain ⟨p0_303, p1_303, p2_303⟩ : (Dg W1_303) ∧ (Fr wf W1_303 (0 : Int)) ∧ (rv W1_303 (0 : Int) = pv VL a) := hw
            obtain ⟨hP1, hK1, hD1⟩ := hB
            rw [ht] at hP1
            obtain ⟨hP, hD⟩ := va_join (wr := []) (w1 := [(am, .inr (0, [.int (I3 th), .int (I3 mn), .ref as_, .ref av, .ref aw, .int (I3 s5), .int (I3 wd), .int (I3 lp), .int (I3 mp), .int (I3 re)])), (as_, .inl (dA 0, 60, .inl (iA SG))), (av, .inl (dA 1, 960, .inr (.inl (lA VL)))), (aw, .inl (dA 1, 1024, .inr (.inl (lA W1_303))))]) hP hD [0, 1, 2, 3] [] rfl rfl (by decide) (by decide) hk1 hFc hP1 hD1
            generalize H1 = H at hP hS ⊢
            have hP : va_P (dC, dI) vwCl [(am, .inr (0, [.int (I3 th), .int (I3 mn), .ref as_, .ref av, .ref aw, .int (I3 s5), .int (I3 wd), .int (I3 lp), .int (I3 mp), .int (I3 re)])), (as_, .inl (dA 0, 60, .inl (iA SG))), (av, .inl (dA 1, 960, .inr (.inl (lA VL)))), (aw, .inl (dA 1, 1024, .inr (.inl (lA W1_303))))] H := hP
            have hD : va_D A [(am, .inr (0, [.int (I3 th), .int (I3 mn), .ref as_, .ref av, .ref aw, .int (I3 s5), .int (I3 wd), .int (I3 lp), .int (I3 mp), .int (I3 re)])), (as_, .inl (dA 0, 60, .inl (iA SG))), (av, .inl (dA 1, 960, .inr (.inl (lA VL)))), (aw, .inl (dA 1, 1024, .inr (.inl (lA W1_303))))] := hD
            refine lv_aload_n hx hb dX8_act_306 rfl (lv_at hl 0 rfl) ?_
            refine lv_iload_n hx hb dX8_act_307 rfl (lv_at hl 2 rfl) ?_
            refine lv_iconst (v := I3 (1)) hx hb dX8_act_308 rfl ?_
            have h_32 : 0 ≤ a ∧ a < 60 := by first | assumption | omega | (constructor <;> omega)
            have h_33 : 0 ≤ (1 : Int) ∧ (1 : Int) < 16 := by decide
            have h_34 : Dg W1_303 := by first | assumption | omega | (constructor <;> omega)
            have h_35 : Dg VL := by first | assumption | omega | (constructor <;> omega)
            have hPc := hP.sub (ws' := [(am, .inr (0, [.int (I3 th), .int (I3 mn), .ref as_, .ref av, .ref aw, .int (I3 s5), .int (I3 wd), .int (I3 lp), .int (I3 mp), .int (I3 re)])), (as_, .inl (dA 0, 60, .inl (iA SG))), (av, .inl (dA 1, 960, .inr (.inl (lA VL)))), (aw, .inl (dA 1, 1024, .inr (.inl (lA W1_303))))]) [0, 1, 2, 3] rfl
            have hDc := hD.sub (ws' := [(am, .inr (0, [.int (I3 th), .int (I3 mn), .ref as_, .ref av, .ref aw, .int (I3 s5), .int (I3 wd), .int (I3 lp), .int (I3 mp), .int (I3 re)])), (as_, .inl (dA 0, 60, .inl (iA SG))), (av, .inl (dA 1, 960, .inr (.inl (lA VL)))), (aw, .inl (dA 1, 1024, .inr (.inl (lA W1_303))))]) [0, 1, 2, 3] (by decide) rfl
            have hFc := va_free (wc := [(am, .inr (0, [.int (I3 th), .int (I3 mn), .ref as_, .ref av, .ref aw, .int (I3 s5), .int (I3 wd), .int (I3 lp), .int (I3 mp), .int (I3 re)])), (as_, .inl (dA 0, 60, .inl (iA SG))), (av, .inl (dA 1, 960, .inr (.inl (lA VL)))), (aw, .inl (dA 1, 1024, .inr (.inl (lA W1_303))))]) hD hS hA [0, 1, 2, 3] rfl
            refine va_callv (va_runV (As := [.int (I3 a), .int (I3 1)]) (rest := []) ⟨hx, hb, hml, hown, hts⟩ (metX8_loadQ l dC dI dA am as_ av aw H.size th mn s5 wd lp mp re SG VL W1_303 a 1 h_32 h_33 h_34 h_35) (cwV 2 hts (lw_V q1070 q1072 qs40 q66 q1073) rfl rfl rfl (by decide +kernel) ⟨Nat.le_of_ble_eq_true rfl, Nat.le_of_ble_eq_true rfl⟩) ⟨fun a U g mk q => by obtain ⟨q0, q1, qP, qK, qD⟩ := q; exact ⟨q0, q1, qP, va_K.moved (u := U) (U := U.calling g mk a) (Vm.Alike.refl U.vm) qK, qD⟩, va_recv hK hPc (ci := 0) (q0 := 0) rfl rfl, fun U hU hW => ⟨rfl, by rw [hU], by rw [hU]; exact hPc, va_K.moved hW.alike hK, hDc.weaken (fun _ _ _ _ => trivial)⟩⟩ rfl rfl hl.1 rfl (lv_room (Nat.le_of_ble_eq_true rfl)) dX8_act_309 ⟨Nat.le_of_ble_eq_true rfl, Nat.le_of_ble_eq_true rfl⟩) hS (fun q _ h => hFc q h) hFc (fun u t H1 locs ht hvm hw hB hz1 hk1 hS => ?_)
            obtain ⟨W1_309, rfl⟩ : ∃ z, z = u := ⟨_, rfl⟩
            obtain ⟨p0_309, p1_309, p2_309⟩ : (Dg W1_309) ∧ (Fr W1_303 W1_309 (1 : Int)) ∧ (rv W1_309 (1 : Int) = qv VL a) := hw
            obtain ⟨hP1, hK1, hD1⟩ := hB
            rw [ht] at hP1
            obtain ⟨hP, hD⟩ := va_join (wr := []) (w1 := [(am, .inr (0, [.int (I3 th), .int (I3 mn), .ref as_, .ref av, .ref aw, .int (I3 s5), .int (I3 wd), .int (I3 lp), .int (I3 mp), .int (I3 re)])), (as_, .inl (dA 0, 60, .inl (iA SG))), (av, .inl (dA 1, 960, .inr (.inl (lA VL)))), (aw, .inl (dA 1, 1024, .inr (.inl (lA W1_309))))]) hP hD [0, 1, 2, 3] [] rfl rfl (by decide) (by decide) hk1 hFc hP1 hD1
            generalize H1 = H at hP hS ⊢
            have hP : va_P (dC, dI) vwCl [(am, .inr (0, [.int (I3 th), .int (I3 mn), .ref as_, .ref av, .ref aw, .int (I3 s5), .int (I3 wd), .int (I3 lp), .int (I3 mp), .int (I3 re)])), (as_, .inl (dA 0, 60, .inl (iA SG))), (av, .inl (dA 1, 960, .inr (.inl (lA VL)))), (aw, .inl (dA 1, 1024, .inr (.inl (lA W1_309))))] H := hP
            have hD : va_D A [(am, .inr (0, [.int (I3 th), .int (I3 mn), .ref as_, .ref av, .ref aw, .int (I3 s5), .int (I3 wd), .int (I3 lp), .int (I3 mp), .int (I3 re)])), (as_, .inl (dA 0, 60, .inl (iA SG))), (av, .inl (dA 1, 960, .inr (.inl (lA VL)))), (aw, .inl (dA 1, 1024, .inr (.inl (lA W1_309))))] := hD
            have f0 : rv W1_309 0 = pv VL a := (Fr_rv p1_309 (by decide)).trans p2_303
            have hs := hsm (Or.inr (show act = 10 by omega))
            have hsr := i_s (Or.inr (show act = 10 by omega))
            refine lv_aload_n hx hb dX8_act_312 rfl (lv_at hl 0 rfl) ?_
            refine lv_aload_n hx hb dX8_act_313 rfl (lv_at hl 0 rfl) ?_
            refine va_get (D := (dC, dI)) (ci := 0) (v := .int (I3 s5)) (C := RX8) (T := TX8) (N := 10) hx hb hts in_X8 hown hK hP 0 rfl rfl 5 (by decide) (hts _ q918) (fun _ h9 => h9) rfl dX8_act_314 ?_
            refine ix_if_le (tgt := 324) hx hb (by first | assumption | decide | (constructor <;> omega)) dX8_act_317 (by decide) (fun c_317 => ?_) (fun c_317 => ?_)
            · skip
              refine lv_iconst (v := I3 (1)) hx hb dX8_act_324 rfl ?_
              refine lv_aload_n hx hb dX8_act_325 rfl (lv_at hl 0 rfl) ?_
              refine va_get (D := (dC, dI)) (ci := 0) (v := .int (I3 s5)) (C := RX8) (T := TX8) (N := 10) hx hb hts in_X8 hown hK hP 0 rfl rfl 5 (by decide) (hts _ q918) (fun _ h9 => h9) rfl dX8_act_326 ?_
              refine ix_if_le (tgt := 339) hx hb (by first | assumption | decide | (constructor <;> omega)) dX8_act_329 (by decide) (fun c_329 => ?_) (fun c_329 => ?_)
              · skip
                refine lv_aload_n hx hb dX8_act_339 rfl (lv_at hl 0 rfl) ?_
                refine va_get (D := (dC, dI)) (ci := 0) (v := .int (I3 s5)) (C := RX8) (T := TX8) (N := 10) hx hb hts in_X8 hown hK hP 0 rfl rfl 5 (by decide) (hts _ q918) (fun _ h9 => h9) rfl dX8_act_340 ?_
                refine ix_ineg hx hb dX8_act_343 ?_
                have h_36 : 0 ≤ (1 : Int) ∧ (1 : Int) < 16 := by decide
                have h_37 : 0 ≤ (-s5) ∧ (-s5) < 2048 := by first | assumption | omega | (constructor <;> omega)
                have h_38 : Dg W1_309 := by first | assumption | omega | (constructor <;> omega)
                have hPc := hP.sub (ws' := [(am, .inr (0, [.int (I3 th), .int (I3 mn), .ref as_, .ref av, .ref aw, .int (I3 s5), .int (I3 wd), .int (I3 lp), .int (I3 mp), .int (I3 re)])), (as_, .inl (dA 0, 60, .inl (iA SG))), (av, .inl (dA 1, 960, .inr (.inl (lA VL)))), (aw, .inl (dA 1, 1024, .inr (.inl (lA W1_309))))]) [0, 1, 2, 3] rfl
                have hDc := hD.sub (ws' := [(am, .inr (0, [.int (I3 th), .int (I3 mn), .ref as_, .ref av, .ref aw, .int (I3 s5), .int (I3 wd), .int (I3 lp), .int (I3 mp), .int (I3 re)])), (as_, .inl (dA 0, 60, .inl (iA SG))), (av, .inl (dA 1, 960, .inr (.inl (lA VL)))), (aw, .inl (dA 1, 1024, .inr (.inl (lA W1_309))))]) [0, 1, 2, 3] (by decide) rfl
                have hFc := va_free (wc := [(am, .inr (0, [.int (I3 th), .int (I3 mn), .ref as_, .ref av, .ref aw, .int (I3 s5), .int (I3 wd), .int (I3 lp), .int (I3 mp), .int (I3 re)])), (as_, .inl (dA 0, 60, .inl (iA SG))), (av, .inl (dA 1, 960, .inr (.inl (lA VL)))), (aw, .inl (dA 1, 1024, .inr (.inl (lA W1_309))))]) hD hS hA [0, 1, 2, 3] rfl
                refine va_callv (va_runV (As := [.int (I3 1), .int (I3 (-s5))]) (rest := []) ⟨hx, hb, hml, hown, hts⟩ (metX8_up l dC dI dA am as_ av aw H.size th mn s5 wd lp mp re SG VL W1_309 1 (-s5) h_36 h_37 h_38) (cwV 2 hts (lw_V q1000 q1002 qs30 q66 q1003) rfl rfl rfl (by decide +kernel) ⟨Nat.le_of_ble_eq_true rfl, Nat.le_of_ble_eq_true rfl⟩) ⟨fun a U g mk q => by obtain ⟨q0, q1, qP, qK, qD⟩ := q; exact ⟨q0, q1, qP, va_K.moved (u := U) (U := U.calling g mk a) (Vm.Alike.refl U.vm) qK, qD⟩, va_recv hK hPc (ci := 0) (q0 := 0) rfl rfl, fun U hU hW => ⟨rfl, by rw [hU], by rw [hU]; exact hPc, va_K.moved hW.alike hK, hDc.weaken (fun _ _ _ _ => trivial)⟩⟩ rfl rfl hl.1 rfl (lv_room (Nat.le_of_ble_eq_true rfl)) dX8_act_344 ⟨Nat.le_of_ble_eq_true rfl, Nat.le_of_ble_eq_true rfl⟩) hS (fun q _ h => hFc q h) hFc (fun u t H1 locs ht hvm hw hB hz1 hk1 hS => ?_)
                obtain ⟨W1_344, rfl⟩ : ∃ z, z = u := ⟨_, rfl⟩
                obtain ⟨p0_344, p1_344, p2_344⟩ : (Dg W1_344) ∧ (Fr W1_309 W1_344 (1 : Int)) ∧ (rv W1_344 (1 : Int) = rv W1_309 (1 : Int) * 2 ^ (-s5).toNat % BN) := hw
                obtain ⟨hP1, hK1, hD1⟩ := hB
                rw [ht] at hP1
                obtain ⟨hP, hD⟩ := va_join (wr := []) (w1 := [(am, .inr (0, [.int (I3 th), .int (I3 mn), .ref as_, .ref av, .ref aw, .int (I3 s5), .int (I3 wd), .int (I3 lp), .int (I3 mp), .int (I3 re)])), (as_, .inl (dA 0, 60, .inl (iA SG))), (av, .inl (dA 1, 960, .inr (.inl (lA VL)))), (aw, .inl (dA 1, 1024, .inr (.inl (lA W1_344))))]) hP hD [0, 1, 2, 3] [] rfl rfl (by decide) (by decide) hk1 hFc hP1 hD1
                generalize H1 = H at hP hS ⊢
                have hP : va_P (dC, dI) vwCl [(am, .inr (0, [.int (I3 th), .int (I3 mn), .ref as_, .ref av, .ref aw, .int (I3 s5), .int (I3 wd), .int (I3 lp), .int (I3 mp), .int (I3 re)])), (as_, .inl (dA 0, 60, .inl (iA SG))), (av, .inl (dA 1, 960, .inr (.inl (lA VL)))), (aw, .inl (dA 1, 1024, .inr (.inl (lA W1_344))))] H := hP
                have hD : va_D A [(am, .inr (0, [.int (I3 th), .int (I3 mn), .ref as_, .ref av, .ref aw, .int (I3 s5), .int (I3 wd), .int (I3 lp), .int (I3 mp), .int (I3 re)])), (as_, .inl (dA 0, 60, .inl (iA SG))), (av, .inl (dA 1, 960, .inr (.inl (lA VL)))), (aw, .inl (dA 1, 1024, .inr (.inl (lA W1_344))))] := hD
                have g0 : rv W1_344 0 = pv VL a * 2 ^ (acSm SG VL b).toNat := by first | (rw [p2_344, f0, hs]; exact mod_BN (up_lt (k := 256) la (by omega))) | (rw [Fr_rv p1_344 (by decide), f0, show (acSm SG VL b).toNat = 0 by omega, Nat.pow_zero, Nat.mul_one])
                have g1 : rv W1_344 1 = qv VL a * 2 ^ (-acSm SG VL b).toNat := by first | (rw [p2_344, p2_309, hs]; exact mod_BN (up_lt (k := 256) ma (by omega))) | (rw [Fr_rv p1_344 (by decide), p2_309, show (-acSm SG VL b).toNat = 0 by omega, Nat.pow_zero, Nat.mul_one])
                have g2 : qv VL a * 2 ^ (-acSm SG VL b).toNat ≠ 0 := Nat.ne_of_gt (Nat.mul_pos (Nat.pos_of_ne_zero ha2.2.2.1) (Nat.two_pow_pos _))
                have g3 : 2 * (qv VL a * 2 ^ (-acSm SG VL b).toNat) ≤ BN := by rw [← Nat.mul_assoc]; exact Nat.le_of_lt (up_lt (k := 257) (by have h7 : (2 : Nat) ^ 257 = 2 * B8 := (by unfold B8; rw [← Nat.pow_succ']); omega) (by omega))
                refine lv_aload_n hx hb dX8_act_347 rfl (lv_at hl 0 rfl) ?_
                refine lv_aload_n hx hb dX8_act_348 rfl (lv_at hl 0 rfl) ?_
                refine va_get (D := (dC, dI)) (ci := 0) (v := .ref as_) (C := RX8) (T := TX8) (N := 10) hx hb hts in_X8 hown hK hP 0 rfl rfl 2 (by decide) (hts _ q915) (fun _ h9 => h9) rfl dX8_act_349 ?_
                refine lv_iload_n hx hb dX8_act_352 rfl (lv_at hl 2 rfl) ?_
                refine ix_iald hx hb hK hP 1 0 rfl rfl (Nat.le_of_ble_eq_true rfl) (by omega) dX8_act_353 ?_
                refine lv_iconst (v := I3 (4)) hx hb dX8_act_354 rfl ?_
                have h_39 : Dg W1_344 := by first | assumption | omega | (constructor <;> omega)
                have h_40 : Dg VL := by exact hV
                have h_41 : 0 ≤ mn ∧ mn ≤ 60 := by exact hmn
                have h_42 : In3 (SG a) := by first | assumption | omega | (constructor <;> omega)
                have h_43 : In3 (4 : Int) := by first | assumption | omega | (constructor <;> omega)
                have h_44 : rv W1_344 1 ≠ 0 := by rw [g1]; exact g2
                have h_45 : 2 * rv W1_344 1 ≤ BN := by rw [g1]; exact g3
                have hPc := hP.sub (ws' := [(am, .inr (0, [.int (I3 th), .int (I3 mn), .ref as_, .ref av, .ref aw, .int (I3 s5), .int (I3 wd), .int (I3 lp), .int (I3 mp), .int (I3 re)])), (as_, .inl (dA 0, 60, .inl (iA SG))), (av, .inl (dA 1, 960, .inr (.inl (lA VL)))), (aw, .inl (dA 1, 1024, .inr (.inl (lA W1_344))))]) [0, 1, 2, 3] rfl
                have hDc := hD.sub (ws' := [(am, .inr (0, [.int (I3 th), .int (I3 mn), .ref as_, .ref av, .ref aw, .int (I3 s5), .int (I3 wd), .int (I3 lp), .int (I3 mp), .int (I3 re)])), (as_, .inl (dA 0, 60, .inl (iA SG))), (av, .inl (dA 1, 960, .inr (.inl (lA VL)))), (aw, .inl (dA 1, 1024, .inr (.inl (lA W1_344))))]) [0, 1, 2, 3] (by decide) rfl
                have hFc := va_free (wc := [(am, .inr (0, [.int (I3 th), .int (I3 mn), .ref as_, .ref av, .ref aw, .int (I3 s5), .int (I3 wd), .int (I3 lp), .int (I3 mp), .int (I3 re)])), (as_, .inl (dA 0, 60, .inl (iA SG))), (av, .inl (dA 1, 960, .inr (.inl (lA VL)))), (aw, .inl (dA 1, 1024, .inr (.inl (lA W1_344))))]) hD hS hA [0, 1, 2, 3] rfl
                refine va_calli (va_runV (As := [.int (I3 (SG a)), .int (I3 4)]) (rest := []) ⟨hx, hb, hml, hown, hts⟩ (metX8_make l dC dI dA am as_ av aw H.size th mn s5 wd lp mp re SG VL W1_344 (SG a) 4 h_39 h_40 h_41 h_42 h_43 h_44 h_45) (cwV 2 hts (lw_V q964 q966 qs21 q66 q967) rfl rfl rfl (by decide +kernel) ⟨Nat.le_of_ble_eq_true rfl, Nat.le_of_ble_eq_true rfl⟩) ⟨fun a U g mk q => by obtain ⟨q0, q1, qP, qK, qD⟩ := q; exact ⟨q0, q1, qP, va_K.moved (u := U) (U := U.calling g mk a) (Vm.Alike.refl U.vm) qK, qD⟩, va_recv hK hPc (ci := 0) (q0 := 0) rfl rfl, fun U hU hW => ⟨rfl, by rw [hU], by rw [hU]; exact hPc, va_K.moved hW.alike hK, hDc.weaken (fun _ _ _ _ => trivial)⟩⟩ rfl rfl hl.1 rfl (lv_room (Nat.le_of_ble_eq_true rfl)) dX8_act_355 ⟨Nat.le_of_ble_eq_true rfl, Nat.le_of_ble_eq_true rfl⟩) hS (fun q _ h => hFc q h) hFc (fun r_355 u t H1 locs ht hvm hw hB hz1 hk1 hS => ?_)
                obtain ⟨z_355, th1_355, mn1_355, SG1_355, VL1_355, W1_355⟩ := u
                obtain ⟨rfl, p0_355, p1_355, p2_355, p3_355⟩ : r_355 = I3 z_355 ∧ (Dg W1_355) ∧ (Dg VL1_355) ∧ (0 ≤ mn1_355 ∧ mn1_355 ≤ 60) ∧ (Mde mn SG VL (SG a) (rv W1_344 0) (rv W1_344 1) (4 : Int) z_355 th1_355 mn1_355 SG1_355 VL1_355) := hw
                obtain ⟨hP1, hK1, hD1⟩ := hB
                rw [ht] at hP1
                obtain ⟨hP, hD⟩ := va_join (wr := []) (w1 := [(am, .inr (0, [.int (I3 th1_355), .int (I3 mn1_355), .ref as_, .ref av, .ref aw, .int (I3 s5), .int (I3 wd), .int (I3 lp), .int (I3 mp), .int (I3 re)])), (as_, .inl (dA 0, 60, .inl (iA SG1_355))), (av, .inl (dA 1, 960, .inr (.inl (lA VL1_355)))), (aw, .inl (dA 1, 1024, .inr (.inl (lA W1_355))))]) hP hD [0, 1, 2, 3] [] rfl rfl (by decide) (by decide) hk1 hFc hP1 hD1
                generalize H1 = H at hP hS ⊢
                have hP : va_P (dC, dI) vwCl [(am, .inr (0, [.int (I3 th1_355), .int (I3 mn1_355), .ref as_, .ref av, .ref aw, .int (I3 s5), .int (I3 wd), .int (I3 lp), .int (I3 mp), .int (I3 re)])), (as_, .inl (dA 0, 60, .inl (iA SG1_355))), (av, .inl (dA 1, 960, .inr (.inl (lA VL1_355)))), (aw, .inl (dA 1, 1024, .inr (.inl (lA W1_355))))] H := hP
                have hD : va_D A [(am, .inr (0, [.int (I3 th1_355), .int (I3 mn1_355), .ref as_, .ref av, .ref aw, .int (I3 s5), .int (I3 wd), .int (I3 lp), .int (I3 mp), .int (I3 re)])), (as_, .inl (dA 0, 60, .inl (iA SG1_355))), (av, .inl (dA 1, 960, .inr (.inl (lA VL1_355)))), (aw, .inl (dA 1, 1024, .inr (.inl (lA W1_355))))] := hD
                have hM := p3_355
                rw [g0, g1] at hM
                have o_46 : Dg W1_355 := by first | assumption | omega | (constructor <;> omega)
                have o_47 : MI mn1_355 SG1_355 VL1_355 := by exact MI_Mde hI g2 ha2.1 (fun q => by rw [ha2.2.1.mp q, Nat.zero_mul]) p1_355 p2_355 hM
                have o_48 : AcR mn SG VL act a b z_355 th1_355 mn1_355 SG1_355 VL1_355 := by exact AcR_10 hnum hgd hb3_ (by omega) hM
                exact W.iret (v := I3 z_355) hx hb hr (fun t ht hW => ⟨⟨I3 z_355, (z_355, th1_355, mn1_355, SG1_355, VL1_355, W1_355, s5), rfl, ⟨rfl, ⟨o_46, o_47, o_48⟩⟩, by rw [ht]; exact hP, va_K.moved hW.alike hK, hD⟩, hS.F ht⟩) hS.2.2 dX8_act_358
              · skip
                omega
            · skip
              refine lv_iconst (v := I3 (0)) hx hb dX8_act_320 rfl ?_
              refine lv_goto (tgt := 325) hx hb dX8_act_321 (by decide) ?_
              refine lv_aload_n hx hb dX8_act_325 rfl (lv_at hl 0 rfl) ?_
              refine va_get (D := (dC, dI)) (ci := 0) (v := .int (I3 s5)) (C := RX8) (T := TX8) (N := 10) hx hb hts in_X8 hown hK hP 0 rfl rfl 5 (by decide) (hts _ q918) (fun _ h9 => h9) rfl dX8_act_326 ?_
              refine ix_if_le (tgt := 339) hx hb (by first | assumption | decide | (constructor <;> omega)) dX8_act_329 (by decide) (fun c_329 => ?_) (fun c_329 => ?_)
              · skip
                omega
              · skip
                refine lv_aload_n hx hb dX8_act_332 rfl (lv_at hl 0 rfl) ?_
                refine va_get (D := (dC, dI)) (ci := 0) (v := .int (I3 s5)) (C := RX8) (T := TX8) (N := 10) hx hb hts in_X8 hown hK hP 0 rfl rfl 5 (by decide) (hts _ q918) (fun _ h9 => h9) rfl dX8_act_333 ?_
                refine lv_goto (tgt := 344) hx hb dX8_act_336 (by decide) ?_
                have h_49 : 0 ≤ (0 : Int) ∧ (0 : Int) < 16 := by decide
                have h_50 : 0 ≤ s5 ∧ s5 < 2048 := by first | assumption | omega | (constructor <;> omega)
                have h_51 : Dg W1_309 := by first | assumption | omega | (constructor <;> omega)
                have hPc := hP.sub (ws' := [(am, .inr (0, [.int (I3 th), .int (I3 mn), .ref as_, .ref av, .ref aw, .int (I3 s5), .int (I3 wd), .int (I3 lp), .int (I3 mp), .int (I3 re)])), (as_, .inl (dA 0, 60, .inl (iA SG))), (av, .inl (dA 1, 960, .inr (.inl (lA VL)))), (aw, .inl (dA 1, 1024, .inr (.inl (lA W1_309))))]) [0, 1, 2, 3] rfl
                have hDc := hD.sub (ws' := [(am, .inr (0, [.int (I3 th), .int (I3 mn), .ref as_, .ref av, .ref aw, .int (I3 s5), .int (I3 wd), .int (I3 lp), .int (I3 mp), .int (I3 re)])), (as_, .inl (dA 0, 60, .inl (iA SG))), (av, .inl (dA 1, 960, .inr (.inl (lA VL)))), (aw, .inl (dA 1, 1024, .inr (.inl (lA W1_309))))]) [0, 1, 2, 3] (by decide) rfl
                have hFc := va_free (wc := [(am, .inr (0, [.int (I3 th), .int (I3 mn), .ref as_, .ref av, .ref aw, .int (I3 s5), .int (I3 wd), .int (I3 lp), .int (I3 mp), .int (I3 re)])), (as_, .inl (dA 0, 60, .inl (iA SG))), (av, .inl (dA 1, 960, .inr (.inl (lA VL)))), (aw, .inl (dA 1, 1024, .inr (.inl (lA W1_309))))]) hD hS hA [0, 1, 2, 3] rfl
                refine va_callv (va_runV (As := [.int (I3 0), .int (I3 s5)]) (rest := []) ⟨hx, hb, hml, hown, hts⟩ (metX8_up l dC dI dA am as_ av aw H.size th mn s5 wd lp mp re SG VL W1_309 0 s5 h_49 h_50 h_51) (cwV 2 hts (lw_V q1000 q1002 qs30 q66 q1003) rfl rfl rfl (by decide +kernel) ⟨Nat.le_of_ble_eq_true rfl, Nat.le_of_ble_eq_true rfl⟩) ⟨fun a U g mk q => by obtain ⟨q0, q1, qP, qK, qD⟩ := q; exact ⟨q0, q1, qP, va_K.moved (u := U) (U := U.calling g mk a) (Vm.Alike.refl U.vm) qK, qD⟩, va_recv hK hPc (ci := 0) (q0 := 0) rfl rfl, fun U hU hW => ⟨rfl, by rw [hU], by rw [hU]; exact hPc, va_K.moved hW.alike hK, hDc.weaken (fun _ _ _ _ => trivial)⟩⟩ rfl rfl hl.1 rfl (lv_room (Nat.le_of_ble_eq_true rfl)) dX8_act_344 ⟨Nat.le_of_ble_eq_true rfl, Nat.le_of_ble_eq_true rfl⟩) hS (fun q _ h => hFc q h) hFc (fun u t H1 locs ht hvm hw hB hz1 hk1 hS => ?_)
                obtain ⟨W1_344, rfl⟩ : ∃ z, z = u := ⟨_, rfl⟩
                obtain ⟨p0_344, p1_344, p2_344⟩ : (Dg W1_344) ∧ (Fr W1_309 W1_344 (0 : Int)) ∧ (rv W1_344 (0 : Int) = rv W1_309 (0 : Int) * 2 ^ s5.toNat % BN) := hw
                obtain ⟨hP1, hK1, hD1⟩ := hB
                rw [ht] at hP1
                obtain ⟨hP, hD⟩ := va_join (wr := []) (w1 := [(am, .inr (0, [.int (I3 th), .int (I3 mn), .ref as_, .ref av, .ref aw, .int (I3 s5), .int (I3 wd), .int (I3 lp), .int (I3 mp), .int (I3 re)])), (as_, .inl (dA 0, 60, .inl (iA SG))), (av, .inl (dA 1, 960, .inr (.inl (lA VL)))), (aw, .inl (dA 1, 1024, .inr (.inl (lA W1_344))))]) hP hD [0, 1, 2, 3] [] rfl rfl (by decide) (by decide) hk1 hFc hP1 hD1
                generalize H1 = H at hP hS ⊢
                have hP : va_P (dC, dI) vwCl [(am, .inr (0, [.int (I3 th), .int (I3 mn), .ref as_, .ref av, .ref aw, .int (I3 s5), .int (I3 wd), .int (I3 lp), .int (I3 mp), .int (I3 re)])), (as_, .inl (dA 0, 60, .inl (iA SG))), (av, .inl (dA 1, 960, .inr (.inl (lA VL)))), (aw, .inl (dA 1, 1024, .inr (.inl (lA W1_344))))] H := hP
                have hD : va_D A [(am, .inr (0, [.int (I3 th), .int (I3 mn), .ref as_, .ref av, .ref aw, .int (I3 s5), .int (I3 wd), .int (I3 lp), .int (I3 mp), .int (I3 re)])), (as_, .inl (dA 0, 60, .inl (iA SG))), (av, .inl (dA 1, 960, .inr (.inl (lA VL)))), (aw, .inl (dA 1, 1024, .inr (.inl (lA W1_344))))] := hD
                have g0 : rv W1_344 0 = pv VL a * 2 ^ (acSm SG VL b).toNat := by first | (rw [p2_344, f0, hs]; exact mod_BN (up_lt (k := 256) la (by omega))) | (rw [Fr_rv p1_344 (by decide), f0, show (acSm SG VL b).toNat = 0 by omega, Nat.pow_zero, Nat.mul_one])
                have g1 : rv W1_344 1 = qv VL a * 2 ^ (-acSm SG VL b).toNat := by first | (rw [p2_344, p2_309, hs]; exact mod_BN (up_lt (k := 256) ma (by omega))) | (rw [Fr_rv p1_344 (by decide), p2_309, show (-acSm SG VL b).toNat = 0 by omega, Nat.pow_zero, Nat.mul_one])
                have g2 : qv VL a * 2 ^ (-acSm SG VL b).toNat ≠ 0 := Nat.ne_of_gt (Nat.mul_pos (Nat.pos_of_ne_zero ha2.2.2.1) (Nat.two_pow_pos _))
                have g3 : 2 * (qv VL a * 2 ^ (-acSm SG VL b).toNat) ≤ BN := by rw [← Nat.mul_assoc]; exact Nat.le_of_lt (up_lt (k := 257) (by have h7 : (2 : Nat) ^ 257 = 2 * B8 := (by unfold B8; rw [← Nat.pow_succ']); omega) (by omega))
                refine lv_aload_n hx hb dX8_act_347 rfl (lv_at hl 0 rfl) ?_
                refine lv_aload_n hx hb dX8_act_348 rfl (lv_at hl 0 rfl) ?_
                refine va_get (D := (dC, dI)) (ci := 0) (v := .ref as_) (C := RX8) (T := TX8) (N := 10) hx hb hts in_X8 hown hK hP 0 rfl rfl 2 (by decide) (hts _ q915) (fun _ h9 => h9) rfl dX8_act_349 ?_
                refine lv_iload_n hx hb dX8_act_352 rfl (lv_at hl 2 rfl) ?_
                refine ix_iald hx hb hK hP 1 0 rfl rfl (Nat.le_of_ble_eq_true rfl) (by omega) dX8_act_353 ?_
                refine lv_iconst (v := I3 (4)) hx hb dX8_act_354 rfl ?_
                have h_52 : Dg W1_344 := by first | assumption | omega | (constructor <;> omega)
                have h_53 : Dg VL := by exact hV
                have h_54 : 0 ≤ mn ∧ mn ≤ 60 := by exact hmn
                have h_55 : In3 (SG a) := by first | assumption | omega | (constructor <;> omega)
                have h_56 : In3 (4 : Int) := by first | assumption | omega | (constructor <;> omega)
                have h_57 : rv W1_344 1 ≠ 0 := by rw [g1]; exact g2
                have h_58 : 2 * rv W1_344 1 ≤ BN := by rw [g1]; exact g3
                have hPc := hP.sub (ws' := [(am, .inr (0, [.int (I3 th), .int (I3 mn), .ref as_, .ref av, .ref aw, .int (I3 s5), .int (I3 wd), .int (I3 lp), .int (I3 mp), .int (I3 re)])), (as_, .inl (dA 0, 60, .inl (iA SG))), (av, .inl (dA 1, 960, .inr (.inl (lA VL)))), (aw, .inl (dA 1, 1024, .inr (.inl (lA W1_344))))]) [0, 1, 2, 3] rfl
                have hDc := hD.sub (ws' := [(am, .inr (0, [.int (I3 th), .int (I3 mn), .ref as_, .ref av, .ref aw, .int (I3 s5), .int (I3 wd), .int (I3 lp), .int (I3 mp), .int (I3 re)])), (as_, .inl (dA 0, 60, .inl (iA SG))), (av, .inl (dA 1, 960, .inr (.inl (lA VL)))), (aw, .inl (dA 1, 1024, .inr (.inl (lA W1_344))))]) [0, 1, 2, 3] (by decide) rfl
                have hFc := va_free (wc := [(am, .inr (0, [.int (I3 th), .int (I3 mn), .ref as_, .ref av, .ref aw, .int (I3 s5), .int (I3 wd), .int (I3 lp), .int (I3 mp), .int (I3 re)])), (as_, .inl (dA 0, 60, .inl (iA SG))), (av, .inl (dA 1, 960, .inr (.inl (lA VL)))), (aw, .inl (dA 1, 1024, .inr (.inl (lA W1_344))))]) hD hS hA [0, 1, 2, 3] rfl
                refine va_calli (va_runV (As := [.int (I3 (SG a)), .int (I3 4)]) (rest := []) ⟨hx, hb, hml, hown, hts⟩ (metX8_make l dC dI dA am as_ av aw H.size th mn s5 wd lp mp re SG VL W1_344 (SG a) 4 h_52 h_53 h_54 h_55 h_56 h_57 h_58) (cwV 2 hts (lw_V q964 q966 qs21 q66 q967) rfl rfl rfl (by decide +kernel) ⟨Nat.le_of_ble_eq_true rfl, Nat.le_of_ble_eq_true rfl⟩) ⟨fun a U g mk q => by obtain ⟨q0, q1, qP, qK, qD⟩ := q; exact ⟨q0, q1, qP, va_K.moved (u := U) (U := U.calling g mk a) (Vm.Alike.refl U.vm) qK, qD⟩, va_recv hK hPc (ci := 0) (q0 := 0) rfl rfl, fun U hU hW => ⟨rfl, by rw [hU], by rw [hU]; exact hPc, va_K.moved hW.alike hK, hDc.weaken (fun _ _ _ _ => trivial)⟩⟩ rfl rfl hl.1 rfl (lv_room (Nat.le_of_ble_eq_true rfl)) dX8_act_355 ⟨Nat.le_of_ble_eq_true rfl, Nat.le_of_ble_eq_true rfl⟩) hS (fun q _ h => hFc q h) hFc (fun r_355 u t H1 locs ht hvm hw hB hz1 hk1 hS => ?_)
                obtain ⟨z_355, th1_355, mn1_355, SG1_355, VL1_355, W1_355⟩ := u
                obtain ⟨rfl, p0_355, p1_355, p2_355, p3_355⟩ : r_355 = I3 z_355 ∧ (Dg W1_355) ∧ (Dg VL1_355) ∧ (0 ≤ mn1_355 ∧ mn1_355 ≤ 60) ∧ (Mde mn SG VL (SG a) (rv W1_344 0) (rv W1_344 1) (4 : Int) z_355 th1_355 mn1_355 SG1_355 VL1_355) := hw
                obtain ⟨hP1, hK1, hD1⟩ := hB
                rw [ht] at hP1
                obtain ⟨hP, hD⟩ := va_join (wr := []) (w1 := [(am, .inr (0, [.int (I3 th1_355), .int (I3 mn1_355), .ref as_, .ref av, .ref aw, .int (I3 s5), .int (I3 wd), .int (I3 lp), .int (I3 mp), .int (I3 re)])), (as_, .inl (dA 0, 60, .inl (iA SG1_355))), (av, .inl (dA 1, 960, .inr (.inl (lA VL1_355)))), (aw, .inl (dA 1, 1024, .inr (.inl (lA W1_355))))]) hP hD [0, 1, 2, 3] [] rfl rfl (by decide) (by decide) hk1 hFc hP1 hD1
                generalize H1 = H at hP hS ⊢
                have hP : va_P (dC, dI) vwCl [(am, .inr (0, [.int (I3 th1_355), .int (I3 mn1_355), .ref as_, .ref av, .ref aw, .int (I3 s5), .int (I3 wd), .int (I3 lp), .int (I3 mp), .int (I3 re)])), (as_, .inl (dA 0, 60, .inl (iA SG1_355))), (av, .inl (dA 1, 960, .inr (.inl (lA VL1_355)))), (aw, .inl (dA 1, 1024, .inr (.inl (lA W1_355))))] H := hP
                have hD : va_D A [(am, .inr (0, [.int (I3 th1_355), .int (I3 mn1_355), .ref as_, .ref av, .ref aw, .int (I3 s5), .int (I3 wd), .int (I3 lp), .int (I3 mp), .int (I3 re)])), (as_, .inl (dA 0, 60, .inl (iA SG1_355))), (av, .inl (dA 1, 960, .inr (.inl (lA VL1_355)))), (aw, .inl (dA 1, 1024, .inr (.inl (lA W1_355))))] := hD
                have hM := p3_355
                rw [g0, g1] at hM
                have o_59 : Dg W1_355 := by first | assumption | omega | (constructor <;> omega)
                have o_60 : MI mn1_355 SG1_355 VL1_355 := by exact MI_Mde hI g2 ha2.1 (fun q => by rw [ha2.2.1.mp q, Nat.zero_mul]) p1_355 p2_355 hM
                have o_61 : AcR mn SG VL act a b z_355 th1_355 mn1_355 SG1_355 VL1_355 := by exact AcR_10 hnum hgd hb3_ (by omega) hM
                exact W.iret (v := I3 z_355) hx hb hr (fun t ht hW => ⟨⟨I3 z_355, (z_355, th1_355, mn1_355, SG1_355, VL1_355, W1_355, s5), rfl, ⟨rfl, ⟨o_59, o_60, o_61⟩⟩, by rw [ht]; exact hP, va_K.moved hW.alike hK, hD⟩, hS.F ht⟩) hS.2.2 dX8_act_358
        · skip
          refine lv_aload_n hx hb dX8_act_256 rfl (lv_at hl 0 rfl) ?_
          refine lv_iload_n hx hb dX8_act_257 rfl (lv_at hl 2 rfl) ?_
          refine lv_iconst (v := I3 (2)) hx hb dX8_act_258 rfl ?_
          have h_62 : 0 ≤ a ∧ a < 60 := by first | assumption | omega | (constructor <;> omega)
          have h_63 : 0 ≤ (2 : Int) ∧ (2 : Int) < 16 := by decide
          have h_64 : Dg wf := by first | assumption | omega | (constructor <;> omega)
          have h_65 : Dg VL := by first | assumption | omega | (constructor <;> omega)
          have hPc := hP.sub (ws' := [(am, .inr (0, [.int (I3 th), .int (I3 mn), .ref as_, .ref av, .ref aw, .int (I3 s5), .int (I3 wd), .int (I3 lp), .int (I3 mp), .int (I3 re)])), (as_, .inl (dA 0, 60, .inl (iA SG))), (av, .inl (dA 1, 960, .inr (.inl (lA VL)))), (aw, .inl (dA 1, 1024, .inr (.inl (lA wf))))]) [0, 1, 2, 3] rfl
          have hDc := hD.sub (ws' := [(am, .inr (0, [.int (I3 th), .int (I3 mn), .ref as_, .ref av, .ref aw, .int (I3 s5), .int (I3 wd), .int (I3 lp), .int (I3 mp), .int (I3 re)])), (as_, .inl (dA 0, 60, .inl (iA SG))), (av, .inl (dA 1, 960, .inr (.inl (lA VL)))), (aw, .inl (dA 1, 1024, .inr (.inl (lA wf))))]) [0, 1, 2, 3] (by decide) rfl
          have hFc := va_free (wc := [(am, .inr (0, [.int (I3 th), .int (I3 mn), .ref as_, .ref av, .ref aw, .int (I3 s5), .int (I3 wd), .int (I3 lp), .int (I3 mp), .int (I3 re)])), (as_, .inl (dA 0, 60, .inl (iA SG))), (av, .inl (dA 1, 960, .inr (.inl (lA VL)))), (aw, .inl (dA 1, 1024, .inr (.inl (lA wf))))]) hD hS hA [0, 1, 2, 3] rfl
          refine va_callv (va_runV (As := [.int (I3 a), .int (I3 2)]) (rest := []) ⟨hx, hb, hml, hown, hts⟩ (metX8_loadP l dC dI dA am as_ av aw H.size th mn s5 wd lp mp re SG VL wf a 2 h_62 h_63 h_64 h_65) (cwV 2 hts (lw_V q1066 q1068 qs39 q66 q1069) rfl rfl rfl (by decide +kernel) ⟨Nat.le_of_ble_eq_true rfl, Nat.le_of_ble_eq_true rfl⟩) ⟨fun a U g mk q => by obtain ⟨q0, q1, qP, qK, qD⟩ := q; exact ⟨q0, q1, qP, va_K.moved (u := U) (U := U.calling g mk a) (Vm.Alike.refl U.vm) qK, qD⟩, va_recv hK hPc (ci := 0) (q0 := 0) rfl rfl, fun U hU hW => ⟨rfl, by rw [hU], by rw [hU]; exact hPc, va_K.moved hW.alike hK, hDc.weaken (fun _ _ _ _ => trivial)⟩⟩ rfl rfl hl.1 rfl (lv_room (Nat.le_of_ble_eq_true rfl)) dX8_act_259 ⟨Nat.le_of_ble_eq_true rfl, Nat.le_of_ble_eq_true rfl⟩) hS (fun q _ h => hFc q h) hFc (fun u t H1 locs ht hvm hw hB hz1 hk1 hS => ?_)
          obtain ⟨W1_259, rfl⟩ : ∃ z, z = u := ⟨_, rfl⟩
          obtain ⟨p0_259, p1_259, p2_259⟩ : (Dg W1_259) ∧ (Fr wf W1_259 (2 : Int)) ∧ (rv W1_259 (2 : Int) = pv VL a) := hw
          obtain ⟨hP1, hK1, hD1⟩ := hB
          rw [ht] at hP1
          obtain ⟨hP, hD⟩ := va_join (wr := []) (w1 := [(am, .inr (0, [.int (I3 th), .int (I3 mn), .ref as_, .ref av, .ref aw, .int (I3 s5), .int (I3 wd), .int (I3 lp), .int (I3 mp), .int (I3 re)])), (as_, .inl (dA 0, 60, .inl (iA SG))), (av, .inl (dA 1, 960, .inr (.inl (lA VL)))), (aw, .inl (dA 1, 1024, .inr (.inl (lA W1_259))))]) hP hD [0, 1, 2, 3] [] rfl rfl (by decide) (by decide) hk1 hFc hP1 hD1
          generalize H1 = H at hP hS ⊢
          have hP : va_P (dC, dI) vwCl [(am, .inr (0, [.int (I3 th), .int (I3 mn), .ref as_, .ref av, .ref aw, .int (I3 s5), .int (I3 wd), .int (I3 lp), .int (I3 mp), .int (I3 re)])), (as_, .inl (dA 0, 60, .inl (iA SG))), (av, .inl (dA 1, 960, .inr (.inl (lA VL)))), (aw, .inl (dA 1, 1024, .inr (.inl (lA W1_259))))] H := hP
          have hD : va_D A [(am, .inr (0, [.int (I3 th), .int (I3 mn), .ref as_, .ref av, .ref aw, .int (I3 s5), .int (I3 wd), .int (I3 lp), .int (I3 mp), .int (I3 re)])), (as_, .inl (dA 0, 60, .inl (iA SG))), (av, .inl (dA 1, 960, .inr (.inl (lA VL)))), (aw, .inl (dA 1, 1024, .inr (.inl (lA W1_259))))] := hD
          refine lv_aload_n hx hb dX8_act_262 rfl (lv_at hl 0 rfl) ?_
          refine lv_iload_n hx hb dX8_act_263 rfl (lv_at hl 3 rfl) ?_
          refine lv_iconst (v := I3 (3)) hx hb dX8_act_264 rfl ?_
          have h_66 : 0 ≤ b ∧ b < 60 := by first | assumption | omega | (constructor <;> omega)
          have h_67 : 0 ≤ (3 : Int) ∧ (3 : Int) < 16 := by decide
          have h_68 : Dg W1_259 := by first | assumption | omega | (constructor <;> omega)
          have h_69 : Dg VL := by first | assumption | omega | (constructor <;> omega)
          have hPc := hP.sub (ws' := [(am, .inr (0, [.int (I3 th), .int (I3 mn), .ref as_, .ref av, .ref aw, .int (I3 s5), .int (I3 wd), .int (I3 lp), .int (I3 mp), .int (I3 re)])), (as_, .inl (dA 0, 60, .inl (iA SG))), (av, .inl (dA 1, 960, .inr (.inl (lA VL)))), (aw, .inl (dA 1, 1024, .inr (.inl (lA W1_259))))]) [0, 1, 2, 3] rfl
          have hDc := hD.sub (ws' := [(am, .inr (0, [.int (I3 th), .int (I3 mn), .ref as_, .ref av, .ref aw, .int (I3 s5), .int (I3 wd), .int (I3 lp), .int (I3 mp), .int (I3 re)])), (as_, .inl (dA 0, 60, .inl (iA SG))), (av, .inl (dA 1, 960, .inr (.inl (lA VL)))), (aw, .inl (dA 1, 1024, .inr (.inl (lA W1_259))))]) [0, 1, 2, 3] (by decide) rfl
          have hFc := va_free (wc := [(am, .inr (0, [.int (I3 th), .int (I3 mn), .ref as_, .ref av, .ref aw, .int (I3 s5), .int (I3 wd), .int (I3 lp), .int (I3 mp), .int (I3 re)])), (as_, .inl (dA 0, 60, .inl (iA SG))), (av, .inl (dA 1, 960, .inr (.inl (lA VL)))), (aw, .inl (dA 1, 1024, .inr (.inl (lA W1_259))))]) hD hS hA [0, 1, 2, 3] rfl
          refine va_callv (va_runV (As := [.int (I3 b), .int (I3 3)]) (rest := []) ⟨hx, hb, hml, hown, hts⟩ (metX8_loadP l dC dI dA am as_ av aw H.size th mn s5 wd lp mp re SG VL W1_259 b 3 h_66 h_67 h_68 h_69) (cwV 2 hts (lw_V q1066 q1068 qs39 q66 q1069) rfl rfl rfl (by decide +kernel) ⟨Nat.le_of_ble_eq_true rfl, Nat.le_of_ble_eq_true rfl⟩) ⟨fun a U g mk q => by obtain ⟨q0, q1, qP, qK, qD⟩ := q; exact ⟨q0, q1, qP, va_K.moved (u := U) (U := U.calling g mk a) (Vm.Alike.refl U.vm) qK, qD⟩, va_recv hK hPc (ci := 0) (q0 := 0) rfl rfl, fun U hU hW => ⟨rfl, by rw [hU], by rw [hU]; exact hPc, va_K.moved hW.alike hK, hDc.weaken (fun _ _ _ _ => trivial)⟩⟩ rfl rfl hl.1 rfl (lv_room (Nat.le_of_ble_eq_true rfl)) dX8_act_265 ⟨Nat.le_of_ble_eq_true rfl, Nat.le_of_ble_eq_true rfl⟩) hS (fun q _ h => hFc q h) hFc (fun u t H1 locs ht hvm hw hB hz1 hk1 hS => ?_)
          obtain ⟨W1_265, rfl⟩ : ∃ z, z = u := ⟨_, rfl⟩
          obtain ⟨p0_265, p1_265, p2_265⟩ : (Dg W1_265) ∧ (Fr W1_259 W1_265 (3 : Int)) ∧ (rv W1_265 (3 : Int) = pv VL b) := hw
          obtain ⟨hP1, hK1, hD1⟩ := hB
          rw [ht] at hP1
          obtain ⟨hP, hD⟩ := va_join (wr := []) (w1 := [(am, .inr (0, [.int (I3 th), .int (I3 mn), .ref as_, .ref av, .ref aw, .int (I3 s5), .int (I3 wd), .int (I3 lp), .int (I3 mp), .int (I3 re)])), (as_, .inl (dA 0, 60, .inl (iA SG))), (av, .inl (dA 1, 960, .inr (.inl (lA VL)))), (aw, .inl (dA 1, 1024, .inr (.inl (lA W1_265))))]) hP hD [0, 1, 2, 3] [] rfl rfl (by decide) (by decide) hk1 hFc hP1 hD1
          generalize H1 = H at hP hS ⊢
          have hP : va_P (dC, dI) vwCl [(am, .inr (0, [.int (I3 th), .int (I3 mn), .ref as_, .ref av, .ref aw, .int (I3 s5), .int (I3 wd), .int (I3 lp), .int (I3 mp), .int (I3 re)])), (as_, .inl (dA 0, 60, .inl (iA SG))), (av, .inl (dA 1, 960, .inr (.inl (lA VL)))), (aw, .inl (dA 1, 1024, .inr (.inl (lA W1_265))))] H := hP
          have hD : va_D A [(am, .inr (0, [.int (I3 th), .int (I3 mn), .ref as_, .ref av, .ref aw, .int (I3 s5), .int (I3 wd), .int (I3 lp), .int (I3 mp), .int (I3 re)])), (as_, .inl (dA 0, 60, .inl (iA SG))), (av, .inl (dA 1, 960, .inr (.inl (lA VL)))), (aw, .inl (dA 1, 1024, .inr (.inl (lA W1_265))))] := hD
          refine lv_aload_n hx hb dX8_act_268 rfl (lv_at hl 0 rfl) ?_
          refine lv_iconst (v := I3 (2)) hx hb dX8_act_269 rfl ?_
          refine lv_iconst (v := I3 (3)) hx hb dX8_act_270 rfl ?_
          have h_70 : 0 ≤ (2 : Int) ∧ (2 : Int) < 16 := by decide
          have h_71 : 0 ≤ (3 : Int) ∧ (3 : Int) < 16 := by decide
          have h_72 : (2 : Int) ≠ 14 ∧ (2 : Int) ≠ 15 := by decide
          have h_73 : (3 : Int) ≠ 14 ∧ (3 : Int) ≠ 15 := by decide
          have h_74 : Dg W1_265 := by first | assumption | omega | (constructor <;> omega)
          have hPc := hP.sub (ws' := [(am, .inr (0, [.int (I3 th), .int (I3 mn), .ref as_, .ref av, .ref aw, .int (I3 s5), .int (I3 wd), .int (I3 lp), .int (I3 mp), .int (I3 re)])), (as_, .inl (dA 0, 60, .inl (iA SG))), (av, .inl (dA 1, 960, .inr (.inl (lA VL)))), (aw, .inl (dA 1, 1024, .inr (.inl (lA W1_265))))]) [0, 1, 2, 3] rfl
          have hDc := hD.sub (ws' := [(am, .inr (0, [.int (I3 th), .int (I3 mn), .ref as_, .ref av, .ref aw, .int (I3 s5), .int (I3 wd), .int (I3 lp), .int (I3 mp), .int (I3 re)])), (as_, .inl (dA 0, 60, .inl (iA SG))), (av, .inl (dA 1, 960, .inr (.inl (lA VL)))), (aw, .inl (dA 1, 1024, .inr (.inl (lA W1_265))))]) [0, 1, 2, 3] (by decide) rfl
          have hFc := va_free (wc := [(am, .inr (0, [.int (I3 th), .int (I3 mn), .ref as_, .ref av, .ref aw, .int (I3 s5), .int (I3 wd), .int (I3 lp), .int (I3 mp), .int (I3 re)])), (as_, .inl (dA 0, 60, .inl (iA SG))), (av, .inl (dA 1, 960, .inr (.inl (lA VL)))), (aw, .inl (dA 1, 1024, .inr (.inl (lA W1_265))))]) hD hS hA [0, 1, 2, 3] rfl
          refine va_callv (va_runV (As := [.int (I3 2), .int (I3 3)]) (rest := []) ⟨hx, hb, hml, hown, hts⟩ (metX8_greatest l dC dI dA am as_ av aw H.size th mn s5 wd lp mp re SG VL W1_265 2 3 h_70 h_71 h_72 h_73 h_74) (cwV 2 hts (lw_V q972 q974 qs23 q66 q975) rfl rfl rfl (by decide +kernel) ⟨Nat.le_of_ble_eq_true rfl, Nat.le_of_ble_eq_true rfl⟩) ⟨fun a U g mk q => by obtain ⟨q0, q1, qP, qK, qD⟩ := q; exact ⟨q0, q1, qP, va_K.moved (u := U) (U := U.calling g mk a) (Vm.Alike.refl U.vm) qK, qD⟩, va_recv hK hPc (ci := 0) (q0 := 0) rfl rfl, fun U hU hW => ⟨rfl, by rw [hU], by rw [hU]; exact hPc, va_K.moved hW.alike hK, hDc.weaken (fun _ _ _ _ => trivial)⟩⟩ rfl rfl hl.1 rfl (lv_room (Nat.le_of_ble_eq_true rfl)) dX8_act_271 ⟨Nat.le_of_ble_eq_true rfl, Nat.le_of_ble_eq_true rfl⟩) hS (fun q _ h => hFc q h) hFc (fun u t H1 locs ht hvm hw hB hz1 hk1 hS => ?_)
          obtain ⟨W1_271, rfl⟩ : ∃ z, z = u := ⟨_, rfl⟩
          obtain ⟨p0_271, p1_271, p2_271⟩ : (Dg W1_271) ∧ (Fr2 W1_265 W1_271 14 15) ∧ (rv W1_271 14 = Nat.gcd (rv W1_265 (2 : Int)) (rv W1_265 (3 : Int))) := hw
          obtain ⟨hP1, hK1, hD1⟩ := hB
          rw [ht] at hP1
          obtain ⟨hP, hD⟩ := va_join (wr := []) (w1 := [(am, .inr (0, [.int (I3 th), .int (I3 mn), .ref as_, .ref av, .ref aw, .int (I3 s5), .int (I3 wd), .int (I3 lp), .int (I3 mp), .int (I3 re)])), (as_, .inl (dA 0, 60, .inl (iA SG))), (av, .inl (dA 1, 960, .inr (.inl (lA VL)))), (aw, .inl (dA 1, 1024, .inr (.inl (lA W1_271))))]) hP hD [0, 1, 2, 3] [] rfl rfl (by decide) (by decide) hk1 hFc hP1 hD1
          generalize H1 = H at hP hS ⊢
          have hP : va_P (dC, dI) vwCl [(am, .inr (0, [.int (I3 th), .int (I3 mn), .ref as_, .ref av, .ref aw, .int (I3 s5), .int (I3 wd), .int (I3 lp), .int (I3 mp), .int (I3 re)])), (as_, .inl (dA 0, 60, .inl (iA SG))), (av, .inl (dA 1, 960, .inr (.inl (lA VL)))), (aw, .inl (dA 1, 1024, .inr (.inl (lA W1_271))))] H := hP
          have hD : va_D A [(am, .inr (0, [.int (I3 th), .int (I3 mn), .ref as_, .ref av, .ref aw, .int (I3 s5), .int (I3 wd), .int (I3 lp), .int (I3 mp), .int (I3 re)])), (as_, .inl (dA 0, 60, .inl (iA SG))), (av, .inl (dA 1, 960, .inr (.inl (lA VL)))), (aw, .inl (dA 1, 1024, .inr (.inl (lA W1_271))))] := hD
          have g0 : rv W1_271 14 = Nat.gcd (pv VL a) (pv VL b) := by rw [p2_271, p2_265, Fr_rv p1_265 (by decide), p2_259]
          refine lv_aload_n hx hb dX8_act_274 rfl (lv_at hl 0 rfl) ?_
          refine lv_bipush (v := I3 (14)) hx hb dX8_act_275 (by decide) ?_
          refine lv_iconst (v := I3 (0)) hx hb dX8_act_277 rfl ?_
          have h_75 : 0 ≤ (14 : Int) ∧ (14 : Int) < 16 := by decide
          have h_76 : 0 ≤ (0 : Int) ∧ (0 : Int) < 16 := by decide
          have h_77 : (14 : Int) ≠ (0 : Int) := by decide
          have h_78 : Dg W1_271 := by first | assumption | omega | (constructor <;> omega)
          have hPc := hP.sub (ws' := [(am, .inr (0, [.int (I3 th), .int (I3 mn), .ref as_, .ref av, .ref aw, .int (I3 s5), .int (I3 wd), .int (I3 lp), .int (I3 mp), .int (I3 re)])), (as_, .inl (dA 0, 60, .inl (iA SG))), (av, .inl (dA 1, 960, .inr (.inl (lA VL)))), (aw, .inl (dA 1, 1024, .inr (.inl (lA W1_271))))]) [0, 1, 2, 3] rfl
          have hDc := hD.sub (ws' := [(am, .inr (0, [.int (I3 th), .int (I3 mn), .ref as_, .ref av, .ref aw, .int (I3 s5), .int (I3 wd), .int (I3 lp), .int (I3 mp), .int (I3 re)])), (as_, .inl (dA 0, 60, .inl (iA SG))), (av, .inl (dA 1, 960, .inr (.inl (lA VL)))), (aw, .inl (dA 1, 1024, .inr (.inl (lA W1_271))))]) [0, 1, 2, 3] (by decide) rfl
          have hFc := va_free (wc := [(am, .inr (0, [.int (I3 th), .int (I3 mn), .ref as_, .ref av, .ref aw, .int (I3 s5), .int (I3 wd), .int (I3 lp), .int (I3 mp), .int (I3 re)])), (as_, .inl (dA 0, 60, .inl (iA SG))), (av, .inl (dA 1, 960, .inr (.inl (lA VL)))), (aw, .inl (dA 1, 1024, .inr (.inl (lA W1_271))))]) hD hS hA [0, 1, 2, 3] rfl
          refine va_callv (va_runV (As := [.int (I3 14), .int (I3 0)]) (rest := []) ⟨hx, hb, hml, hown, hts⟩ (metX8_copy l dC dI dA am as_ av aw H.size th mn s5 wd lp mp re SG VL W1_271 14 0 h_75 h_76 h_77 h_78) (cwV 2 hts (lw_V q976 q978 qs24 q66 q979) rfl rfl rfl (by decide +kernel) ⟨Nat.le_of_ble_eq_true rfl, Nat.le_of_ble_eq_true rfl⟩) ⟨fun a U g mk q => by obtain ⟨q0, q1, qP, qK, qD⟩ := q; exact ⟨q0, q1, qP, va_K.moved (u := U) (U := U.calling g mk a) (Vm.Alike.refl U.vm) qK, qD⟩, va_recv hK hPc (ci := 0) (q0 := 0) rfl rfl, fun U hU hW => ⟨rfl, by rw [hU], by rw [hU]; exact hPc, va_K.moved hW.alike hK, hDc.weaken (fun _ _ _ _ => trivial)⟩⟩ rfl rfl hl.1 rfl (lv_room (Nat.le_of_ble_eq_true rfl)) dX8_act_278 ⟨Nat.le_of_ble_eq_true rfl, Nat.le_of_ble_eq_true rfl⟩) hS (fun q _ h => hFc q h) hFc (fun u t H1 locs ht hvm hw hB hz1 hk1 hS => ?_)
          obtain ⟨W1_278, rfl⟩ : ∃ z, z = u := ⟨_, rfl⟩
          obtain ⟨p0_278, p1_278, p2_278⟩ : (Dg W1_278) ∧ (Fr W1_271 W1_278 (0 : Int)) ∧ (rv W1_278 (0 : Int) = rv W1_271 (14 : Int)) := hw
          obtain ⟨hP1, hK1, hD1⟩ := hB
          rw [ht] at hP1
          obtain ⟨hP, hD⟩ := va_join (wr := []) (w1 := [(am, .inr (0, [.int (I3 th), .int (I3 mn), .ref as_, .ref av, .ref aw, .int (I3 s5), .int (I3 wd), .int (I3 lp), .int (I3 mp), .int (I3 re)])), (as_, .inl (dA 0, 60, .inl (iA SG))), (av, .inl (dA 1, 960, .inr (.inl (lA VL)))), (aw, .inl (dA 1, 1024, .inr (.inl (lA W1_278))))]) hP hD [0, 1, 2, 3] [] rfl rfl (by decide) (by decide) hk1 hFc hP1 hD1
          generalize H1 = H at hP hS ⊢
          have hP : va_P (dC, dI) vwCl [(am, .inr (0, [.int (I3 th), .int (I3 mn), .ref as_, .ref av, .ref aw, .int (I3 s5), .int (I3 wd), .int (I3 lp), .int (I3 mp), .int (I3 re)])), (as_, .inl (dA 0, 60, .inl (iA SG))), (av, .inl (dA 1, 960, .inr (.inl (lA VL)))), (aw, .inl (dA 1, 1024, .inr (.inl (lA W1_278))))] H := hP
          have hD : va_D A [(am, .inr (0, [.int (I3 th), .int (I3 mn), .ref as_, .ref av, .ref aw, .int (I3 s5), .int (I3 wd), .int (I3 lp), .int (I3 mp), .int (I3 re)])), (as_, .inl (dA 0, 60, .inl (iA SG))), (av, .inl (dA 1, 960, .inr (.inl (lA VL)))), (aw, .inl (dA 1, 1024, .inr (.inl (lA W1_278))))] := hD
          refine lv_aload_n hx hb dX8_act_281 rfl (lv_at hl 0 rfl) ?_
          refine lv_iconst (v := I3 (1)) hx hb dX8_act_282 rfl ?_
          refine lv_lconst (v := L6 1) hx hb dX8_act_283 (by decide) ?_
          have h_79 : 0 ≤ (1 : Int) ∧ (1 : Int) < 16 := by decide
          have h_80 : Dg W1_278 := by first | assumption | omega | (constructor <;> omega)
          have hPc := hP.sub (ws' := [(am, .inr (0, [.int (I3 th), .int (I3 mn), .ref as_, .ref av, .ref aw, .int (I3 s5), .int (I3 wd), .int (I3 lp), .int (I3 mp), .int (I3 re)])), (as_, .inl (dA 0, 60, .inl (iA SG))), (av, .inl (dA 1, 960, .inr (.inl (lA VL)))), (aw, .inl (dA 1, 1024, .inr (.inl (lA W1_278))))]) [0, 1, 2, 3] rfl
          have hDc := hD.sub (ws' := [(am, .inr (0, [.int (I3 th), .int (I3 mn), .ref as_, .ref av, .ref aw, .int (I3 s5), .int (I3 wd), .int (I3 lp), .int (I3 mp), .int (I3 re)])), (as_, .inl (dA 0, 60, .inl (iA SG))), (av, .inl (dA 1, 960, .inr (.inl (lA VL)))), (aw, .inl (dA 1, 1024, .inr (.inl (lA W1_278))))]) [0, 1, 2, 3] (by decide) rfl
          have hFc := va_free (wc := [(am, .inr (0, [.int (I3 th), .int (I3 mn), .ref as_, .ref av, .ref aw, .int (I3 s5), .int (I3 wd), .int (I3 lp), .int (I3 mp), .int (I3 re)])), (as_, .inl (dA 0, 60, .inl (iA SG))), (av, .inl (dA 1, 960, .inr (.inl (lA VL)))), (aw, .inl (dA 1, 1024, .inr (.inl (lA W1_278))))]) hD hS hA [0, 1, 2, 3] rfl
          refine va_callv (va_runV (As := [.int (I3 1), .long (L6 1)]) (rest := []) ⟨hx, hb, hml, hown, hts⟩ (metX8_set l dC dI dA am as_ av aw H.size th mn s5 wd lp mp re SG VL W1_278 1 1 h_79 h_80) (cwV 2 hts (lw_V q955 q957 qs19 q66 q958) rfl rfl rfl (by decide +kernel) ⟨Nat.le_of_ble_eq_true rfl, Nat.le_of_ble_eq_true rfl⟩) ⟨fun a U g mk q => by obtain ⟨q0, q1, qP, qK, qD⟩ := q; exact ⟨q0, q1, qP, va_K.moved (u := U) (U := U.calling g mk a) (Vm.Alike.refl U.vm) qK, qD⟩, va_recv hK hPc (ci := 0) (q0 := 0) rfl rfl, fun U hU hW => ⟨rfl, by rw [hU], by rw [hU]; exact hPc, va_K.moved hW.alike hK, hDc.weaken (fun _ _ _ _ => trivial)⟩⟩ rfl rfl hl.1 rfl (lv_room (Nat.le_of_ble_eq_true rfl)) dX8_act_284 ⟨Nat.le_of_ble_eq_true rfl, Nat.le_of_ble_eq_true rfl⟩) hS (fun q _ h => hFc q h) hFc (fun u t H1 locs ht hvm hw hB hz1 hk1 hS => ?_)
          obtain ⟨W1_284, rfl⟩ : ∃ z, z = u := ⟨_, rfl⟩
          obtain ⟨p0_284, p1_284, p2_284⟩ : (Dg W1_284) ∧ (Fr W1_278 W1_284 (1 : Int)) ∧ (rv W1_284 (1 : Int) = ((1 : Int) % 18446744073709551616).toNat) := hw
          obtain ⟨hP1, hK1, hD1⟩ := hB
          rw [ht] at hP1
          obtain ⟨hP, hD⟩ := va_join (wr := []) (w1 := [(am, .inr (0, [.int (I3 th), .int (I3 mn), .ref as_, .ref av, .ref aw, .int (I3 s5), .int (I3 wd), .int (I3 lp), .int (I3 mp), .int (I3 re)])), (as_, .inl (dA 0, 60, .inl (iA SG))), (av, .inl (dA 1, 960, .inr (.inl (lA VL)))), (aw, .inl (dA 1, 1024, .inr (.inl (lA W1_284))))]) hP hD [0, 1, 2, 3] [] rfl rfl (by decide) (by decide) hk1 hFc hP1 hD1
          generalize H1 = H at hP hS ⊢
          have hP : va_P (dC, dI) vwCl [(am, .inr (0, [.int (I3 th), .int (I3 mn), .ref as_, .ref av, .ref aw, .int (I3 s5), .int (I3 wd), .int (I3 lp), .int (I3 mp), .int (I3 re)])), (as_, .inl (dA 0, 60, .inl (iA SG))), (av, .inl (dA 1, 960, .inr (.inl (lA VL)))), (aw, .inl (dA 1, 1024, .inr (.inl (lA W1_284))))] H := hP
          have hD : va_D A [(am, .inr (0, [.int (I3 th), .int (I3 mn), .ref as_, .ref av, .ref aw, .int (I3 s5), .int (I3 wd), .int (I3 lp), .int (I3 mp), .int (I3 re)])), (as_, .inl (dA 0, 60, .inl (iA SG))), (av, .inl (dA 1, 960, .inr (.inl (lA VL)))), (aw, .inl (dA 1, 1024, .inr (.inl (lA W1_284))))] := hD
          have f0 : rv W1_284 0 = Nat.gcd (pv VL a) (pv VL b) := (Fr_rv p1_284 (by decide)).trans (p2_278.trans g0)
          have f1 : rv W1_284 1 = 1 := by rw [p2_284]; rfl
          have e8 := hgd.2.1 (show act = 8 by omega)
          refine lv_aload_n hx hb dX8_act_287 rfl (lv_at hl 0 rfl) ?_
          refine lv_iconst (v := I3 (1)) hx hb dX8_act_288 rfl ?_
          refine lv_iconst (v := I3 (4)) hx hb dX8_act_289 rfl ?_
          have h_81 : Dg W1_284 := by first | assumption | omega | (constructor <;> omega)
          have h_82 : Dg VL := by exact hV
          have h_83 : 0 ≤ mn ∧ mn ≤ 60 := by exact hmn
          have h_84 : In3 (1 : Int) := by first | assumption | omega | (constructor <;> omega)
          have h_85 : In3 (4 : Int) := by first | assumption | omega | (constructor <;> omega)
          have h_86 : rv W1_284 1 ≠ 0 := by rw [f1]; decide
          have h_87 : 2 * rv W1_284 1 ≤ BN := by rw [f1]; have := BN_64; omega
          have hPc := hP.sub (ws' := [(am, .inr (0, [.int (I3 th), .int (I3 mn), .ref as_, .ref av, .ref aw, .int (I3 s5), .int (I3 wd), .int (I3 lp), .int (I3 mp), .int (I3 re)])), (as_, .inl (dA 0, 60, .inl (iA SG))), (av, .inl (dA 1, 960, .inr (.inl (lA VL)))), (aw, .inl (dA 1, 1024, .inr (.inl (lA W1_284))))]) [0, 1, 2, 3] rfl
          have hDc := hD.sub (ws' := [(am, .inr (0, [.int (I3 th), .int (I3 mn), .ref as_, .ref av, .ref aw, .int (I3 s5), .int (I3 wd), .int (I3 lp), .int (I3 mp), .int (I3 re)])), (as_, .inl (dA 0, 60, .inl (iA SG))), (av, .inl (dA 1, 960, .inr (.inl (lA VL)))), (aw, .inl (dA 1, 1024, .inr (.inl (lA W1_284))))]) [0, 1, 2, 3] (by decide) rfl
          have hFc := va_free (wc := [(am, .inr (0, [.int (I3 th), .int (I3 mn), .ref as_, .ref av, .ref aw, .int (I3 s5), .int (I3 wd), .int (I3 lp), .int (I3 mp), .int (I3 re)])), (as_, .inl (dA 0, 60, .inl (iA SG))), (av, .inl (dA 1, 960, .inr (.inl (lA VL)))), (aw, .inl (dA 1, 1024, .inr (.inl (lA W1_284))))]) hD hS hA [0, 1, 2, 3] rfl
          refine va_calli (va_runV (As := [.int (I3 1), .int (I3 4)]) (rest := []) ⟨hx, hb, hml, hown, hts⟩ (metX8_make l dC dI dA am as_ av aw H.size th mn s5 wd lp mp re SG VL W1_284 1 4 h_81 h_82 h_83 h_84 h_85 h_86 h_87) (cwV 2 hts (lw_V q964 q966 qs21 q66 q967) rfl rfl rfl (by decide +kernel) ⟨Nat.le_of_ble_eq_true rfl, Nat.le_of_ble_eq_true rfl⟩) ⟨fun a U g mk q => by obtain ⟨q0, q1, qP, qK, qD⟩ := q; exact ⟨q0, q1, qP, va_K.moved (u := U) (U := U.calling g mk a) (Vm.Alike.refl U.vm) qK, qD⟩, va_recv hK hPc (ci := 0) (q0 := 0) rfl rfl, fun U hU hW => ⟨rfl, by rw [hU], by rw [hU]; exact hPc, va_K.moved hW.alike hK, hDc.weaken (fun _ _ _ _ => trivial)⟩⟩ rfl rfl hl.1 rfl (lv_room (Nat.le_of_ble_eq_true rfl)) dX8_act_290 ⟨Nat.le_of_ble_eq_true rfl, Nat.le_of_ble_eq_true rfl⟩) hS (fun q _ h => hFc q h) hFc (fun r_290 u t H1 locs ht hvm hw hB hz1 hk1 hS => ?_)
          obtain ⟨z_290, th1_290, mn1_290, SG1_290, VL1_290, W1_290⟩ := u
          obtain ⟨rfl, p0_290, p1_290, p2_290, p3_290⟩ : r_290 = I3 z_290 ∧ (Dg W1_290) ∧ (Dg VL1_290) ∧ (0 ≤ mn1_290 ∧ mn1_290 ≤ 60) ∧ (Mde mn SG VL (1 : Int) (rv W1_284 0) (rv W1_284 1) (4 : Int) z_290 th1_290 mn1_290 SG1_290 VL1_290) := hw
          obtain ⟨hP1, hK1, hD1⟩ := hB
          rw [ht] at hP1
          obtain ⟨hP, hD⟩ := va_join (wr := []) (w1 := [(am, .inr (0, [.int (I3 th1_290), .int (I3 mn1_290), .ref as_, .ref av, .ref aw, .int (I3 s5), .int (I3 wd), .int (I3 lp), .int (I3 mp), .int (I3 re)])), (as_, .inl (dA 0, 60, .inl (iA SG1_290))), (av, .inl (dA 1, 960, .inr (.inl (lA VL1_290)))), (aw, .inl (dA 1, 1024, .inr (.inl (lA W1_290))))]) hP hD [0, 1, 2, 3] [] rfl rfl (by decide) (by decide) hk1 hFc hP1 hD1
          generalize H1 = H at hP hS ⊢
          have hP : va_P (dC, dI) vwCl [(am, .inr (0, [.int (I3 th1_290), .int (I3 mn1_290), .ref as_, .ref av, .ref aw, .int (I3 s5), .int (I3 wd), .int (I3 lp), .int (I3 mp), .int (I3 re)])), (as_, .inl (dA 0, 60, .inl (iA SG1_290))), (av, .inl (dA 1, 960, .inr (.inl (lA VL1_290)))), (aw, .inl (dA 1, 1024, .inr (.inl (lA W1_290))))] H := hP
          have hD : va_D A [(am, .inr (0, [.int (I3 th1_290), .int (I3 mn1_290), .ref as_, .ref av, .ref aw, .int (I3 s5), .int (I3 wd), .int (I3 lp), .int (I3 mp), .int (I3 re)])), (as_, .inl (dA 0, 60, .inl (iA SG1_290))), (av, .inl (dA 1, 960, .inr (.inl (lA VL1_290)))), (aw, .inl (dA 1, 1024, .inr (.inl (lA W1_290))))] := hD
          have hM := p3_290
          rw [f0, f1] at hM
          have o_88 : Dg W1_290 := by first | assumption | omega | (constructor <;> omega)
          have o_89 : MI mn1_290 SG1_290 VL1_290 := by exact MI_Mde hI (by decide) (Or.inr (Or.inr rfl)) (fun q => by omega) p1_290 p2_290 hM
          have o_90 : AcR mn SG VL act a b z_290 th1_290 mn1_290 SG1_290 VL1_290 := by exact AcR_8 hnum hgd hb3_ (by omega) hM
          exact W.iret (v := I3 z_290) hx hb hr (fun t ht hW => ⟨⟨I3 z_290, (z_290, th1_290, mn1_290, SG1_290, VL1_290, W1_290, s5), rfl, ⟨rfl, ⟨o_88, o_89, o_90⟩⟩, by rw [ht]; exact hP, va_K.moved hW.alike hK, hD⟩, hS.F ht⟩) hS.2.2 dX8_act_293
      · skip
        refine lv_aload_n hx hb dX8_act_188 rfl (lv_at hl 0 rfl) ?_
        refine lv_iload_n hx hb dX8_act_189 rfl (lv_at hl 2 rfl) ?_
        refine lv_iload_n hx hb dX8_act_190 rfl (lv_at hl 3 rfl) ?_
        have h_91 : Dg wf := by first | assumption | omega | (constructor <;> omega)
        have h_92 : MI mn SG VL := by first | assumption | omega | (constructor <;> omega)
        have h_93 : In3 a := by first | assumption | omega | (constructor <;> omega)
        have h_94 : In3 b := by first | assumption | omega | (constructor <;> omega)
        have hPc := hP.sub (ws' := [(am, .inr (0, [.int (I3 th), .int (I3 mn), .ref as_, .ref av, .ref aw, .int (I3 s5), .int (I3 wd), .int (I3 lp), .int (I3 mp), .int (I3 re)])), (as_, .inl (dA 0, 60, .inl (iA SG))), (av, .inl (dA 1, 960, .inr (.inl (lA VL)))), (aw, .inl (dA 1, 1024, .inr (.inl (lA wf))))]) [0, 1, 2, 3] rfl
        have hDc := hD.sub (ws' := [(am, .inr (0, [.int (I3 th), .int (I3 mn), .ref as_, .ref av, .ref aw, .int (I3 s5), .int (I3 wd), .int (I3 lp), .int (I3 mp), .int (I3 re)])), (as_, .inl (dA 0, 60, .inl (iA SG))), (av, .inl (dA 1, 960, .inr (.inl (lA VL)))), (aw, .inl (dA 1, 1024, .inr (.inl (lA wf))))]) [0, 1, 2, 3] (by decide) rfl
        have hFc := va_free (wc := [(am, .inr (0, [.int (I3 th), .int (I3 mn), .ref as_, .ref av, .ref aw, .int (I3 s5), .int (I3 wd), .int (I3 lp), .int (I3 mp), .int (I3 re)])), (as_, .inl (dA 0, 60, .inl (iA SG))), (av, .inl (dA 1, 960, .inr (.inl (lA VL)))), (aw, .inl (dA 1, 1024, .inr (.inl (lA wf))))]) hD hS hA [0, 1, 2, 3] rfl
        refine va_calli (va_runV (As := [.int (I3 a), .int (I3 b)]) (rest := []) ⟨hx, hb, hml, hown, hts⟩ (metX8_order l dC dI dA am as_ av aw H.size th mn s5 wd lp mp re SG VL wf a b h_91 h_92 h_93 h_94) (cwV 2 hts (lw_V q1078 q1079 q1080 q66 q1081) rfl rfl rfl (by decide +kernel) ⟨Nat.le_of_ble_eq_true rfl, Nat.le_of_ble_eq_true rfl⟩) ⟨fun a U g mk q => by obtain ⟨q0, q1, qP, qK, qD⟩ := q; exact ⟨q0, q1, qP, va_K.moved (u := U) (U := U.calling g mk a) (Vm.Alike.refl U.vm) qK, qD⟩, va_recv hK hPc (ci := 0) (q0 := 0) rfl rfl, fun U hU hW => ⟨rfl, by rw [hU], by rw [hU]; exact hPc, va_K.moved hW.alike hK, hDc.weaken (fun _ _ _ _ => trivial)⟩⟩ rfl rfl hl.1 rfl (lv_room (Nat.le_of_ble_eq_true rfl)) dX8_act_191 ⟨Nat.le_of_ble_eq_true rfl, Nat.le_of_ble_eq_true rfl⟩) hS (fun q _ h => hFc q h) hFc (fun r_191 u t H1 locs ht hvm hw hB hz1 hk1 hS => ?_)
        obtain ⟨z_191, th1_191, W1_191⟩ := u
        obtain ⟨rfl, p0_191, p1_191, p2_191⟩ : r_191 = I3 z_191 ∧ (Dg W1_191) ∧ (z_191 = if (0 ≤ a ∧ a < mn) ∧ 0 ≤ b ∧ b < mn then ordS SG VL a b else 0) ∧ (th1_191 = if (0 ≤ a ∧ a < mn) ∧ 0 ≤ b ∧ b < mn then 0 else 1) := hw
        obtain ⟨hP1, hK1, hD1⟩ := hB
        rw [ht] at hP1
        obtain ⟨hP, hD⟩ := va_join (wr := []) (w1 := [(am, .inr (0, [.int (I3 th1_191), .int (I3 mn), .ref as_, .ref av, .ref aw, .int (I3 s5), .int (I3 wd), .int (I3 lp), .int (I3 mp), .int (I3 re)])), (as_, .inl (dA 0, 60, .inl (iA SG))), (av, .inl (dA 1, 960, .inr (.inl (lA VL)))), (aw, .inl (dA 1, 1024, .inr (.inl (lA W1_191))))]) hP hD [0, 1, 2, 3] [] rfl rfl (by decide) (by decide) hk1 hFc hP1 hD1
        generalize H1 = H at hP hS ⊢
        have hP : va_P (dC, dI) vwCl [(am, .inr (0, [.int (I3 th1_191), .int (I3 mn), .ref as_, .ref av, .ref aw, .int (I3 s5), .int (I3 wd), .int (I3 lp), .int (I3 mp), .int (I3 re)])), (as_, .inl (dA 0, 60, .inl (iA SG))), (av, .inl (dA 1, 960, .inr (.inl (lA VL)))), (aw, .inl (dA 1, 1024, .inr (.inl (lA W1_191))))] H := hP
        have hD : va_D A [(am, .inr (0, [.int (I3 th1_191), .int (I3 mn), .ref as_, .ref av, .ref aw, .int (I3 s5), .int (I3 wd), .int (I3 lp), .int (I3 mp), .int (I3 re)])), (as_, .inl (dA 0, 60, .inl (iA SG))), (av, .inl (dA 1, 960, .inr (.inl (lA VL)))), (aw, .inl (dA 1, 1024, .inr (.inl (lA W1_191))))] := hD
        refine ix_if_gt (tgt := 201) hx hb (by have ho := ordS_r (VL := VL) (b := b) ha2.1; rw [p1_191, if_pos hnum]; constructor <;> omega) dX8_act_194 (by decide) (fun c_194 => ?_) (fun c_194 => ?_)
        · skip
          refine lv_iconst (v := I3 (0)) hx hb dX8_act_201 rfl ?_
          refine lv_iload_n hx hb dX8_act_202 rfl (lv_at hl 1 rfl) ?_
          refine lv_bipush (v := I3 (11)) hx hb dX8_act_203 (by decide) ?_
          refine ix_icmp_ne (tgt := 212) hx hb (by first | assumption | decide | (constructor <;> omega)) (by first | assumption | decide | (constructor <;> omega)) dX8_act_205 (by decide) (fun c_205 => ?_) (fun c_205 => ?_)
          · skip
            refine lv_iconst (v := I3 (0)) hx hb dX8_act_212 rfl ?_
            refine ix_icmp_ne (tgt := 220) hx hb (by first | assumption | decide | (constructor <;> omega)) (by first | assumption | decide | (constructor <;> omega)) dX8_act_213 (by decide) (fun c_213 => ?_) (fun c_213 => ?_)
            · skip
              omega
            · skip
              refine lv_iload_n hx hb dX8_act_216 rfl (lv_at hl 2 rfl) ?_
              refine lv_goto (tgt := 221) hx hb dX8_act_217 (by decide) ?_
              have ho : z_191 = ordS SG VL a b := by rw [p1_191, if_pos hnum]
              have e_95 : ((0 ≤ a ∧ a < mn) ∧ 0 ≤ b ∧ b < mn) := by first | assumption | omega | (constructor <;> omega)
              have e_96 : acGd VL act a b := by first | assumption | omega | (constructor <;> omega)
              have e_97 : ¬ acB3 SG VL act a b := by first | assumption | omega | (constructor <;> omega)
              have e_98 : act = 11 ∨ act = 12 := by have := hgd.1; omega
              have e_99 : Dg W1_191 := by first | assumption | omega | (constructor <;> omega)
              have e_100 : a = (if act = 11 then (if ordS SG VL a b ≤ 0 then a else b) else (if ordS SG VL a b ≤ 0 then b else a)) := by rw [← ho]; (first | (rw [if_pos (show act = 11 by omega)]; first | (rw [if_pos (by omega)]; done) | (rw [if_neg (by omega)]; done)) | (rw [if_neg (show ¬ act = 11 by omega)]; first | (rw [if_pos (by omega)]; done) | (rw [if_neg (by omega)]; done)))
              have e_101 : a = a ∨ a = b := by first | assumption | omega | (constructor <;> omega)
              exact cut_221 a s5 th1_191 W1_191 e_95 e_96 e_97 e_98 e_99 e_100 e_101 _ _ hP hD hS ls (lv_sub hl [0, 1, 2, 3] rfl)
          · skip
            refine lv_iconst (v := I3 (1)) hx hb dX8_act_208 rfl ?_
            refine lv_goto (tgt := 213) hx hb dX8_act_209 (by decide) ?_
            refine ix_icmp_ne (tgt := 220) hx hb (by first | assumption | decide | (constructor <;> omega)) (by first | assumption | decide | (constructor <;> omega)) dX8_act_213 (by decide) (fun c_213 => ?_) (fun c_213 => ?_)
            · skip
              refine lv_iload_n hx hb dX8_act_220 rfl (lv_at hl 3 rfl) ?_
              have ho : z_191 = ordS SG VL a b := by rw [p1_191, if_pos hnum]
              have e_102 : ((0 ≤ a ∧ a < mn) ∧ 0 ≤ b ∧ b < mn) := by first | assumption | omega | (constructor <;> omega)
              have e_103 : acGd VL act a b := by first | assumption | omega | (constructor <;> omega)
              have e_104 : ¬ acB3 SG VL act a b := by first | assumption | omega | (constructor <;> omega)
              have e_105 : act = 11 ∨ act = 12 := by have := hgd.1; omega
              have e_106 : Dg W1_191 := by first | assumption | omega | (constructor <;> omega)
              have e_107 : b = (if act = 11 then (if ordS SG VL a b ≤ 0 then a else b) else (if ordS SG VL a b ≤ 0 then b else a)) := by rw [← ho]; (first | (rw [if_pos (show act = 11 by omega)]; first | (rw [if_pos (by omega)]; done) | (rw [if_neg (by omega)]; done)) | (rw [if_neg (show ¬ act = 11 by omega)]; first | (rw [if_pos (by omega)]; done) | (rw [if_neg (by omega)]; done)))
              have e_108 : b = a ∨ b = b := by first | assumption | omega | (constructor <;> omega)
              exact cut_221 b s5 th1_191 W1_191 e_102 e_103 e_104 e_105 e_106 e_107 e_108 _ _ hP hD hS ls (lv_sub hl [0, 1, 2, 3] rfl)
            · skip
              omega
        · skip
          refine lv_iconst (v := I3 (1)) hx hb dX8_act_197 rfl ?_
          refine lv_goto (tgt := 202) hx hb dX8_act_198 (by decide) ?_
          refine lv_iload_n hx hb dX8_act_202 rfl (lv_at hl 1 rfl) ?_
          refine lv_bipush (v := I3 (11)) hx hb dX8_act_203 (by decide) ?_
          refine ix_icmp_ne (tgt := 212) hx hb (by first | assumption | decide | (constructor <;> omega)) (by first | assumption | decide | (constructor <;> omega)) dX8_act_205 (by decide) (fun c_205 => ?_) (fun c_205 => ?_)
          · skip
            refine lv_iconst (v := I3 (0)) hx hb dX8_act_212 rfl ?_
            refine ix_icmp_ne (tgt := 220) hx hb (by first | assumption | decide | (constructor <;> omega)) (by first | assumption | decide | (constructor <;> omega)) dX8_act_213 (by decide) (fun c_213 => ?_) (fun c_213 => ?_)
            · skip
              refine lv_iload_n hx hb dX8_act_220 rfl (lv_at hl 3 rfl) ?_
              have ho : z_191 = ordS SG VL a b := by rw [p1_191, if_pos hnum]
              have e_109 : ((0 ≤ a ∧ a < mn) ∧ 0 ≤ b ∧ b < mn) := by first | assumption | omega | (constructor <;> omega)
              have e_110 : acGd VL act a b := by first | assumption | omega | (constructor <;> omega)
              have e_111 : ¬ acB3 SG VL act a b := by first | assumption | omega | (constructor <;> omega)
              have e_112 : act = 11 ∨ act = 12 := by have := hgd.1; omega
              have e_113 : Dg W1_191 := by first | assumption | omega | (constructor <;> omega)
              have e_114 : b = (if act = 11 then (if ordS SG VL a b ≤ 0 then a else b) else (if ordS SG VL a b ≤ 0 then b else a)) := by rw [← ho]; (first | (rw [if_pos (show act = 11 by omega)]; first | (rw [if_pos (by omega)]; done) | (rw [if_neg (by omega)]; done)) | (rw [if_neg (show ¬ act = 11 by omega)]; first | (rw [if_pos (by omega)]; done) | (rw [if_neg (by omega)]; done)))
              have e_115 : b = a ∨ b = b := by first | assumption | omega | (constructor <;> omega)
              exact cut_221 b s5 th1_191 W1_191 e_109 e_110 e_111 e_112 e_113 e_114 e_115 _ _ hP hD hS ls (lv_sub hl [0, 1, 2, 3] rfl)
            · skip
              omega
          · skip
            refine lv_iconst (v := I3 (1)) hx hb dX8_act_208 rfl ?_
            refine lv_goto (tgt := 213) hx hb dX8_act_209 (by decide) ?_
            refine ix_icmp_ne (tgt := 220) hx hb (by first | assumption | decide | (constructor <;> omega)) (by first | assumption | decide | (constructor <;> omega)) dX8_act_213 (by decide) (fun c_213 => ?_) (fun c_213 => ?_)
            · skip
              omega
            · skip
              refine lv_iload_n hx hb dX8_act_216 rfl (lv_at hl 2 rfl) ?_
              refine lv_goto (tgt := 221) hx hb dX8_act_217 (by decide) ?_
              have ho : z_191 = ordS SG VL a b := by rw [p1_191, if_pos hnum]
              have e_116 : ((0 ≤ a ∧ a < mn) ∧ 0 ≤ b ∧ b < mn) := by first | assumption | omega | (constructor <;> omega)
              have e_117 : acGd VL act a b := by first | assumption | omega | (constructor <;> omega)
              have e_118 : ¬ acB3 SG VL act a b := by first | assumption | omega | (constructor <;> omega)
              have e_119 : act = 11 ∨ act = 12 := by have := hgd.1; omega
              have e_120 : Dg W1_191 := by first | assumption | omega | (constructor <;> omega)
              have e_121 : a = (if act = 11 then (if ordS SG VL a b ≤ 0 then a else b) else (if ordS SG VL a b ≤ 0 then b else a)) := by rw [← ho]; (first | (rw [if_pos (show act = 11 by omega)]; first | (rw [if_pos (by omega)]; done) | (rw [if_neg (by omega)]; done)) | (rw [if_neg (show ¬ act = 11 by omega)]; first | (rw [if_pos (by omega)]; done) | (rw [if_neg (by omega)]; done)))
              have e_122 : a = a ∨ a = b := by first | assumption | omega | (constructor <;> omega)
              exact cut_221 a s5 th1_191 W1_191 e_116 e_117 e_118 e_119 e_120 e_121 e_122 _ _ hP hD hS ls (lv_sub hl [0, 1, 2, 3] rfl)
    · skip
      refine lv_aload_n hx hb dX8_act_172 rfl (lv_at hl 0 rfl) ?_
      refine lv_iload_n hx hb dX8_act_173 rfl (lv_at hl 2 rfl) ?_
      refine lv_aload_n hx hb dX8_act_174 rfl (lv_at hl 0 rfl) ?_
      refine va_get (D := (dC, dI)) (ci := 0) (v := .int (I3 s5)) (C := RX8) (T := TX8) (N := 10) hx hb hts in_X8 hown hK hP 0 rfl rfl 5 (by decide) (hts _ q918) (fun _ h9 => h9) rfl dX8_act_175 ?_
      have h_123 : Dg wf := by first | assumption | omega | (constructor <;> omega)
      have h_124 : MI mn SG VL := by first | assumption | omega | (constructor <;> omega)
      have h_125 : 0 ≤ a ∧ a < mn := by first | assumption | omega | (constructor <;> omega)
      have h_126 : -1000 ≤ s5 ∧ s5 ≤ 1000 := by have := i_s (by omega); omega
      have h_127 : s5 < 0 → SG a ≠ 0 := by intro q w; apply hb3_; have hs := hsm (Or.inl (show act = 9 by omega)); exact Or.inr ⟨by omega, by omega, w⟩
      have hPc := hP.sub (ws' := [(am, .inr (0, [.int (I3 th), .int (I3 mn), .ref as_, .ref av, .ref aw, .int (I3 s5), .int (I3 wd), .int (I3 lp), .int (I3 mp), .int (I3 re)])), (as_, .inl (dA 0, 60, .inl (iA SG))), (av, .inl (dA 1, 960, .inr (.inl (lA VL)))), (aw, .inl (dA 1, 1024, .inr (.inl (lA wf))))]) [0, 1, 2, 3] rfl
      have hDc := hD.sub (ws' := [(am, .inr (0, [.int (I3 th), .int (I3 mn), .ref as_, .ref av, .ref aw, .int (I3 s5), .int (I3 wd), .int (I3 lp), .int (I3 mp), .int (I3 re)])), (as_, .inl (dA 0, 60, .inl (iA SG))), (av, .inl (dA 1, 960, .inr (.inl (lA VL)))), (aw, .inl (dA 1, 1024, .inr (.inl (lA wf))))]) [0, 1, 2, 3] (by decide) rfl
      have hFc := va_free (wc := [(am, .inr (0, [.int (I3 th), .int (I3 mn), .ref as_, .ref av, .ref aw, .int (I3 s5), .int (I3 wd), .int (I3 lp), .int (I3 mp), .int (I3 re)])), (as_, .inl (dA 0, 60, .inl (iA SG))), (av, .inl (dA 1, 960, .inr (.inl (lA VL)))), (aw, .inl (dA 1, 1024, .inr (.inl (lA wf))))]) hD hS hA [0, 1, 2, 3] rfl
      refine va_calli (va_runV (As := [.int (I3 a), .int (I3 s5)]) (rest := []) ⟨hx, hb, hml, hown, hts⟩ (metX8_power l dC dI dA am as_ av aw H.size th mn s5 wd lp mp re SG VL wf a s5 h_123 h_124 h_125 h_126 h_127) (cwV 2 hts (lw_V q1062 q1064 qs38 q66 q1065) rfl rfl rfl (by decide +kernel) ⟨Nat.le_of_ble_eq_true rfl, Nat.le_of_ble_eq_true rfl⟩) ⟨fun a U g mk q => by obtain ⟨q0, q1, qP, qK, qD⟩ := q; exact ⟨q0, q1, qP, va_K.moved (u := U) (U := U.calling g mk a) (Vm.Alike.refl U.vm) qK, qD⟩, va_recv hK hPc (ci := 0) (q0 := 0) rfl rfl, fun U hU hW => ⟨rfl, by rw [hU], by rw [hU]; exact hPc, va_K.moved hW.alike hK, hDc.weaken (fun _ _ _ _ => trivial)⟩⟩ rfl rfl hl.1 rfl (lv_room (Nat.le_of_ble_eq_true rfl)) dX8_act_178 ⟨Nat.le_of_ble_eq_true rfl, Nat.le_of_ble_eq_true rfl⟩) hS (fun q _ h => hFc q h) hFc (fun r_178 u t H1 locs ht hvm hw hB hz1 hk1 hS => ?_)
      obtain ⟨z_178, th1_178, mn1_178, SG1_178, VL1_178, W1_178⟩ := u
      obtain ⟨rfl, p0_178, p1_178, p2_178, p3_178⟩ : r_178 = I3 z_178 ∧ (Dg W1_178) ∧ (MI mn1_178 SG1_178 VL1_178) ∧ (¬ pwO (pv VL a) (qv VL a) s5.natAbs → Fld mn SG VL 4 z_178 th1_178 mn1_178 SG1_178 VL1_178) ∧ (pwO (pv VL a) (qv VL a) s5.natAbs → Mde mn SG VL (if SG a < 0 ∧ s5.natAbs % 2 = 1 then -1 else 1) (if s5 < 0 then qv VL a ^ s5.natAbs else pv VL a ^ s5.natAbs) (if s5 < 0 then pv VL a ^ s5.natAbs else qv VL a ^ s5.natAbs) 4 z_178 th1_178 mn1_178 SG1_178 VL1_178) := hw
      obtain ⟨hP1, hK1, hD1⟩ := hB
      rw [ht] at hP1
      obtain ⟨hP, hD⟩ := va_join (wr := []) (w1 := [(am, .inr (0, [.int (I3 th1_178), .int (I3 mn1_178), .ref as_, .ref av, .ref aw, .int (I3 s5), .int (I3 wd), .int (I3 lp), .int (I3 mp), .int (I3 re)])), (as_, .inl (dA 0, 60, .inl (iA SG1_178))), (av, .inl (dA 1, 960, .inr (.inl (lA VL1_178)))), (aw, .inl (dA 1, 1024, .inr (.inl (lA W1_178))))]) hP hD [0, 1, 2, 3] [] rfl rfl (by decide) (by decide) hk1 hFc hP1 hD1
      generalize H1 = H at hP hS ⊢
      have hP : va_P (dC, dI) vwCl [(am, .inr (0, [.int (I3 th1_178), .int (I3 mn1_178), .ref as_, .ref av, .ref aw, .int (I3 s5), .int (I3 wd), .int (I3 lp), .int (I3 mp), .int (I3 re)])), (as_, .inl (dA 0, 60, .inl (iA SG1_178))), (av, .inl (dA 1, 960, .inr (.inl (lA VL1_178)))), (aw, .inl (dA 1, 1024, .inr (.inl (lA W1_178))))] H := hP
      have hD : va_D A [(am, .inr (0, [.int (I3 th1_178), .int (I3 mn1_178), .ref as_, .ref av, .ref aw, .int (I3 s5), .int (I3 wd), .int (I3 lp), .int (I3 mp), .int (I3 re)])), (as_, .inl (dA 0, 60, .inl (iA SG1_178))), (av, .inl (dA 1, 960, .inr (.inl (lA VL1_178)))), (aw, .inl (dA 1, 1024, .inr (.inl (lA W1_178))))] := hD
      have hs := hsm (Or.inl (show act = 9 by omega))
      have q2 := p2_178
      have q3 := p3_178
      rw [hs] at q2 q3
      have o_128 : Dg W1_178 := by first | assumption | omega | (constructor <;> omega)
      have o_129 : MI mn1_178 SG1_178 VL1_178 := by exact p1_178
      have o_130 : AcR mn SG VL act a b z_178 th1_178 mn1_178 SG1_178 VL1_178 := by exact AcR_9 hnum hgd hb3_ (by omega) ⟨q2, q3⟩
      exact W.iret (v := I3 z_178) hx hb hr (fun t ht hW => ⟨⟨I3 z_178, (z_178, th1_178, mn1_178, SG1_178, VL1_178, W1_178, s5), rfl, ⟨rfl, ⟨o_128, o_129, o_130⟩⟩, by rw [ht]; exact hP, va_K.moved hW.alike hK, hD⟩, hS.F ht⟩) hS.2.2 dX8_act_181
  have cut_105 : ∀ (g : Int) (s5 : Int), (((0 ≤ a ∧ a < mn) ∧ 0 ≤ b ∧ b < mn)) → ((g = 1 ∧ acGd VL act a b) ∨ (g = 0 ∧ ¬ acGd VL act a b)) → (acGd VL act a b → (act = 9 ∨ act = 10 → s5 = acSm SG VL b)) → ∀ (H : Heap) (locs : List Loc), va_P (dC, dI) vwCl [(am, .inr (0, [.int (I3 th), .int (I3 mn), .ref as_, .ref av, .ref aw, .int (I3 s5), .int (I3 wd), .int (I3 lp), .int (I3 mp), .int (I3 re)])), (as_, .inl (dA 0, 60, .inl (iA SG))), (av, .inl (dA 1, 960, .inr (.inl (lA VL)))), (aw, .inl (dA 1, 1024, .inr (.inl (lA wf))))] H → va_D A [(am, .inr (0, [.int (I3 th), .int (I3 mn), .ref as_, .ref av, .ref aw, .int (I3 s5), .int (I3 wd), .int (I3 lp), .int (I3 mp), .int (I3 re)])), (as_, .inl (dA 0, 60, .inl (iA SG))), (av, .inl (dA 1, 960, .inr (.inl (lA VL)))), (aw, .inl (dA 1, 1024, .inr (.inl (lA wf))))] → va_S A s.heap H locs → ∀ (ls : Array Slot), lv_has ls 6 [(0, .ref am), (1, .int (I3 act)), (2, .int (I3 a)), (3, .int (I3 b))] → W p l e (headSpec (ws_ yX8_act cX8_act 6 (some .int)) ({ frames := 6, cells := 0, slots := 0, locals := 240 })).room s m ([.ref am, .int (I3 act), .int (I3 a), .int (I3 b)] : List Value).toArray below meth c H locs 0 0 (MQ below (QmetX8_act dC dI dA A am as_ av aw th mn sm wd lp mp re SG VL wf act a b) ([.ref am, .int (I3 act), .int (I3 a), .int (I3 b)] : List Value).toArray s 0 0 A) (F0 m 105 ls [.int (I3 g)]) := by
    intro g s5 hnum hg hsm H locs hP hD hS ls hl
    obtain ⟨hmn, hV, hAll⟩ := id hI
    have ha2 := hAll a (by omega) (by omega)
    have hb2 := hAll b (by omega) (by omega)
    have i_act : In3 act := hact3
    have i_a : In3 (SG a) := ⟨by omega, by omega⟩
    have i_b : In3 (SG b) := ⟨by omega, by omega⟩
    refine lv_istore (lv' := [(4, .int (I3 g)), (0, .ref am), (1, .int (I3 act)), (2, .int (I3 a)), (3, .int (I3 b))]) hx hb dX8_act_105 hl (by decide) rfl (fun ls hl => ?_)
    refine lv_iload hx hb dX8_act_107 (lv_at hl 0 rfl) ?_
    refine ix_if_ne (tgt := 118) hx hb (by first | assumption | decide | (constructor <;> omega)) dX8_act_109 (by decide) (fun c_109 => ?_) (fun c_109 => ?_)
    · skip
      have hgd : acGd VL act a b := by rcases hg with ⟨h1, h2⟩ | ⟨h1, h2⟩; exact h2; omega
      have hsm2 := hsm hgd
      refine lv_iload_n hx hb dX8_act_118 rfl (lv_at hl 2 rfl) ?_
      refine lv_iconst (v := I3 (3)) hx hb dX8_act_119 rfl ?_
      refine ix_icmp_lt (tgt := 138) hx hb (by first | assumption | decide | (constructor <;> omega)) (by first | assumption | decide | (constructor <;> omega)) dX8_act_120 (by decide) (fun c_120 => ?_) (fun c_120 => ?_)
      · skip
        refine lv_iload_n hx hb dX8_act_138 rfl (lv_at hl 2 rfl) ?_
        refine lv_bipush (v := I3 (9)) hx hb dX8_act_139 (by decide) ?_
        refine ix_icmp_ne (tgt := 166) hx hb (by first | assumption | decide | (constructor <;> omega)) (by first | assumption | decide | (constructor <;> omega)) dX8_act_141 (by decide) (fun c_141 => ?_) (fun c_141 => ?_)
        · skip
          have e_131 : ((0 ≤ a ∧ a < mn) ∧ 0 ≤ b ∧ b < mn) := by first | assumption | omega | (constructor <;> omega)
          have e_132 : acGd VL act a b := by exact hgd
          have e_133 : ¬ acB3 SG VL act a b := by intro hb; rcases hb with ⟨q1, q2, q3⟩ | ⟨q1, q2, q3⟩; omega; (have hs := hsm hgd (Or.inl q1)); omega
          have e_134 : (act = 9 ∨ act = 10 → s5 = acSm SG VL b) := by exact hsm hgd
          exact cut_166 s5 e_131 e_132 e_133 e_134 _ _ hP hD hS ls (lv_sub hl [1, 2, 3, 4] rfl)
        · skip
          refine lv_aload_n hx hb dX8_act_144 rfl (lv_at hl 1 rfl) ?_
          refine va_get (D := (dC, dI)) (ci := 0) (v := .int (I3 s5)) (C := RX8) (T := TX8) (N := 10) hx hb hts in_X8 hown hK hP 0 rfl rfl 5 (by decide) (hts _ q918) (fun _ h9 => h9) rfl dX8_act_145 ?_
          refine ix_if_ge (tgt := 166) hx hb (by have q := hsm2 (Or.inl (by assumption)); have q2 := (hgd.2.2.1 (by assumption)).2; have r := acSm_r (M := 300) hb2.1 q2; constructor <;> omega) dX8_act_148 (by decide) (fun c_148 => ?_) (fun c_148 => ?_)
          · skip
            have e_135 : ((0 ≤ a ∧ a < mn) ∧ 0 ≤ b ∧ b < mn) := by first | assumption | omega | (constructor <;> omega)
            have e_136 : acGd VL act a b := by exact hgd
            have e_137 : ¬ acB3 SG VL act a b := by intro hb; rcases hb with ⟨q1, q2, q3⟩ | ⟨q1, q2, q3⟩; omega; (have hs := hsm hgd (Or.inl q1)); omega
            have e_138 : (act = 9 ∨ act = 10 → s5 = acSm SG VL b) := by exact hsm hgd
            exact cut_166 s5 e_135 e_136 e_137 e_138 _ _ hP hD hS ls (lv_sub hl [1, 2, 3, 4] rfl)
          · skip
            refine lv_aload_n hx hb dX8_act_151 rfl (lv_at hl 1 rfl) ?_
            refine va_get (D := (dC, dI)) (ci := 0) (v := .ref as_) (C := RX8) (T := TX8) (N := 10) hx hb hts in_X8 hown hK hP 0 rfl rfl 2 (by decide) (hts _ q915) (fun _ h9 => h9) rfl dX8_act_152 ?_
            refine lv_iload_n hx hb dX8_act_155 rfl (lv_at hl 3 rfl) ?_
            refine ix_iald hx hb hK hP 1 0 rfl rfl (Nat.le_of_ble_eq_true rfl) (by omega) dX8_act_156 ?_
            refine ix_if_ne (tgt := 166) hx hb (by first | assumption | decide | (constructor <;> omega)) dX8_act_157 (by decide) (fun c_157 => ?_) (fun c_157 => ?_)
            · skip
              have e_139 : ((0 ≤ a ∧ a < mn) ∧ 0 ≤ b ∧ b < mn) := by first | assumption | omega | (constructor <;> omega)
              have e_140 : acGd VL act a b := by exact hgd
              have e_141 : ¬ acB3 SG VL act a b := by intro hb; rcases hb with ⟨q1, q2, q3⟩ | ⟨q1, q2, q3⟩; omega; (have hs := hsm hgd (Or.inl q1)); omega
              have e_142 : (act = 9 ∨ act = 10 → s5 = acSm SG VL b) := by exact hsm hgd
              exact cut_166 s5 e_139 e_140 e_141 e_142 _ _ hP hD hS ls (lv_sub hl [1, 2, 3, 4] rfl)
            · skip
              refine lv_aload_n hx hb dX8_act_160 rfl (lv_at hl 1 rfl) ?_
              refine lv_iconst (v := I3 (3)) hx hb dX8_act_161 rfl ?_
              have h_143 : In3 (3 : Int) := by first | assumption | omega | (constructor <;> omega)
              have hPc := hP.sub (ws' := [(am, .inr (0, [.int (I3 th), .int (I3 mn), .ref as_, .ref av, .ref aw, .int (I3 s5), .int (I3 wd), .int (I3 lp), .int (I3 mp), .int (I3 re)])), (as_, .inl (dA 0, 60, .inl (iA SG))), (av, .inl (dA 1, 960, .inr (.inl (lA VL)))), (aw, .inl (dA 1, 1024, .inr (.inl (lA wf))))]) [0, 1, 2, 3] rfl
              have hDc := hD.sub (ws' := [(am, .inr (0, [.int (I3 th), .int (I3 mn), .ref as_, .ref av, .ref aw, .int (I3 s5), .int (I3 wd), .int (I3 lp), .int (I3 mp), .int (I3 re)])), (as_, .inl (dA 0, 60, .inl (iA SG))), (av, .inl (dA 1, 960, .inr (.inl (lA VL)))), (aw, .inl (dA 1, 1024, .inr (.inl (lA wf))))]) [0, 1, 2, 3] (by decide) rfl
              have hFc := va_free (wc := [(am, .inr (0, [.int (I3 th), .int (I3 mn), .ref as_, .ref av, .ref aw, .int (I3 s5), .int (I3 wd), .int (I3 lp), .int (I3 mp), .int (I3 re)])), (as_, .inl (dA 0, 60, .inl (iA SG))), (av, .inl (dA 1, 960, .inr (.inl (lA VL)))), (aw, .inl (dA 1, 1024, .inr (.inl (lA wf))))]) hD hS hA [0, 1, 2, 3] rfl
              refine va_calli (va_runV (As := [.int (I3 3)]) (rest := []) ⟨hx, hb, hml, hown, hts⟩ (metX8_fails l dC dI dA am as_ av aw H.size th mn s5 wd lp mp re SG VL wf 3 h_143) (cwV 1 hts (lw_V q1016 q1018 qs34 q66 q1019) rfl rfl rfl (by decide +kernel) ⟨Nat.le_of_ble_eq_true rfl, Nat.le_of_ble_eq_true rfl⟩) ⟨fun a U g mk q => by obtain ⟨q0, q1, qP, qK, qD⟩ := q; exact ⟨q0, q1, qP, va_K.moved (u := U) (U := U.calling g mk a) (Vm.Alike.refl U.vm) qK, qD⟩, va_recv hK hPc (ci := 0) (q0 := 0) rfl rfl, fun U hU hW => ⟨rfl, by rw [hU], by rw [hU]; exact hPc, va_K.moved hW.alike hK, hDc.weaken (fun _ _ _ _ => trivial)⟩⟩ rfl rfl hl.1 rfl (lv_room (Nat.le_of_ble_eq_true rfl)) dX8_act_162 ⟨Nat.le_of_ble_eq_true rfl, Nat.le_of_ble_eq_true rfl⟩) hS (fun q _ h => hFc q h) hFc (fun r_162 u t H1 locs ht hvm hw hB hz1 hk1 hS => ?_)
              obtain ⟨z_162, th1_162⟩ := u
              obtain ⟨rfl, p0_162, p1_162⟩ : r_162 = I3 z_162 ∧ (z_162 = 0) ∧ (th1_162 = (3 : Int)) := hw
              obtain ⟨hP1, hK1, hD1⟩ := hB
              rw [ht] at hP1
              obtain ⟨hP, hD⟩ := va_join (wr := []) (w1 := [(am, .inr (0, [.int (I3 th1_162), .int (I3 mn), .ref as_, .ref av, .ref aw, .int (I3 s5), .int (I3 wd), .int (I3 lp), .int (I3 mp), .int (I3 re)])), (as_, .inl (dA 0, 60, .inl (iA SG))), (av, .inl (dA 1, 960, .inr (.inl (lA VL)))), (aw, .inl (dA 1, 1024, .inr (.inl (lA wf))))]) hP hD [0, 1, 2, 3] [] rfl rfl (by decide) (by decide) hk1 hFc hP1 hD1
              generalize H1 = H at hP hS ⊢
              have hP : va_P (dC, dI) vwCl [(am, .inr (0, [.int (I3 th1_162), .int (I3 mn), .ref as_, .ref av, .ref aw, .int (I3 s5), .int (I3 wd), .int (I3 lp), .int (I3 mp), .int (I3 re)])), (as_, .inl (dA 0, 60, .inl (iA SG))), (av, .inl (dA 1, 960, .inr (.inl (lA VL)))), (aw, .inl (dA 1, 1024, .inr (.inl (lA wf))))] H := hP
              have hD : va_D A [(am, .inr (0, [.int (I3 th1_162), .int (I3 mn), .ref as_, .ref av, .ref aw, .int (I3 s5), .int (I3 wd), .int (I3 lp), .int (I3 mp), .int (I3 re)])), (as_, .inl (dA 0, 60, .inl (iA SG))), (av, .inl (dA 1, 960, .inr (.inl (lA VL)))), (aw, .inl (dA 1, 1024, .inr (.inl (lA wf))))] := hD
              have o_144 : Dg wf := by first | assumption | omega | (constructor <;> omega)
              have o_145 : MI mn SG VL := by exact hI
              have o_146 : AcR mn SG VL act a b z_162 th1_162 mn SG VL := by exact AcR_3 hnum hgd (by first | exact Or.inl ⟨by omega, by omega, by omega⟩ | (have hs := hsm2 (Or.inl (show act = 9 by omega)); exact Or.inr ⟨by omega, by omega, by omega⟩)) ⟨p0_162, p1_162, rfl, rfl, rfl⟩
              exact W.iret (v := I3 z_162) hx hb hr (fun t ht hW => ⟨⟨I3 z_162, (z_162, th1_162, mn, SG, VL, wf, s5), rfl, ⟨rfl, ⟨o_144, o_145, o_146⟩⟩, by rw [ht]; exact hP, va_K.moved hW.alike hK, hD⟩, hS.F ht⟩) hS.2.2 dX8_act_165
      · skip
        refine lv_iload_n hx hb dX8_act_123 rfl (lv_at hl 2 rfl) ?_
        refine lv_bipush (v := I3 (7)) hx hb dX8_act_124 (by decide) ?_
        refine ix_icmp_gt (tgt := 138) hx hb (by first | assumption | decide | (constructor <;> omega)) (by first | assumption | decide | (constructor <;> omega)) dX8_act_126 (by decide) (fun c_126 => ?_) (fun c_126 => ?_)
        · skip
          refine lv_iload_n hx hb dX8_act_138 rfl (lv_at hl 2 rfl) ?_
          refine lv_bipush (v := I3 (9)) hx hb dX8_act_139 (by decide) ?_
          refine ix_icmp_ne (tgt := 166) hx hb (by first | assumption | decide | (constructor <;> omega)) (by first | assumption | decide | (constructor <;> omega)) dX8_act_141 (by decide) (fun c_141 => ?_) (fun c_141 => ?_)
          · skip
            have e_147 : ((0 ≤ a ∧ a < mn) ∧ 0 ≤ b ∧ b < mn) := by first | assumption | omega | (constructor <;> omega)
            have e_148 : acGd VL act a b := by exact hgd
            have e_149 : ¬ acB3 SG VL act a b := by intro hb; rcases hb with ⟨q1, q2, q3⟩ | ⟨q1, q2, q3⟩; omega; (have hs := hsm hgd (Or.inl q1)); omega
            have e_150 : (act = 9 ∨ act = 10 → s5 = acSm SG VL b) := by exact hsm hgd
            exact cut_166 s5 e_147 e_148 e_149 e_150 _ _ hP hD hS ls (lv_sub hl [1, 2, 3, 4] rfl)
          · skip
            refine lv_aload_n hx hb dX8_act_144 rfl (lv_at hl 1 rfl) ?_
            refine va_get (D := (dC, dI)) (ci := 0) (v := .int (I3 s5)) (C := RX8) (T := TX8) (N := 10) hx hb hts in_X8 hown hK hP 0 rfl rfl 5 (by decide) (hts _ q918) (fun _ h9 => h9) rfl dX8_act_145 ?_
            refine ix_if_ge (tgt := 166) hx hb (by have q := hsm2 (Or.inl (by assumption)); have q2 := (hgd.2.2.1 (by assumption)).2; have r := acSm_r (M := 300) hb2.1 q2; constructor <;> omega) dX8_act_148 (by decide) (fun c_148 => ?_) (fun c_148 => ?_)
            · skip
              have e_151 : ((0 ≤ a ∧ a < mn) ∧ 0 ≤ b ∧ b < mn) := by first | assumption | omega | (constructor <;> omega)
              have e_152 : acGd VL act a b := by exact hgd
              have e_153 : ¬ acB3 SG VL act a b := by intro hb; rcases hb with ⟨q1, q2, q3⟩ | ⟨q1, q2, q3⟩; omega; (have hs := hsm hgd (Or.inl q1)); omega
              have e_154 : (act = 9 ∨ act = 10 → s5 = acSm SG VL b) := by exact hsm hgd
              exact cut_166 s5 e_151 e_152 e_153 e_154 _ _ hP hD hS ls (lv_sub hl [1, 2, 3, 4] rfl)
            · skip
              refine lv_aload_n hx hb dX8_act_151 rfl (lv_at hl 1 rfl) ?_
              refine va_get (D := (dC, dI)) (ci := 0) (v := .ref as_) (C := RX8) (T := TX8) (N := 10) hx hb hts in_X8 hown hK hP 0 rfl rfl 2 (by decide) (hts _ q915) (fun _ h9 => h9) rfl dX8_act_152 ?_
              refine lv_iload_n hx hb dX8_act_155 rfl (lv_at hl 3 rfl) ?_
              refine ix_iald hx hb hK hP 1 0 rfl rfl (Nat.le_of_ble_eq_true rfl) (by omega) dX8_act_156 ?_
              refine ix_if_ne (tgt := 166) hx hb (by first | assumption | decide | (constructor <;> omega)) dX8_act_157 (by decide) (fun c_157 => ?_) (fun c_157 => ?_)
              · skip
                have e_155 : ((0 ≤ a ∧ a < mn) ∧ 0 ≤ b ∧ b < mn) := by first | assumption | omega | (constructor <;> omega)
                have e_156 : acGd VL act a b := by exact hgd
                have e_157 : ¬ acB3 SG VL act a b := by intro hb; rcases hb with ⟨q1, q2, q3⟩ | ⟨q1, q2, q3⟩; omega; (have hs := hsm hgd (Or.inl q1)); omega
                have e_158 : (act = 9 ∨ act = 10 → s5 = acSm SG VL b) := by exact hsm hgd
                exact cut_166 s5 e_155 e_156 e_157 e_158 _ _ hP hD hS ls (lv_sub hl [1, 2, 3, 4] rfl)
              · skip
                refine lv_aload_n hx hb dX8_act_160 rfl (lv_at hl 1 rfl) ?_
                refine lv_iconst (v := I3 (3)) hx hb dX8_act_161 rfl ?_
                have h_159 : In3 (3 : Int) := by first | assumption | omega | (constructor <;> omega)
                have hPc := hP.sub (ws' := [(am, .inr (0, [.int (I3 th), .int (I3 mn), .ref as_, .ref av, .ref aw, .int (I3 s5), .int (I3 wd), .int (I3 lp), .int (I3 mp), .int (I3 re)])), (as_, .inl (dA 0, 60, .inl (iA SG))), (av, .inl (dA 1, 960, .inr (.inl (lA VL)))), (aw, .inl (dA 1, 1024, .inr (.inl (lA wf))))]) [0, 1, 2, 3] rfl
                have hDc := hD.sub (ws' := [(am, .inr (0, [.int (I3 th), .int (I3 mn), .ref as_, .ref av, .ref aw, .int (I3 s5), .int (I3 wd), .int (I3 lp), .int (I3 mp), .int (I3 re)])), (as_, .inl (dA 0, 60, .inl (iA SG))), (av, .inl (dA 1, 960, .inr (.inl (lA VL)))), (aw, .inl (dA 1, 1024, .inr (.inl (lA wf))))]) [0, 1, 2, 3] (by decide) rfl
                have hFc := va_free (wc := [(am, .inr (0, [.int (I3 th), .int (I3 mn), .ref as_, .ref av, .ref aw, .int (I3 s5), .int (I3 wd), .int (I3 lp), .int (I3 mp), .int (I3 re)])), (as_, .inl (dA 0, 60, .inl (iA SG))), (av, .inl (dA 1, 960, .inr (.inl (lA VL)))), (aw, .inl (dA 1, 1024, .inr (.inl (lA wf))))]) hD hS hA [0, 1, 2, 3] rfl
                refine va_calli (va_runV (As := [.int (I3 3)]) (rest := []) ⟨hx, hb, hml, hown, hts⟩ (metX8_fails l dC dI dA am as_ av aw H.size th mn s5 wd lp mp re SG VL wf 3 h_159) (cwV 1 hts (lw_V q1016 q1018 qs34 q66 q1019) rfl rfl rfl (by decide +kernel) ⟨Nat.le_of_ble_eq_true rfl, Nat.le_of_ble_eq_true rfl⟩) ⟨fun a U g mk q => by obtain ⟨q0, q1, qP, qK, qD⟩ := q; exact ⟨q0, q1, qP, va_K.moved (u := U) (U := U.calling g mk a) (Vm.Alike.refl U.vm) qK, qD⟩, va_recv hK hPc (ci := 0) (q0 := 0) rfl rfl, fun U hU hW => ⟨rfl, by rw [hU], by rw [hU]; exact hPc, va_K.moved hW.alike hK, hDc.weaken (fun _ _ _ _ => trivial)⟩⟩ rfl rfl hl.1 rfl (lv_room (Nat.le_of_ble_eq_true rfl)) dX8_act_162 ⟨Nat.le_of_ble_eq_true rfl, Nat.le_of_ble_eq_true rfl⟩) hS (fun q _ h => hFc q h) hFc (fun r_162 u t H1 locs ht hvm hw hB hz1 hk1 hS => ?_)
                obtain ⟨z_162, th1_162⟩ := u
                obtain ⟨rfl, p0_162, p1_162⟩ : r_162 = I3 z_162 ∧ (z_162 = 0) ∧ (th1_162 = (3 : Int)) := hw
                obtain ⟨hP1, hK1, hD1⟩ := hB
                rw [ht] at hP1
                obtain ⟨hP, hD⟩ := va_join (wr := []) (w1 := [(am, .inr (0, [.int (I3 th1_162), .int (I3 mn), .ref as_, .ref av, .ref aw, .int (I3 s5), .int (I3 wd), .int (I3 lp), .int (I3 mp), .int (I3 re)])), (as_, .inl (dA 0, 60, .inl (iA SG))), (av, .inl (dA 1, 960, .inr (.inl (lA VL)))), (aw, .inl (dA 1, 1024, .inr (.inl (lA wf))))]) hP hD [0, 1, 2, 3] [] rfl rfl (by decide) (by decide) hk1 hFc hP1 hD1
                generalize H1 = H at hP hS ⊢
                have hP : va_P (dC, dI) vwCl [(am, .inr (0, [.int (I3 th1_162), .int (I3 mn), .ref as_, .ref av, .ref aw, .int (I3 s5), .int (I3 wd), .int (I3 lp), .int (I3 mp), .int (I3 re)])), (as_, .inl (dA 0, 60, .inl (iA SG))), (av, .inl (dA 1, 960, .inr (.inl (lA VL)))), (aw, .inl (dA 1, 1024, .inr (.inl (lA wf))))] H := hP
                have hD : va_D A [(am, .inr (0, [.int (I3 th1_162), .int (I3 mn), .ref as_, .ref av, .ref aw, .int (I3 s5), .int (I3 wd), .int (I3 lp), .int (I3 mp), .int (I3 re)])), (as_, .inl (dA 0, 60, .inl (iA SG))), (av, .inl (dA 1, 960, .inr (.inl (lA VL)))), (aw, .inl (dA 1, 1024, .inr (.inl (lA wf))))] := hD
                have o_160 : Dg wf := by first | assumption | omega | (constructor <;> omega)
                have o_161 : MI mn SG VL := by exact hI
                have o_162 : AcR mn SG VL act a b z_162 th1_162 mn SG VL := by exact AcR_3 hnum hgd (by first | exact Or.inl ⟨by omega, by omega, by omega⟩ | (have hs := hsm2 (Or.inl (show act = 9 by omega)); exact Or.inr ⟨by omega, by omega, by omega⟩)) ⟨p0_162, p1_162, rfl, rfl, rfl⟩
                exact W.iret (v := I3 z_162) hx hb hr (fun t ht hW => ⟨⟨I3 z_162, (z_162, th1_162, mn, SG, VL, wf, s5), rfl, ⟨rfl, ⟨o_160, o_161, o_162⟩⟩, by rw [ht]; exact hP, va_K.moved hW.alike hK, hD⟩, hS.F ht⟩) hS.2.2 dX8_act_165
        · skip
          refine lv_aload_n hx hb dX8_act_129 rfl (lv_at hl 1 rfl) ?_
          refine va_get (D := (dC, dI)) (ci := 0) (v := .ref as_) (C := RX8) (T := TX8) (N := 10) hx hb hts in_X8 hown hK hP 0 rfl rfl 2 (by decide) (hts _ q915) (fun _ h9 => h9) rfl dX8_act_130 ?_
          refine lv_iload_n hx hb dX8_act_133 rfl (lv_at hl 4 rfl) ?_
          refine ix_iald hx hb hK hP 1 0 rfl rfl (Nat.le_of_ble_eq_true rfl) (by omega) dX8_act_134 ?_
          refine ix_if_eq (tgt := 160) hx hb (by first | assumption | decide | (constructor <;> omega)) dX8_act_135 (by decide) (fun c_135 => ?_) (fun c_135 => ?_)
          · skip
            refine lv_aload_n hx hb dX8_act_160 rfl (lv_at hl 1 rfl) ?_
            refine lv_iconst (v := I3 (3)) hx hb dX8_act_161 rfl ?_
            have h_163 : In3 (3 : Int) := by first | assumption | omega | (constructor <;> omega)
            have hPc := hP.sub (ws' := [(am, .inr (0, [.int (I3 th), .int (I3 mn), .ref as_, .ref av, .ref aw, .int (I3 s5), .int (I3 wd), .int (I3 lp), .int (I3 mp), .int (I3 re)])), (as_, .inl (dA 0, 60, .inl (iA SG))), (av, .inl (dA 1, 960, .inr (.inl (lA VL)))), (aw, .inl (dA 1, 1024, .inr (.inl (lA wf))))]) [0, 1, 2, 3] rfl
            have hDc := hD.sub (ws' := [(am, .inr (0, [.int (I3 th), .int (I3 mn), .ref as_, .ref av, .ref aw, .int (I3 s5), .int (I3 wd), .int (I3 lp), .int (I3 mp), .int (I3 re)])), (as_, .inl (dA 0, 60, .inl (iA SG))), (av, .inl (dA 1, 960, .inr (.inl (lA VL)))), (aw, .inl (dA 1, 1024, .inr (.inl (lA wf))))]) [0, 1, 2, 3] (by decide) rfl
            have hFc := va_free (wc := [(am, .inr (0, [.int (I3 th), .int (I3 mn), .ref as_, .ref av, .ref aw, .int (I3 s5), .int (I3 wd), .int (I3 lp), .int (I3 mp), .int (I3 re)])), (as_, .inl (dA 0, 60, .inl (iA SG))), (av, .inl (dA 1, 960, .inr (.inl (lA VL)))), (aw, .inl (dA 1, 1024, .inr (.inl (lA wf))))]) hD hS hA [0, 1, 2, 3] rfl
            refine va_calli (va_runV (As := [.int (I3 3)]) (rest := []) ⟨hx, hb, hml, hown, hts⟩ (metX8_fails l dC dI dA am as_ av aw H.size th mn s5 wd lp mp re SG VL wf 3 h_163) (cwV 1 hts (lw_V q1016 q1018 qs34 q66 q1019) rfl rfl rfl (by decide +kernel) ⟨Nat.le_of_ble_eq_true rfl, Nat.le_of_ble_eq_true rfl⟩) ⟨fun a U g mk q => by obtain ⟨q0, q1, qP, qK, qD⟩ := q; exact ⟨q0, q1, qP, va_K.moved (u := U) (U := U.calling g mk a) (Vm.Alike.refl U.vm) qK, qD⟩, va_recv hK hPc (ci := 0) (q0 := 0) rfl rfl, fun U hU hW => ⟨rfl, by rw [hU], by rw [hU]; exact hPc, va_K.moved hW.alike hK, hDc.weaken (fun _ _ _ _ => trivial)⟩⟩ rfl rfl hl.1 rfl (lv_room (Nat.le_of_ble_eq_true rfl)) dX8_act_162 ⟨Nat.le_of_ble_eq_true rfl, Nat.le_of_ble_eq_true rfl⟩) hS (fun q _ h => hFc q h) hFc (fun r_162 u t H1 locs ht hvm hw hB hz1 hk1 hS => ?_)
            obtain ⟨z_162, th1_162⟩ := u
            obtain ⟨rfl, p0_162, p1_162⟩ : r_162 = I3 z_162 ∧ (z_162 = 0) ∧ (th1_162 = (3 : Int)) := hw
            obtain ⟨hP1, hK1, hD1⟩ := hB
            rw [ht] at hP1
            obtain ⟨hP, hD⟩ := va_join (wr := []) (w1 := [(am, .inr (0, [.int (I3 th1_162), .int (I3 mn), .ref as_, .ref av, .ref aw, .int (I3 s5), .int (I3 wd), .int (I3 lp), .int (I3 mp), .int (I3 re)])), (as_, .inl (dA 0, 60, .inl (iA SG))), (av, .inl (dA 1, 960, .inr (.inl (lA VL)))), (aw, .inl (dA 1, 1024, .inr (.inl (lA wf))))]) hP hD [0, 1, 2, 3] [] rfl rfl (by decide) (by decide) hk1 hFc hP1 hD1
            generalize H1 = H at hP hS ⊢
            have hP : va_P (dC, dI) vwCl [(am, .inr (0, [.int (I3 th1_162), .int (I3 mn), .ref as_, .ref av, .ref aw, .int (I3 s5), .int (I3 wd), .int (I3 lp), .int (I3 mp), .int (I3 re)])), (as_, .inl (dA 0, 60, .inl (iA SG))), (av, .inl (dA 1, 960, .inr (.inl (lA VL)))), (aw, .inl (dA 1, 1024, .inr (.inl (lA wf))))] H := hP
            have hD : va_D A [(am, .inr (0, [.int (I3 th1_162), .int (I3 mn), .ref as_, .ref av, .ref aw, .int (I3 s5), .int (I3 wd), .int (I3 lp), .int (I3 mp), .int (I3 re)])), (as_, .inl (dA 0, 60, .inl (iA SG))), (av, .inl (dA 1, 960, .inr (.inl (lA VL)))), (aw, .inl (dA 1, 1024, .inr (.inl (lA wf))))] := hD
            have o_164 : Dg wf := by first | assumption | omega | (constructor <;> omega)
            have o_165 : MI mn SG VL := by exact hI
            have o_166 : AcR mn SG VL act a b z_162 th1_162 mn SG VL := by exact AcR_3 hnum hgd (by first | exact Or.inl ⟨by omega, by omega, by omega⟩ | (have hs := hsm2 (Or.inl (show act = 9 by omega)); exact Or.inr ⟨by omega, by omega, by omega⟩)) ⟨p0_162, p1_162, rfl, rfl, rfl⟩
            exact W.iret (v := I3 z_162) hx hb hr (fun t ht hW => ⟨⟨I3 z_162, (z_162, th1_162, mn, SG, VL, wf, s5), rfl, ⟨rfl, ⟨o_164, o_165, o_166⟩⟩, by rw [ht]; exact hP, va_K.moved hW.alike hK, hD⟩, hS.F ht⟩) hS.2.2 dX8_act_165
          · skip
            refine lv_iload_n hx hb dX8_act_138 rfl (lv_at hl 2 rfl) ?_
            refine lv_bipush (v := I3 (9)) hx hb dX8_act_139 (by decide) ?_
            refine ix_icmp_ne (tgt := 166) hx hb (by first | assumption | decide | (constructor <;> omega)) (by first | assumption | decide | (constructor <;> omega)) dX8_act_141 (by decide) (fun c_141 => ?_) (fun c_141 => ?_)
            · skip
              have e_167 : ((0 ≤ a ∧ a < mn) ∧ 0 ≤ b ∧ b < mn) := by first | assumption | omega | (constructor <;> omega)
              have e_168 : acGd VL act a b := by exact hgd
              have e_169 : ¬ acB3 SG VL act a b := by intro hb; rcases hb with ⟨q1, q2, q3⟩ | ⟨q1, q2, q3⟩; omega; (have hs := hsm hgd (Or.inl q1)); omega
              have e_170 : (act = 9 ∨ act = 10 → s5 = acSm SG VL b) := by exact hsm hgd
              exact cut_166 s5 e_167 e_168 e_169 e_170 _ _ hP hD hS ls (lv_sub hl [1, 2, 3, 4] rfl)
            · skip
              refine lv_aload_n hx hb dX8_act_144 rfl (lv_at hl 1 rfl) ?_
              refine va_get (D := (dC, dI)) (ci := 0) (v := .int (I3 s5)) (C := RX8) (T := TX8) (N := 10) hx hb hts in_X8 hown hK hP 0 rfl rfl 5 (by decide) (hts _ q918) (fun _ h9 => h9) rfl dX8_act_145 ?_
              refine ix_if_ge (tgt := 166) hx hb (by have q := hsm2 (Or.inl (by assumption)); have q2 := (hgd.2.2.1 (by assumption)).2; have r := acSm_r (M := 300) hb2.1 q2; constructor <;> omega) dX8_act_148 (by decide) (fun c_148 => ?_) (fun c_148 => ?_)
              · skip
                have e_171 : ((0 ≤ a ∧ a < mn) ∧ 0 ≤ b ∧ b < mn) := by first | assumption | omega | (constructor <;> omega)
                have e_172 : acGd VL act a b := by exact hgd
                have e_173 : ¬ acB3 SG VL act a b := by intro hb; rcases hb with ⟨q1, q2, q3⟩ | ⟨q1, q2, q3⟩; omega; (have hs := hsm hgd (Or.inl q1)); omega
                have e_174 : (act = 9 ∨ act = 10 → s5 = acSm SG VL b) := by exact hsm hgd
                exact cut_166 s5 e_171 e_172 e_173 e_174 _ _ hP hD hS ls (lv_sub hl [1, 2, 3, 4] rfl)
              · skip
                refine lv_aload_n hx hb dX8_act_151 rfl (lv_at hl 1 rfl) ?_
                refine va_get (D := (dC, dI)) (ci := 0) (v := .ref as_) (C := RX8) (T := TX8) (N := 10) hx hb hts in_X8 hown hK hP 0 rfl rfl 2 (by decide) (hts _ q915) (fun _ h9 => h9) rfl dX8_act_152 ?_
                refine lv_iload_n hx hb dX8_act_155 rfl (lv_at hl 3 rfl) ?_
                refine ix_iald hx hb hK hP 1 0 rfl rfl (Nat.le_of_ble_eq_true rfl) (by omega) dX8_act_156 ?_
                refine ix_if_ne (tgt := 166) hx hb (by first | assumption | decide | (constructor <;> omega)) dX8_act_157 (by decide) (fun c_157 => ?_) (fun c_157 => ?_)
                · skip
                  have e_175 : ((0 ≤ a ∧ a < mn) ∧ 0 ≤ b ∧ b < mn) := by first | assumption | omega | (constructor <;> omega)
                  have e_176 : acGd VL act a b := by exact hgd
                  have e_177 : ¬ acB3 SG VL act a b := by intro hb; rcases hb with ⟨q1, q2, q3⟩ | ⟨q1, q2, q3⟩; omega; (have hs := hsm hgd (Or.inl q1)); omega
                  have e_178 : (act = 9 ∨ act = 10 → s5 = acSm SG VL b) := by exact hsm hgd
                  exact cut_166 s5 e_175 e_176 e_177 e_178 _ _ hP hD hS ls (lv_sub hl [1, 2, 3, 4] rfl)
                · skip
                  refine lv_aload_n hx hb dX8_act_160 rfl (lv_at hl 1 rfl) ?_
                  refine lv_iconst (v := I3 (3)) hx hb dX8_act_161 rfl ?_
                  have h_179 : In3 (3 : Int) := by first | assumption | omega | (constructor <;> omega)
                  have hPc := hP.sub (ws' := [(am, .inr (0, [.int (I3 th), .int (I3 mn), .ref as_, .ref av, .ref aw, .int (I3 s5), .int (I3 wd), .int (I3 lp), .int (I3 mp), .int (I3 re)])), (as_, .inl (dA 0, 60, .inl (iA SG))), (av, .inl (dA 1, 960, .inr (.inl (lA VL)))), (aw, .inl (dA 1, 1024, .inr (.inl (lA wf))))]) [0, 1, 2, 3] rfl
                  have hDc := hD.sub (ws' := [(am, .inr (0, [.int (I3 th), .int (I3 mn), .ref as_, .ref av, .ref aw, .int (I3 s5), .int (I3 wd), .int (I3 lp), .int (I3 mp), .int (I3 re)])), (as_, .inl (dA 0, 60, .inl (iA SG))), (av, .inl (dA 1, 960, .inr (.inl (lA VL)))), (aw, .inl (dA 1, 1024, .inr (.inl (lA wf))))]) [0, 1, 2, 3] (by decide) rfl
                  have hFc := va_free (wc := [(am, .inr (0, [.int (I3 th), .int (I3 mn), .ref as_, .ref av, .ref aw, .int (I3 s5), .int (I3 wd), .int (I3 lp), .int (I3 mp), .int (I3 re)])), (as_, .inl (dA 0, 60, .inl (iA SG))), (av, .inl (dA 1, 960, .inr (.inl (lA VL)))), (aw, .inl (dA 1, 1024, .inr (.inl (lA wf))))]) hD hS hA [0, 1, 2, 3] rfl
                  refine va_calli (va_runV (As := [.int (I3 3)]) (rest := []) ⟨hx, hb, hml, hown, hts⟩ (metX8_fails l dC dI dA am as_ av aw H.size th mn s5 wd lp mp re SG VL wf 3 h_179) (cwV 1 hts (lw_V q1016 q1018 qs34 q66 q1019) rfl rfl rfl (by decide +kernel) ⟨Nat.le_of_ble_eq_true rfl, Nat.le_of_ble_eq_true rfl⟩) ⟨fun a U g mk q => by obtain ⟨q0, q1, qP, qK, qD⟩ := q; exact ⟨q0, q1, qP, va_K.moved (u := U) (U := U.calling g mk a) (Vm.Alike.refl U.vm) qK, qD⟩, va_recv hK hPc (ci := 0) (q0 := 0) rfl rfl, fun U hU hW => ⟨rfl, by rw [hU], by rw [hU]; exact hPc, va_K.moved hW.alike hK, hDc.weaken (fun _ _ _ _ => trivial)⟩⟩ rfl rfl hl.1 rfl (lv_room (Nat.le_of_ble_eq_true rfl)) dX8_act_162 ⟨Nat.le_of_ble_eq_true rfl, Nat.le_of_ble_eq_true rfl⟩) hS (fun q _ h => hFc q h) hFc (fun r_162 u t H1 locs ht hvm hw hB hz1 hk1 hS => ?_)
                  obtain ⟨z_162, th1_162⟩ := u
                  obtain ⟨rfl, p0_162, p1_162⟩ : r_162 = I3 z_162 ∧ (z_162 = 0) ∧ (th1_162 = (3 : Int)) := hw
                  obtain ⟨hP1, hK1, hD1⟩ := hB
                  rw [ht] at hP1
                  obtain ⟨hP, hD⟩ := va_join (wr := []) (w1 := [(am, .inr (0, [.int (I3 th1_162), .int (I3 mn), .ref as_, .ref av, .ref aw, .int (I3 s5), .int (I3 wd), .int (I3 lp), .int (I3 mp), .int (I3 re)])), (as_, .inl (dA 0, 60, .inl (iA SG))), (av, .inl (dA 1, 960, .inr (.inl (lA VL)))), (aw, .inl (dA 1, 1024, .inr (.inl (lA wf))))]) hP hD [0, 1, 2, 3] [] rfl rfl (by decide) (by decide) hk1 hFc hP1 hD1
                  generalize H1 = H at hP hS ⊢
                  have hP : va_P (dC, dI) vwCl [(am, .inr (0, [.int (I3 th1_162), .int (I3 mn), .ref as_, .ref av, .ref aw, .int (I3 s5), .int (I3 wd), .int (I3 lp), .int (I3 mp), .int (I3 re)])), (as_, .inl (dA 0, 60, .inl (iA SG))), (av, .inl (dA 1, 960, .inr (.inl (lA VL)))), (aw, .inl (dA 1, 1024, .inr (.inl (lA wf))))] H := hP
                  have hD : va_D A [(am, .inr (0, [.int (I3 th1_162), .int (I3 mn), .ref as_, .ref av, .ref aw, .int (I3 s5), .int (I3 wd), .int (I3 lp), .int (I3 mp), .int (I3 re)])), (as_, .inl (dA 0, 60, .inl (iA SG))), (av, .inl (dA 1, 960, .inr (.inl (lA VL)))), (aw, .inl (dA 1, 1024, .inr (.inl (lA wf))))] := hD
                  have o_180 : Dg wf := by first | assumption | omega | (constructor <;> omega)
                  have o_181 : MI mn SG VL := by exact hI
                  have o_182 : AcR mn SG VL act a b z_162 th1_162 mn SG VL := by exact AcR_3 hnum hgd (by first | exact Or.inl ⟨by omega, by omega, by omega⟩ | (have hs := hsm2 (Or.inl (show act = 9 by omega)); exact Or.inr ⟨by omega, by omega, by omega⟩)) ⟨p0_162, p1_162, rfl, rfl, rfl⟩
                  exact W.iret (v := I3 z_162) hx hb hr (fun t ht hW => ⟨⟨I3 z_162, (z_162, th1_162, mn, SG, VL, wf, s5), rfl, ⟨rfl, ⟨o_180, o_181, o_182⟩⟩, by rw [ht]; exact hP, va_K.moved hW.alike hK, hD⟩, hS.F ht⟩) hS.2.2 dX8_act_165
    · skip
      refine lv_aload_n hx hb dX8_act_112 rfl (lv_at hl 1 rfl) ?_
      refine lv_iconst (v := I3 (2)) hx hb dX8_act_113 rfl ?_
      have h_183 : In3 (2 : Int) := by first | assumption | omega | (constructor <;> omega)
      have hPc := hP.sub (ws' := [(am, .inr (0, [.int (I3 th), .int (I3 mn), .ref as_, .ref av, .ref aw, .int (I3 s5), .int (I3 wd), .int (I3 lp), .int (I3 mp), .int (I3 re)])), (as_, .inl (dA 0, 60, .inl (iA SG))), (av, .inl (dA 1, 960, .inr (.inl (lA VL)))), (aw, .inl (dA 1, 1024, .inr (.inl (lA wf))))]) [0, 1, 2, 3] rfl
      have hDc := hD.sub (ws' := [(am, .inr (0, [.int (I3 th), .int (I3 mn), .ref as_, .ref av, .ref aw, .int (I3 s5), .int (I3 wd), .int (I3 lp), .int (I3 mp), .int (I3 re)])), (as_, .inl (dA 0, 60, .inl (iA SG))), (av, .inl (dA 1, 960, .inr (.inl (lA VL)))), (aw, .inl (dA 1, 1024, .inr (.inl (lA wf))))]) [0, 1, 2, 3] (by decide) rfl
      have hFc := va_free (wc := [(am, .inr (0, [.int (I3 th), .int (I3 mn), .ref as_, .ref av, .ref aw, .int (I3 s5), .int (I3 wd), .int (I3 lp), .int (I3 mp), .int (I3 re)])), (as_, .inl (dA 0, 60, .inl (iA SG))), (av, .inl (dA 1, 960, .inr (.inl (lA VL)))), (aw, .inl (dA 1, 1024, .inr (.inl (lA wf))))]) hD hS hA [0, 1, 2, 3] rfl
      refine va_calli (va_runV (As := [.int (I3 2)]) (rest := []) ⟨hx, hb, hml, hown, hts⟩ (metX8_fails l dC dI dA am as_ av aw H.size th mn s5 wd lp mp re SG VL wf 2 h_183) (cwV 1 hts (lw_V q1016 q1018 qs34 q66 q1019) rfl rfl rfl (by decide +kernel) ⟨Nat.le_of_ble_eq_true rfl, Nat.le_of_ble_eq_true rfl⟩) ⟨fun a U g mk q => by obtain ⟨q0, q1, qP, qK, qD⟩ := q; exact ⟨q0, q1, qP, va_K.moved (u := U) (U := U.calling g mk a) (Vm.Alike.refl U.vm) qK, qD⟩, va_recv hK hPc (ci := 0) (q0 := 0) rfl rfl, fun U hU hW => ⟨rfl, by rw [hU], by rw [hU]; exact hPc, va_K.moved hW.alike hK, hDc.weaken (fun _ _ _ _ => trivial)⟩⟩ rfl rfl hl.1 rfl (lv_room (Nat.le_of_ble_eq_true rfl)) dX8_act_114 ⟨Nat.le_of_ble_eq_true rfl, Nat.le_of_ble_eq_true rfl⟩) hS (fun q _ h => hFc q h) hFc (fun r_114 u t H1 locs ht hvm hw hB hz1 hk1 hS => ?_)
      obtain ⟨z_114, th1_114⟩ := u
      obtain ⟨rfl, p0_114, p1_114⟩ : r_114 = I3 z_114 ∧ (z_114 = 0) ∧ (th1_114 = (2 : Int)) := hw
      obtain ⟨hP1, hK1, hD1⟩ := hB
      rw [ht] at hP1
      obtain ⟨hP, hD⟩ := va_join (wr := []) (w1 := [(am, .inr (0, [.int (I3 th1_114), .int (I3 mn), .ref as_, .ref av, .ref aw, .int (I3 s5), .int (I3 wd), .int (I3 lp), .int (I3 mp), .int (I3 re)])), (as_, .inl (dA 0, 60, .inl (iA SG))), (av, .inl (dA 1, 960, .inr (.inl (lA VL)))), (aw, .inl (dA 1, 1024, .inr (.inl (lA wf))))]) hP hD [0, 1, 2, 3] [] rfl rfl (by decide) (by decide) hk1 hFc hP1 hD1
      generalize H1 = H at hP hS ⊢
      have hP : va_P (dC, dI) vwCl [(am, .inr (0, [.int (I3 th1_114), .int (I3 mn), .ref as_, .ref av, .ref aw, .int (I3 s5), .int (I3 wd), .int (I3 lp), .int (I3 mp), .int (I3 re)])), (as_, .inl (dA 0, 60, .inl (iA SG))), (av, .inl (dA 1, 960, .inr (.inl (lA VL)))), (aw, .inl (dA 1, 1024, .inr (.inl (lA wf))))] H := hP
      have hD : va_D A [(am, .inr (0, [.int (I3 th1_114), .int (I3 mn), .ref as_, .ref av, .ref aw, .int (I3 s5), .int (I3 wd), .int (I3 lp), .int (I3 mp), .int (I3 re)])), (as_, .inl (dA 0, 60, .inl (iA SG))), (av, .inl (dA 1, 960, .inr (.inl (lA VL)))), (aw, .inl (dA 1, 1024, .inr (.inl (lA wf))))] := hD
      have o_184 : Dg wf := by first | assumption | omega | (constructor <;> omega)
      have o_185 : MI mn SG VL := by exact hI
      have o_186 : AcR mn SG VL act a b z_114 th1_114 mn SG VL := by exact AcR_2 hnum (by rcases hg with ⟨h1, h2⟩ | ⟨h1, h2⟩; omega; exact h2) ⟨p0_114, p1_114, rfl, rfl, rfl⟩
      exact W.iret (v := I3 z_114) hx hb hr (fun t ht hW => ⟨⟨I3 z_114, (z_114, th1_114, mn, SG, VL, wf, s5), rfl, ⟨rfl, ⟨o_184, o_185, o_186⟩⟩, by rw [ht]; exact hP, va_K.moved hW.alike hK, hD⟩, hS.F ht⟩) hS.2.2 dX8_act_117
  have cut_83 : ∀ (s5 : Int), (((0 ≤ a ∧ a < mn) ∧ 0 ≤ b ∧ b < mn)) → (0 ≤ act ∧ act ≤ 12) → ((act = 8 → qv VL a = 1 ∧ qv VL b = 1)) → ((act = 9 → qv VL b = 1 ∧ ((pv VL b : Nat) : Int) ≤ 300)) → (act = 9 → s5 = acSm SG VL b) → ∀ (H : Heap) (locs : List Loc), va_P (dC, dI) vwCl [(am, .inr (0, [.int (I3 th), .int (I3 mn), .ref as_, .ref av, .ref aw, .int (I3 s5), .int (I3 wd), .int (I3 lp), .int (I3 mp), .int (I3 re)])), (as_, .inl (dA 0, 60, .inl (iA SG))), (av, .inl (dA 1, 960, .inr (.inl (lA VL)))), (aw, .inl (dA 1, 1024, .inr (.inl (lA wf))))] H → va_D A [(am, .inr (0, [.int (I3 th), .int (I3 mn), .ref as_, .ref av, .ref aw, .int (I3 s5), .int (I3 wd), .int (I3 lp), .int (I3 mp), .int (I3 re)])), (as_, .inl (dA 0, 60, .inl (iA SG))), (av, .inl (dA 1, 960, .inr (.inl (lA VL)))), (aw, .inl (dA 1, 1024, .inr (.inl (lA wf))))] → va_S A s.heap H locs → ∀ (ls : Array Slot), lv_has ls 6 [(0, .ref am), (1, .int (I3 act)), (2, .int (I3 a)), (3, .int (I3 b))] → W p l e (headSpec (ws_ yX8_act cX8_act 6 (some .int)) ({ frames := 6, cells := 0, slots := 0, locals := 240 })).room s m ([.ref am, .int (I3 act), .int (I3 a), .int (I3 b)] : List Value).toArray below meth c H locs 0 0 (MQ below (QmetX8_act dC dI dA A am as_ av aw th mn sm wd lp mp re SG VL wf act a b) ([.ref am, .int (I3 act), .int (I3 a), .int (I3 b)] : List Value).toArray s 0 0 A) (F0 m 83 ls []) := by
    intro s5 hnum hact h8 h9 hs9 H locs hP hD hS ls hl
    obtain ⟨hmn, hV, hAll⟩ := id hI
    have ha2 := hAll a (by omega) (by omega)
    have hb2 := hAll b (by omega) (by omega)
    have i_act : In3 act := hact3
    have i_a : In3 (SG a) := ⟨by omega, by omega⟩
    have i_b : In3 (SG b) := ⟨by omega, by omega⟩
    refine lv_iload_n hx hb dX8_act_83 rfl (lv_at hl 1 rfl) ?_
    refine lv_bipush (v := I3 (10)) hx hb dX8_act_84 (by decide) ?_
    refine ix_icmp_ne (tgt := 100) hx hb (by first | assumption | decide | (constructor <;> omega)) (by first | assumption | decide | (constructor <;> omega)) dX8_act_86 (by decide) (fun c_86 => ?_) (fun c_86 => ?_)
    · skip
      refine lv_iconst (v := I3 (1)) hx hb dX8_act_100 rfl ?_
      refine lv_goto (tgt := 105) hx hb dX8_act_101 (by decide) ?_
      have e_187 : ((0 ≤ a ∧ a < mn) ∧ 0 ≤ b ∧ b < mn) := by first | assumption | omega | (constructor <;> omega)
      have e_188 : ((1 : Int) = 1 ∧ acGd VL act a b) ∨ ((1 : Int) = 0 ∧ ¬ acGd VL act a b) := by exact Or.inl ⟨rfl, hact, h8, h9, fun q => absurd q (by omega)⟩
      have e_189 : acGd VL act a b → (act = 9 ∨ act = 10 → s5 = acSm SG VL b) := by intro h q; exact hs9 (by omega)
      exact cut_105 1 s5 e_187 e_188 e_189 _ _ hP hD hS ls (lv_sub hl [0, 1, 2, 3] rfl)
    · skip
      refine lv_aload_n hx hb dX8_act_89 rfl (lv_at hl 0 rfl) ?_
      refine lv_iload_n hx hb dX8_act_90 rfl (lv_at hl 3 rfl) ?_
      refine lv_sipush (v := I3 (600)) hx hb dX8_act_91 (by decide) ?_
      have h_190 : Dg VL := by first | assumption | omega | (constructor <;> omega)
      have h_191 : 0 ≤ b ∧ b < 60 := by first | assumption | omega | (constructor <;> omega)
      have h_192 : 0 ≤ (600 : Int) ∧ (600 : Int) < 2147483648 := by decide
      have hPc := hP.sub (ws' := [(am, .inr (0, [.int (I3 th), .int (I3 mn), .ref as_, .ref av, .ref aw, .int (I3 s5), .int (I3 wd), .int (I3 lp), .int (I3 mp), .int (I3 re)])), (as_, .inl (dA 0, 60, .inl (iA SG))), (av, .inl (dA 1, 960, .inr (.inl (lA VL)))), (aw, .inl (dA 1, 1024, .inr (.inl (lA wf))))]) [0, 1, 2, 3] rfl
      have hDc := hD.sub (ws' := [(am, .inr (0, [.int (I3 th), .int (I3 mn), .ref as_, .ref av, .ref aw, .int (I3 s5), .int (I3 wd), .int (I3 lp), .int (I3 mp), .int (I3 re)])), (as_, .inl (dA 0, 60, .inl (iA SG))), (av, .inl (dA 1, 960, .inr (.inl (lA VL)))), (aw, .inl (dA 1, 1024, .inr (.inl (lA wf))))]) [0, 1, 2, 3] (by decide) rfl
      have hFc := va_free (wc := [(am, .inr (0, [.int (I3 th), .int (I3 mn), .ref as_, .ref av, .ref aw, .int (I3 s5), .int (I3 wd), .int (I3 lp), .int (I3 mp), .int (I3 re)])), (as_, .inl (dA 0, 60, .inl (iA SG))), (av, .inl (dA 1, 960, .inr (.inl (lA VL)))), (aw, .inl (dA 1, 1024, .inr (.inl (lA wf))))]) hD hS hA [0, 1, 2, 3] rfl
      refine va_calli (va_runV (As := [.int (I3 b), .int (I3 600)]) (rest := []) ⟨hx, hb, hml, hown, hts⟩ (metX8_isSmall l dC dI dA am as_ av aw H.size th mn s5 wd lp mp re SG VL wf b 600 h_190 h_191 h_192) (cwV 2 hts (lw_V q1058 q1060 qs37 q66 q1061) rfl rfl rfl (by decide +kernel) ⟨Nat.le_of_ble_eq_true rfl, Nat.le_of_ble_eq_true rfl⟩) ⟨fun a U g mk q => by obtain ⟨q0, q1, qP, qK, qD⟩ := q; exact ⟨q0, q1, qP, va_K.moved (u := U) (U := U.calling g mk a) (Vm.Alike.refl U.vm) qK, qD⟩, va_recv hK hPc (ci := 0) (q0 := 0) rfl rfl, fun U hU hW => ⟨rfl, by rw [hU], by rw [hU]; exact hPc, va_K.moved hW.alike hK, hDc.weaken (fun _ _ _ _ => trivial)⟩⟩ rfl rfl hl.1 rfl (lv_room (Nat.le_of_ble_eq_true rfl)) dX8_act_94 ⟨Nat.le_of_ble_eq_true rfl, Nat.le_of_ble_eq_true rfl⟩) hS (fun q _ h => hFc q h) hFc (fun r_94 u t H1 locs ht hvm hw hB hz1 hk1 hS => ?_)
      obtain ⟨z_94, sm1_94⟩ := u
      obtain ⟨rfl, p0_94, p1_94⟩ : r_94 = I3 z_94 ∧ (z_94 = if qv VL b = 1 ∧ ((pv VL b : Nat) : Int) ≤ (600 : Int) then 1 else 0) ∧ (sm1_94 = if qv VL b = 1 ∧ ((pv VL b : Nat) : Int) ≤ (600 : Int) then SG b * ((pv VL b : Nat) : Int) else 0) := hw
      obtain ⟨hP1, hK1, hD1⟩ := hB
      rw [ht] at hP1
      obtain ⟨hP, hD⟩ := va_join (wr := []) (w1 := [(am, .inr (0, [.int (I3 th), .int (I3 mn), .ref as_, .ref av, .ref aw, .int (I3 sm1_94), .int (I3 wd), .int (I3 lp), .int (I3 mp), .int (I3 re)])), (as_, .inl (dA 0, 60, .inl (iA SG))), (av, .inl (dA 1, 960, .inr (.inl (lA VL)))), (aw, .inl (dA 1, 1024, .inr (.inl (lA wf))))]) hP hD [0, 1, 2, 3] [] rfl rfl (by decide) (by decide) hk1 hFc hP1 hD1
      generalize H1 = H at hP hS ⊢
      have hP : va_P (dC, dI) vwCl [(am, .inr (0, [.int (I3 th), .int (I3 mn), .ref as_, .ref av, .ref aw, .int (I3 sm1_94), .int (I3 wd), .int (I3 lp), .int (I3 mp), .int (I3 re)])), (as_, .inl (dA 0, 60, .inl (iA SG))), (av, .inl (dA 1, 960, .inr (.inl (lA VL)))), (aw, .inl (dA 1, 1024, .inr (.inl (lA wf))))] H := hP
      have hD : va_D A [(am, .inr (0, [.int (I3 th), .int (I3 mn), .ref as_, .ref av, .ref aw, .int (I3 sm1_94), .int (I3 wd), .int (I3 lp), .int (I3 mp), .int (I3 re)])), (as_, .inl (dA 0, 60, .inl (iA SG))), (av, .inl (dA 1, 960, .inr (.inl (lA VL)))), (aw, .inl (dA 1, 1024, .inr (.inl (lA wf))))] := hD
      have y_94 := b01 p0_94
      refine ix_if_eq (tgt := 104) hx hb (by first | assumption | decide | (constructor <;> omega)) dX8_act_97 (by decide) (fun c_97 => ?_) (fun c_97 => ?_)
      · skip
        refine lv_iconst (v := I3 (0)) hx hb dX8_act_104 rfl ?_
        have e_193 : ((0 ≤ a ∧ a < mn) ∧ 0 ≤ b ∧ b < mn) := by first | assumption | omega | (constructor <;> omega)
        have e_194 : ((0 : Int) = 1 ∧ acGd VL act a b) ∨ ((0 : Int) = 0 ∧ ¬ acGd VL act a b) := by exact Or.inr ⟨rfl, fun h => by have := h.2.2.2 (by omega); omega⟩
        have e_195 : acGd VL act a b → (act = 9 ∨ act = 10 → sm1_94 = acSm SG VL b) := by intro h; exact absurd h (fun h => by have := h.2.2.2 (by omega); omega)
        exact cut_105 0 sm1_94 e_193 e_194 e_195 _ _ hP hD hS ls (lv_sub hl [0, 1, 2, 3] rfl)
      · skip
        refine lv_iconst (v := I3 (1)) hx hb dX8_act_100 rfl ?_
        refine lv_goto (tgt := 105) hx hb dX8_act_101 (by decide) ?_
        have e_196 : ((0 ≤ a ∧ a < mn) ∧ 0 ≤ b ∧ b < mn) := by first | assumption | omega | (constructor <;> omega)
        have e_197 : ((1 : Int) = 1 ∧ acGd VL act a b) ∨ ((1 : Int) = 0 ∧ ¬ acGd VL act a b) := by exact Or.inl ⟨rfl, hact, h8, h9, fun q => by omega⟩
        have e_198 : acGd VL act a b → (act = 9 ∨ act = 10 → sm1_94 = acSm SG VL b) := by intro h q; rw [p1_94, if_pos (by omega)]
        exact cut_105 1 sm1_94 e_196 e_197 e_198 _ _ hP hD hS ls (lv_sub hl [0, 1, 2, 3] rfl)
  have cut_66 : (((0 ≤ a ∧ a < mn) ∧ 0 ≤ b ∧ b < mn)) → (0 ≤ act ∧ act ≤ 12) → ((act = 8 → qv VL a = 1 ∧ qv VL b = 1)) → ∀ (H : Heap) (locs : List Loc), va_P (dC, dI) vwCl [(am, .inr (0, [.int (I3 th), .int (I3 mn), .ref as_, .ref av, .ref aw, .int (I3 sm), .int (I3 wd), .int (I3 lp), .int (I3 mp), .int (I3 re)])), (as_, .inl (dA 0, 60, .inl (iA SG))), (av, .inl (dA 1, 960, .inr (.inl (lA VL)))), (aw, .inl (dA 1, 1024, .inr (.inl (lA wf))))] H → va_D A [(am, .inr (0, [.int (I3 th), .int (I3 mn), .ref as_, .ref av, .ref aw, .int (I3 sm), .int (I3 wd), .int (I3 lp), .int (I3 mp), .int (I3 re)])), (as_, .inl (dA 0, 60, .inl (iA SG))), (av, .inl (dA 1, 960, .inr (.inl (lA VL)))), (aw, .inl (dA 1, 1024, .inr (.inl (lA wf))))] → va_S A s.heap H locs → ∀ (ls : Array Slot), lv_has ls 6 [(0, .ref am), (1, .int (I3 act)), (2, .int (I3 a)), (3, .int (I3 b))] → W p l e (headSpec (ws_ yX8_act cX8_act 6 (some .int)) ({ frames := 6, cells := 0, slots := 0, locals := 240 })).room s m ([.ref am, .int (I3 act), .int (I3 a), .int (I3 b)] : List Value).toArray below meth c H locs 0 0 (MQ below (QmetX8_act dC dI dA A am as_ av aw th mn sm wd lp mp re SG VL wf act a b) ([.ref am, .int (I3 act), .int (I3 a), .int (I3 b)] : List Value).toArray s 0 0 A) (F0 m 66 ls []) := by
    intro  hnum hact h8 H locs hP hD hS ls hl
    obtain ⟨hmn, hV, hAll⟩ := id hI
    have ha2 := hAll a (by omega) (by omega)
    have hb2 := hAll b (by omega) (by omega)
    have i_act : In3 act := hact3
    have i_a : In3 (SG a) := ⟨by omega, by omega⟩
    have i_b : In3 (SG b) := ⟨by omega, by omega⟩
    refine lv_iload_n hx hb dX8_act_66 rfl (lv_at hl 1 rfl) ?_
    refine lv_bipush (v := I3 (9)) hx hb dX8_act_67 (by decide) ?_
    refine ix_icmp_ne (tgt := 83) hx hb (by first | assumption | decide | (constructor <;> omega)) (by first | assumption | decide | (constructor <;> omega)) dX8_act_69 (by decide) (fun c_69 => ?_) (fun c_69 => ?_)
    · skip
      have e_199 : ((0 ≤ a ∧ a < mn) ∧ 0 ≤ b ∧ b < mn) := by first | assumption | omega | (constructor <;> omega)
      have e_200 : 0 ≤ act ∧ act ≤ 12 := by first | assumption | omega | (constructor <;> omega)
      have e_201 : (act = 8 → qv VL a = 1 ∧ qv VL b = 1) := by first | assumption | omega | (constructor <;> omega)
      have e_202 : (act = 9 → qv VL b = 1 ∧ ((pv VL b : Nat) : Int) ≤ 300) := by intro q; omega
      have e_203 : act = 9 → sm = acSm SG VL b := by intro q; omega
      exact cut_83 sm e_199 e_200 e_201 e_202 e_203 _ _ hP hD hS ls (lv_sub hl [0, 1, 2, 3] rfl)
    · skip
      refine lv_aload_n hx hb dX8_act_72 rfl (lv_at hl 0 rfl) ?_
      refine lv_iload_n hx hb dX8_act_73 rfl (lv_at hl 3 rfl) ?_
      refine lv_sipush (v := I3 (300)) hx hb dX8_act_74 (by decide) ?_
      have h_204 : Dg VL := by first | assumption | omega | (constructor <;> omega)
      have h_205 : 0 ≤ b ∧ b < 60 := by first | assumption | omega | (constructor <;> omega)
      have h_206 : 0 ≤ (300 : Int) ∧ (300 : Int) < 2147483648 := by decide
      have hPc := hP.sub (ws' := [(am, .inr (0, [.int (I3 th), .int (I3 mn), .ref as_, .ref av, .ref aw, .int (I3 sm), .int (I3 wd), .int (I3 lp), .int (I3 mp), .int (I3 re)])), (as_, .inl (dA 0, 60, .inl (iA SG))), (av, .inl (dA 1, 960, .inr (.inl (lA VL)))), (aw, .inl (dA 1, 1024, .inr (.inl (lA wf))))]) [0, 1, 2, 3] rfl
      have hDc := hD.sub (ws' := [(am, .inr (0, [.int (I3 th), .int (I3 mn), .ref as_, .ref av, .ref aw, .int (I3 sm), .int (I3 wd), .int (I3 lp), .int (I3 mp), .int (I3 re)])), (as_, .inl (dA 0, 60, .inl (iA SG))), (av, .inl (dA 1, 960, .inr (.inl (lA VL)))), (aw, .inl (dA 1, 1024, .inr (.inl (lA wf))))]) [0, 1, 2, 3] (by decide) rfl
      have hFc := va_free (wc := [(am, .inr (0, [.int (I3 th), .int (I3 mn), .ref as_, .ref av, .ref aw, .int (I3 sm), .int (I3 wd), .int (I3 lp), .int (I3 mp), .int (I3 re)])), (as_, .inl (dA 0, 60, .inl (iA SG))), (av, .inl (dA 1, 960, .inr (.inl (lA VL)))), (aw, .inl (dA 1, 1024, .inr (.inl (lA wf))))]) hD hS hA [0, 1, 2, 3] rfl
      refine va_calli (va_runV (As := [.int (I3 b), .int (I3 300)]) (rest := []) ⟨hx, hb, hml, hown, hts⟩ (metX8_isSmall l dC dI dA am as_ av aw H.size th mn sm wd lp mp re SG VL wf b 300 h_204 h_205 h_206) (cwV 2 hts (lw_V q1058 q1060 qs37 q66 q1061) rfl rfl rfl (by decide +kernel) ⟨Nat.le_of_ble_eq_true rfl, Nat.le_of_ble_eq_true rfl⟩) ⟨fun a U g mk q => by obtain ⟨q0, q1, qP, qK, qD⟩ := q; exact ⟨q0, q1, qP, va_K.moved (u := U) (U := U.calling g mk a) (Vm.Alike.refl U.vm) qK, qD⟩, va_recv hK hPc (ci := 0) (q0 := 0) rfl rfl, fun U hU hW => ⟨rfl, by rw [hU], by rw [hU]; exact hPc, va_K.moved hW.alike hK, hDc.weaken (fun _ _ _ _ => trivial)⟩⟩ rfl rfl hl.1 rfl (lv_room (Nat.le_of_ble_eq_true rfl)) dX8_act_77 ⟨Nat.le_of_ble_eq_true rfl, Nat.le_of_ble_eq_true rfl⟩) hS (fun q _ h => hFc q h) hFc (fun r_77 u t H1 locs ht hvm hw hB hz1 hk1 hS => ?_)
      obtain ⟨z_77, sm1_77⟩ := u
      obtain ⟨rfl, p0_77, p1_77⟩ : r_77 = I3 z_77 ∧ (z_77 = if qv VL b = 1 ∧ ((pv VL b : Nat) : Int) ≤ (300 : Int) then 1 else 0) ∧ (sm1_77 = if qv VL b = 1 ∧ ((pv VL b : Nat) : Int) ≤ (300 : Int) then SG b * ((pv VL b : Nat) : Int) else 0) := hw
      obtain ⟨hP1, hK1, hD1⟩ := hB
      rw [ht] at hP1
      obtain ⟨hP, hD⟩ := va_join (wr := []) (w1 := [(am, .inr (0, [.int (I3 th), .int (I3 mn), .ref as_, .ref av, .ref aw, .int (I3 sm1_77), .int (I3 wd), .int (I3 lp), .int (I3 mp), .int (I3 re)])), (as_, .inl (dA 0, 60, .inl (iA SG))), (av, .inl (dA 1, 960, .inr (.inl (lA VL)))), (aw, .inl (dA 1, 1024, .inr (.inl (lA wf))))]) hP hD [0, 1, 2, 3] [] rfl rfl (by decide) (by decide) hk1 hFc hP1 hD1
      generalize H1 = H at hP hS ⊢
      have hP : va_P (dC, dI) vwCl [(am, .inr (0, [.int (I3 th), .int (I3 mn), .ref as_, .ref av, .ref aw, .int (I3 sm1_77), .int (I3 wd), .int (I3 lp), .int (I3 mp), .int (I3 re)])), (as_, .inl (dA 0, 60, .inl (iA SG))), (av, .inl (dA 1, 960, .inr (.inl (lA VL)))), (aw, .inl (dA 1, 1024, .inr (.inl (lA wf))))] H := hP
      have hD : va_D A [(am, .inr (0, [.int (I3 th), .int (I3 mn), .ref as_, .ref av, .ref aw, .int (I3 sm1_77), .int (I3 wd), .int (I3 lp), .int (I3 mp), .int (I3 re)])), (as_, .inl (dA 0, 60, .inl (iA SG))), (av, .inl (dA 1, 960, .inr (.inl (lA VL)))), (aw, .inl (dA 1, 1024, .inr (.inl (lA wf))))] := hD
      have y_77 := b01 p0_77
      refine ix_if_eq (tgt := 104) hx hb (by first | assumption | decide | (constructor <;> omega)) dX8_act_80 (by decide) (fun c_80 => ?_) (fun c_80 => ?_)
      · skip
        refine lv_iconst (v := I3 (0)) hx hb dX8_act_104 rfl ?_
        have e_207 : ((0 ≤ a ∧ a < mn) ∧ 0 ≤ b ∧ b < mn) := by first | assumption | omega | (constructor <;> omega)
        have e_208 : ((0 : Int) = 1 ∧ acGd VL act a b) ∨ ((0 : Int) = 0 ∧ ¬ acGd VL act a b) := by exact Or.inr ⟨rfl, fun h => by have := h.2.2.1 (by omega); omega⟩
        have e_209 : acGd VL act a b → (act = 9 ∨ act = 10 → sm1_77 = acSm SG VL b) := by intro h; exact absurd h (fun h => by have := h.2.2.1 (by omega); omega)
        exact cut_105 0 sm1_77 e_207 e_208 e_209 _ _ hP hD hS ls (lv_sub hl [0, 1, 2, 3] rfl)
      · skip
        have e_210 : ((0 ≤ a ∧ a < mn) ∧ 0 ≤ b ∧ b < mn) := by first | assumption | omega | (constructor <;> omega)
        have e_211 : 0 ≤ act ∧ act ≤ 12 := by first | assumption | omega | (constructor <;> omega)
        have e_212 : (act = 8 → qv VL a = 1 ∧ qv VL b = 1) := by first | assumption | omega | (constructor <;> omega)
        have e_213 : (act = 9 → qv VL b = 1 ∧ ((pv VL b : Nat) : Int) ≤ 300) := by intro q; omega
        have e_214 : act = 9 → sm1_77 = acSm SG VL b := by intro q; rw [p1_77, if_pos (by omega)]
        exact cut_83 sm1_77 e_210 e_211 e_212 e_213 e_214 _ _ hP hD hS ls (lv_sub hl [0, 1, 2, 3] rfl)
  have cut_37 : ∀ (g : Int), (((0 ≤ a ∧ a < mn) ∧ 0 ≤ b ∧ b < mn)) → ((g = 1 ∧ (0 ≤ act ∧ act ≤ 12)) ∨ (g = 0 ∧ ¬ (0 ≤ act ∧ act ≤ 12))) → ∀ (H : Heap) (locs : List Loc), va_P (dC, dI) vwCl [(am, .inr (0, [.int (I3 th), .int (I3 mn), .ref as_, .ref av, .ref aw, .int (I3 sm), .int (I3 wd), .int (I3 lp), .int (I3 mp), .int (I3 re)])), (as_, .inl (dA 0, 60, .inl (iA SG))), (av, .inl (dA 1, 960, .inr (.inl (lA VL)))), (aw, .inl (dA 1, 1024, .inr (.inl (lA wf))))] H → va_D A [(am, .inr (0, [.int (I3 th), .int (I3 mn), .ref as_, .ref av, .ref aw, .int (I3 sm), .int (I3 wd), .int (I3 lp), .int (I3 mp), .int (I3 re)])), (as_, .inl (dA 0, 60, .inl (iA SG))), (av, .inl (dA 1, 960, .inr (.inl (lA VL)))), (aw, .inl (dA 1, 1024, .inr (.inl (lA wf))))] → va_S A s.heap H locs → ∀ (ls : Array Slot), lv_has ls 6 [(0, .ref am), (1, .int (I3 act)), (2, .int (I3 a)), (3, .int (I3 b))] → W p l e (headSpec (ws_ yX8_act cX8_act 6 (some .int)) ({ frames := 6, cells := 0, slots := 0, locals := 240 })).room s m ([.ref am, .int (I3 act), .int (I3 a), .int (I3 b)] : List Value).toArray below meth c H locs 0 0 (MQ below (QmetX8_act dC dI dA A am as_ av aw th mn sm wd lp mp re SG VL wf act a b) ([.ref am, .int (I3 act), .int (I3 a), .int (I3 b)] : List Value).toArray s 0 0 A) (F0 m 37 ls [.int (I3 g)]) := by
    intro g hnum hg H locs hP hD hS ls hl
    obtain ⟨hmn, hV, hAll⟩ := id hI
    have ha2 := hAll a (by omega) (by omega)
    have hb2 := hAll b (by omega) (by omega)
    have i_act : In3 act := hact3
    have i_a : In3 (SG a) := ⟨by omega, by omega⟩
    have i_b : In3 (SG b) := ⟨by omega, by omega⟩
    refine lv_istore (lv' := [(4, .int (I3 g)), (0, .ref am), (1, .int (I3 act)), (2, .int (I3 a)), (3, .int (I3 b))]) hx hb dX8_act_37 hl (by decide) rfl (fun ls hl => ?_)
    refine lv_iload hx hb dX8_act_39 (lv_at hl 0 rfl) ?_
    refine ix_if_eq (tgt := 104) hx hb (by first | assumption | decide | (constructor <;> omega)) dX8_act_41 (by decide) (fun c_41 => ?_) (fun c_41 => ?_)
    · skip
      refine lv_iconst (v := I3 (0)) hx hb dX8_act_104 rfl ?_
      have e_215 : ((0 ≤ a ∧ a < mn) ∧ 0 ≤ b ∧ b < mn) := by first | assumption | omega | (constructor <;> omega)
      have e_216 : ((0 : Int) = 1 ∧ acGd VL act a b) ∨ ((0 : Int) = 0 ∧ ¬ acGd VL act a b) := by exact Or.inr ⟨rfl, fun h => by have := h.1; omega⟩
      have e_217 : acGd VL act a b → (act = 9 ∨ act = 10 → sm = acSm SG VL b) := by intro h; exact absurd h (fun h => by have := h.1; omega)
      exact cut_105 0 sm e_215 e_216 e_217 _ _ hP hD hS ls (lv_sub hl [1, 2, 3, 4] rfl)
    · skip
      refine lv_iload_n hx hb dX8_act_44 rfl (lv_at hl 2 rfl) ?_
      refine lv_bipush (v := I3 (8)) hx hb dX8_act_45 (by decide) ?_
      refine ix_icmp_ne (tgt := 66) hx hb (by first | assumption | decide | (constructor <;> omega)) (by first | assumption | decide | (constructor <;> omega)) dX8_act_47 (by decide) (fun c_47 => ?_) (fun c_47 => ?_)
      · skip
        have e_218 : ((0 ≤ a ∧ a < mn) ∧ 0 ≤ b ∧ b < mn) := by first | assumption | omega | (constructor <;> omega)
        have e_219 : 0 ≤ act ∧ act ≤ 12 := by first | assumption | omega | (constructor <;> omega)
        have e_220 : (act = 8 → qv VL a = 1 ∧ qv VL b = 1) := by intro q; omega
        exact cut_66  e_218 e_219 e_220 _ _ hP hD hS ls (lv_sub hl [1, 2, 3, 4] rfl)
      · skip
        refine lv_aload_n hx hb dX8_act_50 rfl (lv_at hl 1 rfl) ?_
        refine lv_iload_n hx hb dX8_act_51 rfl (lv_at hl 3 rfl) ?_
        have h_221 : Dg VL := by first | assumption | omega | (constructor <;> omega)
        have h_222 : 0 ≤ a ∧ a < 60 := by first | assumption | omega | (constructor <;> omega)
        have hPc := hP.sub (ws' := [(am, .inr (0, [.int (I3 th), .int (I3 mn), .ref as_, .ref av, .ref aw, .int (I3 sm), .int (I3 wd), .int (I3 lp), .int (I3 mp), .int (I3 re)])), (as_, .inl (dA 0, 60, .inl (iA SG))), (av, .inl (dA 1, 960, .inr (.inl (lA VL)))), (aw, .inl (dA 1, 1024, .inr (.inl (lA wf))))]) [0, 1, 2, 3] rfl
        have hDc := hD.sub (ws' := [(am, .inr (0, [.int (I3 th), .int (I3 mn), .ref as_, .ref av, .ref aw, .int (I3 sm), .int (I3 wd), .int (I3 lp), .int (I3 mp), .int (I3 re)])), (as_, .inl (dA 0, 60, .inl (iA SG))), (av, .inl (dA 1, 960, .inr (.inl (lA VL)))), (aw, .inl (dA 1, 1024, .inr (.inl (lA wf))))]) [0, 1, 2, 3] (by decide) rfl
        have hFc := va_free (wc := [(am, .inr (0, [.int (I3 th), .int (I3 mn), .ref as_, .ref av, .ref aw, .int (I3 sm), .int (I3 wd), .int (I3 lp), .int (I3 mp), .int (I3 re)])), (as_, .inl (dA 0, 60, .inl (iA SG))), (av, .inl (dA 1, 960, .inr (.inl (lA VL)))), (aw, .inl (dA 1, 1024, .inr (.inl (lA wf))))]) hD hS hA [0, 1, 2, 3] rfl
        refine va_calli (va_runV (As := [.int (I3 a)]) (rest := []) ⟨hx, hb, hml, hown, hts⟩ (metX8_isWhole l dC dI dA am as_ av aw H.size th mn sm wd lp mp re SG VL wf a h_221 h_222) (cwV 1 hts (lw_V q1054 q1056 qs36 q66 q1057) rfl rfl rfl (by decide +kernel) ⟨Nat.le_of_ble_eq_true rfl, Nat.le_of_ble_eq_true rfl⟩) ⟨fun a U g mk q => by obtain ⟨q0, q1, qP, qK, qD⟩ := q; exact ⟨q0, q1, qP, va_K.moved (u := U) (U := U.calling g mk a) (Vm.Alike.refl U.vm) qK, qD⟩, va_recv hK hPc (ci := 0) (q0 := 0) rfl rfl, fun U hU hW => ⟨rfl, by rw [hU], by rw [hU]; exact hPc, va_K.moved hW.alike hK, hDc.weaken (fun _ _ _ _ => trivial)⟩⟩ rfl rfl hl.1 rfl (lv_room (Nat.le_of_ble_eq_true rfl)) dX8_act_52 ⟨Nat.le_of_ble_eq_true rfl, Nat.le_of_ble_eq_true rfl⟩) hS (fun q _ h => hFc q h) hFc (fun r_52 u t H1 locs ht hvm hw hB hz1 hk1 hS => ?_)
        obtain ⟨z_52, rfl⟩ : ∃ z, z = u := ⟨_, rfl⟩
        obtain ⟨rfl, p0_52⟩ : r_52 = I3 z_52 ∧ (z_52 = if qv VL a = 1 then 1 else 0) := hw
        obtain ⟨hP1, hK1, hD1⟩ := hB
        rw [ht] at hP1
        obtain ⟨hP, hD⟩ := va_join (wr := []) (w1 := [(am, .inr (0, [.int (I3 th), .int (I3 mn), .ref as_, .ref av, .ref aw, .int (I3 sm), .int (I3 wd), .int (I3 lp), .int (I3 mp), .int (I3 re)])), (as_, .inl (dA 0, 60, .inl (iA SG))), (av, .inl (dA 1, 960, .inr (.inl (lA VL)))), (aw, .inl (dA 1, 1024, .inr (.inl (lA wf))))]) hP hD [0, 1, 2, 3] [] rfl rfl (by decide) (by decide) hk1 hFc hP1 hD1
        generalize H1 = H at hP hS ⊢
        have hP : va_P (dC, dI) vwCl [(am, .inr (0, [.int (I3 th), .int (I3 mn), .ref as_, .ref av, .ref aw, .int (I3 sm), .int (I3 wd), .int (I3 lp), .int (I3 mp), .int (I3 re)])), (as_, .inl (dA 0, 60, .inl (iA SG))), (av, .inl (dA 1, 960, .inr (.inl (lA VL)))), (aw, .inl (dA 1, 1024, .inr (.inl (lA wf))))] H := hP
        have hD : va_D A [(am, .inr (0, [.int (I3 th), .int (I3 mn), .ref as_, .ref av, .ref aw, .int (I3 sm), .int (I3 wd), .int (I3 lp), .int (I3 mp), .int (I3 re)])), (as_, .inl (dA 0, 60, .inl (iA SG))), (av, .inl (dA 1, 960, .inr (.inl (lA VL)))), (aw, .inl (dA 1, 1024, .inr (.inl (lA wf))))] := hD
        have y_52 := b01 p0_52
        refine ix_if_eq (tgt := 104) hx hb (by first | assumption | decide | (constructor <;> omega)) dX8_act_55 (by decide) (fun c_55 => ?_) (fun c_55 => ?_)
        · skip
          refine lv_iconst (v := I3 (0)) hx hb dX8_act_104 rfl ?_
          have e_223 : ((0 ≤ a ∧ a < mn) ∧ 0 ≤ b ∧ b < mn) := by first | assumption | omega | (constructor <;> omega)
          have e_224 : ((0 : Int) = 1 ∧ acGd VL act a b) ∨ ((0 : Int) = 0 ∧ ¬ acGd VL act a b) := by exact Or.inr ⟨rfl, fun h => by have := (h.2.1 (by omega)).1; omega⟩
          have e_225 : acGd VL act a b → (act = 9 ∨ act = 10 → sm = acSm SG VL b) := by intro h; exact absurd h (fun h => by have := (h.2.1 (by omega)).1; omega)
          exact cut_105 0 sm e_223 e_224 e_225 _ _ hP hD hS ls (lv_sub hl [1, 2, 3, 4] rfl)
        · skip
          refine lv_aload_n hx hb dX8_act_58 rfl (lv_at hl 1 rfl) ?_
          refine lv_iload_n hx hb dX8_act_59 rfl (lv_at hl 4 rfl) ?_
          have h_226 : Dg VL := by first | assumption | omega | (constructor <;> omega)
          have h_227 : 0 ≤ b ∧ b < 60 := by first | assumption | omega | (constructor <;> omega)
          have hPc := hP.sub (ws' := [(am, .inr (0, [.int (I3 th), .int (I3 mn), .ref as_, .ref av, .ref aw, .int (I3 sm), .int (I3 wd), .int (I3 lp), .int (I3 mp), .int (I3 re)])), (as_, .inl (dA 0, 60, .inl (iA SG))), (av, .inl (dA 1, 960, .inr (.inl (lA VL)))), (aw, .inl (dA 1, 1024, .inr (.inl (lA wf))))]) [0, 1, 2, 3] rfl
          have hDc := hD.sub (ws' := [(am, .inr (0, [.int (I3 th), .int (I3 mn), .ref as_, .ref av, .ref aw, .int (I3 sm), .int (I3 wd), .int (I3 lp), .int (I3 mp), .int (I3 re)])), (as_, .inl (dA 0, 60, .inl (iA SG))), (av, .inl (dA 1, 960, .inr (.inl (lA VL)))), (aw, .inl (dA 1, 1024, .inr (.inl (lA wf))))]) [0, 1, 2, 3] (by decide) rfl
          have hFc := va_free (wc := [(am, .inr (0, [.int (I3 th), .int (I3 mn), .ref as_, .ref av, .ref aw, .int (I3 sm), .int (I3 wd), .int (I3 lp), .int (I3 mp), .int (I3 re)])), (as_, .inl (dA 0, 60, .inl (iA SG))), (av, .inl (dA 1, 960, .inr (.inl (lA VL)))), (aw, .inl (dA 1, 1024, .inr (.inl (lA wf))))]) hD hS hA [0, 1, 2, 3] rfl
          refine va_calli (va_runV (As := [.int (I3 b)]) (rest := []) ⟨hx, hb, hml, hown, hts⟩ (metX8_isWhole l dC dI dA am as_ av aw H.size th mn sm wd lp mp re SG VL wf b h_226 h_227) (cwV 1 hts (lw_V q1054 q1056 qs36 q66 q1057) rfl rfl rfl (by decide +kernel) ⟨Nat.le_of_ble_eq_true rfl, Nat.le_of_ble_eq_true rfl⟩) ⟨fun a U g mk q => by obtain ⟨q0, q1, qP, qK, qD⟩ := q; exact ⟨q0, q1, qP, va_K.moved (u := U) (U := U.calling g mk a) (Vm.Alike.refl U.vm) qK, qD⟩, va_recv hK hPc (ci := 0) (q0 := 0) rfl rfl, fun U hU hW => ⟨rfl, by rw [hU], by rw [hU]; exact hPc, va_K.moved hW.alike hK, hDc.weaken (fun _ _ _ _ => trivial)⟩⟩ rfl rfl hl.1 rfl (lv_room (Nat.le_of_ble_eq_true rfl)) dX8_act_60 ⟨Nat.le_of_ble_eq_true rfl, Nat.le_of_ble_eq_true rfl⟩) hS (fun q _ h => hFc q h) hFc (fun r_60 u t H1 locs ht hvm hw hB hz1 hk1 hS => ?_)
          obtain ⟨z_60, rfl⟩ : ∃ z, z = u := ⟨_, rfl⟩
          obtain ⟨rfl, p0_60⟩ : r_60 = I3 z_60 ∧ (z_60 = if qv VL b = 1 then 1 else 0) := hw
          obtain ⟨hP1, hK1, hD1⟩ := hB
          rw [ht] at hP1
          obtain ⟨hP, hD⟩ := va_join (wr := []) (w1 := [(am, .inr (0, [.int (I3 th), .int (I3 mn), .ref as_, .ref av, .ref aw, .int (I3 sm), .int (I3 wd), .int (I3 lp), .int (I3 mp), .int (I3 re)])), (as_, .inl (dA 0, 60, .inl (iA SG))), (av, .inl (dA 1, 960, .inr (.inl (lA VL)))), (aw, .inl (dA 1, 1024, .inr (.inl (lA wf))))]) hP hD [0, 1, 2, 3] [] rfl rfl (by decide) (by decide) hk1 hFc hP1 hD1
          generalize H1 = H at hP hS ⊢
          have hP : va_P (dC, dI) vwCl [(am, .inr (0, [.int (I3 th), .int (I3 mn), .ref as_, .ref av, .ref aw, .int (I3 sm), .int (I3 wd), .int (I3 lp), .int (I3 mp), .int (I3 re)])), (as_, .inl (dA 0, 60, .inl (iA SG))), (av, .inl (dA 1, 960, .inr (.inl (lA VL)))), (aw, .inl (dA 1, 1024, .inr (.inl (lA wf))))] H := hP
          have hD : va_D A [(am, .inr (0, [.int (I3 th), .int (I3 mn), .ref as_, .ref av, .ref aw, .int (I3 sm), .int (I3 wd), .int (I3 lp), .int (I3 mp), .int (I3 re)])), (as_, .inl (dA 0, 60, .inl (iA SG))), (av, .inl (dA 1, 960, .inr (.inl (lA VL)))), (aw, .inl (dA 1, 1024, .inr (.inl (lA wf))))] := hD
          have y_60 := b01 p0_60
          refine ix_if_eq (tgt := 104) hx hb (by first | assumption | decide | (constructor <;> omega)) dX8_act_63 (by decide) (fun c_63 => ?_) (fun c_63 => ?_)
          · skip
            refine lv_iconst (v := I3 (0)) hx hb dX8_act_104 rfl ?_
            have e_228 : ((0 ≤ a ∧ a < mn) ∧ 0 ≤ b ∧ b < mn) := by first | assumption | omega | (constructor <;> omega)
            have e_229 : ((0 : Int) = 1 ∧ acGd VL act a b) ∨ ((0 : Int) = 0 ∧ ¬ acGd VL act a b) := by exact Or.inr ⟨rfl, fun h => by have := (h.2.1 (by omega)).2; omega⟩
            have e_230 : acGd VL act a b → (act = 9 ∨ act = 10 → sm = acSm SG VL b) := by intro h; exact absurd h (fun h => by have := (h.2.1 (by omega)).2; omega)
            exact cut_105 0 sm e_228 e_229 e_230 _ _ hP hD hS ls (lv_sub hl [1, 2, 3, 4] rfl)
          · skip
            have e_231 : ((0 ≤ a ∧ a < mn) ∧ 0 ≤ b ∧ b < mn) := by first | assumption | omega | (constructor <;> omega)
            have e_232 : 0 ≤ act ∧ act ≤ 12 := by first | assumption | omega | (constructor <;> omega)
            have e_233 : (act = 8 → qv VL a = 1 ∧ qv VL b = 1) := by intro q; omega
            exact cut_66  e_231 e_232 e_233 _ _ hP hD hS ls (lv_sub hl [1, 2, 3, 4] rfl)
  obtain ⟨hmn, hV, hAll⟩ := id hI
  refine lv_aload_n hx hb dX8_act_0 rfl (lv_at hl 0 rfl) ?_
  refine lv_iload_n hx hb dX8_act_1 rfl (lv_at hl 2 rfl) ?_
  have h_234 : In3 a := by first | assumption | omega | (constructor <;> omega)
  have h_235 : In3 mn := by first | assumption | omega | (constructor <;> omega)
  have hPc := hP.sub (ws' := [(am, .inr (0, [.int (I3 th), .int (I3 mn), .ref as_, .ref av, .ref aw, .int (I3 sm), .int (I3 wd), .int (I3 lp), .int (I3 mp), .int (I3 re)])), (as_, .inl (dA 0, 60, .inl (iA SG))), (av, .inl (dA 1, 960, .inr (.inl (lA VL)))), (aw, .inl (dA 1, 1024, .inr (.inl (lA wf))))]) [0, 1, 2, 3] rfl
  have hDc := hD.sub (ws' := [(am, .inr (0, [.int (I3 th), .int (I3 mn), .ref as_, .ref av, .ref aw, .int (I3 sm), .int (I3 wd), .int (I3 lp), .int (I3 mp), .int (I3 re)])), (as_, .inl (dA 0, 60, .inl (iA SG))), (av, .inl (dA 1, 960, .inr (.inl (lA VL)))), (aw, .inl (dA 1, 1024, .inr (.inl (lA wf))))]) [0, 1, 2, 3] (by decide) rfl
  have hFc := va_free (wc := [(am, .inr (0, [.int (I3 th), .int (I3 mn), .ref as_, .ref av, .ref aw, .int (I3 sm), .int (I3 wd), .int (I3 lp), .int (I3 mp), .int (I3 re)])), (as_, .inl (dA 0, 60, .inl (iA SG))), (av, .inl (dA 1, 960, .inr (.inl (lA VL)))), (aw, .inl (dA 1, 1024, .inr (.inl (lA wf))))]) hD hS hA [0, 1, 2, 3] rfl
  refine va_calli (va_runV (As := [.int (I3 a)]) (rest := []) ⟨hx, hb, hml, hown, hts⟩ (metX8_isNumber l dC dI dA am as_ av aw s.heap.size th mn sm wd lp mp re SG VL wf a h_234 h_235) (cwV 1 hts (lw_V q1050 q1052 qs35 q66 q1053) rfl rfl rfl (by decide +kernel) ⟨Nat.le_of_ble_eq_true rfl, Nat.le_of_ble_eq_true rfl⟩) ⟨fun a U g mk q => by obtain ⟨q0, q1, qP, qK, qD⟩ := q; exact ⟨q0, q1, qP, va_K.moved (u := U) (U := U.calling g mk a) (Vm.Alike.refl U.vm) qK, qD⟩, va_recv hK hPc (ci := 0) (q0 := 0) rfl rfl, fun U hU hW => ⟨rfl, by rw [hU], by rw [hU]; exact hPc, va_K.moved hW.alike hK, hDc.weaken (fun _ _ _ _ => trivial)⟩⟩ rfl rfl hl.1 rfl (lv_room (Nat.le_of_ble_eq_true rfl)) dX8_act_2 ⟨Nat.le_of_ble_eq_true rfl, Nat.le_of_ble_eq_true rfl⟩) hS (fun q _ h => hFc q h) hFc (fun r_2 u t H1 locs ht hvm hw hB hz1 hk1 hS => ?_)
  obtain ⟨z_2, rfl⟩ : ∃ z, z = u := ⟨_, rfl⟩
  obtain ⟨rfl, p0_2⟩ : r_2 = I3 z_2 ∧ (z_2 = if 0 ≤ a ∧ a < mn then 1 else 0) := hw
  obtain ⟨hP1, hK1, hD1⟩ := hB
  rw [ht] at hP1
  obtain ⟨hP, hD⟩ := va_join (wr := []) (w1 := [(am, .inr (0, [.int (I3 th), .int (I3 mn), .ref as_, .ref av, .ref aw, .int (I3 sm), .int (I3 wd), .int (I3 lp), .int (I3 mp), .int (I3 re)])), (as_, .inl (dA 0, 60, .inl (iA SG))), (av, .inl (dA 1, 960, .inr (.inl (lA VL)))), (aw, .inl (dA 1, 1024, .inr (.inl (lA wf))))]) hP hD [0, 1, 2, 3] [] rfl rfl (by decide) (by decide) hk1 hFc hP1 hD1
  generalize H1 = H at hP hS ⊢
  have hP : va_P (dC, dI) vwCl [(am, .inr (0, [.int (I3 th), .int (I3 mn), .ref as_, .ref av, .ref aw, .int (I3 sm), .int (I3 wd), .int (I3 lp), .int (I3 mp), .int (I3 re)])), (as_, .inl (dA 0, 60, .inl (iA SG))), (av, .inl (dA 1, 960, .inr (.inl (lA VL)))), (aw, .inl (dA 1, 1024, .inr (.inl (lA wf))))] H := hP
  have hD : va_D A [(am, .inr (0, [.int (I3 th), .int (I3 mn), .ref as_, .ref av, .ref aw, .int (I3 sm), .int (I3 wd), .int (I3 lp), .int (I3 mp), .int (I3 re)])), (as_, .inl (dA 0, 60, .inl (iA SG))), (av, .inl (dA 1, 960, .inr (.inl (lA VL)))), (aw, .inl (dA 1, 1024, .inr (.inl (lA wf))))] := hD
  have y_2 := b01 p0_2
  refine ix_if_eq (tgt := 16) hx hb (by first | assumption | decide | (constructor <;> omega)) dX8_act_5 (by decide) (fun c_5 => ?_) (fun c_5 => ?_)
  · skip
    refine lv_aload_n hx hb dX8_act_16 rfl (lv_at hl 0 rfl) ?_
    refine lv_iconst (v := I3 (1)) hx hb dX8_act_17 rfl ?_
    have h_236 : In3 (1 : Int) := by first | assumption | omega | (constructor <;> omega)
    have hPc := hP.sub (ws' := [(am, .inr (0, [.int (I3 th), .int (I3 mn), .ref as_, .ref av, .ref aw, .int (I3 sm), .int (I3 wd), .int (I3 lp), .int (I3 mp), .int (I3 re)])), (as_, .inl (dA 0, 60, .inl (iA SG))), (av, .inl (dA 1, 960, .inr (.inl (lA VL)))), (aw, .inl (dA 1, 1024, .inr (.inl (lA wf))))]) [0, 1, 2, 3] rfl
    have hDc := hD.sub (ws' := [(am, .inr (0, [.int (I3 th), .int (I3 mn), .ref as_, .ref av, .ref aw, .int (I3 sm), .int (I3 wd), .int (I3 lp), .int (I3 mp), .int (I3 re)])), (as_, .inl (dA 0, 60, .inl (iA SG))), (av, .inl (dA 1, 960, .inr (.inl (lA VL)))), (aw, .inl (dA 1, 1024, .inr (.inl (lA wf))))]) [0, 1, 2, 3] (by decide) rfl
    have hFc := va_free (wc := [(am, .inr (0, [.int (I3 th), .int (I3 mn), .ref as_, .ref av, .ref aw, .int (I3 sm), .int (I3 wd), .int (I3 lp), .int (I3 mp), .int (I3 re)])), (as_, .inl (dA 0, 60, .inl (iA SG))), (av, .inl (dA 1, 960, .inr (.inl (lA VL)))), (aw, .inl (dA 1, 1024, .inr (.inl (lA wf))))]) hD hS hA [0, 1, 2, 3] rfl
    refine va_calli (va_runV (As := [.int (I3 1)]) (rest := []) ⟨hx, hb, hml, hown, hts⟩ (metX8_fails l dC dI dA am as_ av aw H.size th mn sm wd lp mp re SG VL wf 1 h_236) (cwV 1 hts (lw_V q1016 q1018 qs34 q66 q1019) rfl rfl rfl (by decide +kernel) ⟨Nat.le_of_ble_eq_true rfl, Nat.le_of_ble_eq_true rfl⟩) ⟨fun a U g mk q => by obtain ⟨q0, q1, qP, qK, qD⟩ := q; exact ⟨q0, q1, qP, va_K.moved (u := U) (U := U.calling g mk a) (Vm.Alike.refl U.vm) qK, qD⟩, va_recv hK hPc (ci := 0) (q0 := 0) rfl rfl, fun U hU hW => ⟨rfl, by rw [hU], by rw [hU]; exact hPc, va_K.moved hW.alike hK, hDc.weaken (fun _ _ _ _ => trivial)⟩⟩ rfl rfl hl.1 rfl (lv_room (Nat.le_of_ble_eq_true rfl)) dX8_act_18 ⟨Nat.le_of_ble_eq_true rfl, Nat.le_of_ble_eq_true rfl⟩) hS (fun q _ h => hFc q h) hFc (fun r_18 u t H1 locs ht hvm hw hB hz1 hk1 hS => ?_)
    obtain ⟨z_18, th1_18⟩ := u
    obtain ⟨rfl, p0_18, p1_18⟩ : r_18 = I3 z_18 ∧ (z_18 = 0) ∧ (th1_18 = (1 : Int)) := hw
    obtain ⟨hP1, hK1, hD1⟩ := hB
    rw [ht] at hP1
    obtain ⟨hP, hD⟩ := va_join (wr := []) (w1 := [(am, .inr (0, [.int (I3 th1_18), .int (I3 mn), .ref as_, .ref av, .ref aw, .int (I3 sm), .int (I3 wd), .int (I3 lp), .int (I3 mp), .int (I3 re)])), (as_, .inl (dA 0, 60, .inl (iA SG))), (av, .inl (dA 1, 960, .inr (.inl (lA VL)))), (aw, .inl (dA 1, 1024, .inr (.inl (lA wf))))]) hP hD [0, 1, 2, 3] [] rfl rfl (by decide) (by decide) hk1 hFc hP1 hD1
    generalize H1 = H at hP hS ⊢
    have hP : va_P (dC, dI) vwCl [(am, .inr (0, [.int (I3 th1_18), .int (I3 mn), .ref as_, .ref av, .ref aw, .int (I3 sm), .int (I3 wd), .int (I3 lp), .int (I3 mp), .int (I3 re)])), (as_, .inl (dA 0, 60, .inl (iA SG))), (av, .inl (dA 1, 960, .inr (.inl (lA VL)))), (aw, .inl (dA 1, 1024, .inr (.inl (lA wf))))] H := hP
    have hD : va_D A [(am, .inr (0, [.int (I3 th1_18), .int (I3 mn), .ref as_, .ref av, .ref aw, .int (I3 sm), .int (I3 wd), .int (I3 lp), .int (I3 mp), .int (I3 re)])), (as_, .inl (dA 0, 60, .inl (iA SG))), (av, .inl (dA 1, 960, .inr (.inl (lA VL)))), (aw, .inl (dA 1, 1024, .inr (.inl (lA wf))))] := hD
    have o_237 : Dg wf := by first | assumption | omega | (constructor <;> omega)
    have o_238 : MI mn SG VL := by exact hI
    have o_239 : AcR mn SG VL act a b z_18 th1_18 mn SG VL := by exact AcR_1 (by omega) ⟨p0_18, p1_18, rfl, rfl, rfl⟩
    exact W.iret (v := I3 z_18) hx hb hr (fun t ht hW => ⟨⟨I3 z_18, (z_18, th1_18, mn, SG, VL, wf, sm), rfl, ⟨rfl, ⟨o_237, o_238, o_239⟩⟩, by rw [ht]; exact hP, va_K.moved hW.alike hK, hD⟩, hS.F ht⟩) hS.2.2 dX8_act_21
  · skip
    refine lv_aload_n hx hb dX8_act_8 rfl (lv_at hl 0 rfl) ?_
    refine lv_iload_n hx hb dX8_act_9 rfl (lv_at hl 3 rfl) ?_
    have h_240 : In3 b := by first | assumption | omega | (constructor <;> omega)
    have h_241 : In3 mn := by first | assumption | omega | (constructor <;> omega)
    have hPc := hP.sub (ws' := [(am, .inr (0, [.int (I3 th), .int (I3 mn), .ref as_, .ref av, .ref aw, .int (I3 sm), .int (I3 wd), .int (I3 lp), .int (I3 mp), .int (I3 re)])), (as_, .inl (dA 0, 60, .inl (iA SG))), (av, .inl (dA 1, 960, .inr (.inl (lA VL)))), (aw, .inl (dA 1, 1024, .inr (.inl (lA wf))))]) [0, 1, 2, 3] rfl
    have hDc := hD.sub (ws' := [(am, .inr (0, [.int (I3 th), .int (I3 mn), .ref as_, .ref av, .ref aw, .int (I3 sm), .int (I3 wd), .int (I3 lp), .int (I3 mp), .int (I3 re)])), (as_, .inl (dA 0, 60, .inl (iA SG))), (av, .inl (dA 1, 960, .inr (.inl (lA VL)))), (aw, .inl (dA 1, 1024, .inr (.inl (lA wf))))]) [0, 1, 2, 3] (by decide) rfl
    have hFc := va_free (wc := [(am, .inr (0, [.int (I3 th), .int (I3 mn), .ref as_, .ref av, .ref aw, .int (I3 sm), .int (I3 wd), .int (I3 lp), .int (I3 mp), .int (I3 re)])), (as_, .inl (dA 0, 60, .inl (iA SG))), (av, .inl (dA 1, 960, .inr (.inl (lA VL)))), (aw, .inl (dA 1, 1024, .inr (.inl (lA wf))))]) hD hS hA [0, 1, 2, 3] rfl
    refine va_calli (va_runV (As := [.int (I3 b)]) (rest := []) ⟨hx, hb, hml, hown, hts⟩ (metX8_isNumber l dC dI dA am as_ av aw H.size th mn sm wd lp mp re SG VL wf b h_240 h_241) (cwV 1 hts (lw_V q1050 q1052 qs35 q66 q1053) rfl rfl rfl (by decide +kernel) ⟨Nat.le_of_ble_eq_true rfl, Nat.le_of_ble_eq_true rfl⟩) ⟨fun a U g mk q => by obtain ⟨q0, q1, qP, qK, qD⟩ := q; exact ⟨q0, q1, qP, va_K.moved (u := U) (U := U.calling g mk a) (Vm.Alike.refl U.vm) qK, qD⟩, va_recv hK hPc (ci := 0) (q0 := 0) rfl rfl, fun U hU hW => ⟨rfl, by rw [hU], by rw [hU]; exact hPc, va_K.moved hW.alike hK, hDc.weaken (fun _ _ _ _ => trivial)⟩⟩ rfl rfl hl.1 rfl (lv_room (Nat.le_of_ble_eq_true rfl)) dX8_act_10 ⟨Nat.le_of_ble_eq_true rfl, Nat.le_of_ble_eq_true rfl⟩) hS (fun q _ h => hFc q h) hFc (fun r_10 u t H1 locs ht hvm hw hB hz1 hk1 hS => ?_)
    obtain ⟨z_10, rfl⟩ : ∃ z, z = u := ⟨_, rfl⟩
    obtain ⟨rfl, p0_10⟩ : r_10 = I3 z_10 ∧ (z_10 = if 0 ≤ b ∧ b < mn then 1 else 0) := hw
    obtain ⟨hP1, hK1, hD1⟩ := hB
    rw [ht] at hP1
    obtain ⟨hP, hD⟩ := va_join (wr := []) (w1 := [(am, .inr (0, [.int (I3 th), .int (I3 mn), .ref as_, .ref av, .ref aw, .int (I3 sm), .int (I3 wd), .int (I3 lp), .int (I3 mp), .int (I3 re)])), (as_, .inl (dA 0, 60, .inl (iA SG))), (av, .inl (dA 1, 960, .inr (.inl (lA VL)))), (aw, .inl (dA 1, 1024, .inr (.inl (lA wf))))]) hP hD [0, 1, 2, 3] [] rfl rfl (by decide) (by decide) hk1 hFc hP1 hD1
    generalize H1 = H at hP hS ⊢
    have hP : va_P (dC, dI) vwCl [(am, .inr (0, [.int (I3 th), .int (I3 mn), .ref as_, .ref av, .ref aw, .int (I3 sm), .int (I3 wd), .int (I3 lp), .int (I3 mp), .int (I3 re)])), (as_, .inl (dA 0, 60, .inl (iA SG))), (av, .inl (dA 1, 960, .inr (.inl (lA VL)))), (aw, .inl (dA 1, 1024, .inr (.inl (lA wf))))] H := hP
    have hD : va_D A [(am, .inr (0, [.int (I3 th), .int (I3 mn), .ref as_, .ref av, .ref aw, .int (I3 sm), .int (I3 wd), .int (I3 lp), .int (I3 mp), .int (I3 re)])), (as_, .inl (dA 0, 60, .inl (iA SG))), (av, .inl (dA 1, 960, .inr (.inl (lA VL)))), (aw, .inl (dA 1, 1024, .inr (.inl (lA wf))))] := hD
    have y_10 := b01 p0_10
    refine ix_if_ne (tgt := 22) hx hb (by first | assumption | decide | (constructor <;> omega)) dX8_act_13 (by decide) (fun c_13 => ?_) (fun c_13 => ?_)
    · skip
      refine lv_iload_n hx hb dX8_act_22 rfl (lv_at hl 1 rfl) ?_
      refine ix_if_lt (tgt := 36) hx hb (by first | assumption | decide | (constructor <;> omega)) dX8_act_23 (by decide) (fun c_23 => ?_) (fun c_23 => ?_)
      · skip
        refine lv_iconst (v := I3 (0)) hx hb dX8_act_36 rfl ?_
        have e_242 : ((0 ≤ a ∧ a < mn) ∧ 0 ≤ b ∧ b < mn) := by first | assumption | omega | (constructor <;> omega)
        have e_243 : ((0 : Int) = 1 ∧ (0 ≤ act ∧ act ≤ 12)) ∨ ((0 : Int) = 0 ∧ ¬ (0 ≤ act ∧ act ≤ 12)) := by first | exact Or.inl ⟨rfl, by omega, by omega⟩ | exact Or.inr ⟨rfl, by omega⟩
        exact cut_37 0 e_242 e_243 _ _ hP hD hS ls (lv_sub hl [0, 1, 2, 3] rfl)
      · skip
        refine lv_iload_n hx hb dX8_act_26 rfl (lv_at hl 1 rfl) ?_
        refine lv_bipush (v := I3 (12)) hx hb dX8_act_27 (by decide) ?_
        refine ix_icmp_gt (tgt := 36) hx hb (by first | assumption | decide | (constructor <;> omega)) (by first | assumption | decide | (constructor <;> omega)) dX8_act_29 (by decide) (fun c_29 => ?_) (fun c_29 => ?_)
        · skip
          refine lv_iconst (v := I3 (0)) hx hb dX8_act_36 rfl ?_
          have e_244 : ((0 ≤ a ∧ a < mn) ∧ 0 ≤ b ∧ b < mn) := by first | assumption | omega | (constructor <;> omega)
          have e_245 : ((0 : Int) = 1 ∧ (0 ≤ act ∧ act ≤ 12)) ∨ ((0 : Int) = 0 ∧ ¬ (0 ≤ act ∧ act ≤ 12)) := by first | exact Or.inl ⟨rfl, by omega, by omega⟩ | exact Or.inr ⟨rfl, by omega⟩
          exact cut_37 0 e_244 e_245 _ _ hP hD hS ls (lv_sub hl [0, 1, 2, 3] rfl)
        · skip
          refine lv_iconst (v := I3 (1)) hx hb dX8_act_32 rfl ?_
          refine lv_goto (tgt := 37) hx hb dX8_act_33 (by decide) ?_
          have e_246 : ((0 ≤ a ∧ a < mn) ∧ 0 ≤ b ∧ b < mn) := by first | assumption | omega | (constructor <;> omega)
          have e_247 : ((1 : Int) = 1 ∧ (0 ≤ act ∧ act ≤ 12)) ∨ ((1 : Int) = 0 ∧ ¬ (0 ≤ act ∧ act ≤ 12)) := by first | exact Or.inl ⟨rfl, by omega, by omega⟩ | exact Or.inr ⟨rfl, by omega⟩
          exact cut_37 1 e_246 e_247 _ _ hP hD hS ls (lv_sub hl [0, 1, 2, 3] rfl)
    · skip
      refine lv_aload_n hx hb dX8_act_16 rfl (lv_at hl 0 rfl) ?_
      refine lv_iconst (v := I3 (1)) hx hb dX8_act_17 rfl ?_
      have h_248 : In3 (1 : Int) := by first | assumption | omega | (constructor <;> omega)
      have hPc := hP.sub (ws' := [(am, .inr (0, [.int (I3 th), .int (I3 mn), .ref as_, .ref av, .ref aw, .int (I3 sm), .int (I3 wd), .int (I3 lp), .int (I3 mp), .int (I3 re)])), (as_, .inl (dA 0, 60, .inl (iA SG))), (av, .inl (dA 1, 960, .inr (.inl (lA VL)))), (aw, .inl (dA 1, 1024, .inr (.inl (lA wf))))]) [0, 1, 2, 3] rfl
      have hDc := hD.sub (ws' := [(am, .inr (0, [.int (I3 th), .int (I3 mn), .ref as_, .ref av, .ref aw, .int (I3 sm), .int (I3 wd), .int (I3 lp), .int (I3 mp), .int (I3 re)])), (as_, .inl (dA 0, 60, .inl (iA SG))), (av, .inl (dA 1, 960, .inr (.inl (lA VL)))), (aw, .inl (dA 1, 1024, .inr (.inl (lA wf))))]) [0, 1, 2, 3] (by decide) rfl
      have hFc := va_free (wc := [(am, .inr (0, [.int (I3 th), .int (I3 mn), .ref as_, .ref av, .ref aw, .int (I3 sm), .int (I3 wd), .int (I3 lp), .int (I3 mp), .int (I3 re)])), (as_, .inl (dA 0, 60, .inl (iA SG))), (av, .inl (dA 1, 960, .inr (.inl (lA VL)))), (aw, .inl (dA 1, 1024, .inr (.inl (lA wf))))]) hD hS hA [0, 1, 2, 3] rfl
      refine va_calli (va_runV (As := [.int (I3 1)]) (rest := []) ⟨hx, hb, hml, hown, hts⟩ (metX8_fails l dC dI dA am as_ av aw H.size th mn sm wd lp mp re SG VL wf 1 h_248) (cwV 1 hts (lw_V q1016 q1018 qs34 q66 q1019) rfl rfl rfl (by decide +kernel) ⟨Nat.le_of_ble_eq_true rfl, Nat.le_of_ble_eq_true rfl⟩) ⟨fun a U g mk q => by obtain ⟨q0, q1, qP, qK, qD⟩ := q; exact ⟨q0, q1, qP, va_K.moved (u := U) (U := U.calling g mk a) (Vm.Alike.refl U.vm) qK, qD⟩, va_recv hK hPc (ci := 0) (q0 := 0) rfl rfl, fun U hU hW => ⟨rfl, by rw [hU], by rw [hU]; exact hPc, va_K.moved hW.alike hK, hDc.weaken (fun _ _ _ _ => trivial)⟩⟩ rfl rfl hl.1 rfl (lv_room (Nat.le_of_ble_eq_true rfl)) dX8_act_18 ⟨Nat.le_of_ble_eq_true rfl, Nat.le_of_ble_eq_true rfl⟩) hS (fun q _ h => hFc q h) hFc (fun r_18 u t H1 locs ht hvm hw hB hz1 hk1 hS => ?_)
      obtain ⟨z_18, th1_18⟩ := u
      obtain ⟨rfl, p0_18, p1_18⟩ : r_18 = I3 z_18 ∧ (z_18 = 0) ∧ (th1_18 = (1 : Int)) := hw
      obtain ⟨hP1, hK1, hD1⟩ := hB
      rw [ht] at hP1
      obtain ⟨hP, hD⟩ := va_join (wr := []) (w1 := [(am, .inr (0, [.int (I3 th1_18), .int (I3 mn), .ref as_, .ref av, .ref aw, .int (I3 sm), .int (I3 wd), .int (I3 lp), .int (I3 mp), .int (I3 re)])), (as_, .inl (dA 0, 60, .inl (iA SG))), (av, .inl (dA 1, 960, .inr (.inl (lA VL)))), (aw, .inl (dA 1, 1024, .inr (.inl (lA wf))))]) hP hD [0, 1, 2, 3] [] rfl rfl (by decide) (by decide) hk1 hFc hP1 hD1
      generalize H1 = H at hP hS ⊢
      have hP : va_P (dC, dI) vwCl [(am, .inr (0, [.int (I3 th1_18), .int (I3 mn), .ref as_, .ref av, .ref aw, .int (I3 sm), .int (I3 wd), .int (I3 lp), .int (I3 mp), .int (I3 re)])), (as_, .inl (dA 0, 60, .inl (iA SG))), (av, .inl (dA 1, 960, .inr (.inl (lA VL)))), (aw, .inl (dA 1, 1024, .inr (.inl (lA wf))))] H := hP
      have hD : va_D A [(am, .inr (0, [.int (I3 th1_18), .int (I3 mn), .ref as_, .ref av, .ref aw, .int (I3 sm), .int (I3 wd), .int (I3 lp), .int (I3 mp), .int (I3 re)])), (as_, .inl (dA 0, 60, .inl (iA SG))), (av, .inl (dA 1, 960, .inr (.inl (lA VL)))), (aw, .inl (dA 1, 1024, .inr (.inl (lA wf))))] := hD
      have o_249 : Dg wf := by first | assumption | omega | (constructor <;> omega)
      have o_250 : MI mn SG VL := by exact hI
      have o_251 : AcR mn SG VL act a b z_18 th1_18 mn SG VL := by exact AcR_1 (by omega) ⟨p0_18, p1_18, rfl, rfl, rfl⟩
      exact W.iret (v := I3 z_18) hx hb hr (fun t ht hW => ⟨⟨I3 z_18, (z_18, th1_18, mn, SG, VL, wf, sm), rfl, ⟨rfl, ⟨o_249, o_250, o_251⟩⟩, by rw [ht]; exact hP, va_K.moved hW.alike hK, hD⟩, hS.F ht⟩) hS.2.2 dX8_act_21
