/-! the model: reckon -/
set_option maxRecDepth 100000
abbrev BmetX8_reckon (dC : Nat → ClassId) (dI : Nat → Nat → Nat) (dA : Nat → ClassId) (A : Nat → Prop) (am : Nat) (as_ : Nat) (av : Nat) (aw : Nat) (th : Int) (mn : Int) (sm : Int) (wd : Int) (lp : Int) (mp : Int) (re : Int) (SG : Int → Int) (VL : Int → Int) (wf : Int → Int) (act : Int) (a : Int) (b : Int) : Int × Int × Int × (Int → Int) × (Int → Int) × (Int → Int) → State → Prop := fun u t => (fun (u : Int × Int × Int × (Int → Int) × (Int → Int) × (Int → Int)) => (fun (z : Int) (th1 : Int) (mn1 : Int) (SG1 : Int → Int) (VL1 : Int → Int) (W1 : Int → Int) => va_P (dC, dI) vwCl [(am, .inr (0, [.int (I3 th1), .int (I3 mn1), .ref as_, .ref av, .ref aw, .int (I3 sm), .int (I3 wd), .int (I3 lp), .int (I3 mp), .int (I3 re)])), (as_, .inl (dA 0, 60, .inl (iA SG1))), (av, .inl (dA 1, 960, .inr (.inl (lA VL1)))), (aw, .inl (dA 1, 1024, .inr (.inl (lA W1))))] t.heap ∧ va_K (dC, dI) vwCl (tyA dA) t ∧ va_D A [(am, .inr (0, [.int (I3 th1), .int (I3 mn1), .ref as_, .ref av, .ref aw, .int (I3 sm), .int (I3 wd), .int (I3 lp), .int (I3 mp), .int (I3 re)])), (as_, .inl (dA 0, 60, .inl (iA SG1))), (av, .inl (dA 1, 960, .inr (.inl (lA VL1)))), (aw, .inl (dA 1, 1024, .inr (.inl (lA W1))))]) u.1 u.2.1 u.2.2.1 u.2.2.2.1 u.2.2.2.2.1 u.2.2.2.2.2) u
abbrev QmetX8_reckon (dC : Nat → ClassId) (dI : Nat → Nat → Nat) (dA : Nat → ClassId) (A : Nat → Prop) (am : Nat) (as_ : Nat) (av : Nat) (aw : Nat) (th : Int) (mn : Int) (sm : Int) (wd : Int) (lp : Int) (mp : Int) (re : Int) (SG : Int → Int) (VL : Int → Int) (wf : Int → Int) (act : Int) (a : Int) (b : Int) := va_Qi (fun (rt_ : Int32) => fun (u : Int × Int × Int × (Int → Int) × (Int → Int) × (Int → Int)) => (fun (z : Int) (th1 : Int) (mn1 : Int) (SG1 : Int → Int) (VL1 : Int → Int) (W1 : Int → Int) => rt_ = I3 z ∧ (Dg W1) ∧ (MI mn1 SG1 VL1) ∧ (Mde mn SG VL (recG act (SG a) (SG b) (pv VL a * qv VL b) (pv VL b * qv VL a)) (recP act (SG a) (SG b) (pv VL a) (pv VL b) (pv VL a * qv VL b) (pv VL b * qv VL a)) (recQ act (pv VL b * qv VL a) (qv VL a * qv VL b)) 4 z th1 mn1 SG1 VL1)) u.1 u.2.1 u.2.2.1 u.2.2.2.1 u.2.2.2.2.1 u.2.2.2.2.2) (BmetX8_reckon dC dI dA A am as_ av aw th mn sm wd lp mp re SG VL wf act a b) A
set_option maxHeartbeats 16000000 in
set_option maxRecDepth 100000 in
/-- the four operations and their kin -/
theorem metX8_reckon (l : Launch) (dC : Nat → ClassId) (dI : Nat → Nat → Nat) (dA : Nat → ClassId) (am : Nat) (as_ : Nat) (av : Nat) (aw : Nat) (sz : Nat) (th : Int) (mn : Int) (sm : Int) (wd : Int) (lp : Int) (mp : Int) (re : Int) (SG : Int → Int) (VL : Int → Int) (wf : Int → Int) (act : Int) (a : Int) (b : Int) (hW : Dg wf) (hI : MI mn SG VL) (hact : 0 ≤ act ∧ act ≤ 7) (ha : 0 ≤ a ∧ a < mn) (hb_ : 0 ≤ b ∧ b < mn) (h0_ : 3 ≤ act → SG b ≠ 0) : Met l yX8_reckon (ws_ yX8_reckon cX8_reckon 7 (some .int)) ({ frames := 5, cells := 0, slots := 0, locals := 200 }) (va_Pc [.ref am, .int (I3 act), .int (I3 a), .int (I3 b)] (fun U => U.heap.size = sz ∧ va_P (dC, dI) vwCl [(am, .inr (0, [.int (I3 th), .int (I3 mn), .ref as_, .ref av, .ref aw, .int (I3 sm), .int (I3 wd), .int (I3 lp), .int (I3 mp), .int (I3 re)])), (as_, .inl (dA 0, 60, .inl (iA SG))), (av, .inl (dA 1, 960, .inr (.inl (lA VL)))), (aw, .inl (dA 1, 1024, .inr (.inl (lA wf))))] U.heap ∧ va_K (dC, dI) vwCl (tyA dA) U ∧ va_D (fun _ => True) [(am, .inr (0, [.int (I3 th), .int (I3 mn), .ref as_, .ref av, .ref aw, .int (I3 sm), .int (I3 wd), .int (I3 lp), .int (I3 mp), .int (I3 re)])), (as_, .inl (dA 0, 60, .inl (iA SG))), (av, .inl (dA 1, 960, .inr (.inl (lA VL)))), (aw, .inl (dA 1, 1024, .inr (.inl (lA wf))))])) (QmetX8_reckon dC dI dA (va_A [(am, .inr (0, [.int (I3 th), .int (I3 mn), .ref as_, .ref av, .ref aw, .int (I3 sm), .int (I3 wd), .int (I3 lp), .int (I3 mp), .int (I3 re)])), (as_, .inl (dA 0, 60, .inl (iA SG))), (av, .inl (dA 1, 960, .inr (.inl (lA VL)))), (aw, .inl (dA 1, 1024, .inr (.inl (lA wf))))] sz) am as_ av aw th mn sm wd lp mp re SG VL wf act a b) 0 0 (va_A [(am, .inr (0, [.int (I3 th), .int (I3 mn), .ref as_, .ref av, .ref aw, .int (I3 sm), .int (I3 wd), .int (I3 lp), .int (I3 mp), .int (I3 re)])), (as_, .inl (dA 0, 60, .inl (iA SG))), (av, .inl (dA 1, 960, .inr (.inl (lA VL)))), (aw, .inl (dA 1, 1024, .inr (.inl (lA wf))))] sz) := by
  refine Met.ofW (cc := cX8_reckon) (maxL := 7) (ret := (some .int)) (by decide) rfl ?_
  intro p e s m args below meth c s₁ B hml hv
  obtain ⟨rfl, hsz, hP, hK, hD0⟩ := hv
  have hx := B.exec
  have hb := B.bytes
  have hr := B.returns
  have hts := atoms_spec (ws := (ws_ yX8_reckon cX8_reckon 7 (some .int))) B.pre
  have hts : ∀ w ∈ lw_all, w.before _ s = true := fun w h => hts w (List.mem_cons_of_mem _ h)
  have hown : s.vm.findClass RX8 = some m.cls := findClass_of_methodNamed B.named
  have hlocks := B.notSynchronized
  subst hsz
  have hD := hD0.self (sz := s.heap.size)
  generalize hAe : va_A [(am, .inr (0, [.int (I3 th), .int (I3 mn), .ref as_, .ref av, .ref aw, .int (I3 sm), .int (I3 wd), .int (I3 lp), .int (I3 mp), .int (I3 re)])), (as_, .inl (dA 0, 60, .inl (iA SG))), (av, .inl (dA 1, 960, .inr (.inl (lA VL)))), (aw, .inl (dA 1, 1024, .inr (.inl (lA wf))))] s.heap.size = A at hD ⊢
  have hA : ∀ q : Nat, s.heap.size ≤ q → A q := fun q h => by rw [← hAe]; exact Or.inr h
  have hS : va_S A s.heap s.heap [] := va_S.rf
  have hP : va_P (dC, dI) vwCl [(am, .inr (0, [.int (I3 th), .int (I3 mn), .ref as_, .ref av, .ref aw, .int (I3 sm), .int (I3 wd), .int (I3 lp), .int (I3 mp), .int (I3 re)])), (as_, .inl (dA 0, 60, .inl (iA SG))), (av, .inl (dA 1, 960, .inr (.inl (lA VL)))), (aw, .inl (dA 1, 1024, .inr (.inl (lA wf))))] s.heap := hP
  have hl := lv_entry ([.ref am, .int (I3 act), .int (I3 a), .int (I3 b)]) (n := 7) (Nat.le_of_ble_eq_true rfl)
  rw [lg_entry_eq]
  generalize (lg_sl ([.ref am, .int (I3 act), .int (I3 a), .int (I3 b)]) ++ List.replicate (7 - (lg_sl ([.ref am, .int (I3 act), .int (I3 a), .int (I3 b)])).length) Slot.unset).toArray = ls at hl ⊢
  have hl : lv_has ls 7 [(0, .ref am), (1, .int (I3 act)), (2, .int (I3 a)), (3, .int (I3 b))] := hl
  have cut_35 : ∀ (y : Int) (W5 : Int → Int), (y = recY act (SG b)) → (Dg W5) → (rv W5 4 = pv VL a * qv VL b) → (rv W5 5 = pv VL b * qv VL a) → (rv W5 6 = qv VL a * qv VL b) → ∀ (H : Heap) (locs : List Loc), va_P (dC, dI) vwCl [(am, .inr (0, [.int (I3 th), .int (I3 mn), .ref as_, .ref av, .ref aw, .int (I3 sm), .int (I3 wd), .int (I3 lp), .int (I3 mp), .int (I3 re)])), (as_, .inl (dA 0, 60, .inl (iA SG))), (av, .inl (dA 1, 960, .inr (.inl (lA VL)))), (aw, .inl (dA 1, 1024, .inr (.inl (lA W5))))] H → va_D A [(am, .inr (0, [.int (I3 th), .int (I3 mn), .ref as_, .ref av, .ref aw, .int (I3 sm), .int (I3 wd), .int (I3 lp), .int (I3 mp), .int (I3 re)])), (as_, .inl (dA 0, 60, .inl (iA SG))), (av, .inl (dA 1, 960, .inr (.inl (lA VL)))), (aw, .inl (dA 1, 1024, .inr (.inl (lA W5))))] → va_S A s.heap H locs → ∀ (ls : Array Slot), lv_has ls 7 [(0, .ref am), (1, .int (I3 act)), (2, .int (I3 a)), (3, .int (I3 b)), (4, .int (I3 (SG a)))] → W p l e (headSpec (ws_ yX8_reckon cX8_reckon 7 (some .int)) ({ frames := 5, cells := 0, slots := 0, locals := 200 })).room s m ([.ref am, .int (I3 act), .int (I3 a), .int (I3 b)] : List Value).toArray below meth c H locs 0 0 (MQ below (QmetX8_reckon dC dI dA A am as_ av aw th mn sm wd lp mp re SG VL wf act a b) ([.ref am, .int (I3 act), .int (I3 a), .int (I3 b)] : List Value).toArray s 0 0 A) (F0 m 35 ls [.int (I3 y)]) := by
    intro y W5 hy hW5 f4 f5 f6 H locs hP hD hS ls hl
    obtain ⟨hmn, hV, hAll⟩ := id hI
    have ha2 := hAll a (by omega) (by omega)
    have hb2 := hAll b (by omega) (by omega)
    have la := pv_lt hV a
    have lb := pv_lt hV b
    have ma := qv_lt hV a
    have mb := qv_lt hV b
    have hBB := BB_BN
    have hB82 := B8_2
    have t1 := mul_B8 la mb
    have t2 := mul_B8 lb ma
    have t3 := mul_B8 ma mb
    have t4 := mul_B8 la lb
    have hp3 := prod3 ha2.1 hb2.1
    have i_act : In3 act := ⟨by omega, by omega⟩
    have i_a : In3 (SG a) := ⟨by omega, by omega⟩
    have i_b : In3 (SG b) := ⟨by omega, by omega⟩
    have i_4 : In3 4 := by decide
    have hA0 : SG a = 0 → pv VL a * qv VL b = 0 := fun q => by rw [ha2.2.1.mp q, Nat.zero_mul]
    have hB0 : SG b = 0 → pv VL b * qv VL a = 0 := fun q => by rw [hb2.2.1.mp q, Nat.zero_mul]
    have hg3 := recG3 (act := act) hact.2 ha2.1 hb2.1 hA0 hB0 ha2.2.1.mp hb2.2.1.mp h0_
    have hC0 : qv VL a * qv VL b ≠ 0 := Nat.ne_of_gt (Nat.mul_pos (Nat.pos_of_ne_zero ha2.2.2.1) (Nat.pos_of_ne_zero hb2.2.2.1))
    have hBn : 3 ≤ act → pv VL b * qv VL a ≠ 0 := fun q => Nat.ne_of_gt (Nat.mul_pos (Nat.pos_of_ne_zero (fun w => h0_ q (hb2.2.1.mpr w))) (Nat.pos_of_ne_zero ha2.2.2.1))
    have hy3 : y = -1 ∨ y = 0 ∨ y = 1 := by rw [hy]; unfold recY; split <;> omega
    have i_y : In3 y := ⟨by omega, by omega⟩
    have cut_166 : ∀ (dn : Int) (W6 : Int → Int), (4 ≤ act) → ((dn = 1 ∧ recDn act (SG a) (SG b) (pv VL a * qv VL b) (pv VL b * qv VL a)) ∨ (dn = 0 ∧ ¬ recDn act (SG a) (SG b) (pv VL a * qv VL b) (pv VL b * qv VL a))) → (Dg W6) → (rv W6 5 = pv VL b * qv VL a) → (rv W6 6 = qv VL a * qv VL b) → (rv W6 7 = pv VL a * qv VL b / (pv VL b * qv VL a)) → (rv W6 8 = pv VL a * qv VL b % (pv VL b * qv VL a)) → ∀ (H : Heap) (locs : List Loc), va_P (dC, dI) vwCl [(am, .inr (0, [.int (I3 th), .int (I3 mn), .ref as_, .ref av, .ref aw, .int (I3 sm), .int (I3 wd), .int (I3 lp), .int (I3 mp), .int (I3 re)])), (as_, .inl (dA 0, 60, .inl (iA SG))), (av, .inl (dA 1, 960, .inr (.inl (lA VL)))), (aw, .inl (dA 1, 1024, .inr (.inl (lA W6))))] H → va_D A [(am, .inr (0, [.int (I3 th), .int (I3 mn), .ref as_, .ref av, .ref aw, .int (I3 sm), .int (I3 wd), .int (I3 lp), .int (I3 mp), .int (I3 re)])), (as_, .inl (dA 0, 60, .inl (iA SG))), (av, .inl (dA 1, 960, .inr (.inl (lA VL)))), (aw, .inl (dA 1, 1024, .inr (.inl (lA W6))))] → va_S A s.heap H locs → ∀ (ls : Array Slot), lv_has ls 7 [(0, .ref am), (1, .int (I3 act)), (2, .int (I3 a)), (3, .int (I3 b)), (4, .int (I3 (SG a))), (5, .int (I3 y))] → W p l e (headSpec (ws_ yX8_reckon cX8_reckon 7 (some .int)) ({ frames := 5, cells := 0, slots := 0, locals := 200 })).room s m ([.ref am, .int (I3 act), .int (I3 a), .int (I3 b)] : List Value).toArray below meth c H locs 0 0 (MQ below (QmetX8_reckon dC dI dA A am as_ av aw th mn sm wd lp mp re SG VL wf act a b) ([.ref am, .int (I3 act), .int (I3 a), .int (I3 b)] : List Value).toArray s 0 0 A) (F0 m 166 ls [.int (I3 dn)]) := by
      intro dn W6 hact4 hdn hW6 k5 k6 k7 k8 H locs hP hD hS ls hl
      have hyb : y = SG b := by rw [hy]; unfold recY; rw [if_neg (by omega)]
      refine lv_istore (lv' := [(6, .int (I3 dn)), (0, .ref am), (1, .int (I3 act)), (2, .int (I3 a)), (3, .int (I3 b)), (4, .int (I3 (SG a))), (5, .int (I3 y))]) hx hb dX8_reckon_166 hl (by decide) rfl (fun ls hl => ?_)
      refine lv_iload_n hx hb dX8_reckon_168 rfl (lv_at hl 2 rfl) ?_
      refine lv_iconst (v := I3 (4)) hx hb dX8_reckon_169 rfl ?_
      refine ix_icmp_eq (tgt := 179) hx hb (by first | assumption | decide | (constructor <;> omega)) (by first | assumption | decide | (constructor <;> omega)) dX8_reckon_170 (by decide) (fun c_170 => ?_) (fun c_170 => ?_)
      · skip
        refine lv_iload hx hb dX8_reckon_179 (lv_at hl 0 rfl) ?_
        refine ix_if_eq (tgt := 199) hx hb (by first | assumption | decide | (constructor <;> omega)) dX8_reckon_181 (by decide) (fun c_181 => ?_) (fun c_181 => ?_)
        · skip
          have nd : ¬ recDn act (SG a) (SG b) (pv VL a * qv VL b) (pv VL b * qv VL a) := by rcases hdn with ⟨h1, h2⟩ | ⟨h1, h2⟩; omega; exact h2
          refine lv_aload_n hx hb dX8_reckon_199 rfl (lv_at hl 1 rfl) ?_
          refine lv_bipush (v := I3 (7)) hx hb dX8_reckon_200 (by decide) ?_
          refine lv_iconst (v := I3 (0)) hx hb dX8_reckon_202 rfl ?_
          have h_1 : 0 ≤ (7 : Int) ∧ (7 : Int) < 16 := by decide
          have h_2 : 0 ≤ (0 : Int) ∧ (0 : Int) < 16 := by decide
          have h_3 : (7 : Int) ≠ (0 : Int) := by decide
          have h_4 : Dg W6 := by first | assumption | omega | (constructor <;> omega)
          have hPc := hP.sub (ws' := [(am, .inr (0, [.int (I3 th), .int (I3 mn), .ref as_, .ref av, .ref aw, .int (I3 sm), .int (I3 wd), .int (I3 lp), .int (I3 mp), .int (I3 re)])), (as_, .inl (dA 0, 60, .inl (iA SG))), (av, .inl (dA 1, 960, .inr (.inl (lA VL)))), (aw, .inl (dA 1, 1024, .inr (.inl (lA W6))))]) [0, 1, 2, 3] rfl
          have hDc := hD.sub (ws' := [(am, .inr (0, [.int (I3 th), .int (I3 mn), .ref as_, .ref av, .ref aw, .int (I3 sm), .int (I3 wd), .int (I3 lp), .int (I3 mp), .int (I3 re)])), (as_, .inl (dA 0, 60, .inl (iA SG))), (av, .inl (dA 1, 960, .inr (.inl (lA VL)))), (aw, .inl (dA 1, 1024, .inr (.inl (lA W6))))]) [0, 1, 2, 3] (by decide) rfl
          have hFc := va_free (wc := [(am, .inr (0, [.int (I3 th), .int (I3 mn), .ref as_, .ref av, .ref aw, .int (I3 sm), .int (I3 wd), .int (I3 lp), .int (I3 mp), .int (I3 re)])), (as_, .inl (dA 0, 60, .inl (iA SG))), (av, .inl (dA 1, 960, .inr (.inl (lA VL)))), (aw, .inl (dA 1, 1024, .inr (.inl (lA W6))))]) hD hS hA [0, 1, 2, 3] rfl
          refine va_callv (va_runV (As := [.int (I3 7), .int (I3 0)]) (rest := []) ⟨hx, hb, hml, hown, hts⟩ (metX8_copy l dC dI dA am as_ av aw H.size th mn sm wd lp mp re SG VL W6 7 0 h_1 h_2 h_3 h_4) (cwV 2 hts (lw_V q976 q978 qs24 q66 q979) rfl rfl rfl (by decide +kernel) ⟨Nat.le_of_ble_eq_true rfl, Nat.le_of_ble_eq_true rfl⟩) ⟨fun a U g mk q => by obtain ⟨q0, q1, qP, qK, qD⟩ := q; exact ⟨q0, q1, qP, va_K.moved (u := U) (U := U.calling g mk a) (Vm.Alike.refl U.vm) qK, qD⟩, va_recv hK hPc (ci := 0) (q0 := 0) rfl rfl, fun U hU hW => ⟨rfl, by rw [hU], by rw [hU]; exact hPc, va_K.moved hW.alike hK, hDc.weaken (fun _ _ _ _ => trivial)⟩⟩ rfl rfl hl.1 rfl (lv_room (Nat.le_of_ble_eq_true rfl)) dX8_reckon_203 ⟨Nat.le_of_ble_eq_true rfl, Nat.le_of_ble_eq_true rfl⟩) hS (fun q _ h => hFc q h) hFc (fun u t H1 locs ht hvm hw hB hz1 hk1 hS => ?_)
          obtain ⟨W1_203, rfl⟩ : ∃ z, z = u := ⟨_, rfl⟩
          obtain ⟨p0_203, p1_203, p2_203⟩ : (Dg W1_203) ∧ (Fr W6 W1_203 (0 : Int)) ∧ (rv W1_203 (0 : Int) = rv W6 (7 : Int)) := hw
          obtain ⟨hP1, hK1, hD1⟩ := hB
          rw [ht] at hP1
          obtain ⟨hP, hD⟩ := va_join (wr := []) (w1 := [(am, .inr (0, [.int (I3 th), .int (I3 mn), .ref as_, .ref av, .ref aw, .int (I3 sm), .int (I3 wd), .int (I3 lp), .int (I3 mp), .int (I3 re)])), (as_, .inl (dA 0, 60, .inl (iA SG))), (av, .inl (dA 1, 960, .inr (.inl (lA VL)))), (aw, .inl (dA 1, 1024, .inr (.inl (lA W1_203))))]) hP hD [0, 1, 2, 3] [] rfl rfl (by decide) (by decide) hk1 hFc hP1 hD1
          generalize H1 = H at hP hS ⊢
          have hP : va_P (dC, dI) vwCl [(am, .inr (0, [.int (I3 th), .int (I3 mn), .ref as_, .ref av, .ref aw, .int (I3 sm), .int (I3 wd), .int (I3 lp), .int (I3 mp), .int (I3 re)])), (as_, .inl (dA 0, 60, .inl (iA SG))), (av, .inl (dA 1, 960, .inr (.inl (lA VL)))), (aw, .inl (dA 1, 1024, .inr (.inl (lA W1_203))))] H := hP
          have hD : va_D A [(am, .inr (0, [.int (I3 th), .int (I3 mn), .ref as_, .ref av, .ref aw, .int (I3 sm), .int (I3 wd), .int (I3 lp), .int (I3 mp), .int (I3 re)])), (as_, .inl (dA 0, 60, .inl (iA SG))), (av, .inl (dA 1, 960, .inr (.inl (lA VL)))), (aw, .inl (dA 1, 1024, .inr (.inl (lA W1_203))))] := hD
          refine lv_aload_n hx hb dX8_reckon_206 rfl (lv_at hl 1 rfl) ?_
          refine lv_iconst (v := I3 (1)) hx hb dX8_reckon_207 rfl ?_
          refine lv_lconst (v := L6 1) hx hb dX8_reckon_208 (by decide) ?_
          have h_5 : 0 ≤ (1 : Int) ∧ (1 : Int) < 16 := by decide
          have h_6 : Dg W1_203 := by first | assumption | omega | (constructor <;> omega)
          have hPc := hP.sub (ws' := [(am, .inr (0, [.int (I3 th), .int (I3 mn), .ref as_, .ref av, .ref aw, .int (I3 sm), .int (I3 wd), .int (I3 lp), .int (I3 mp), .int (I3 re)])), (as_, .inl (dA 0, 60, .inl (iA SG))), (av, .inl (dA 1, 960, .inr (.inl (lA VL)))), (aw, .inl (dA 1, 1024, .inr (.inl (lA W1_203))))]) [0, 1, 2, 3] rfl
          have hDc := hD.sub (ws' := [(am, .inr (0, [.int (I3 th), .int (I3 mn), .ref as_, .ref av, .ref aw, .int (I3 sm), .int (I3 wd), .int (I3 lp), .int (I3 mp), .int (I3 re)])), (as_, .inl (dA 0, 60, .inl (iA SG))), (av, .inl (dA 1, 960, .inr (.inl (lA VL)))), (aw, .inl (dA 1, 1024, .inr (.inl (lA W1_203))))]) [0, 1, 2, 3] (by decide) rfl
          have hFc := va_free (wc := [(am, .inr (0, [.int (I3 th), .int (I3 mn), .ref as_, .ref av, .ref aw, .int (I3 sm), .int (I3 wd), .int (I3 lp), .int (I3 mp), .int (I3 re)])), (as_, .inl (dA 0, 60, .inl (iA SG))), (av, .inl (dA 1, 960, .inr (.inl (lA VL)))), (aw, .inl (dA 1, 1024, .inr (.inl (lA W1_203))))]) hD hS hA [0, 1, 2, 3] rfl
          refine va_callv (va_runV (As := [.int (I3 1), .long (L6 1)]) (rest := []) ⟨hx, hb, hml, hown, hts⟩ (metX8_set l dC dI dA am as_ av aw H.size th mn sm wd lp mp re SG VL W1_203 1 1 h_5 h_6) (cwV 2 hts (lw_V q955 q957 qs19 q66 q958) rfl rfl rfl (by decide +kernel) ⟨Nat.le_of_ble_eq_true rfl, Nat.le_of_ble_eq_true rfl⟩) ⟨fun a U g mk q => by obtain ⟨q0, q1, qP, qK, qD⟩ := q; exact ⟨q0, q1, qP, va_K.moved (u := U) (U := U.calling g mk a) (Vm.Alike.refl U.vm) qK, qD⟩, va_recv hK hPc (ci := 0) (q0 := 0) rfl rfl, fun U hU hW => ⟨rfl, by rw [hU], by rw [hU]; exact hPc, va_K.moved hW.alike hK, hDc.weaken (fun _ _ _ _ => trivial)⟩⟩ rfl rfl hl.1 rfl (lv_room (Nat.le_of_ble_eq_true rfl)) dX8_reckon_209 ⟨Nat.le_of_ble_eq_true rfl, Nat.le_of_ble_eq_true rfl⟩) hS (fun q _ h => hFc q h) hFc (fun u t H1 locs ht hvm hw hB hz1 hk1 hS => ?_)
          obtain ⟨W1_209, rfl⟩ : ∃ z, z = u := ⟨_, rfl⟩
          obtain ⟨p0_209, p1_209, p2_209⟩ : (Dg W1_209) ∧ (Fr W1_203 W1_209 (1 : Int)) ∧ (rv W1_209 (1 : Int) = ((1 : Int) % 18446744073709551616).toNat) := hw
          obtain ⟨hP1, hK1, hD1⟩ := hB
          rw [ht] at hP1
          obtain ⟨hP, hD⟩ := va_join (wr := []) (w1 := [(am, .inr (0, [.int (I3 th), .int (I3 mn), .ref as_, .ref av, .ref aw, .int (I3 sm), .int (I3 wd), .int (I3 lp), .int (I3 mp), .int (I3 re)])), (as_, .inl (dA 0, 60, .inl (iA SG))), (av, .inl (dA 1, 960, .inr (.inl (lA VL)))), (aw, .inl (dA 1, 1024, .inr (.inl (lA W1_209))))]) hP hD [0, 1, 2, 3] [] rfl rfl (by decide) (by decide) hk1 hFc hP1 hD1
          generalize H1 = H at hP hS ⊢
          have hP : va_P (dC, dI) vwCl [(am, .inr (0, [.int (I3 th), .int (I3 mn), .ref as_, .ref av, .ref aw, .int (I3 sm), .int (I3 wd), .int (I3 lp), .int (I3 mp), .int (I3 re)])), (as_, .inl (dA 0, 60, .inl (iA SG))), (av, .inl (dA 1, 960, .inr (.inl (lA VL)))), (aw, .inl (dA 1, 1024, .inr (.inl (lA W1_209))))] H := hP
          have hD : va_D A [(am, .inr (0, [.int (I3 th), .int (I3 mn), .ref as_, .ref av, .ref aw, .int (I3 sm), .int (I3 wd), .int (I3 lp), .int (I3 mp), .int (I3 re)])), (as_, .inl (dA 0, 60, .inl (iA SG))), (av, .inl (dA 1, 960, .inr (.inl (lA VL)))), (aw, .inl (dA 1, 1024, .inr (.inl (lA W1_209))))] := hD
          have g0 : rv W1_209 0 = (if recDn act (SG a) (SG b) (pv VL a * qv VL b) (pv VL b * qv VL a) then pv VL a * qv VL b / (pv VL b * qv VL a) + 1 else pv VL a * qv VL b / (pv VL b * qv VL a)) := by rw [Fr_rv p1_209 (by decide), p2_203]; first | (rw [if_pos nd]; exact k7b) | (rw [if_neg nd]; exact k7)
          have g1 : rv W1_209 1 = 1 := by rw [p2_209]; rfl
          refine lv_aload_n hx hb dX8_reckon_212 rfl (lv_at hl 1 rfl) ?_
          refine lv_iload hx hb dX8_reckon_213 (lv_at hl 5 rfl) ?_
          refine lv_iload hx hb dX8_reckon_215 (lv_at hl 6 rfl) ?_
          refine ix_imul hx hb dX8_reckon_217 ?_
          refine lv_iconst (v := I3 (4)) hx hb dX8_reckon_218 rfl ?_
          have h_7 : Dg W1_209 := by first | assumption | omega | (constructor <;> omega)
          have h_8 : Dg VL := by first | assumption | omega | (constructor <;> omega)
          have h_9 : 0 ≤ mn ∧ mn ≤ 60 := by first | assumption | omega | (constructor <;> omega)
          have h_10 : In3 ((SG a) * y) := by rw [hyb]; obtain ⟨q, -, -⟩ := hp3; constructor <;> omega
          have h_11 : In3 (4 : Int) := by first | assumption | omega | (constructor <;> omega)
          have h_12 : rv W1_209 1 ≠ 0 := by rw [g1]; decide
          have h_13 : 2 * rv W1_209 1 ≤ BN := by rw [g1]; omega
          have hPc := hP.sub (ws' := [(am, .inr (0, [.int (I3 th), .int (I3 mn), .ref as_, .ref av, .ref aw, .int (I3 sm), .int (I3 wd), .int (I3 lp), .int (I3 mp), .int (I3 re)])), (as_, .inl (dA 0, 60, .inl (iA SG))), (av, .inl (dA 1, 960, .inr (.inl (lA VL)))), (aw, .inl (dA 1, 1024, .inr (.inl (lA W1_209))))]) [0, 1, 2, 3] rfl
          have hDc := hD.sub (ws' := [(am, .inr (0, [.int (I3 th), .int (I3 mn), .ref as_, .ref av, .ref aw, .int (I3 sm), .int (I3 wd), .int (I3 lp), .int (I3 mp), .int (I3 re)])), (as_, .inl (dA 0, 60, .inl (iA SG))), (av, .inl (dA 1, 960, .inr (.inl (lA VL)))), (aw, .inl (dA 1, 1024, .inr (.inl (lA W1_209))))]) [0, 1, 2, 3] (by decide) rfl
          have hFc := va_free (wc := [(am, .inr (0, [.int (I3 th), .int (I3 mn), .ref as_, .ref av, .ref aw, .int (I3 sm), .int (I3 wd), .int (I3 lp), .int (I3 mp), .int (I3 re)])), (as_, .inl (dA 0, 60, .inl (iA SG))), (av, .inl (dA 1, 960, .inr (.inl (lA VL)))), (aw, .inl (dA 1, 1024, .inr (.inl (lA W1_209))))]) hD hS hA [0, 1, 2, 3] rfl
          refine va_calli (va_runV (As := [.int (I3 ((SG a) * y)), .int (I3 4)]) (rest := []) ⟨hx, hb, hml, hown, hts⟩ (metX8_make l dC dI dA am as_ av aw H.size th mn sm wd lp mp re SG VL W1_209 ((SG a) * y) 4 h_7 h_8 h_9 h_10 h_11 h_12 h_13) (cwV 2 hts (lw_V q964 q966 qs21 q66 q967) rfl rfl rfl (by decide +kernel) ⟨Nat.le_of_ble_eq_true rfl, Nat.le_of_ble_eq_true rfl⟩) ⟨fun a U g mk q => by obtain ⟨q0, q1, qP, qK, qD⟩ := q; exact ⟨q0, q1, qP, va_K.moved (u := U) (U := U.calling g mk a) (Vm.Alike.refl U.vm) qK, qD⟩, va_recv hK hPc (ci := 0) (q0 := 0) rfl rfl, fun U hU hW => ⟨rfl, by rw [hU], by rw [hU]; exact hPc, va_K.moved hW.alike hK, hDc.weaken (fun _ _ _ _ => trivial)⟩⟩ rfl rfl hl.1 rfl (lv_room (Nat.le_of_ble_eq_true rfl)) dX8_reckon_219 ⟨Nat.le_of_ble_eq_true rfl, Nat.le_of_ble_eq_true rfl⟩) hS (fun q _ h => hFc q h) hFc (fun r_219 u t H1 locs ht hvm hw hB hz1 hk1 hS => ?_)
          obtain ⟨z_219, th1_219, mn1_219, SG1_219, VL1_219, W1_219⟩ := u
          obtain ⟨rfl, p0_219, p1_219, p2_219, p3_219⟩ : r_219 = I3 z_219 ∧ (Dg W1_219) ∧ (Dg VL1_219) ∧ (0 ≤ mn1_219 ∧ mn1_219 ≤ 60) ∧ (Mde mn SG VL ((SG a) * y) (rv W1_209 0) (rv W1_209 1) (4 : Int) z_219 th1_219 mn1_219 SG1_219 VL1_219) := hw
          obtain ⟨hP1, hK1, hD1⟩ := hB
          rw [ht] at hP1
          obtain ⟨hP, hD⟩ := va_join (wr := []) (w1 := [(am, .inr (0, [.int (I3 th1_219), .int (I3 mn1_219), .ref as_, .ref av, .ref aw, .int (I3 sm), .int (I3 wd), .int (I3 lp), .int (I3 mp), .int (I3 re)])), (as_, .inl (dA 0, 60, .inl (iA SG1_219))), (av, .inl (dA 1, 960, .inr (.inl (lA VL1_219)))), (aw, .inl (dA 1, 1024, .inr (.inl (lA W1_219))))]) hP hD [0, 1, 2, 3] [] rfl rfl (by decide) (by decide) hk1 hFc hP1 hD1
          generalize H1 = H at hP hS ⊢
          have hP : va_P (dC, dI) vwCl [(am, .inr (0, [.int (I3 th1_219), .int (I3 mn1_219), .ref as_, .ref av, .ref aw, .int (I3 sm), .int (I3 wd), .int (I3 lp), .int (I3 mp), .int (I3 re)])), (as_, .inl (dA 0, 60, .inl (iA SG1_219))), (av, .inl (dA 1, 960, .inr (.inl (lA VL1_219)))), (aw, .inl (dA 1, 1024, .inr (.inl (lA W1_219))))] H := hP
          have hD : va_D A [(am, .inr (0, [.int (I3 th1_219), .int (I3 mn1_219), .ref as_, .ref av, .ref aw, .int (I3 sm), .int (I3 wd), .int (I3 lp), .int (I3 mp), .int (I3 re)])), (as_, .inl (dA 0, 60, .inl (iA SG1_219))), (av, .inl (dA 1, 960, .inr (.inl (lA VL1_219)))), (aw, .inl (dA 1, 1024, .inr (.inl (lA W1_219))))] := hD
          have hM := p3_219
          rw [g0, g1, hyb] at hM
          have he := rec_46 (C := qv VL a * qv VL b) (pa := pv VL a) (pb := pv VL b) (x := SG a) (y := SG b) (A := pv VL a * qv VL b) (B := pv VL b * qv VL a) (show act = 4 ∨ act = 6 by omega)
          have hM2 : Mde mn SG VL (recG act (SG a) (SG b) (pv VL a * qv VL b) (pv VL b * qv VL a)) (recP act (SG a) (SG b) (pv VL a) (pv VL b) (pv VL a * qv VL b) (pv VL b * qv VL a)) (recQ act (pv VL b * qv VL a) (qv VL a * qv VL b)) 4 z_219 th1_219 mn1_219 SG1_219 VL1_219 := by rw [he.1, he.2.1, he.2.2]; exact hM
          have o_14 : Dg W1_219 := by first | assumption | omega | (constructor <;> omega)
          have o_15 : MI mn1_219 SG1_219 VL1_219 := by exact MI_Mde hI (by rw [he.2.2]; decide) hg3.1 hg3.2 p1_219 p2_219 hM2
          have o_16 : Mde mn SG VL (recG act (SG a) (SG b) (pv VL a * qv VL b) (pv VL b * qv VL a)) (recP act (SG a) (SG b) (pv VL a) (pv VL b) (pv VL a * qv VL b) (pv VL b * qv VL a)) (recQ act (pv VL b * qv VL a) (qv VL a * qv VL b)) 4 z_219 th1_219 mn1_219 SG1_219 VL1_219 := by exact hM2
          exact W.iret (v := I3 z_219) hx hb hr (fun t ht hW => ⟨⟨I3 z_219, (z_219, th1_219, mn1_219, SG1_219, VL1_219, W1_219), rfl, ⟨rfl, ⟨o_14, o_15, o_16⟩⟩, by rw [ht]; exact hP, va_K.moved hW.alike hK, hD⟩, hS.F ht⟩) hS.2.2 dX8_reckon_222
        · skip
          have nd : recDn act (SG a) (SG b) (pv VL a * qv VL b) (pv VL b * qv VL a) := by rcases hdn with ⟨h1, h2⟩ | ⟨h1, h2⟩; exact h2; omega
          refine lv_aload_n hx hb dX8_reckon_184 rfl (lv_at hl 1 rfl) ?_
          refine lv_bipush (v := I3 (9)) hx hb dX8_reckon_185 (by decide) ?_
          refine lv_lconst (v := L6 1) hx hb dX8_reckon_187 (by decide) ?_
          have h_17 : 0 ≤ (9 : Int) ∧ (9 : Int) < 16 := by decide
          have h_18 : Dg W6 := by first | assumption | omega | (constructor <;> omega)
          have hPc := hP.sub (ws' := [(am, .inr (0, [.int (I3 th), .int (I3 mn), .ref as_, .ref av, .ref aw, .int (I3 sm), .int (I3 wd), .int (I3 lp), .int (I3 mp), .int (I3 re)])), (as_, .inl (dA 0, 60, .inl (iA SG))), (av, .inl (dA 1, 960, .inr (.inl (lA VL)))), (aw, .inl (dA 1, 1024, .inr (.inl (lA W6))))]) [0, 1, 2, 3] rfl
          have hDc := hD.sub (ws' := [(am, .inr (0, [.int (I3 th), .int (I3 mn), .ref as_, .ref av, .ref aw, .int (I3 sm), .int (I3 wd), .int (I3 lp), .int (I3 mp), .int (I3 re)])), (as_, .inl (dA 0, 60, .inl (iA SG))), (av, .inl (dA 1, 960, .inr (.inl (lA VL)))), (aw, .inl (dA 1, 1024, .inr (.inl (lA W6))))]) [0, 1, 2, 3] (by decide) rfl
          have hFc := va_free (wc := [(am, .inr (0, [.int (I3 th), .int (I3 mn), .ref as_, .ref av, .ref aw, .int (I3 sm), .int (I3 wd), .int (I3 lp), .int (I3 mp), .int (I3 re)])), (as_, .inl (dA 0, 60, .inl (iA SG))), (av, .inl (dA 1, 960, .inr (.inl (lA VL)))), (aw, .inl (dA 1, 1024, .inr (.inl (lA W6))))]) hD hS hA [0, 1, 2, 3] rfl
          refine va_callv (va_runV (As := [.int (I3 9), .long (L6 1)]) (rest := []) ⟨hx, hb, hml, hown, hts⟩ (metX8_set l dC dI dA am as_ av aw H.size th mn sm wd lp mp re SG VL W6 9 1 h_17 h_18) (cwV 2 hts (lw_V q955 q957 qs19 q66 q958) rfl rfl rfl (by decide +kernel) ⟨Nat.le_of_ble_eq_true rfl, Nat.le_of_ble_eq_true rfl⟩) ⟨fun a U g mk q => by obtain ⟨q0, q1, qP, qK, qD⟩ := q; exact ⟨q0, q1, qP, va_K.moved (u := U) (U := U.calling g mk a) (Vm.Alike.refl U.vm) qK, qD⟩, va_recv hK hPc (ci := 0) (q0 := 0) rfl rfl, fun U hU hW => ⟨rfl, by rw [hU], by rw [hU]; exact hPc, va_K.moved hW.alike hK, hDc.weaken (fun _ _ _ _ => trivial)⟩⟩ rfl rfl hl.1 rfl (lv_room (Nat.le_of_ble_eq_true rfl)) dX8_reckon_188 ⟨Nat.le_of_ble_eq_true rfl, Nat.le_of_ble_eq_true rfl⟩) hS (fun q _ h => hFc q h) hFc (fun u t H1 locs ht hvm hw hB hz1 hk1 hS => ?_)
          obtain ⟨W1_188, rfl⟩ : ∃ z, z = u := ⟨_, rfl⟩
          obtain ⟨p0_188, p1_188, p2_188⟩ : (Dg W1_188) ∧ (Fr W6 W1_188 (9 : Int)) ∧ (rv W1_188 (9 : Int) = ((1 : Int) % 18446744073709551616).toNat) := hw
          obtain ⟨hP1, hK1, hD1⟩ := hB
          rw [ht] at hP1
          obtain ⟨hP, hD⟩ := va_join (wr := []) (w1 := [(am, .inr (0, [.int (I3 th), .int (I3 mn), .ref as_, .ref av, .ref aw, .int (I3 sm), .int (I3 wd), .int (I3 lp), .int (I3 mp), .int (I3 re)])), (as_, .inl (dA 0, 60, .inl (iA SG))), (av, .inl (dA 1, 960, .inr (.inl (lA VL)))), (aw, .inl (dA 1, 1024, .inr (.inl (lA W1_188))))]) hP hD [0, 1, 2, 3] [] rfl rfl (by decide) (by decide) hk1 hFc hP1 hD1
          generalize H1 = H at hP hS ⊢
          have hP : va_P (dC, dI) vwCl [(am, .inr (0, [.int (I3 th), .int (I3 mn), .ref as_, .ref av, .ref aw, .int (I3 sm), .int (I3 wd), .int (I3 lp), .int (I3 mp), .int (I3 re)])), (as_, .inl (dA 0, 60, .inl (iA SG))), (av, .inl (dA 1, 960, .inr (.inl (lA VL)))), (aw, .inl (dA 1, 1024, .inr (.inl (lA W1_188))))] H := hP
          have hD : va_D A [(am, .inr (0, [.int (I3 th), .int (I3 mn), .ref as_, .ref av, .ref aw, .int (I3 sm), .int (I3 wd), .int (I3 lp), .int (I3 mp), .int (I3 re)])), (as_, .inl (dA 0, 60, .inl (iA SG))), (av, .inl (dA 1, 960, .inr (.inl (lA VL)))), (aw, .inl (dA 1, 1024, .inr (.inl (lA W1_188))))] := hD
          refine lv_aload_n hx hb dX8_reckon_191 rfl (lv_at hl 1 rfl) ?_
          refine lv_bipush (v := I3 (7)) hx hb dX8_reckon_192 (by decide) ?_
          refine lv_bipush (v := I3 (9)) hx hb dX8_reckon_194 (by decide) ?_
          have h_19 : 0 ≤ (7 : Int) ∧ (7 : Int) < 16 := by decide
          have h_20 : 0 ≤ (9 : Int) ∧ (9 : Int) < 16 := by decide
          have h_21 : (7 : Int) ≠ (9 : Int) := by decide
          have h_22 : Dg W1_188 := by first | assumption | omega | (constructor <;> omega)
          have hPc := hP.sub (ws' := [(am, .inr (0, [.int (I3 th), .int (I3 mn), .ref as_, .ref av, .ref aw, .int (I3 sm), .int (I3 wd), .int (I3 lp), .int (I3 mp), .int (I3 re)])), (as_, .inl (dA 0, 60, .inl (iA SG))), (av, .inl (dA 1, 960, .inr (.inl (lA VL)))), (aw, .inl (dA 1, 1024, .inr (.inl (lA W1_188))))]) [0, 1, 2, 3] rfl
          have hDc := hD.sub (ws' := [(am, .inr (0, [.int (I3 th), .int (I3 mn), .ref as_, .ref av, .ref aw, .int (I3 sm), .int (I3 wd), .int (I3 lp), .int (I3 mp), .int (I3 re)])), (as_, .inl (dA 0, 60, .inl (iA SG))), (av, .inl (dA 1, 960, .inr (.inl (lA VL)))), (aw, .inl (dA 1, 1024, .inr (.inl (lA W1_188))))]) [0, 1, 2, 3] (by decide) rfl
          have hFc := va_free (wc := [(am, .inr (0, [.int (I3 th), .int (I3 mn), .ref as_, .ref av, .ref aw, .int (I3 sm), .int (I3 wd), .int (I3 lp), .int (I3 mp), .int (I3 re)])), (as_, .inl (dA 0, 60, .inl (iA SG))), (av, .inl (dA 1, 960, .inr (.inl (lA VL)))), (aw, .inl (dA 1, 1024, .inr (.inl (lA W1_188))))]) hD hS hA [0, 1, 2, 3] rfl
          refine va_callv (va_runV (As := [.int (I3 7), .int (I3 9)]) (rest := []) ⟨hx, hb, hml, hown, hts⟩ (metX8_add l dC dI dA am as_ av aw H.size th mn sm wd lp mp re SG VL W1_188 7 9 h_19 h_20 h_21 h_22) (cwV 2 hts (lw_V q1094 q1096 qs45 q66 q1097) rfl rfl rfl (by decide +kernel) ⟨Nat.le_of_ble_eq_true rfl, Nat.le_of_ble_eq_true rfl⟩) ⟨fun a U g mk q => by obtain ⟨q0, q1, qP, qK, qD⟩ := q; exact ⟨q0, q1, qP, va_K.moved (u := U) (U := U.calling g mk a) (Vm.Alike.refl U.vm) qK, qD⟩, va_recv hK hPc (ci := 0) (q0 := 0) rfl rfl, fun U hU hW => ⟨rfl, by rw [hU], by rw [hU]; exact hPc, va_K.moved hW.alike hK, hDc.weaken (fun _ _ _ _ => trivial)⟩⟩ rfl rfl hl.1 rfl (lv_room (Nat.le_of_ble_eq_true rfl)) dX8_reckon_196 ⟨Nat.le_of_ble_eq_true rfl, Nat.le_of_ble_eq_true rfl⟩) hS (fun q _ h => hFc q h) hFc (fun u t H1 locs ht hvm hw hB hz1 hk1 hS => ?_)
          obtain ⟨W1_196, rfl⟩ : ∃ z, z = u := ⟨_, rfl⟩
          obtain ⟨p0_196, p1_196, p2_196⟩ : (Dg W1_196) ∧ (Fr W1_188 W1_196 (7 : Int)) ∧ (rv W1_196 (7 : Int) = (rv W1_188 (7 : Int) + rv W1_188 (9 : Int)) % BN) := hw
          obtain ⟨hP1, hK1, hD1⟩ := hB
          rw [ht] at hP1
          obtain ⟨hP, hD⟩ := va_join (wr := []) (w1 := [(am, .inr (0, [.int (I3 th), .int (I3 mn), .ref as_, .ref av, .ref aw, .int (I3 sm), .int (I3 wd), .int (I3 lp), .int (I3 mp), .int (I3 re)])), (as_, .inl (dA 0, 60, .inl (iA SG))), (av, .inl (dA 1, 960, .inr (.inl (lA VL)))), (aw, .inl (dA 1, 1024, .inr (.inl (lA W1_196))))]) hP hD [0, 1, 2, 3] [] rfl rfl (by decide) (by decide) hk1 hFc hP1 hD1
          generalize H1 = H at hP hS ⊢
          have hP : va_P (dC, dI) vwCl [(am, .inr (0, [.int (I3 th), .int (I3 mn), .ref as_, .ref av, .ref aw, .int (I3 sm), .int (I3 wd), .int (I3 lp), .int (I3 mp), .int (I3 re)])), (as_, .inl (dA 0, 60, .inl (iA SG))), (av, .inl (dA 1, 960, .inr (.inl (lA VL)))), (aw, .inl (dA 1, 1024, .inr (.inl (lA W1_196))))] H := hP
          have hD : va_D A [(am, .inr (0, [.int (I3 th), .int (I3 mn), .ref as_, .ref av, .ref aw, .int (I3 sm), .int (I3 wd), .int (I3 lp), .int (I3 mp), .int (I3 re)])), (as_, .inl (dA 0, 60, .inl (iA SG))), (av, .inl (dA 1, 960, .inr (.inl (lA VL)))), (aw, .inl (dA 1, 1024, .inr (.inl (lA W1_196))))] := hD
          have k7b : rv W1_196 7 = pv VL a * qv VL b / (pv VL b * qv VL a) + 1 := by rw [p2_196, Fr_rv p1_188 (by decide), k7, p2_188]; have hdl := Nat.div_le_self (pv VL a * qv VL b) (pv VL b * qv VL a); exact mod_BN (by rw [show ((1 : Int) % 18446744073709551616).toNat = 1 from rfl]; omega)
          refine lv_aload_n hx hb dX8_reckon_199 rfl (lv_at hl 1 rfl) ?_
          refine lv_bipush (v := I3 (7)) hx hb dX8_reckon_200 (by decide) ?_
          refine lv_iconst (v := I3 (0)) hx hb dX8_reckon_202 rfl ?_
          have h_23 : 0 ≤ (7 : Int) ∧ (7 : Int) < 16 := by decide
          have h_24 : 0 ≤ (0 : Int) ∧ (0 : Int) < 16 := by decide
          have h_25 : (7 : Int) ≠ (0 : Int) := by decide
          have h_26 : Dg W1_196 := by first | assumption | omega | (constructor <;> omega)
          have hPc := hP.sub (ws' := [(am, .inr (0, [.int (I3 th), .int (I3 mn), .ref as_, .ref av, .ref aw, .int (I3 sm), .int (I3 wd), .int (I3 lp), .int (I3 mp), .int (I3 re)])), (as_, .inl (dA 0, 60, .inl (iA SG))), (av, .inl (dA 1, 960, .inr (.inl (lA VL)))), (aw, .inl (dA 1, 1024, .inr (.inl (lA W1_196))))]) [0, 1, 2, 3] rfl
          have hDc := hD.sub (ws' := [(am, .inr (0, [.int (I3 th), .int (I3 mn), .ref as_, .ref av, .ref aw, .int (I3 sm), .int (I3 wd), .int (I3 lp), .int (I3 mp), .int (I3 re)])), (as_, .inl (dA 0, 60, .inl (iA SG))), (av, .inl (dA 1, 960, .inr (.inl (lA VL)))), (aw, .inl (dA 1, 1024, .inr (.inl (lA W1_196))))]) [0, 1, 2, 3] (by decide) rfl
          have hFc := va_free (wc := [(am, .inr (0, [.int (I3 th), .int (I3 mn), .ref as_, .ref av, .ref aw, .int (I3 sm), .int (I3 wd), .int (I3 lp), .int (I3 mp), .int (I3 re)])), (as_, .inl (dA 0, 60, .inl (iA SG))), (av, .inl (dA 1, 960, .inr (.inl (lA VL)))), (aw, .inl (dA 1, 1024, .inr (.inl (lA W1_196))))]) hD hS hA [0, 1, 2, 3] rfl
          refine va_callv (va_runV (As := [.int (I3 7), .int (I3 0)]) (rest := []) ⟨hx, hb, hml, hown, hts⟩ (metX8_copy l dC dI dA am as_ av aw H.size th mn sm wd lp mp re SG VL W1_196 7 0 h_23 h_24 h_25 h_26) (cwV 2 hts (lw_V q976 q978 qs24 q66 q979) rfl rfl rfl (by decide +kernel) ⟨Nat.le_of_ble_eq_true rfl, Nat.le_of_ble_eq_true rfl⟩) ⟨fun a U g mk q => by obtain ⟨q0, q1, qP, qK, qD⟩ := q; exact ⟨q0, q1, qP, va_K.moved (u := U) (U := U.calling g mk a) (Vm.Alike.refl U.vm) qK, qD⟩, va_recv hK hPc (ci := 0) (q0 := 0) rfl rfl, fun U hU hW => ⟨rfl, by rw [hU], by rw [hU]; exact hPc, va_K.moved hW.alike hK, hDc.weaken (fun _ _ _ _ => trivial)⟩⟩ rfl rfl hl.1 rfl (lv_room (Nat.le_of_ble_eq_true rfl)) dX8_reckon_203 ⟨Nat.le_of_ble_eq_true rfl, Nat.le_of_ble_eq_true rfl⟩) hS (fun q _ h => hFc q h) hFc (fun u t H1 locs ht hvm hw hB hz1 hk1 hS => ?_)
          obtain ⟨W1_203, rfl⟩ : ∃ z, z = u := ⟨_, rfl⟩
          obtain ⟨p0_203, p1_203, p2_203⟩ : (Dg W1_203) ∧ (Fr W1_196 W1_203 (0 : Int)) ∧ (rv W1_203 (0 : Int) = rv W1_196 (7 : Int)) := hw
          obtain ⟨hP1, hK1, hD1⟩ := hB
          rw [ht] at hP1
          obtain ⟨hP, hD⟩ := va_join (wr := []) (w1 := [(am, .inr (0, [.int (I3 th), .int (I3 mn), .ref as_, .ref av, .ref aw, .int (I3 sm), .int (I3 wd), .int (I3 lp), .int (I3 mp), .int (I3 re)])), (as_, .inl (dA 0, 60, .inl (iA SG))), (av, .inl (dA 1, 960, .inr (.inl (lA VL)))), (aw, .inl (dA 1, 1024, .inr (.inl (lA W1_203))))]) hP hD [0, 1, 2, 3] [] rfl rfl (by decide) (by decide) hk1 hFc hP1 hD1
          generalize H1 = H at hP hS ⊢
          have hP : va_P (dC, dI) vwCl [(am, .inr (0, [.int (I3 th), .int (I3 mn), .ref as_, .ref av, .ref aw, .int (I3 sm), .int (I3 wd), .int (I3 lp), .int (I3 mp), .int (I3 re)])), (as_, .inl (dA 0, 60, .inl (iA SG))), (av, .inl (dA 1, 960, .inr (.inl (lA VL)))), (aw, .inl (dA 1, 1024, .inr (.inl (lA W1_203))))] H := hP
          have hD : va_D A [(am, .inr (0, [.int (I3 th), .int (I3 mn), .ref as_, .ref av, .ref aw, .int (I3 sm), .int (I3 wd), .int (I3 lp), .int (I3 mp), .int (I3 re)])), (as_, .inl (dA 0, 60, .inl (iA SG))), (av, .inl (dA 1, 960, .inr (.inl (lA VL)))), (aw, .inl (dA 1, 1024, .inr (.inl (lA W1_203))))] := hD
          refine lv_aload_n hx hb dX8_reckon_206 rfl (lv_at hl 1 rfl) ?_
          refine lv_iconst (v := I3 (1)) hx hb dX8_reckon_207 rfl ?_
          refine lv_lconst (v := L6 1) hx hb dX8_reckon_208 (by decide) ?_
          have h_27 : 0 ≤ (1 : Int) ∧ (1 : Int) < 16 := by decide
          have h_28 : Dg W1_203 := by first | assumption | omega | (constructor <;> omega)
          have hPc := hP.sub (ws' := [(am, .inr (0, [.int (I3 th), .int (I3 mn), .ref as_, .ref av, .ref aw, .int (I3 sm), .int (I3 wd), .int (I3 lp), .int (I3 mp), .int (I3 re)])), (as_, .inl (dA 0, 60, .inl (iA SG))), (av, .inl (dA 1, 960, .inr (.inl (lA VL)))), (aw, .inl (dA 1, 1024, .inr (.inl (lA W1_203))))]) [0, 1, 2, 3] rfl
          have hDc := hD.sub (ws' := [(am, .inr (0, [.int (I3 th), .int (I3 mn), .ref as_, .ref av, .ref aw, .int (I3 sm), .int (I3 wd), .int (I3 lp), .int (I3 mp), .int (I3 re)])), (as_, .inl (dA 0, 60, .inl (iA SG))), (av, .inl (dA 1, 960, .inr (.inl (lA VL)))), (aw, .inl (dA 1, 1024, .inr (.inl (lA W1_203))))]) [0, 1, 2, 3] (by decide) rfl
          have hFc := va_free (wc := [(am, .inr (0, [.int (I3 th), .int (I3 mn), .ref as_, .ref av, .ref aw, .int (I3 sm), .int (I3 wd), .int (I3 lp), .int (I3 mp), .int (I3 re)])), (as_, .inl (dA 0, 60, .inl (iA SG))), (av, .inl (dA 1, 960, .inr (.inl (lA VL)))), (aw, .inl (dA 1, 1024, .inr (.inl (lA W1_203))))]) hD hS hA [0, 1, 2, 3] rfl
          refine va_callv (va_runV (As := [.int (I3 1), .long (L6 1)]) (rest := []) ⟨hx, hb, hml, hown, hts⟩ (metX8_set l dC dI dA am as_ av aw H.size th mn sm wd lp mp re SG VL W1_203 1 1 h_27 h_28) (cwV 2 hts (lw_V q955 q957 qs19 q66 q958) rfl rfl rfl (by decide +kernel) ⟨Nat.le_of_ble_eq_true rfl, Nat.le_of_ble_eq_true rfl⟩) ⟨fun a U g mk q => by obtain ⟨q0, q1, qP, qK, qD⟩ := q; exact ⟨q0, q1, qP, va_K.moved (u := U) (U := U.calling g mk a) (Vm.Alike.refl U.vm) qK, qD⟩, va_recv hK hPc (ci := 0) (q0 := 0) rfl rfl, fun U hU hW => ⟨rfl, by rw [hU], by rw [hU]; exact hPc, va_K.moved hW.alike hK, hDc.weaken (fun _ _ _ _ => trivial)⟩⟩ rfl rfl hl.1 rfl (lv_room (Nat.le_of_ble_eq_true rfl)) dX8_reckon_209 ⟨Nat.le_of_ble_eq_true rfl, Nat.le_of_ble_eq_true rfl⟩) hS (fun q _ h => hFc q h) hFc (fun u t H1 locs ht hvm hw hB hz1 hk1 hS => ?_)
          obtain ⟨W1_209, rfl⟩ : ∃ z, z = u := ⟨_, rfl⟩
          obtain ⟨p0_209, p1_209, p2_209⟩ : (Dg W1_209) ∧ (Fr W1_203 W1_209 (1 : Int)) ∧ (rv W1_209 (1 : Int) = ((1 : Int) % 18446744073709551616).toNat) := hw
          obtain ⟨hP1, hK1, hD1⟩ := hB
          rw [ht] at hP1
          obtain ⟨hP, hD⟩ := va_join (wr := []) (w1 := [(am, .inr (0, [.int (I3 th), .int (I3 mn), .ref as_, .ref av, .ref aw, .int (I3 sm), .int (I3 wd), .int (I3 lp), .int (I3 mp), .int (I3 re)])), (as_, .inl (dA 0, 60, .inl (iA SG))), (av, .inl (dA 1, 960, .inr (.inl (lA VL)))), (aw, .inl (dA 1, 1024, .inr (.inl (lA W1_209))))]) hP hD [0, 1, 2, 3] [] rfl rfl (by decide) (by decide) hk1 hFc hP1 hD1
          generalize H1 = H at hP hS ⊢
          have hP : va_P (dC, dI) vwCl [(am, .inr (0, [.int (I3 th), .int (I3 mn), .ref as_, .ref av, .ref aw, .int (I3 sm), .int (I3 wd), .int (I3 lp), .int (I3 mp), .int (I3 re)])), (as_, .inl (dA 0, 60, .inl (iA SG))), (av, .inl (dA 1, 960, .inr (.inl (lA VL)))), (aw, .inl (dA 1, 1024, .inr (.inl (lA W1_209))))] H := hP
          have hD : va_D A [(am, .inr (0, [.int (I3 th), .int (I3 mn), .ref as_, .ref av, .ref aw, .int (I3 sm), .int (I3 wd), .int (I3 lp), .int (I3 mp), .int (I3 re)])), (as_, .inl (dA 0, 60, .inl (iA SG))), (av, .inl (dA 1, 960, .inr (.inl (lA VL)))), (aw, .inl (dA 1, 1024, .inr (.inl (lA W1_209))))] := hD
          have g0 : rv W1_209 0 = (if recDn act (SG a) (SG b) (pv VL a * qv VL b) (pv VL b * qv VL a) then pv VL a * qv VL b / (pv VL b * qv VL a) + 1 else pv VL a * qv VL b / (pv VL b * qv VL a)) := by rw [Fr_rv p1_209 (by decide), p2_203]; first | (rw [if_pos nd]; exact k7b) | (rw [if_neg nd]; exact k7)
          have g1 : rv W1_209 1 = 1 := by rw [p2_209]; rfl
          refine lv_aload_n hx hb dX8_reckon_212 rfl (lv_at hl 1 rfl) ?_
          refine lv_iload hx hb dX8_reckon_213 (lv_at hl 5 rfl) ?_
          refine lv_iload hx hb dX8_reckon_215 (lv_at hl 6 rfl) ?_
          refine ix_imul hx hb dX8_reckon_217 ?_
          refine lv_iconst (v := I3 (4)) hx hb dX8_reckon_218 rfl ?_
          have h_29 : Dg W1_209 := by first | assumption | omega | (constructor <;> omega)
          have h_30 : Dg VL := by first | assumption | omega | (constructor <;> omega)
          have h_31 : 0 ≤ mn ∧ mn ≤ 60 := by first | assumption | omega | (constructor <;> omega)
          have h_32 : In3 ((SG a) * y) := by rw [hyb]; obtain ⟨q, -, -⟩ := hp3; constructor <;> omega
          have h_33 : In3 (4 : Int) := by first | assumption | omega | (constructor <;> omega)
          have h_34 : rv W1_209 1 ≠ 0 := by rw [g1]; decide
          have h_35 : 2 * rv W1_209 1 ≤ BN := by rw [g1]; omega
          have hPc := hP.sub (ws' := [(am, .inr (0, [.int (I3 th), .int (I3 mn), .ref as_, .ref av, .ref aw, .int (I3 sm), .int (I3 wd), .int (I3 lp), .int (I3 mp), .int (I3 re)])), (as_, .inl (dA 0, 60, .inl (iA SG))), (av, .inl (dA 1, 960, .inr (.inl (lA VL)))), (aw, .inl (dA 1, 1024, .inr (.inl (lA W1_209))))]) [0, 1, 2, 3] rfl
          have hDc := hD.sub (ws' := [(am, .inr (0, [.int (I3 th), .int (I3 mn), .ref as_, .ref av, .ref aw, .int (I3 sm), .int (I3 wd), .int (I3 lp), .int (I3 mp), .int (I3 re)])), (as_, .inl (dA 0, 60, .inl (iA SG))), (av, .inl (dA 1, 960, .inr (.inl (lA VL)))), (aw, .inl (dA 1, 1024, .inr (.inl (lA W1_209))))]) [0, 1, 2, 3] (by decide) rfl
          have hFc := va_free (wc := [(am, .inr (0, [.int (I3 th), .int (I3 mn), .ref as_, .ref av, .ref aw, .int (I3 sm), .int (I3 wd), .int (I3 lp), .int (I3 mp), .int (I3 re)])), (as_, .inl (dA 0, 60, .inl (iA SG))), (av, .inl (dA 1, 960, .inr (.inl (lA VL)))), (aw, .inl (dA 1, 1024, .inr (.inl (lA W1_209))))]) hD hS hA [0, 1, 2, 3] rfl
          refine va_calli (va_runV (As := [.int (I3 ((SG a) * y)), .int (I3 4)]) (rest := []) ⟨hx, hb, hml, hown, hts⟩ (metX8_make l dC dI dA am as_ av aw H.size th mn sm wd lp mp re SG VL W1_209 ((SG a) * y) 4 h_29 h_30 h_31 h_32 h_33 h_34 h_35) (cwV 2 hts (lw_V q964 q966 qs21 q66 q967) rfl rfl rfl (by decide +kernel) ⟨Nat.le_of_ble_eq_true rfl, Nat.le_of_ble_eq_true rfl⟩) ⟨fun a U g mk q => by obtain ⟨q0, q1, qP, qK, qD⟩ := q; exact ⟨q0, q1, qP, va_K.moved (u := U) (U := U.calling g mk a) (Vm.Alike.refl U.vm) qK, qD⟩, va_recv hK hPc (ci := 0) (q0 := 0) rfl rfl, fun U hU hW => ⟨rfl, by rw [hU], by rw [hU]; exact hPc, va_K.moved hW.alike hK, hDc.weaken (fun _ _ _ _ => trivial)⟩⟩ rfl rfl hl.1 rfl (lv_room (Nat.le_of_ble_eq_true rfl)) dX8_reckon_219 ⟨Nat.le_of_ble_eq_true rfl, Nat.le_of_ble_eq_true rfl⟩) hS (fun q _ h => hFc q h) hFc (fun r_219 u t H1 locs ht hvm hw hB hz1 hk1 hS => ?_)
          obtain ⟨z_219, th1_219, mn1_219, SG1_219, VL1_219, W1_219⟩ := u
          obtain ⟨rfl, p0_219, p1_219, p2_219, p3_219⟩ : r_219 = I3 z_219 ∧ (Dg W1_219) ∧ (Dg VL1_219) ∧ (0 ≤ mn1_219 ∧ mn1_219 ≤ 60) ∧ (Mde mn SG VL ((SG a) * y) (rv W1_209 0) (rv W1_209 1) (4 : Int) z_219 th1_219 mn1_219 SG1_219 VL1_219) := hw
          obtain ⟨hP1, hK1, hD1⟩ := hB
          rw [ht] at hP1
          obtain ⟨hP, hD⟩ := va_join (wr := []) (w1 := [(am, .inr (0, [.int (I3 th1_219), .int (I3 mn1_219), .ref as_, .ref av, .ref aw, .int (I3 sm), .int (I3 wd), .int (I3 lp), .int (I3 mp), .int (I3 re)])), (as_, .inl (dA 0, 60, .inl (iA SG1_219))), (av, .inl (dA 1, 960, .inr (.inl (lA VL1_219)))), (aw, .inl (dA 1, 1024, .inr (.inl (lA W1_219))))]) hP hD [0, 1, 2, 3] [] rfl rfl (by decide) (by decide) hk1 hFc hP1 hD1
          generalize H1 = H at hP hS ⊢
          have hP : va_P (dC, dI) vwCl [(am, .inr (0, [.int (I3 th1_219), .int (I3 mn1_219), .ref as_, .ref av, .ref aw, .int (I3 sm), .int (I3 wd), .int (I3 lp), .int (I3 mp), .int (I3 re)])), (as_, .inl (dA 0, 60, .inl (iA SG1_219))), (av, .inl (dA 1, 960, .inr (.inl (lA VL1_219)))), (aw, .inl (dA 1, 1024, .inr (.inl (lA W1_219))))] H := hP
          have hD : va_D A [(am, .inr (0, [.int (I3 th1_219), .int (I3 mn1_219), .ref as_, .ref av, .ref aw, .int (I3 sm), .int (I3 wd), .int (I3 lp), .int (I3 mp), .int (I3 re)])), (as_, .inl (dA 0, 60, .inl (iA SG1_219))), (av, .inl (dA 1, 960, .inr (.inl (lA VL1_219)))), (aw, .inl (dA 1, 1024, .inr (.inl (lA W1_219))))] := hD
          have hM := p3_219
          rw [g0, g1, hyb] at hM
          have he := rec_46 (C := qv VL a * qv VL b) (pa := pv VL a) (pb := pv VL b) (x := SG a) (y := SG b) (A := pv VL a * qv VL b) (B := pv VL b * qv VL a) (show act = 4 ∨ act = 6 by omega)
          have hM2 : Mde mn SG VL (recG act (SG a) (SG b) (pv VL a * qv VL b) (pv VL b * qv VL a)) (recP act (SG a) (SG b) (pv VL a) (pv VL b) (pv VL a * qv VL b) (pv VL b * qv VL a)) (recQ act (pv VL b * qv VL a) (qv VL a * qv VL b)) 4 z_219 th1_219 mn1_219 SG1_219 VL1_219 := by rw [he.1, he.2.1, he.2.2]; exact hM
          have o_36 : Dg W1_219 := by first | assumption | omega | (constructor <;> omega)
          have o_37 : MI mn1_219 SG1_219 VL1_219 := by exact MI_Mde hI (by rw [he.2.2]; decide) hg3.1 hg3.2 p1_219 p2_219 hM2
          have o_38 : Mde mn SG VL (recG act (SG a) (SG b) (pv VL a * qv VL b) (pv VL b * qv VL a)) (recP act (SG a) (SG b) (pv VL a) (pv VL b) (pv VL a * qv VL b) (pv VL b * qv VL a)) (recQ act (pv VL b * qv VL a) (qv VL a * qv VL b)) 4 z_219 th1_219 mn1_219 SG1_219 VL1_219 := by exact hM2
          exact W.iret (v := I3 z_219) hx hb hr (fun t ht hW => ⟨⟨I3 z_219, (z_219, th1_219, mn1_219, SG1_219, VL1_219, W1_219), rfl, ⟨rfl, ⟨o_36, o_37, o_38⟩⟩, by rw [ht]; exact hP, va_K.moved hW.alike hK, hD⟩, hS.F ht⟩) hS.2.2 dX8_reckon_222
      · skip
        refine lv_iload_n hx hb dX8_reckon_173 rfl (lv_at hl 2 rfl) ?_
        refine lv_bipush (v := I3 (6)) hx hb dX8_reckon_174 (by decide) ?_
        refine ix_icmp_ne (tgt := 223) hx hb (by first | assumption | decide | (constructor <;> omega)) (by first | assumption | decide | (constructor <;> omega)) dX8_reckon_176 (by decide) (fun c_176 => ?_) (fun c_176 => ?_)
        · skip
          refine lv_aload_n hx hb dX8_reckon_223 rfl (lv_at hl 1 rfl) ?_
          refine lv_bipush (v := I3 (8)) hx hb dX8_reckon_224 (by decide) ?_
          refine lv_iconst (v := I3 (0)) hx hb dX8_reckon_226 rfl ?_
          have h_39 : 0 ≤ (8 : Int) ∧ (8 : Int) < 16 := by decide
          have h_40 : 0 ≤ (0 : Int) ∧ (0 : Int) < 16 := by decide
          have h_41 : (8 : Int) ≠ (0 : Int) := by decide
          have h_42 : Dg W6 := by first | assumption | omega | (constructor <;> omega)
          have hPc := hP.sub (ws' := [(am, .inr (0, [.int (I3 th), .int (I3 mn), .ref as_, .ref av, .ref aw, .int (I3 sm), .int (I3 wd), .int (I3 lp), .int (I3 mp), .int (I3 re)])), (as_, .inl (dA 0, 60, .inl (iA SG))), (av, .inl (dA 1, 960, .inr (.inl (lA VL)))), (aw, .inl (dA 1, 1024, .inr (.inl (lA W6))))]) [0, 1, 2, 3] rfl
          have hDc := hD.sub (ws' := [(am, .inr (0, [.int (I3 th), .int (I3 mn), .ref as_, .ref av, .ref aw, .int (I3 sm), .int (I3 wd), .int (I3 lp), .int (I3 mp), .int (I3 re)])), (as_, .inl (dA 0, 60, .inl (iA SG))), (av, .inl (dA 1, 960, .inr (.inl (lA VL)))), (aw, .inl (dA 1, 1024, .inr (.inl (lA W6))))]) [0, 1, 2, 3] (by decide) rfl
          have hFc := va_free (wc := [(am, .inr (0, [.int (I3 th), .int (I3 mn), .ref as_, .ref av, .ref aw, .int (I3 sm), .int (I3 wd), .int (I3 lp), .int (I3 mp), .int (I3 re)])), (as_, .inl (dA 0, 60, .inl (iA SG))), (av, .inl (dA 1, 960, .inr (.inl (lA VL)))), (aw, .inl (dA 1, 1024, .inr (.inl (lA W6))))]) hD hS hA [0, 1, 2, 3] rfl
          refine va_callv (va_runV (As := [.int (I3 8), .int (I3 0)]) (rest := []) ⟨hx, hb, hml, hown, hts⟩ (metX8_copy l dC dI dA am as_ av aw H.size th mn sm wd lp mp re SG VL W6 8 0 h_39 h_40 h_41 h_42) (cwV 2 hts (lw_V q976 q978 qs24 q66 q979) rfl rfl rfl (by decide +kernel) ⟨Nat.le_of_ble_eq_true rfl, Nat.le_of_ble_eq_true rfl⟩) ⟨fun a U g mk q => by obtain ⟨q0, q1, qP, qK, qD⟩ := q; exact ⟨q0, q1, qP, va_K.moved (u := U) (U := U.calling g mk a) (Vm.Alike.refl U.vm) qK, qD⟩, va_recv hK hPc (ci := 0) (q0 := 0) rfl rfl, fun U hU hW => ⟨rfl, by rw [hU], by rw [hU]; exact hPc, va_K.moved hW.alike hK, hDc.weaken (fun _ _ _ _ => trivial)⟩⟩ rfl rfl hl.1 rfl (lv_room (Nat.le_of_ble_eq_true rfl)) dX8_reckon_227 ⟨Nat.le_of_ble_eq_true rfl, Nat.le_of_ble_eq_true rfl⟩) hS (fun q _ h => hFc q h) hFc (fun u t H1 locs ht hvm hw hB hz1 hk1 hS => ?_)
          obtain ⟨W1_227, rfl⟩ : ∃ z, z = u := ⟨_, rfl⟩
          obtain ⟨p0_227, p1_227, p2_227⟩ : (Dg W1_227) ∧ (Fr W6 W1_227 (0 : Int)) ∧ (rv W1_227 (0 : Int) = rv W6 (8 : Int)) := hw
          obtain ⟨hP1, hK1, hD1⟩ := hB
          rw [ht] at hP1
          obtain ⟨hP, hD⟩ := va_join (wr := []) (w1 := [(am, .inr (0, [.int (I3 th), .int (I3 mn), .ref as_, .ref av, .ref aw, .int (I3 sm), .int (I3 wd), .int (I3 lp), .int (I3 mp), .int (I3 re)])), (as_, .inl (dA 0, 60, .inl (iA SG))), (av, .inl (dA 1, 960, .inr (.inl (lA VL)))), (aw, .inl (dA 1, 1024, .inr (.inl (lA W1_227))))]) hP hD [0, 1, 2, 3] [] rfl rfl (by decide) (by decide) hk1 hFc hP1 hD1
          generalize H1 = H at hP hS ⊢
          have hP : va_P (dC, dI) vwCl [(am, .inr (0, [.int (I3 th), .int (I3 mn), .ref as_, .ref av, .ref aw, .int (I3 sm), .int (I3 wd), .int (I3 lp), .int (I3 mp), .int (I3 re)])), (as_, .inl (dA 0, 60, .inl (iA SG))), (av, .inl (dA 1, 960, .inr (.inl (lA VL)))), (aw, .inl (dA 1, 1024, .inr (.inl (lA W1_227))))] H := hP
          have hD : va_D A [(am, .inr (0, [.int (I3 th), .int (I3 mn), .ref as_, .ref av, .ref aw, .int (I3 sm), .int (I3 wd), .int (I3 lp), .int (I3 mp), .int (I3 re)])), (as_, .inl (dA 0, 60, .inl (iA SG))), (av, .inl (dA 1, 960, .inr (.inl (lA VL)))), (aw, .inl (dA 1, 1024, .inr (.inl (lA W1_227))))] := hD
          have r0 : rv W1_227 0 = pv VL a * qv VL b % (pv VL b * qv VL a) := p2_227.trans k8
          refine lv_iload hx hb dX8_reckon_230 (lv_at hl 0 rfl) ?_
          refine ix_if_eq (tgt := 248) hx hb (by first | assumption | decide | (constructor <;> omega)) dX8_reckon_232 (by decide) (fun c_232 => ?_) (fun c_232 => ?_)
          · skip
            have nd : ¬ recDn act (SG a) (SG b) (pv VL a * qv VL b) (pv VL b * qv VL a) := by rcases hdn with ⟨h1, h2⟩ | ⟨h1, h2⟩; omega; exact h2
            refine lv_aload_n hx hb dX8_reckon_248 rfl (lv_at hl 1 rfl) ?_
            refine lv_bipush (v := I3 (6)) hx hb dX8_reckon_249 (by decide) ?_
            refine lv_iconst (v := I3 (1)) hx hb dX8_reckon_251 rfl ?_
            have h_43 : 0 ≤ (6 : Int) ∧ (6 : Int) < 16 := by decide
            have h_44 : 0 ≤ (1 : Int) ∧ (1 : Int) < 16 := by decide
            have h_45 : (6 : Int) ≠ (1 : Int) := by decide
            have h_46 : Dg W1_227 := by first | assumption | omega | (constructor <;> omega)
            have hPc := hP.sub (ws' := [(am, .inr (0, [.int (I3 th), .int (I3 mn), .ref as_, .ref av, .ref aw, .int (I3 sm), .int (I3 wd), .int (I3 lp), .int (I3 mp), .int (I3 re)])), (as_, .inl (dA 0, 60, .inl (iA SG))), (av, .inl (dA 1, 960, .inr (.inl (lA VL)))), (aw, .inl (dA 1, 1024, .inr (.inl (lA W1_227))))]) [0, 1, 2, 3] rfl
            have hDc := hD.sub (ws' := [(am, .inr (0, [.int (I3 th), .int (I3 mn), .ref as_, .ref av, .ref aw, .int (I3 sm), .int (I3 wd), .int (I3 lp), .int (I3 mp), .int (I3 re)])), (as_, .inl (dA 0, 60, .inl (iA SG))), (av, .inl (dA 1, 960, .inr (.inl (lA VL)))), (aw, .inl (dA 1, 1024, .inr (.inl (lA W1_227))))]) [0, 1, 2, 3] (by decide) rfl
            have hFc := va_free (wc := [(am, .inr (0, [.int (I3 th), .int (I3 mn), .ref as_, .ref av, .ref aw, .int (I3 sm), .int (I3 wd), .int (I3 lp), .int (I3 mp), .int (I3 re)])), (as_, .inl (dA 0, 60, .inl (iA SG))), (av, .inl (dA 1, 960, .inr (.inl (lA VL)))), (aw, .inl (dA 1, 1024, .inr (.inl (lA W1_227))))]) hD hS hA [0, 1, 2, 3] rfl
            refine va_callv (va_runV (As := [.int (I3 6), .int (I3 1)]) (rest := []) ⟨hx, hb, hml, hown, hts⟩ (metX8_copy l dC dI dA am as_ av aw H.size th mn sm wd lp mp re SG VL W1_227 6 1 h_43 h_44 h_45 h_46) (cwV 2 hts (lw_V q976 q978 qs24 q66 q979) rfl rfl rfl (by decide +kernel) ⟨Nat.le_of_ble_eq_true rfl, Nat.le_of_ble_eq_true rfl⟩) ⟨fun a U g mk q => by obtain ⟨q0, q1, qP, qK, qD⟩ := q; exact ⟨q0, q1, qP, va_K.moved (u := U) (U := U.calling g mk a) (Vm.Alike.refl U.vm) qK, qD⟩, va_recv hK hPc (ci := 0) (q0 := 0) rfl rfl, fun U hU hW => ⟨rfl, by rw [hU], by rw [hU]; exact hPc, va_K.moved hW.alike hK, hDc.weaken (fun _ _ _ _ => trivial)⟩⟩ rfl rfl hl.1 rfl (lv_room (Nat.le_of_ble_eq_true rfl)) dX8_reckon_252 ⟨Nat.le_of_ble_eq_true rfl, Nat.le_of_ble_eq_true rfl⟩) hS (fun q _ h => hFc q h) hFc (fun u t H1 locs ht hvm hw hB hz1 hk1 hS => ?_)
            obtain ⟨W1_252, rfl⟩ : ∃ z, z = u := ⟨_, rfl⟩
            obtain ⟨p0_252, p1_252, p2_252⟩ : (Dg W1_252) ∧ (Fr W1_227 W1_252 (1 : Int)) ∧ (rv W1_252 (1 : Int) = rv W1_227 (6 : Int)) := hw
            obtain ⟨hP1, hK1, hD1⟩ := hB
            rw [ht] at hP1
            obtain ⟨hP, hD⟩ := va_join (wr := []) (w1 := [(am, .inr (0, [.int (I3 th), .int (I3 mn), .ref as_, .ref av, .ref aw, .int (I3 sm), .int (I3 wd), .int (I3 lp), .int (I3 mp), .int (I3 re)])), (as_, .inl (dA 0, 60, .inl (iA SG))), (av, .inl (dA 1, 960, .inr (.inl (lA VL)))), (aw, .inl (dA 1, 1024, .inr (.inl (lA W1_252))))]) hP hD [0, 1, 2, 3] [] rfl rfl (by decide) (by decide) hk1 hFc hP1 hD1
            generalize H1 = H at hP hS ⊢
            have hP : va_P (dC, dI) vwCl [(am, .inr (0, [.int (I3 th), .int (I3 mn), .ref as_, .ref av, .ref aw, .int (I3 sm), .int (I3 wd), .int (I3 lp), .int (I3 mp), .int (I3 re)])), (as_, .inl (dA 0, 60, .inl (iA SG))), (av, .inl (dA 1, 960, .inr (.inl (lA VL)))), (aw, .inl (dA 1, 1024, .inr (.inl (lA W1_252))))] H := hP
            have hD : va_D A [(am, .inr (0, [.int (I3 th), .int (I3 mn), .ref as_, .ref av, .ref aw, .int (I3 sm), .int (I3 wd), .int (I3 lp), .int (I3 mp), .int (I3 re)])), (as_, .inl (dA 0, 60, .inl (iA SG))), (av, .inl (dA 1, 960, .inr (.inl (lA VL)))), (aw, .inl (dA 1, 1024, .inr (.inl (lA W1_252))))] := hD
            have g0 : rv W1_252 0 = (if recDn act (SG a) (SG b) (pv VL a * qv VL b) (pv VL b * qv VL a) then pv VL b * qv VL a - pv VL a * qv VL b % (pv VL b * qv VL a) else pv VL a * qv VL b % (pv VL b * qv VL a)) := by rw [Fr_rv p1_252 (by decide), r0]; first | (rw [if_pos nd]; done) | (rw [if_neg nd]; done)
            have g1 : rv W1_252 1 = qv VL a * qv VL b := by rw [p2_252]; first | exact (Fr_rv p1_245 (by decide)).trans ((Fr_rv p1_238 (by decide)).trans ((Fr_rv p1_227 (by decide)).trans k6)) | exact (Fr_rv p1_227 (by decide)).trans k6
            refine lv_aload_n hx hb dX8_reckon_255 rfl (lv_at hl 1 rfl) ?_
            refine lv_iload hx hb dX8_reckon_256 (lv_at hl 0 rfl) ?_
            refine ix_if_eq (tgt := 266) hx hb (by first | assumption | decide | (constructor <;> omega)) dX8_reckon_258 (by decide) (fun c_258 => ?_) (fun c_258 => ?_)
            · skip
              refine lv_iload hx hb dX8_reckon_266 (lv_at hl 5 rfl) ?_
              refine lv_iconst (v := I3 (4)) hx hb dX8_reckon_268 rfl ?_
              have h_47 : Dg W1_252 := by first | assumption | omega | (constructor <;> omega)
              have h_48 : Dg VL := by first | assumption | omega | (constructor <;> omega)
              have h_49 : 0 ≤ mn ∧ mn ≤ 60 := by first | assumption | omega | (constructor <;> omega)
              have h_50 : In3 (SG a) := by first | (rw [hyb]; constructor <;> omega) | (constructor <;> omega)
              have h_51 : In3 (4 : Int) := by first | assumption | omega | (constructor <;> omega)
              have h_52 : rv W1_252 1 ≠ 0 := by rw [g1]; exact hC0
              have h_53 : 2 * rv W1_252 1 ≤ BN := by rw [g1]; omega
              have hPc := hP.sub (ws' := [(am, .inr (0, [.int (I3 th), .int (I3 mn), .ref as_, .ref av, .ref aw, .int (I3 sm), .int (I3 wd), .int (I3 lp), .int (I3 mp), .int (I3 re)])), (as_, .inl (dA 0, 60, .inl (iA SG))), (av, .inl (dA 1, 960, .inr (.inl (lA VL)))), (aw, .inl (dA 1, 1024, .inr (.inl (lA W1_252))))]) [0, 1, 2, 3] rfl
              have hDc := hD.sub (ws' := [(am, .inr (0, [.int (I3 th), .int (I3 mn), .ref as_, .ref av, .ref aw, .int (I3 sm), .int (I3 wd), .int (I3 lp), .int (I3 mp), .int (I3 re)])), (as_, .inl (dA 0, 60, .inl (iA SG))), (av, .inl (dA 1, 960, .inr (.inl (lA VL)))), (aw, .inl (dA 1, 1024, .inr (.inl (lA W1_252))))]) [0, 1, 2, 3] (by decide) rfl
              have hFc := va_free (wc := [(am, .inr (0, [.int (I3 th), .int (I3 mn), .ref as_, .ref av, .ref aw, .int (I3 sm), .int (I3 wd), .int (I3 lp), .int (I3 mp), .int (I3 re)])), (as_, .inl (dA 0, 60, .inl (iA SG))), (av, .inl (dA 1, 960, .inr (.inl (lA VL)))), (aw, .inl (dA 1, 1024, .inr (.inl (lA W1_252))))]) hD hS hA [0, 1, 2, 3] rfl
              refine va_calli (va_runV (As := [.int (I3 (SG a)), .int (I3 4)]) (rest := []) ⟨hx, hb, hml, hown, hts⟩ (metX8_make l dC dI dA am as_ av aw H.size th mn sm wd lp mp re SG VL W1_252 (SG a) 4 h_47 h_48 h_49 h_50 h_51 h_52 h_53) (cwV 2 hts (lw_V q964 q966 qs21 q66 q967) rfl rfl rfl (by decide +kernel) ⟨Nat.le_of_ble_eq_true rfl, Nat.le_of_ble_eq_true rfl⟩) ⟨fun a U g mk q => by obtain ⟨q0, q1, qP, qK, qD⟩ := q; exact ⟨q0, q1, qP, va_K.moved (u := U) (U := U.calling g mk a) (Vm.Alike.refl U.vm) qK, qD⟩, va_recv hK hPc (ci := 0) (q0 := 0) rfl rfl, fun U hU hW => ⟨rfl, by rw [hU], by rw [hU]; exact hPc, va_K.moved hW.alike hK, hDc.weaken (fun _ _ _ _ => trivial)⟩⟩ rfl rfl hl.1 rfl (lv_room (Nat.le_of_ble_eq_true rfl)) dX8_reckon_269 ⟨Nat.le_of_ble_eq_true rfl, Nat.le_of_ble_eq_true rfl⟩) hS (fun q _ h => hFc q h) hFc (fun r_269 u t H1 locs ht hvm hw hB hz1 hk1 hS => ?_)
              obtain ⟨z_269, th1_269, mn1_269, SG1_269, VL1_269, W1_269⟩ := u
              obtain ⟨rfl, p0_269, p1_269, p2_269, p3_269⟩ : r_269 = I3 z_269 ∧ (Dg W1_269) ∧ (Dg VL1_269) ∧ (0 ≤ mn1_269 ∧ mn1_269 ≤ 60) ∧ (Mde mn SG VL (SG a) (rv W1_252 0) (rv W1_252 1) (4 : Int) z_269 th1_269 mn1_269 SG1_269 VL1_269) := hw
              obtain ⟨hP1, hK1, hD1⟩ := hB
              rw [ht] at hP1
              obtain ⟨hP, hD⟩ := va_join (wr := []) (w1 := [(am, .inr (0, [.int (I3 th1_269), .int (I3 mn1_269), .ref as_, .ref av, .ref aw, .int (I3 sm), .int (I3 wd), .int (I3 lp), .int (I3 mp), .int (I3 re)])), (as_, .inl (dA 0, 60, .inl (iA SG1_269))), (av, .inl (dA 1, 960, .inr (.inl (lA VL1_269)))), (aw, .inl (dA 1, 1024, .inr (.inl (lA W1_269))))]) hP hD [0, 1, 2, 3] [] rfl rfl (by decide) (by decide) hk1 hFc hP1 hD1
              generalize H1 = H at hP hS ⊢
              have hP : va_P (dC, dI) vwCl [(am, .inr (0, [.int (I3 th1_269), .int (I3 mn1_269), .ref as_, .ref av, .ref aw, .int (I3 sm), .int (I3 wd), .int (I3 lp), .int (I3 mp), .int (I3 re)])), (as_, .inl (dA 0, 60, .inl (iA SG1_269))), (av, .inl (dA 1, 960, .inr (.inl (lA VL1_269)))), (aw, .inl (dA 1, 1024, .inr (.inl (lA W1_269))))] H := hP
              have hD : va_D A [(am, .inr (0, [.int (I3 th1_269), .int (I3 mn1_269), .ref as_, .ref av, .ref aw, .int (I3 sm), .int (I3 wd), .int (I3 lp), .int (I3 mp), .int (I3 re)])), (as_, .inl (dA 0, 60, .inl (iA SG1_269))), (av, .inl (dA 1, 960, .inr (.inl (lA VL1_269)))), (aw, .inl (dA 1, 1024, .inr (.inl (lA W1_269))))] := hD
              have hM := p3_269
              rw [g0, g1] at hM
              have he := rec_57 (C := qv VL a * qv VL b) (pa := pv VL a) (pb := pv VL b) (x := SG a) (y := SG b) (A := pv VL a * qv VL b) (B := pv VL b * qv VL a) (show act = 5 ∨ act = 7 by omega)
              have hM2 : Mde mn SG VL (recG act (SG a) (SG b) (pv VL a * qv VL b) (pv VL b * qv VL a)) (recP act (SG a) (SG b) (pv VL a) (pv VL b) (pv VL a * qv VL b) (pv VL b * qv VL a)) (recQ act (pv VL b * qv VL a) (qv VL a * qv VL b)) 4 z_269 th1_269 mn1_269 SG1_269 VL1_269 := by rw [he.1, he.2.1, he.2.2]; (first | rw [show (if recDn act (SG a) (SG b) (pv VL a * qv VL b) (pv VL b * qv VL a) then SG b else SG a) = y from (if_pos nd).trans hyb.symm] | rw [show (if recDn act (SG a) (SG b) (pv VL a * qv VL b) (pv VL b * qv VL a) then SG b else SG a) = SG a from if_neg nd]); exact hM
              have o_54 : Dg W1_269 := by first | assumption | omega | (constructor <;> omega)
              have o_55 : MI mn1_269 SG1_269 VL1_269 := by exact MI_Mde hI (by rw [he.2.2]; exact hC0) hg3.1 hg3.2 p1_269 p2_269 hM2
              have o_56 : Mde mn SG VL (recG act (SG a) (SG b) (pv VL a * qv VL b) (pv VL b * qv VL a)) (recP act (SG a) (SG b) (pv VL a) (pv VL b) (pv VL a * qv VL b) (pv VL b * qv VL a)) (recQ act (pv VL b * qv VL a) (qv VL a * qv VL b)) 4 z_269 th1_269 mn1_269 SG1_269 VL1_269 := by exact hM2
              exact W.iret (v := I3 z_269) hx hb hr (fun t ht hW => ⟨⟨I3 z_269, (z_269, th1_269, mn1_269, SG1_269, VL1_269, W1_269), rfl, ⟨rfl, ⟨o_54, o_55, o_56⟩⟩, by rw [ht]; exact hP, va_K.moved hW.alike hK, hD⟩, hS.F ht⟩) hS.2.2 dX8_reckon_272
            · skip
              omega
          · skip
            have nd : recDn act (SG a) (SG b) (pv VL a * qv VL b) (pv VL b * qv VL a) := by rcases hdn with ⟨h1, h2⟩ | ⟨h1, h2⟩; exact h2; omega
            refine lv_aload_n hx hb dX8_reckon_235 rfl (lv_at hl 1 rfl) ?_
            refine lv_iconst (v := I3 (5)) hx hb dX8_reckon_236 rfl ?_
            refine lv_iconst (v := I3 (0)) hx hb dX8_reckon_237 rfl ?_
            have h_57 : 0 ≤ (5 : Int) ∧ (5 : Int) < 16 := by decide
            have h_58 : 0 ≤ (0 : Int) ∧ (0 : Int) < 16 := by decide
            have h_59 : (5 : Int) ≠ (0 : Int) := by decide
            have h_60 : Dg W1_227 := by first | assumption | omega | (constructor <;> omega)
            have hPc := hP.sub (ws' := [(am, .inr (0, [.int (I3 th), .int (I3 mn), .ref as_, .ref av, .ref aw, .int (I3 sm), .int (I3 wd), .int (I3 lp), .int (I3 mp), .int (I3 re)])), (as_, .inl (dA 0, 60, .inl (iA SG))), (av, .inl (dA 1, 960, .inr (.inl (lA VL)))), (aw, .inl (dA 1, 1024, .inr (.inl (lA W1_227))))]) [0, 1, 2, 3] rfl
            have hDc := hD.sub (ws' := [(am, .inr (0, [.int (I3 th), .int (I3 mn), .ref as_, .ref av, .ref aw, .int (I3 sm), .int (I3 wd), .int (I3 lp), .int (I3 mp), .int (I3 re)])), (as_, .inl (dA 0, 60, .inl (iA SG))), (av, .inl (dA 1, 960, .inr (.inl (lA VL)))), (aw, .inl (dA 1, 1024, .inr (.inl (lA W1_227))))]) [0, 1, 2, 3] (by decide) rfl
            have hFc := va_free (wc := [(am, .inr (0, [.int (I3 th), .int (I3 mn), .ref as_, .ref av, .ref aw, .int (I3 sm), .int (I3 wd), .int (I3 lp), .int (I3 mp), .int (I3 re)])), (as_, .inl (dA 0, 60, .inl (iA SG))), (av, .inl (dA 1, 960, .inr (.inl (lA VL)))), (aw, .inl (dA 1, 1024, .inr (.inl (lA W1_227))))]) hD hS hA [0, 1, 2, 3] rfl
            refine va_callv (va_runV (As := [.int (I3 5), .int (I3 0)]) (rest := []) ⟨hx, hb, hml, hown, hts⟩ (metX8_copy l dC dI dA am as_ av aw H.size th mn sm wd lp mp re SG VL W1_227 5 0 h_57 h_58 h_59 h_60) (cwV 2 hts (lw_V q976 q978 qs24 q66 q979) rfl rfl rfl (by decide +kernel) ⟨Nat.le_of_ble_eq_true rfl, Nat.le_of_ble_eq_true rfl⟩) ⟨fun a U g mk q => by obtain ⟨q0, q1, qP, qK, qD⟩ := q; exact ⟨q0, q1, qP, va_K.moved (u := U) (U := U.calling g mk a) (Vm.Alike.refl U.vm) qK, qD⟩, va_recv hK hPc (ci := 0) (q0 := 0) rfl rfl, fun U hU hW => ⟨rfl, by rw [hU], by rw [hU]; exact hPc, va_K.moved hW.alike hK, hDc.weaken (fun _ _ _ _ => trivial)⟩⟩ rfl rfl hl.1 rfl (lv_room (Nat.le_of_ble_eq_true rfl)) dX8_reckon_238 ⟨Nat.le_of_ble_eq_true rfl, Nat.le_of_ble_eq_true rfl⟩) hS (fun q _ h => hFc q h) hFc (fun u t H1 locs ht hvm hw hB hz1 hk1 hS => ?_)
            obtain ⟨W1_238, rfl⟩ : ∃ z, z = u := ⟨_, rfl⟩
            obtain ⟨p0_238, p1_238, p2_238⟩ : (Dg W1_238) ∧ (Fr W1_227 W1_238 (0 : Int)) ∧ (rv W1_238 (0 : Int) = rv W1_227 (5 : Int)) := hw
            obtain ⟨hP1, hK1, hD1⟩ := hB
            rw [ht] at hP1
            obtain ⟨hP, hD⟩ := va_join (wr := []) (w1 := [(am, .inr (0, [.int (I3 th), .int (I3 mn), .ref as_, .ref av, .ref aw, .int (I3 sm), .int (I3 wd), .int (I3 lp), .int (I3 mp), .int (I3 re)])), (as_, .inl (dA 0, 60, .inl (iA SG))), (av, .inl (dA 1, 960, .inr (.inl (lA VL)))), (aw, .inl (dA 1, 1024, .inr (.inl (lA W1_238))))]) hP hD [0, 1, 2, 3] [] rfl rfl (by decide) (by decide) hk1 hFc hP1 hD1
            generalize H1 = H at hP hS ⊢
            have hP : va_P (dC, dI) vwCl [(am, .inr (0, [.int (I3 th), .int (I3 mn), .ref as_, .ref av, .ref aw, .int (I3 sm), .int (I3 wd), .int (I3 lp), .int (I3 mp), .int (I3 re)])), (as_, .inl (dA 0, 60, .inl (iA SG))), (av, .inl (dA 1, 960, .inr (.inl (lA VL)))), (aw, .inl (dA 1, 1024, .inr (.inl (lA W1_238))))] H := hP
            have hD : va_D A [(am, .inr (0, [.int (I3 th), .int (I3 mn), .ref as_, .ref av, .ref aw, .int (I3 sm), .int (I3 wd), .int (I3 lp), .int (I3 mp), .int (I3 re)])), (as_, .inl (dA 0, 60, .inl (iA SG))), (av, .inl (dA 1, 960, .inr (.inl (lA VL)))), (aw, .inl (dA 1, 1024, .inr (.inl (lA W1_238))))] := hD
            have v0 : rv W1_238 0 = pv VL b * qv VL a := p2_238.trans ((Fr_rv p1_227 (by decide)).trans k5)
            have v8 : rv W1_238 8 = pv VL a * qv VL b % (pv VL b * qv VL a) := (Fr_rv p1_238 (by decide)).trans ((Fr_rv p1_227 (by decide)).trans k8)
            have hmlt := Nat.mod_lt (pv VL a * qv VL b) (Nat.pos_of_ne_zero (hBn (by omega)))
            refine lv_aload_n hx hb dX8_reckon_241 rfl (lv_at hl 1 rfl) ?_
            refine lv_iconst (v := I3 (0)) hx hb dX8_reckon_242 rfl ?_
            refine lv_bipush (v := I3 (8)) hx hb dX8_reckon_243 (by decide) ?_
            have h_61 : 0 ≤ (0 : Int) ∧ (0 : Int) < 16 := by decide
            have h_62 : 0 ≤ (8 : Int) ∧ (8 : Int) < 16 := by decide
            have h_63 : (0 : Int) ≠ (8 : Int) := by decide
            have h_64 : rv W1_238 (8 : Int) ≤ rv W1_238 (0 : Int) := by rw [v0, v8]; omega
            have h_65 : Dg W1_238 := by first | assumption | omega | (constructor <;> omega)
            have hPc := hP.sub (ws' := [(am, .inr (0, [.int (I3 th), .int (I3 mn), .ref as_, .ref av, .ref aw, .int (I3 sm), .int (I3 wd), .int (I3 lp), .int (I3 mp), .int (I3 re)])), (as_, .inl (dA 0, 60, .inl (iA SG))), (av, .inl (dA 1, 960, .inr (.inl (lA VL)))), (aw, .inl (dA 1, 1024, .inr (.inl (lA W1_238))))]) [0, 1, 2, 3] rfl
            have hDc := hD.sub (ws' := [(am, .inr (0, [.int (I3 th), .int (I3 mn), .ref as_, .ref av, .ref aw, .int (I3 sm), .int (I3 wd), .int (I3 lp), .int (I3 mp), .int (I3 re)])), (as_, .inl (dA 0, 60, .inl (iA SG))), (av, .inl (dA 1, 960, .inr (.inl (lA VL)))), (aw, .inl (dA 1, 1024, .inr (.inl (lA W1_238))))]) [0, 1, 2, 3] (by decide) rfl
            have hFc := va_free (wc := [(am, .inr (0, [.int (I3 th), .int (I3 mn), .ref as_, .ref av, .ref aw, .int (I3 sm), .int (I3 wd), .int (I3 lp), .int (I3 mp), .int (I3 re)])), (as_, .inl (dA 0, 60, .inl (iA SG))), (av, .inl (dA 1, 960, .inr (.inl (lA VL)))), (aw, .inl (dA 1, 1024, .inr (.inl (lA W1_238))))]) hD hS hA [0, 1, 2, 3] rfl
            refine va_callv (va_runV (As := [.int (I3 0), .int (I3 8)]) (rest := []) ⟨hx, hb, hml, hown, hts⟩ (metX8_take l dC dI dA am as_ av aw H.size th mn sm wd lp mp re SG VL W1_238 0 8 h_61 h_62 h_63 h_64 h_65) (cwV 2 hts (lw_V q996 q998 qs29 q66 q999) rfl rfl rfl (by decide +kernel) ⟨Nat.le_of_ble_eq_true rfl, Nat.le_of_ble_eq_true rfl⟩) ⟨fun a U g mk q => by obtain ⟨q0, q1, qP, qK, qD⟩ := q; exact ⟨q0, q1, qP, va_K.moved (u := U) (U := U.calling g mk a) (Vm.Alike.refl U.vm) qK, qD⟩, va_recv hK hPc (ci := 0) (q0 := 0) rfl rfl, fun U hU hW => ⟨rfl, by rw [hU], by rw [hU]; exact hPc, va_K.moved hW.alike hK, hDc.weaken (fun _ _ _ _ => trivial)⟩⟩ rfl rfl hl.1 rfl (lv_room (Nat.le_of_ble_eq_true rfl)) dX8_reckon_245 ⟨Nat.le_of_ble_eq_true rfl, Nat.le_of_ble_eq_true rfl⟩) hS (fun q _ h => hFc q h) hFc (fun u t H1 locs ht hvm hw hB hz1 hk1 hS => ?_)
            obtain ⟨W1_245, rfl⟩ : ∃ z, z = u := ⟨_, rfl⟩
            obtain ⟨p0_245, p1_245, p2_245⟩ : (Dg W1_245) ∧ (Fr W1_238 W1_245 (0 : Int)) ∧ (rv W1_245 (0 : Int) = rv W1_238 (0 : Int) - rv W1_238 (8 : Int)) := hw
            obtain ⟨hP1, hK1, hD1⟩ := hB
            rw [ht] at hP1
            obtain ⟨hP, hD⟩ := va_join (wr := []) (w1 := [(am, .inr (0, [.int (I3 th), .int (I3 mn), .ref as_, .ref av, .ref aw, .int (I3 sm), .int (I3 wd), .int (I3 lp), .int (I3 mp), .int (I3 re)])), (as_, .inl (dA 0, 60, .inl (iA SG))), (av, .inl (dA 1, 960, .inr (.inl (lA VL)))), (aw, .inl (dA 1, 1024, .inr (.inl (lA W1_245))))]) hP hD [0, 1, 2, 3] [] rfl rfl (by decide) (by decide) hk1 hFc hP1 hD1
            generalize H1 = H at hP hS ⊢
            have hP : va_P (dC, dI) vwCl [(am, .inr (0, [.int (I3 th), .int (I3 mn), .ref as_, .ref av, .ref aw, .int (I3 sm), .int (I3 wd), .int (I3 lp), .int (I3 mp), .int (I3 re)])), (as_, .inl (dA 0, 60, .inl (iA SG))), (av, .inl (dA 1, 960, .inr (.inl (lA VL)))), (aw, .inl (dA 1, 1024, .inr (.inl (lA W1_245))))] H := hP
            have hD : va_D A [(am, .inr (0, [.int (I3 th), .int (I3 mn), .ref as_, .ref av, .ref aw, .int (I3 sm), .int (I3 wd), .int (I3 lp), .int (I3 mp), .int (I3 re)])), (as_, .inl (dA 0, 60, .inl (iA SG))), (av, .inl (dA 1, 960, .inr (.inl (lA VL)))), (aw, .inl (dA 1, 1024, .inr (.inl (lA W1_245))))] := hD
            have r0 : rv W1_245 0 = pv VL b * qv VL a - pv VL a * qv VL b % (pv VL b * qv VL a) := by rw [p2_245, v0, v8]
            refine lv_aload_n hx hb dX8_reckon_248 rfl (lv_at hl 1 rfl) ?_
            refine lv_bipush (v := I3 (6)) hx hb dX8_reckon_249 (by decide) ?_
            refine lv_iconst (v := I3 (1)) hx hb dX8_reckon_251 rfl ?_
            have h_66 : 0 ≤ (6 : Int) ∧ (6 : Int) < 16 := by decide
            have h_67 : 0 ≤ (1 : Int) ∧ (1 : Int) < 16 := by decide
            have h_68 : (6 : Int) ≠ (1 : Int) := by decide
            have h_69 : Dg W1_245 := by first | assumption | omega | (constructor <;> omega)
            have hPc := hP.sub (ws' := [(am, .inr (0, [.int (I3 th), .int (I3 mn), .ref as_, .ref av, .ref aw, .int (I3 sm), .int (I3 wd), .int (I3 lp), .int (I3 mp), .int (I3 re)])), (as_, .inl (dA 0, 60, .inl (iA SG))), (av, .inl (dA 1, 960, .inr (.inl (lA VL)))), (aw, .inl (dA 1, 1024, .inr (.inl (lA W1_245))))]) [0, 1, 2, 3] rfl
            have hDc := hD.sub (ws' := [(am, .inr (0, [.int (I3 th), .int (I3 mn), .ref as_, .ref av, .ref aw, .int (I3 sm), .int (I3 wd), .int (I3 lp), .int (I3 mp), .int (I3 re)])), (as_, .inl (dA 0, 60, .inl (iA SG))), (av, .inl (dA 1, 960, .inr (.inl (lA VL)))), (aw, .inl (dA 1, 1024, .inr (.inl (lA W1_245))))]) [0, 1, 2, 3] (by decide) rfl
            have hFc := va_free (wc := [(am, .inr (0, [.int (I3 th), .int (I3 mn), .ref as_, .ref av, .ref aw, .int (I3 sm), .int (I3 wd), .int (I3 lp), .int (I3 mp), .int (I3 re)])), (as_, .inl (dA 0, 60, .inl (iA SG))), (av, .inl (dA 1, 960, .inr (.inl (lA VL)))), (aw, .inl (dA 1, 1024, .inr (.inl (lA W1_245))))]) hD hS hA [0, 1, 2, 3] rfl
            refine va_callv (va_runV (As := [.int (I3 6), .int (I3 1)]) (rest := []) ⟨hx, hb, hml, hown, hts⟩ (metX8_copy l dC dI dA am as_ av aw H.size th mn sm wd lp mp re SG VL W1_245 6 1 h_66 h_67 h_68 h_69) (cwV 2 hts (lw_V q976 q978 qs24 q66 q979) rfl rfl rfl (by decide +kernel) ⟨Nat.le_of_ble_eq_true rfl, Nat.le_of_ble_eq_true rfl⟩) ⟨fun a U g mk q => by obtain ⟨q0, q1, qP, qK, qD⟩ := q; exact ⟨q0, q1, qP, va_K.moved (u := U) (U := U.calling g mk a) (Vm.Alike.refl U.vm) qK, qD⟩, va_recv hK hPc (ci := 0) (q0 := 0) rfl rfl, fun U hU hW => ⟨rfl, by rw [hU], by rw [hU]; exact hPc, va_K.moved hW.alike hK, hDc.weaken (fun _ _ _ _ => trivial)⟩⟩ rfl rfl hl.1 rfl (lv_room (Nat.le_of_ble_eq_true rfl)) dX8_reckon_252 ⟨Nat.le_of_ble_eq_true rfl, Nat.le_of_ble_eq_true rfl⟩) hS (fun q _ h => hFc q h) hFc (fun u t H1 locs ht hvm hw hB hz1 hk1 hS => ?_)
            obtain ⟨W1_252, rfl⟩ : ∃ z, z = u := ⟨_, rfl⟩
            obtain ⟨p0_252, p1_252, p2_252⟩ : (Dg W1_252) ∧ (Fr W1_245 W1_252 (1 : Int)) ∧ (rv W1_252 (1 : Int) = rv W1_245 (6 : Int)) := hw
            obtain ⟨hP1, hK1, hD1⟩ := hB
            rw [ht] at hP1
            obtain ⟨hP, hD⟩ := va_join (wr := []) (w1 := [(am, .inr (0, [.int (I3 th), .int (I3 mn), .ref as_, .ref av, .ref aw, .int (I3 sm), .int (I3 wd), .int (I3 lp), .int (I3 mp), .int (I3 re)])), (as_, .inl (dA 0, 60, .inl (iA SG))), (av, .inl (dA 1, 960, .inr (.inl (lA VL)))), (aw, .inl (dA 1, 1024, .inr (.inl (lA W1_252))))]) hP hD [0, 1, 2, 3] [] rfl rfl (by decide) (by decide) hk1 hFc hP1 hD1
            generalize H1 = H at hP hS ⊢
            have hP : va_P (dC, dI) vwCl [(am, .inr (0, [.int (I3 th), .int (I3 mn), .ref as_, .ref av, .ref aw, .int (I3 sm), .int (I3 wd), .int (I3 lp), .int (I3 mp), .int (I3 re)])), (as_, .inl (dA 0, 60, .inl (iA SG))), (av, .inl (dA 1, 960, .inr (.inl (lA VL)))), (aw, .inl (dA 1, 1024, .inr (.inl (lA W1_252))))] H := hP
            have hD : va_D A [(am, .inr (0, [.int (I3 th), .int (I3 mn), .ref as_, .ref av, .ref aw, .int (I3 sm), .int (I3 wd), .int (I3 lp), .int (I3 mp), .int (I3 re)])), (as_, .inl (dA 0, 60, .inl (iA SG))), (av, .inl (dA 1, 960, .inr (.inl (lA VL)))), (aw, .inl (dA 1, 1024, .inr (.inl (lA W1_252))))] := hD
            have g0 : rv W1_252 0 = (if recDn act (SG a) (SG b) (pv VL a * qv VL b) (pv VL b * qv VL a) then pv VL b * qv VL a - pv VL a * qv VL b % (pv VL b * qv VL a) else pv VL a * qv VL b % (pv VL b * qv VL a)) := by rw [Fr_rv p1_252 (by decide), r0]; first | (rw [if_pos nd]; done) | (rw [if_neg nd]; done)
            have g1 : rv W1_252 1 = qv VL a * qv VL b := by rw [p2_252]; first | exact (Fr_rv p1_245 (by decide)).trans ((Fr_rv p1_238 (by decide)).trans ((Fr_rv p1_227 (by decide)).trans k6)) | exact (Fr_rv p1_227 (by decide)).trans k6
            refine lv_aload_n hx hb dX8_reckon_255 rfl (lv_at hl 1 rfl) ?_
            refine lv_iload hx hb dX8_reckon_256 (lv_at hl 0 rfl) ?_
            refine ix_if_eq (tgt := 266) hx hb (by first | assumption | decide | (constructor <;> omega)) dX8_reckon_258 (by decide) (fun c_258 => ?_) (fun c_258 => ?_)
            · skip
              omega
            · skip
              refine lv_iload hx hb dX8_reckon_261 (lv_at hl 6 rfl) ?_
              refine lv_goto (tgt := 268) hx hb dX8_reckon_263 (by decide) ?_
              refine lv_iconst (v := I3 (4)) hx hb dX8_reckon_268 rfl ?_
              have h_70 : Dg W1_252 := by first | assumption | omega | (constructor <;> omega)
              have h_71 : Dg VL := by first | assumption | omega | (constructor <;> omega)
              have h_72 : 0 ≤ mn ∧ mn ≤ 60 := by first | assumption | omega | (constructor <;> omega)
              have h_73 : In3 y := by first | (rw [hyb]; constructor <;> omega) | (constructor <;> omega)
              have h_74 : In3 (4 : Int) := by first | assumption | omega | (constructor <;> omega)
              have h_75 : rv W1_252 1 ≠ 0 := by rw [g1]; exact hC0
              have h_76 : 2 * rv W1_252 1 ≤ BN := by rw [g1]; omega
              have hPc := hP.sub (ws' := [(am, .inr (0, [.int (I3 th), .int (I3 mn), .ref as_, .ref av, .ref aw, .int (I3 sm), .int (I3 wd), .int (I3 lp), .int (I3 mp), .int (I3 re)])), (as_, .inl (dA 0, 60, .inl (iA SG))), (av, .inl (dA 1, 960, .inr (.inl (lA VL)))), (aw, .inl (dA 1, 1024, .inr (.inl (lA W1_252))))]) [0, 1, 2, 3] rfl
              have hDc := hD.sub (ws' := [(am, .inr (0, [.int (I3 th), .int (I3 mn), .ref as_, .ref av, .ref aw, .int (I3 sm), .int (I3 wd), .int (I3 lp), .int (I3 mp), .int (I3 re)])), (as_, .inl (dA 0, 60, .inl (iA SG))), (av, .inl (dA 1, 960, .inr (.inl (lA VL)))), (aw, .inl (dA 1, 1024, .inr (.inl (lA W1_252))))]) [0, 1, 2, 3] (by decide) rfl
              have hFc := va_free (wc := [(am, .inr (0, [.int (I3 th), .int (I3 mn), .ref as_, .ref av, .ref aw, .int (I3 sm), .int (I3 wd), .int (I3 lp), .int (I3 mp), .int (I3 re)])), (as_, .inl (dA 0, 60, .inl (iA SG))), (av, .inl (dA 1, 960, .inr (.inl (lA VL)))), (aw, .inl (dA 1, 1024, .inr (.inl (lA W1_252))))]) hD hS hA [0, 1, 2, 3] rfl
              refine va_calli (va_runV (As := [.int (I3 y), .int (I3 4)]) (rest := []) ⟨hx, hb, hml, hown, hts⟩ (metX8_make l dC dI dA am as_ av aw H.size th mn sm wd lp mp re SG VL W1_252 y 4 h_70 h_71 h_72 h_73 h_74 h_75 h_76) (cwV 2 hts (lw_V q964 q966 qs21 q66 q967) rfl rfl rfl (by decide +kernel) ⟨Nat.le_of_ble_eq_true rfl, Nat.le_of_ble_eq_true rfl⟩) ⟨fun a U g mk q => by obtain ⟨q0, q1, qP, qK, qD⟩ := q; exact ⟨q0, q1, qP, va_K.moved (u := U) (U := U.calling g mk a) (Vm.Alike.refl U.vm) qK, qD⟩, va_recv hK hPc (ci := 0) (q0 := 0) rfl rfl, fun U hU hW => ⟨rfl, by rw [hU], by rw [hU]; exact hPc, va_K.moved hW.alike hK, hDc.weaken (fun _ _ _ _ => trivial)⟩⟩ rfl rfl hl.1 rfl (lv_room (Nat.le_of_ble_eq_true rfl)) dX8_reckon_269 ⟨Nat.le_of_ble_eq_true rfl, Nat.le_of_ble_eq_true rfl⟩) hS (fun q _ h => hFc q h) hFc (fun r_269 u t H1 locs ht hvm hw hB hz1 hk1 hS => ?_)
              obtain ⟨z_269, th1_269, mn1_269, SG1_269, VL1_269, W1_269⟩ := u
              obtain ⟨rfl, p0_269, p1_269, p2_269, p3_269⟩ : r_269 = I3 z_269 ∧ (Dg W1_269) ∧ (Dg VL1_269) ∧ (0 ≤ mn1_269 ∧ mn1_269 ≤ 60) ∧ (Mde mn SG VL y (rv W1_252 0) (rv W1_252 1) (4 : Int) z_269 th1_269 mn1_269 SG1_269 VL1_269) := hw
              obtain ⟨hP1, hK1, hD1⟩ := hB
              rw [ht] at hP1
              obtain ⟨hP, hD⟩ := va_join (wr := []) (w1 := [(am, .inr (0, [.int (I3 th1_269), .int (I3 mn1_269), .ref as_, .ref av, .ref aw, .int (I3 sm), .int (I3 wd), .int (I3 lp), .int (I3 mp), .int (I3 re)])), (as_, .inl (dA 0, 60, .inl (iA SG1_269))), (av, .inl (dA 1, 960, .inr (.inl (lA VL1_269)))), (aw, .inl (dA 1, 1024, .inr (.inl (lA W1_269))))]) hP hD [0, 1, 2, 3] [] rfl rfl (by decide) (by decide) hk1 hFc hP1 hD1
              generalize H1 = H at hP hS ⊢
              have hP : va_P (dC, dI) vwCl [(am, .inr (0, [.int (I3 th1_269), .int (I3 mn1_269), .ref as_, .ref av, .ref aw, .int (I3 sm), .int (I3 wd), .int (I3 lp), .int (I3 mp), .int (I3 re)])), (as_, .inl (dA 0, 60, .inl (iA SG1_269))), (av, .inl (dA 1, 960, .inr (.inl (lA VL1_269)))), (aw, .inl (dA 1, 1024, .inr (.inl (lA W1_269))))] H := hP
              have hD : va_D A [(am, .inr (0, [.int (I3 th1_269), .int (I3 mn1_269), .ref as_, .ref av, .ref aw, .int (I3 sm), .int (I3 wd), .int (I3 lp), .int (I3 mp), .int (I3 re)])), (as_, .inl (dA 0, 60, .inl (iA SG1_269))), (av, .inl (dA 1, 960, .inr (.inl (lA VL1_269)))), (aw, .inl (dA 1, 1024, .inr (.inl (lA W1_269))))] := hD
              have hM := p3_269
              rw [g0, g1] at hM
              have he := rec_57 (C := qv VL a * qv VL b) (pa := pv VL a) (pb := pv VL b) (x := SG a) (y := SG b) (A := pv VL a * qv VL b) (B := pv VL b * qv VL a) (show act = 5 ∨ act = 7 by omega)
              have hM2 : Mde mn SG VL (recG act (SG a) (SG b) (pv VL a * qv VL b) (pv VL b * qv VL a)) (recP act (SG a) (SG b) (pv VL a) (pv VL b) (pv VL a * qv VL b) (pv VL b * qv VL a)) (recQ act (pv VL b * qv VL a) (qv VL a * qv VL b)) 4 z_269 th1_269 mn1_269 SG1_269 VL1_269 := by rw [he.1, he.2.1, he.2.2]; (first | rw [show (if recDn act (SG a) (SG b) (pv VL a * qv VL b) (pv VL b * qv VL a) then SG b else SG a) = y from (if_pos nd).trans hyb.symm] | rw [show (if recDn act (SG a) (SG b) (pv VL a * qv VL b) (pv VL b * qv VL a) then SG b else SG a) = SG a from if_neg nd]); exact hM
              have o_77 : Dg W1_269 := by first | assumption | omega | (constructor <;> omega)
              have o_78 : MI mn1_269 SG1_269 VL1_269 := by exact MI_Mde hI (by rw [he.2.2]; exact hC0) hg3.1 hg3.2 p1_269 p2_269 hM2
              have o_79 : Mde mn SG VL (recG act (SG a) (SG b) (pv VL a * qv VL b) (pv VL b * qv VL a)) (recP act (SG a) (SG b) (pv VL a) (pv VL b) (pv VL a * qv VL b) (pv VL b * qv VL a)) (recQ act (pv VL b * qv VL a) (qv VL a * qv VL b)) 4 z_269 th1_269 mn1_269 SG1_269 VL1_269 := by exact hM2
              exact W.iret (v := I3 z_269) hx hb hr (fun t ht hW => ⟨⟨I3 z_269, (z_269, th1_269, mn1_269, SG1_269, VL1_269, W1_269), rfl, ⟨rfl, ⟨o_77, o_78, o_79⟩⟩, by rw [ht]; exact hP, va_K.moved hW.alike hK, hD⟩, hS.F ht⟩) hS.2.2 dX8_reckon_272
        · skip
          refine lv_iload hx hb dX8_reckon_179 (lv_at hl 0 rfl) ?_
          refine ix_if_eq (tgt := 199) hx hb (by first | assumption | decide | (constructor <;> omega)) dX8_reckon_181 (by decide) (fun c_181 => ?_) (fun c_181 => ?_)
          · skip
            have nd : ¬ recDn act (SG a) (SG b) (pv VL a * qv VL b) (pv VL b * qv VL a) := by rcases hdn with ⟨h1, h2⟩ | ⟨h1, h2⟩; omega; exact h2
            refine lv_aload_n hx hb dX8_reckon_199 rfl (lv_at hl 1 rfl) ?_
            refine lv_bipush (v := I3 (7)) hx hb dX8_reckon_200 (by decide) ?_
            refine lv_iconst (v := I3 (0)) hx hb dX8_reckon_202 rfl ?_
            have h_80 : 0 ≤ (7 : Int) ∧ (7 : Int) < 16 := by decide
            have h_81 : 0 ≤ (0 : Int) ∧ (0 : Int) < 16 := by decide
            have h_82 : (7 : Int) ≠ (0 : Int) := by decide
            have h_83 : Dg W6 := by first | assumption | omega | (constructor <;> omega)
            have hPc := hP.sub (ws' := [(am, .inr (0, [.int (I3 th), .int (I3 mn), .ref as_, .ref av, .ref aw, .int (I3 sm), .int (I3 wd), .int (I3 lp), .int (I3 mp), .int (I3 re)])), (as_, .inl (dA 0, 60, .inl (iA SG))), (av, .inl (dA 1, 960, .inr (.inl (lA VL)))), (aw, .inl (dA 1, 1024, .inr (.inl (lA W6))))]) [0, 1, 2, 3] rfl
            have hDc := hD.sub (ws' := [(am, .inr (0, [.int (I3 th), .int (I3 mn), .ref as_, .ref av, .ref aw, .int (I3 sm), .int (I3 wd), .int (I3 lp), .int (I3 mp), .int (I3 re)])), (as_, .inl (dA 0, 60, .inl (iA SG))), (av, .inl (dA 1, 960, .inr (.inl (lA VL)))), (aw, .inl (dA 1, 1024, .inr (.inl (lA W6))))]) [0, 1, 2, 3] (by decide) rfl
            have hFc := va_free (wc := [(am, .inr (0, [.int (I3 th), .int (I3 mn), .ref as_, .ref av, .ref aw, .int (I3 sm), .int (I3 wd), .int (I3 lp), .int (I3 mp), .int (I3 re)])), (as_, .inl (dA 0, 60, .inl (iA SG))), (av, .inl (dA 1, 960, .inr (.inl (lA VL)))), (aw, .inl (dA 1, 1024, .inr (.inl (lA W6))))]) hD hS hA [0, 1, 2, 3] rfl
            refine va_callv (va_runV (As := [.int (I3 7), .int (I3 0)]) (rest := []) ⟨hx, hb, hml, hown, hts⟩ (metX8_copy l dC dI dA am as_ av aw H.size th mn sm wd lp mp re SG VL W6 7 0 h_80 h_81 h_82 h_83) (cwV 2 hts (lw_V q976 q978 qs24 q66 q979) rfl rfl rfl (by decide +kernel) ⟨Nat.le_of_ble_eq_true rfl, Nat.le_of_ble_eq_true rfl⟩) ⟨fun a U g mk q => by obtain ⟨q0, q1, qP, qK, qD⟩ := q; exact ⟨q0, q1, qP, va_K.moved (u := U) (U := U.calling g mk a) (Vm.Alike.refl U.vm) qK, qD⟩, va_recv hK hPc (ci := 0) (q0 := 0) rfl rfl, fun U hU hW => ⟨rfl, by rw [hU], by rw [hU]; exact hPc, va_K.moved hW.alike hK, hDc.weaken (fun _ _ _ _ => trivial)⟩⟩ rfl rfl hl.1 rfl (lv_room (Nat.le_of_ble_eq_true rfl)) dX8_reckon_203 ⟨Nat.le_of_ble_eq_true rfl, Nat.le_of_ble_eq_true rfl⟩) hS (fun q _ h => hFc q h) hFc (fun u t H1 locs ht hvm hw hB hz1 hk1 hS => ?_)
            obtain ⟨W1_203, rfl⟩ : ∃ z, z = u := ⟨_, rfl⟩
            obtain ⟨p0_203, p1_203, p2_203⟩ : (Dg W1_203) ∧ (Fr W6 W1_203 (0 : Int)) ∧ (rv W1_203 (0 : Int) = rv W6 (7 : Int)) := hw
            obtain ⟨hP1, hK1, hD1⟩ := hB
            rw [ht] at hP1
            obtain ⟨hP, hD⟩ := va_join (wr := []) (w1 := [(am, .inr (0, [.int (I3 th), .int (I3 mn), .ref as_, .ref av, .ref aw, .int (I3 sm), .int (I3 wd), .int (I3 lp), .int (I3 mp), .int (I3 re)])), (as_, .inl (dA 0, 60, .inl (iA SG))), (av, .inl (dA 1, 960, .inr (.inl (lA VL)))), (aw, .inl (dA 1, 1024, .inr (.inl (lA W1_203))))]) hP hD [0, 1, 2, 3] [] rfl rfl (by decide) (by decide) hk1 hFc hP1 hD1
            generalize H1 = H at hP hS ⊢
            have hP : va_P (dC, dI) vwCl [(am, .inr (0, [.int (I3 th), .int (I3 mn), .ref as_, .ref av, .ref aw, .int (I3 sm), .int (I3 wd), .int (I3 lp), .int (I3 mp), .int (I3 re)])), (as_, .inl (dA 0, 60, .inl (iA SG))), (av, .inl (dA 1, 960, .inr (.inl (lA VL)))), (aw, .inl (dA 1, 1024, .inr (.inl (lA W1_203))))] H := hP
            have hD : va_D A [(am, .inr (0, [.int (I3 th), .int (I3 mn), .ref as_, .ref av, .ref aw, .int (I3 sm), .int (I3 wd), .int (I3 lp), .int (I3 mp), .int (I3 re)])), (as_, .inl (dA 0, 60, .inl (iA SG))), (av, .inl (dA 1, 960, .inr (.inl (lA VL)))), (aw, .inl (dA 1, 1024, .inr (.inl (lA W1_203))))] := hD
            refine lv_aload_n hx hb dX8_reckon_206 rfl (lv_at hl 1 rfl) ?_
            refine lv_iconst (v := I3 (1)) hx hb dX8_reckon_207 rfl ?_
            refine lv_lconst (v := L6 1) hx hb dX8_reckon_208 (by decide) ?_
            have h_84 : 0 ≤ (1 : Int) ∧ (1 : Int) < 16 := by decide
            have h_85 : Dg W1_203 := by first | assumption | omega | (constructor <;> omega)
            have hPc := hP.sub (ws' := [(am, .inr (0, [.int (I3 th), .int (I3 mn), .ref as_, .ref av, .ref aw, .int (I3 sm), .int (I3 wd), .int (I3 lp), .int (I3 mp), .int (I3 re)])), (as_, .inl (dA 0, 60, .inl (iA SG))), (av, .inl (dA 1, 960, .inr (.inl (lA VL)))), (aw, .inl (dA 1, 1024, .inr (.inl (lA W1_203))))]) [0, 1, 2, 3] rfl
            have hDc := hD.sub (ws' := [(am, .inr (0, [.int (I3 th), .int (I3 mn), .ref as_, .ref av, .ref aw, .int (I3 sm), .int (I3 wd), .int (I3 lp), .int (I3 mp), .int (I3 re)])), (as_, .inl (dA 0, 60, .inl (iA SG))), (av, .inl (dA 1, 960, .inr (.inl (lA VL)))), (aw, .inl (dA 1, 1024, .inr (.inl (lA W1_203))))]) [0, 1, 2, 3] (by decide) rfl
            have hFc := va_free (wc := [(am, .inr (0, [.int (I3 th), .int (I3 mn), .ref as_, .ref av, .ref aw, .int (I3 sm), .int (I3 wd), .int (I3 lp), .int (I3 mp), .int (I3 re)])), (as_, .inl (dA 0, 60, .inl (iA SG))), (av, .inl (dA 1, 960, .inr (.inl (lA VL)))), (aw, .inl (dA 1, 1024, .inr (.inl (lA W1_203))))]) hD hS hA [0, 1, 2, 3] rfl
            refine va_callv (va_runV (As := [.int (I3 1), .long (L6 1)]) (rest := []) ⟨hx, hb, hml, hown, hts⟩ (metX8_set l dC dI dA am as_ av aw H.size th mn sm wd lp mp re SG VL W1_203 1 1 h_84 h_85) (cwV 2 hts (lw_V q955 q957 qs19 q66 q958) rfl rfl rfl (by decide +kernel) ⟨Nat.le_of_ble_eq_true rfl, Nat.le_of_ble_eq_true rfl⟩) ⟨fun a U g mk q => by obtain ⟨q0, q1, qP, qK, qD⟩ := q; exact ⟨q0, q1, qP, va_K.moved (u := U) (U := U.calling g mk a) (Vm.Alike.refl U.vm) qK, qD⟩, va_recv hK hPc (ci := 0) (q0 := 0) rfl rfl, fun U hU hW => ⟨rfl, by rw [hU], by rw [hU]; exact hPc, va_K.moved hW.alike hK, hDc.weaken (fun _ _ _ _ => trivial)⟩⟩ rfl rfl hl.1 rfl (lv_room (Nat.le_of_ble_eq_true rfl)) dX8_reckon_209 ⟨Nat.le_of_ble_eq_true rfl, Nat.le_of_ble_eq_true rfl⟩) hS (fun q _ h => hFc q h) hFc (fun u t H1 locs ht hvm hw hB hz1 hk1 hS => ?_)
            obtain ⟨W1_209, rfl⟩ : ∃ z, z = u := ⟨_, rfl⟩
            obtain ⟨p0_209, p1_209, p2_209⟩ : (Dg W1_209) ∧ (Fr W1_203 W1_209 (1 : Int)) ∧ (rv W1_209 (1 : Int) = ((1 : Int) % 18446744073709551616).toNat) := hw
            obtain ⟨hP1, hK1, hD1⟩ := hB
            rw [ht] at hP1
            obtain ⟨hP, hD⟩ := va_join (wr := []) (w1 := [(am, .inr (0, [.int (I3 th), .int (I3 mn), .ref as_, .ref av, .ref aw, .int (I3 sm), .int (I3 wd), .int (I3 lp), .int (I3 mp), .int (I3 re)])), (as_, .inl (dA 0, 60, .inl (iA SG))), (av, .inl (dA 1, 960, .inr (.inl (lA VL)))), (aw, .inl (dA 1, 1024, .inr (.inl (lA W1_209))))]) hP hD [0, 1, 2, 3] [] rfl rfl (by decide) (by decide) hk1 hFc hP1 hD1
            generalize H1 = H at hP hS ⊢
            have hP : va_P (dC, dI) vwCl [(am, .inr (0, [.int (I3 th), .int (I3 mn), .ref as_, .ref av, .ref aw, .int (I3 sm), .int (I3 wd), .int (I3 lp), .int (I3 mp), .int (I3 re)])), (as_, .inl (dA 0, 60, .inl (iA SG))), (av, .inl (dA 1, 960, .inr (.inl (lA VL)))), (aw, .inl (dA 1, 1024, .inr (.inl (lA W1_209))))] H := hP
            have hD : va_D A [(am, .inr (0, [.int (I3 th), .int (I3 mn), .ref as_, .ref av, .ref aw, .int (I3 sm), .int (I3 wd), .int (I3 lp), .int (I3 mp), .int (I3 re)])), (as_, .inl (dA 0, 60, .inl (iA SG))), (av, .inl (dA 1, 960, .inr (.inl (lA VL)))), (aw, .inl (dA 1, 1024, .inr (.inl (lA W1_209))))] := hD
            have g0 : rv W1_209 0 = (if recDn act (SG a) (SG b) (pv VL a * qv VL b) (pv VL b * qv VL a) then pv VL a * qv VL b / (pv VL b * qv VL a) + 1 else pv VL a * qv VL b / (pv VL b * qv VL a)) := by rw [Fr_rv p1_209 (by decide), p2_203]; first | (rw [if_pos nd]; exact k7b) | (rw [if_neg nd]; exact k7)
            have g1 : rv W1_209 1 = 1 := by rw [p2_209]; rfl
            refine lv_aload_n hx hb dX8_reckon_212 rfl (lv_at hl 1 rfl) ?_
            refine lv_iload hx hb dX8_reckon_213 (lv_at hl 5 rfl) ?_
            refine lv_iload hx hb dX8_reckon_215 (lv_at hl 6 rfl) ?_
            refine ix_imul hx hb dX8_reckon_217 ?_
            refine lv_iconst (v := I3 (4)) hx hb dX8_reckon_218 rfl ?_
            have h_86 : Dg W1_209 := by first | assumption | omega | (constructor <;> omega)
            have h_87 : Dg VL := by first | assumption | omega | (constructor <;> omega)
            have h_88 : 0 ≤ mn ∧ mn ≤ 60 := by first | assumption | omega | (constructor <;> omega)
            have h_89 : In3 ((SG a) * y) := by rw [hyb]; obtain ⟨q, -, -⟩ := hp3; constructor <;> omega
            have h_90 : In3 (4 : Int) := by first | assumption | omega | (constructor <;> omega)
            have h_91 : rv W1_209 1 ≠ 0 := by rw [g1]; decide
            have h_92 : 2 * rv W1_209 1 ≤ BN := by rw [g1]; omega
            have hPc := hP.sub (ws' := [(am, .inr (0, [.int (I3 th), .int (I3 mn), .ref as_, .ref av, .ref aw, .int (I3 sm), .int (I3 wd), .int (I3 lp), .int (I3 mp), .int (I3 re)])), (as_, .inl (dA 0, 60, .inl (iA SG))), (av, .inl (dA 1, 960, .inr (.inl (lA VL)))), (aw, .inl (dA 1, 1024, .inr (.inl (lA W1_209))))]) [0, 1, 2, 3] rfl
            have hDc := hD.sub (ws' := [(am, .inr (0, [.int (I3 th), .int (I3 mn), .ref as_, .ref av, .ref aw, .int (I3 sm), .int (I3 wd), .int (I3 lp), .int (I3 mp), .int (I3 re)])), (as_, .inl (dA 0, 60, .inl (iA SG))), (av, .inl (dA 1, 960, .inr (.inl (lA VL)))), (aw, .inl (dA 1, 1024, .inr (.inl (lA W1_209))))]) [0, 1, 2, 3] (by decide) rfl
            have hFc := va_free (wc := [(am, .inr (0, [.int (I3 th), .int (I3 mn), .ref as_, .ref av, .ref aw, .int (I3 sm), .int (I3 wd), .int (I3 lp), .int (I3 mp), .int (I3 re)])), (as_, .inl (dA 0, 60, .inl (iA SG))), (av, .inl (dA 1, 960, .inr (.inl (lA VL)))), (aw, .inl (dA 1, 1024, .inr (.inl (lA W1_209))))]) hD hS hA [0, 1, 2, 3] rfl
            refine va_calli (va_runV (As := [.int (I3 ((SG a) * y)), .int (I3 4)]) (rest := []) ⟨hx, hb, hml, hown, hts⟩ (metX8_make l dC dI dA am as_ av aw H.size th mn sm wd lp mp re SG VL W1_209 ((SG a) * y) 4 h_86 h_87 h_88 h_89 h_90 h_91 h_92) (cwV 2 hts (lw_V q964 q966 qs21 q66 q967) rfl rfl rfl (by decide +kernel) ⟨Nat.le_of_ble_eq_true rfl, Nat.le_of_ble_eq_true rfl⟩) ⟨fun a U g mk q => by obtain ⟨q0, q1, qP, qK, qD⟩ := q; exact ⟨q0, q1, qP, va_K.moved (u := U) (U := U.calling g mk a) (Vm.Alike.refl U.vm) qK, qD⟩, va_recv hK hPc (ci := 0) (q0 := 0) rfl rfl, fun U hU hW => ⟨rfl, by rw [hU], by rw [hU]; exact hPc, va_K.moved hW.alike hK, hDc.weaken (fun _ _ _ _ => trivial)⟩⟩ rfl rfl hl.1 rfl (lv_room (Nat.le_of_ble_eq_true rfl)) dX8_reckon_219 ⟨Nat.le_of_ble_eq_true rfl, Nat.le_of_ble_eq_true rfl⟩) hS (fun q _ h => hFc q h) hFc (fun r_219 u t H1 locs ht hvm hw hB hz1 hk1 hS => ?_)
            obtain ⟨z_219, th1_219, mn1_219, SG1_219, VL1_219, W1_219⟩ := u
            obtain ⟨rfl, p0_219, p1_219, p2_219, p3_219⟩ : r_219 = I3 z_219 ∧ (Dg W1_219) ∧ (Dg VL1_219) ∧ (0 ≤ mn1_219 ∧ mn1_219 ≤ 60) ∧ (Mde mn SG VL ((SG a) * y) (rv W1_209 0) (rv W1_209 1) (4 : Int) z_219 th1_219 mn1_219 SG1_219 VL1_219) := hw
            obtain ⟨hP1, hK1, hD1⟩ := hB
            rw [ht] at hP1
            obtain ⟨hP, hD⟩ := va_join (wr := []) (w1 := [(am, .inr (0, [.int (I3 th1_219), .int (I3 mn1_219), .ref as_, .ref av, .ref aw, .int (I3 sm), .int (I3 wd), .int (I3 lp), .int (I3 mp), .int (I3 re)])), (as_, .inl (dA 0, 60, .inl (iA SG1_219))), (av, .inl (dA 1, 960, .inr (.inl (lA VL1_219)))), (aw, .inl (dA 1, 1024, .inr (.inl (lA W1_219))))]) hP hD [0, 1, 2, 3] [] rfl rfl (by decide) (by decide) hk1 hFc hP1 hD1
            generalize H1 = H at hP hS ⊢
            have hP : va_P (dC, dI) vwCl [(am, .inr (0, [.int (I3 th1_219), .int (I3 mn1_219), .ref as_, .ref av, .ref aw, .int (I3 sm), .int (I3 wd), .int (I3 lp), .int (I3 mp), .int (I3 re)])), (as_, .inl (dA 0, 60, .inl (iA SG1_219))), (av, .inl (dA 1, 960, .inr (.inl (lA VL1_219)))), (aw, .inl (dA 1, 1024, .inr (.inl (lA W1_219))))] H := hP
            have hD : va_D A [(am, .inr (0, [.int (I3 th1_219), .int (I3 mn1_219), .ref as_, .ref av, .ref aw, .int (I3 sm), .int (I3 wd), .int (I3 lp), .int (I3 mp), .int (I3 re)])), (as_, .inl (dA 0, 60, .inl (iA SG1_219))), (av, .inl (dA 1, 960, .inr (.inl (lA VL1_219)))), (aw, .inl (dA 1, 1024, .inr (.inl (lA W1_219))))] := hD
            have hM := p3_219
            rw [g0, g1, hyb] at hM
            have he := rec_46 (C := qv VL a * qv VL b) (pa := pv VL a) (pb := pv VL b) (x := SG a) (y := SG b) (A := pv VL a * qv VL b) (B := pv VL b * qv VL a) (show act = 4 ∨ act = 6 by omega)
            have hM2 : Mde mn SG VL (recG act (SG a) (SG b) (pv VL a * qv VL b) (pv VL b * qv VL a)) (recP act (SG a) (SG b) (pv VL a) (pv VL b) (pv VL a * qv VL b) (pv VL b * qv VL a)) (recQ act (pv VL b * qv VL a) (qv VL a * qv VL b)) 4 z_219 th1_219 mn1_219 SG1_219 VL1_219 := by rw [he.1, he.2.1, he.2.2]; exact hM
            have o_93 : Dg W1_219 := by first | assumption | omega | (constructor <;> omega)
            have o_94 : MI mn1_219 SG1_219 VL1_219 := by exact MI_Mde hI (by rw [he.2.2]; decide) hg3.1 hg3.2 p1_219 p2_219 hM2
            have o_95 : Mde mn SG VL (recG act (SG a) (SG b) (pv VL a * qv VL b) (pv VL b * qv VL a)) (recP act (SG a) (SG b) (pv VL a) (pv VL b) (pv VL a * qv VL b) (pv VL b * qv VL a)) (recQ act (pv VL b * qv VL a) (qv VL a * qv VL b)) 4 z_219 th1_219 mn1_219 SG1_219 VL1_219 := by exact hM2
            exact W.iret (v := I3 z_219) hx hb hr (fun t ht hW => ⟨⟨I3 z_219, (z_219, th1_219, mn1_219, SG1_219, VL1_219, W1_219), rfl, ⟨rfl, ⟨o_93, o_94, o_95⟩⟩, by rw [ht]; exact hP, va_K.moved hW.alike hK, hD⟩, hS.F ht⟩) hS.2.2 dX8_reckon_222
          · skip
            have nd : recDn act (SG a) (SG b) (pv VL a * qv VL b) (pv VL b * qv VL a) := by rcases hdn with ⟨h1, h2⟩ | ⟨h1, h2⟩; exact h2; omega
            refine lv_aload_n hx hb dX8_reckon_184 rfl (lv_at hl 1 rfl) ?_
            refine lv_bipush (v := I3 (9)) hx hb dX8_reckon_185 (by decide) ?_
            refine lv_lconst (v := L6 1) hx hb dX8_reckon_187 (by decide) ?_
            have h_96 : 0 ≤ (9 : Int) ∧ (9 : Int) < 16 := by decide
            have h_97 : Dg W6 := by first | assumption | omega | (constructor <;> omega)
            have hPc := hP.sub (ws' := [(am, .inr (0, [.int (I3 th), .int (I3 mn), .ref as_, .ref av, .ref aw, .int (I3 sm), .int (I3 wd), .int (I3 lp), .int (I3 mp), .int (I3 re)])), (as_, .inl (dA 0, 60, .inl (iA SG))), (av, .inl (dA 1, 960, .inr (.inl (lA VL)))), (aw, .inl (dA 1, 1024, .inr (.inl (lA W6))))]) [0, 1, 2, 3] rfl
            have hDc := hD.sub (ws' := [(am, .inr (0, [.int (I3 th), .int (I3 mn), .ref as_, .ref av, .ref aw, .int (I3 sm), .int (I3 wd), .int (I3 lp), .int (I3 mp), .int (I3 re)])), (as_, .inl (dA 0, 60, .inl (iA SG))), (av, .inl (dA 1, 960, .inr (.inl (lA VL)))), (aw, .inl (dA 1, 1024, .inr (.inl (lA W6))))]) [0, 1, 2, 3] (by decide) rfl
            have hFc := va_free (wc := [(am, .inr (0, [.int (I3 th), .int (I3 mn), .ref as_, .ref av, .ref aw, .int (I3 sm), .int (I3 wd), .int (I3 lp), .int (I3 mp), .int (I3 re)])), (as_, .inl (dA 0, 60, .inl (iA SG))), (av, .inl (dA 1, 960, .inr (.inl (lA VL)))), (aw, .inl (dA 1, 1024, .inr (.inl (lA W6))))]) hD hS hA [0, 1, 2, 3] rfl
            refine va_callv (va_runV (As := [.int (I3 9), .long (L6 1)]) (rest := []) ⟨hx, hb, hml, hown, hts⟩ (metX8_set l dC dI dA am as_ av aw H.size th mn sm wd lp mp re SG VL W6 9 1 h_96 h_97) (cwV 2 hts (lw_V q955 q957 qs19 q66 q958) rfl rfl rfl (by decide +kernel) ⟨Nat.le_of_ble_eq_true rfl, Nat.le_of_ble_eq_true rfl⟩) ⟨fun a U g mk q => by obtain ⟨q0, q1, qP, qK, qD⟩ := q; exact ⟨q0, q1, qP, va_K.moved (u := U) (U := U.calling g mk a) (Vm.Alike.refl U.vm) qK, qD⟩, va_recv hK hPc (ci := 0) (q0 := 0) rfl rfl, fun U hU hW => ⟨rfl, by rw [hU], by rw [hU]; exact hPc, va_K.moved hW.alike hK, hDc.weaken (fun _ _ _ _ => trivial)⟩⟩ rfl rfl hl.1 rfl (lv_room (Nat.le_of_ble_eq_true rfl)) dX8_reckon_188 ⟨Nat.le_of_ble_eq_true rfl, Nat.le_of_ble_eq_true rfl⟩) hS (fun q _ h => hFc q h) hFc (fun u t H1 locs ht hvm hw hB hz1 hk1 hS => ?_)
            obtain ⟨W1_188, rfl⟩ : ∃ z, z = u := ⟨_, rfl⟩
            obtain ⟨p0_188, p1_188, p2_188⟩ : (Dg W1_188) ∧ (Fr W6 W1_188 (9 : Int)) ∧ (rv W1_188 (9 : Int) = ((1 : Int) % 18446744073709551616).toNat) := hw
            obtain ⟨hP1, hK1, hD1⟩ := hB
            rw [ht] at hP1
            obtain ⟨hP, hD⟩ := va_join (wr := []) (w1 := [(am, .inr (0, [.int (I3 th), .int (I3 mn), .ref as_, .ref av, .ref aw, .int (I3 sm), .int (I3 wd), .int (I3 lp), .int (I3 mp), .int (I3 re)])), (as_, .inl (dA 0, 60, .inl (iA SG))), (av, .inl (dA 1, 960, .inr (.inl (lA VL)))), (aw, .inl (dA 1, 1024, .inr (.inl (lA W1_188))))]) hP hD [0, 1, 2, 3] [] rfl rfl (by decide) (by decide) hk1 hFc hP1 hD1
            generalize H1 = H at hP hS ⊢
            have hP : va_P (dC, dI) vwCl [(am, .inr (0, [.int (I3 th), .int (I3 mn), .ref as_, .ref av, .ref aw, .int (I3 sm), .int (I3 wd), .int (I3 lp), .int (I3 mp), .int (I3 re)])), (as_, .inl (dA 0, 60, .inl (iA SG))), (av, .inl (dA 1, 960, .inr (.inl (lA VL)))), (aw, .inl (dA 1, 1024, .inr (.inl (lA W1_188))))] H := hP
            have hD : va_D A [(am, .inr (0, [.int (I3 th), .int (I3 mn), .ref as_, .ref av, .ref aw, .int (I3 sm), .int (I3 wd), .int (I3 lp), .int (I3 mp), .int (I3 re)])), (as_, .inl (dA 0, 60, .inl (iA SG))), (av, .inl (dA 1, 960, .inr (.inl (lA VL)))), (aw, .inl (dA 1, 1024, .inr (.inl (lA W1_188))))] := hD
            refine lv_aload_n hx hb dX8_reckon_191 rfl (lv_at hl 1 rfl) ?_
            refine lv_bipush (v := I3 (7)) hx hb dX8_reckon_192 (by decide) ?_
            refine lv_bipush (v := I3 (9)) hx hb dX8_reckon_194 (by decide) ?_
            have h_98 : 0 ≤ (7 : Int) ∧ (7 : Int) < 16 := by decide
            have h_99 : 0 ≤ (9 : Int) ∧ (9 : Int) < 16 := by decide
            have h_100 : (7 : Int) ≠ (9 : Int) := by decide
            have h_101 : Dg W1_188 := by first | assumption | omega | (constructor <;> omega)
            have hPc := hP.sub (ws' := [(am, .inr (0, [.int (I3 th), .int (I3 mn), .ref as_, .ref av, .ref aw, .int (I3 sm), .int (I3 wd), .int (I3 lp), .int (I3 mp), .int (I3 re)])), (as_, .inl (dA 0, 60, .inl (iA SG))), (av, .inl (dA 1, 960, .inr (.inl (lA VL)))), (aw, .inl (dA 1, 1024, .inr (.inl (lA W1_188))))]) [0, 1, 2, 3] rfl
            have hDc := hD.sub (ws' := [(am, .inr (0, [.int (I3 th), .int (I3 mn), .ref as_, .ref av, .ref aw, .int (I3 sm), .int (I3 wd), .int (I3 lp), .int (I3 mp), .int (I3 re)])), (as_, .inl (dA 0, 60, .inl (iA SG))), (av, .inl (dA 1, 960, .inr (.inl (lA VL)))), (aw, .inl (dA 1, 1024, .inr (.inl (lA W1_188))))]) [0, 1, 2, 3] (by decide) rfl
            have hFc := va_free (wc := [(am, .inr (0, [.int (I3 th), .int (I3 mn), .ref as_, .ref av, .ref aw, .int (I3 sm), .int (I3 wd), .int (I3 lp), .int (I3 mp), .int (I3 re)])), (as_, .inl (dA 0, 60, .inl (iA SG))), (av, .inl (dA 1, 960, .inr (.inl (lA VL)))), (aw, .inl (dA 1, 1024, .inr (.inl (lA W1_188))))]) hD hS hA [0, 1, 2, 3] rfl
            refine va_callv (va_runV (As := [.int (I3 7), .int (I3 9)]) (rest := []) ⟨hx, hb, hml, hown, hts⟩ (metX8_add l dC dI dA am as_ av aw H.size th mn sm wd lp mp re SG VL W1_188 7 9 h_98 h_99 h_100 h_101) (cwV 2 hts (lw_V q1094 q1096 qs45 q66 q1097) rfl rfl rfl (by decide +kernel) ⟨Nat.le_of_ble_eq_true rfl, Nat.le_of_ble_eq_true rfl⟩) ⟨fun a U g mk q => by obtain ⟨q0, q1, qP, qK, qD⟩ := q; exact ⟨q0, q1, qP, va_K.moved (u := U) (U := U.calling g mk a) (Vm.Alike.refl U.vm) qK, qD⟩, va_recv hK hPc (ci := 0) (q0 := 0) rfl rfl, fun U hU hW => ⟨rfl, by rw [hU], by rw [hU]; exact hPc, va_K.moved hW.alike hK, hDc.weaken (fun _ _ _ _ => trivial)⟩⟩ rfl rfl hl.1 rfl (lv_room (Nat.le_of_ble_eq_true rfl)) dX8_reckon_196 ⟨Nat.le_of_ble_eq_true rfl, Nat.le_of_ble_eq_true rfl⟩) hS (fun q _ h => hFc q h) hFc (fun u t H1 locs ht hvm hw hB hz1 hk1 hS => ?_)
            obtain ⟨W1_196, rfl⟩ : ∃ z, z = u := ⟨_, rfl⟩
            obtain ⟨p0_196, p1_196, p2_196⟩ : (Dg W1_196) ∧ (Fr W1_188 W1_196 (7 : Int)) ∧ (rv W1_196 (7 : Int) = (rv W1_188 (7 : Int) + rv W1_188 (9 : Int)) % BN) := hw
            obtain ⟨hP1, hK1, hD1⟩ := hB
            rw [ht] at hP1
            obtain ⟨hP, hD⟩ := va_join (wr := []) (w1 := [(am, .inr (0, [.int (I3 th), .int (I3 mn), .ref as_, .ref av, .ref aw, .int (I3 sm), .int (I3 wd), .int (I3 lp), .int (I3 mp), .int (I3 re)])), (as_, .inl (dA 0, 60, .inl (iA SG))), (av, .inl (dA 1, 960, .inr (.inl (lA VL)))), (aw, .inl (dA 1, 1024, .inr (.inl (lA W1_196))))]) hP hD [0, 1, 2, 3] [] rfl rfl (by decide) (by decide) hk1 hFc hP1 hD1
            generalize H1 = H at hP hS ⊢
            have hP : va_P (dC, dI) vwCl [(am, .inr (0, [.int (I3 th), .int (I3 mn), .ref as_, .ref av, .ref aw, .int (I3 sm), .int (I3 wd), .int (I3 lp), .int (I3 mp), .int (I3 re)])), (as_, .inl (dA 0, 60, .inl (iA SG))), (av, .inl (dA 1, 960, .inr (.inl (lA VL)))), (aw, .inl (dA 1, 1024, .inr (.inl (lA W1_196))))] H := hP
            have hD : va_D A [(am, .inr (0, [.int (I3 th), .int (I3 mn), .ref as_, .ref av, .ref aw, .int (I3 sm), .int (I3 wd), .int (I3 lp), .int (I3 mp), .int (I3 re)])), (as_, .inl (dA 0, 60, .inl (iA SG))), (av, .inl (dA 1, 960, .inr (.inl (lA VL)))), (aw, .inl (dA 1, 1024, .inr (.inl (lA W1_196))))] := hD
            have k7b : rv W1_196 7 = pv VL a * qv VL b / (pv VL b * qv VL a) + 1 := by rw [p2_196, Fr_rv p1_188 (by decide), k7, p2_188]; have hdl := Nat.div_le_self (pv VL a * qv VL b) (pv VL b * qv VL a); exact mod_BN (by rw [show ((1 : Int) % 18446744073709551616).toNat = 1 from rfl]; omega)
            refine lv_aload_n hx hb dX8_reckon_199 rfl (lv_at hl 1 rfl) ?_
            refine lv_bipush (v := I3 (7)) hx hb dX8_reckon_200 (by decide) ?_
            refine lv_iconst (v := I3 (0)) hx hb dX8_reckon_202 rfl ?_
            have h_102 : 0 ≤ (7 : Int) ∧ (7 : Int) < 16 := by decide
            have h_103 : 0 ≤ (0 : Int) ∧ (0 : Int) < 16 := by decide
            have h_104 : (7 : Int) ≠ (0 : Int) := by decide
            have h_105 : Dg W1_196 := by first | assumption | omega | (constructor <;> omega)
            have hPc := hP.sub (ws' := [(am, .inr (0, [.int (I3 th), .int (I3 mn), .ref as_, .ref av, .ref aw, .int (I3 sm), .int (I3 wd), .int (I3 lp), .int (I3 mp), .int (I3 re)])), (as_, .inl (dA 0, 60, .inl (iA SG))), (av, .inl (dA 1, 960, .inr (.inl (lA VL)))), (aw, .inl (dA 1, 1024, .inr (.inl (lA W1_196))))]) [0, 1, 2, 3] rfl
            have hDc := hD.sub (ws' := [(am, .inr (0, [.int (I3 th), .int (I3 mn), .ref as_, .ref av, .ref aw, .int (I3 sm), .int (I3 wd), .int (I3 lp), .int (I3 mp), .int (I3 re)])), (as_, .inl (dA 0, 60, .inl (iA SG))), (av, .inl (dA 1, 960, .inr (.inl (lA VL)))), (aw, .inl (dA 1, 1024, .inr (.inl (lA W1_196))))]) [0, 1, 2, 3] (by decide) rfl
            have hFc := va_free (wc := [(am, .inr (0, [.int (I3 th), .int (I3 mn), .ref as_, .ref av, .ref aw, .int (I3 sm), .int (I3 wd), .int (I3 lp), .int (I3 mp), .int (I3 re)])), (as_, .inl (dA 0, 60, .inl (iA SG))), (av, .inl (dA 1, 960, .inr (.inl (lA VL)))), (aw, .inl (dA 1, 1024, .inr (.inl (lA W1_196))))]) hD hS hA [0, 1, 2, 3] rfl
            refine va_callv (va_runV (As := [.int (I3 7), .int (I3 0)]) (rest := []) ⟨hx, hb, hml, hown, hts⟩ (metX8_copy l dC dI dA am as_ av aw H.size th mn sm wd lp mp re SG VL W1_196 7 0 h_102 h_103 h_104 h_105) (cwV 2 hts (lw_V q976 q978 qs24 q66 q979) rfl rfl rfl (by decide +kernel) ⟨Nat.le_of_ble_eq_true rfl, Nat.le_of_ble_eq_true rfl⟩) ⟨fun a U g mk q => by obtain ⟨q0, q1, qP, qK, qD⟩ := q; exact ⟨q0, q1, qP, va_K.moved (u := U) (U := U.calling g mk a) (Vm.Alike.refl U.vm) qK, qD⟩, va_recv hK hPc (ci := 0) (q0 := 0) rfl rfl, fun U hU hW => ⟨rfl, by rw [hU], by rw [hU]; exact hPc, va_K.moved hW.alike hK, hDc.weaken (fun _ _ _ _ => trivial)⟩⟩ rfl rfl hl.1 rfl (lv_room (Nat.le_of_ble_eq_true rfl)) dX8_reckon_203 ⟨Nat.le_of_ble_eq_true rfl, Nat.le_of_ble_eq_true rfl⟩) hS (fun q _ h => hFc q h) hFc (fun u t H1 locs ht hvm hw hB hz1 hk1 hS => ?_)
            obtain ⟨W1_203, rfl⟩ : ∃ z, z = u := ⟨_, rfl⟩
            obtain ⟨p0_203, p1_203, p2_203⟩ : (Dg W1_203) ∧ (Fr W1_196 W1_203 (0 : Int)) ∧ (rv W1_203 (0 : Int) = rv W1_196 (7 : Int)) := hw
            obtain ⟨hP1, hK1, hD1⟩ := hB
            rw [ht] at hP1
            obtain ⟨hP, hD⟩ := va_join (wr := []) (w1 := [(am, .inr (0, [.int (I3 th), .int (I3 mn), .ref as_, .ref av, .ref aw, .int (I3 sm), .int (I3 wd), .int (I3 lp), .int (I3 mp), .int (I3 re)])), (as_, .inl (dA 0, 60, .inl (iA SG))), (av, .inl (dA 1, 960, .inr (.inl (lA VL)))), (aw, .inl (dA 1, 1024, .inr (.inl (lA W1_203))))]) hP hD [0, 1, 2, 3] [] rfl rfl (by decide) (by decide) hk1 hFc hP1 hD1
            generalize H1 = H at hP hS ⊢
            have hP : va_P (dC, dI) vwCl [(am, .inr (0, [.int (I3 th), .int (I3 mn), .ref as_, .ref av, .ref aw, .int (I3 sm), .int (I3 wd), .int (I3 lp), .int (I3 mp), .int (I3 re)])), (as_, .inl (dA 0, 60, .inl (iA SG))), (av, .inl (dA 1, 960, .inr (.inl (lA VL)))), (aw, .inl (dA 1, 1024, .inr (.inl (lA W1_203))))] H := hP
            have hD : va_D A [(am, .inr (0, [.int (I3 th), .int (I3 mn), .ref as_, .ref av, .ref aw, .int (I3 sm), .int (I3 wd), .int (I3 lp), .int (I3 mp), .int (I3 re)])), (as_, .inl (dA 0, 60, .inl (iA SG))), (av, .inl (dA 1, 960, .inr (.inl (lA VL)))), (aw, .inl (dA 1, 1024, .inr (.inl (lA W1_203))))] := hD
            refine lv_aload_n hx hb dX8_reckon_206 rfl (lv_at hl 1 rfl) ?_
            refine lv_iconst (v := I3 (1)) hx hb dX8_reckon_207 rfl ?_
            refine lv_lconst (v := L6 1) hx hb dX8_reckon_208 (by decide) ?_
            have h_106 : 0 ≤ (1 : Int) ∧ (1 : Int) < 16 := by decide
            have h_107 : Dg W1_203 := by first | assumption | omega | (constructor <;> omega)
            have hPc := hP.sub (ws' := [(am, .inr (0, [.int (I3 th), .int (I3 mn), .ref as_, .ref av, .ref aw, .int (I3 sm), .int (I3 wd), .int (I3 lp), .int (I3 mp), .int (I3 re)])), (as_, .inl (dA 0, 60, .inl (iA SG))), (av, .inl (dA 1, 960, .inr (.inl (lA VL)))), (aw, .inl (dA 1, 1024, .inr (.inl (lA W1_203))))]) [0, 1, 2, 3] rfl
            have hDc := hD.sub (ws' := [(am, .inr (0, [.int (I3 th), .int (I3 mn), .ref as_, .ref av, .ref aw, .int (I3 sm), .int (I3 wd), .int (I3 lp), .int (I3 mp), .int (I3 re)])), (as_, .inl (dA 0, 60, .inl (iA SG))), (av, .inl (dA 1, 960, .inr (.inl (lA VL)))), (aw, .inl (dA 1, 1024, .inr (.inl (lA W1_203))))]) [0, 1, 2, 3] (by decide) rfl
            have hFc := va_free (wc := [(am, .inr (0, [.int (I3 th), .int (I3 mn), .ref as_, .ref av, .ref aw, .int (I3 sm), .int (I3 wd), .int (I3 lp), .int (I3 mp), .int (I3 re)])), (as_, .inl (dA 0, 60, .inl (iA SG))), (av, .inl (dA 1, 960, .inr (.inl (lA VL)))), (aw, .inl (dA 1, 1024, .inr (.inl (lA W1_203))))]) hD hS hA [0, 1, 2, 3] rfl
            refine va_callv (va_runV (As := [.int (I3 1), .long (L6 1)]) (rest := []) ⟨hx, hb, hml, hown, hts⟩ (metX8_set l dC dI dA am as_ av aw H.size th mn sm wd lp mp re SG VL W1_203 1 1 h_106 h_107) (cwV 2 hts (lw_V q955 q957 qs19 q66 q958) rfl rfl rfl (by decide +kernel) ⟨Nat.le_of_ble_eq_true rfl, Nat.le_of_ble_eq_true rfl⟩) ⟨fun a U g mk q => by obtain ⟨q0, q1, qP, qK, qD⟩ := q; exact ⟨q0, q1, qP, va_K.moved (u := U) (U := U.calling g mk a) (Vm.Alike.refl U.vm) qK, qD⟩, va_recv hK hPc (ci := 0) (q0 := 0) rfl rfl, fun U hU hW => ⟨rfl, by rw [hU], by rw [hU]; exact hPc, va_K.moved hW.alike hK, hDc.weaken (fun _ _ _ _ => trivial)⟩⟩ rfl rfl hl.1 rfl (lv_room (Nat.le_of_ble_eq_true rfl)) dX8_reckon_209 ⟨Nat.le_of_ble_eq_true rfl, Nat.le_of_ble_eq_true rfl⟩) hS (fun q _ h => hFc q h) hFc (fun u t H1 locs ht hvm hw hB hz1 hk1 hS => ?_)
            obtain ⟨W1_209, rfl⟩ : ∃ z, z = u := ⟨_, rfl⟩
            obtain ⟨p0_209, p1_209, p2_209⟩ : (Dg W1_209) ∧ (Fr W1_203 W1_209 (1 : Int)) ∧ (rv W1_209 (1 : Int) = ((1 : Int) % 18446744073709551616).toNat) := hw
            obtain ⟨hP1, hK1, hD1⟩ := hB
            rw [ht] at hP1
            obtain ⟨hP, hD⟩ := va_join (wr := []) (w1 := [(am, .inr (0, [.int (I3 th), .int (I3 mn), .ref as_, .ref av, .ref aw, .int (I3 sm), .int (I3 wd), .int (I3 lp), .int (I3 mp), .int (I3 re)])), (as_, .inl (dA 0, 60, .inl (iA SG))), (av, .inl (dA 1, 960, .inr (.inl (lA VL)))), (aw, .inl (dA 1, 1024, .inr (.inl (lA W1_209))))]) hP hD [0, 1, 2, 3] [] rfl rfl (by decide) (by decide) hk1 hFc hP1 hD1
            generalize H1 = H at hP hS ⊢
            have hP : va_P (dC, dI) vwCl [(am, .inr (0, [.int (I3 th), .int (I3 mn), .ref as_, .ref av, .ref aw, .int (I3 sm), .int (I3 wd), .int (I3 lp), .int (I3 mp), .int (I3 re)])), (as_, .inl (dA 0, 60, .inl (iA SG))), (av, .inl (dA 1, 960, .inr (.inl (lA VL)))), (aw, .inl (dA 1, 1024, .inr (.inl (lA W1_209))))] H := hP
            have hD : va_D A [(am, .inr (0, [.int (I3 th), .int (I3 mn), .ref as_, .ref av, .ref aw, .int (I3 sm), .int (I3 wd), .int (I3 lp), .int (I3 mp), .int (I3 re)])), (as_, .inl (dA 0, 60, .inl (iA SG))), (av, .inl (dA 1, 960, .inr (.inl (lA VL)))), (aw, .inl (dA 1, 1024, .inr (.inl (lA W1_209))))] := hD
            have g0 : rv W1_209 0 = (if recDn act (SG a) (SG b) (pv VL a * qv VL b) (pv VL b * qv VL a) then pv VL a * qv VL b / (pv VL b * qv VL a) + 1 else pv VL a * qv VL b / (pv VL b * qv VL a)) := by rw [Fr_rv p1_209 (by decide), p2_203]; first | (rw [if_pos nd]; exact k7b) | (rw [if_neg nd]; exact k7)
            have g1 : rv W1_209 1 = 1 := by rw [p2_209]; rfl
            refine lv_aload_n hx hb dX8_reckon_212 rfl (lv_at hl 1 rfl) ?_
            refine lv_iload hx hb dX8_reckon_213 (lv_at hl 5 rfl) ?_
            refine lv_iload hx hb dX8_reckon_215 (lv_at hl 6 rfl) ?_
            refine ix_imul hx hb dX8_reckon_217 ?_
            refine lv_iconst (v := I3 (4)) hx hb dX8_reckon_218 rfl ?_
            have h_108 : Dg W1_209 := by first | assumption | omega | (constructor <;> omega)
            have h_109 : Dg VL := by first | assumption | omega | (constructor <;> omega)
            have h_110 : 0 ≤ mn ∧ mn ≤ 60 := by first | assumption | omega | (constructor <;> omega)
            have h_111 : In3 ((SG a) * y) := by rw [hyb]; obtain ⟨q, -, -⟩ := hp3; constructor <;> omega
            have h_112 : In3 (4 : Int) := by first | assumption | omega | (constructor <;> omega)
            have h_113 : rv W1_209 1 ≠ 0 := by rw [g1]; decide
            have h_114 : 2 * rv W1_209 1 ≤ BN := by rw [g1]; omega
            have hPc := hP.sub (ws' := [(am, .inr (0, [.int (I3 th), .int (I3 mn), .ref as_, .ref av, .ref aw, .int (I3 sm), .int (I3 wd), .int (I3 lp), .int (I3 mp), .int (I3 re)])), (as_, .inl (dA 0, 60, .inl (iA SG))), (av, .inl (dA 1, 960, .inr (.inl (lA VL)))), (aw, .inl (dA 1, 1024, .inr (.inl (lA W1_209))))]) [0, 1, 2, 3] rfl
            have hDc := hD.sub (ws' := [(am, .inr (0, [.int (I3 th), .int (I3 mn), .ref as_, .ref av, .ref aw, .int (I3 sm), .int (I3 wd), .int (I3 lp), .int (I3 mp), .int (I3 re)])), (as_, .inl (dA 0, 60, .inl (iA SG))), (av, .inl (dA 1, 960, .inr (.inl (lA VL)))), (aw, .inl (dA 1, 1024, .inr (.inl (lA W1_209))))]) [0, 1, 2, 3] (by decide) rfl
            have hFc := va_free (wc := [(am, .inr (0, [.int (I3 th), .int (I3 mn), .ref as_, .ref av, .ref aw, .int (I3 sm), .int (I3 wd), .int (I3 lp), .int (I3 mp), .int (I3 re)])), (as_, .inl (dA 0, 60, .inl (iA SG))), (av, .inl (dA 1, 960, .inr (.inl (lA VL)))), (aw, .inl (dA 1, 1024, .inr (.inl (lA W1_209))))]) hD hS hA [0, 1, 2, 3] rfl
            refine va_calli (va_runV (As := [.int (I3 ((SG a) * y)), .int (I3 4)]) (rest := []) ⟨hx, hb, hml, hown, hts⟩ (metX8_make l dC dI dA am as_ av aw H.size th mn sm wd lp mp re SG VL W1_209 ((SG a) * y) 4 h_108 h_109 h_110 h_111 h_112 h_113 h_114) (cwV 2 hts (lw_V q964 q966 qs21 q66 q967) rfl rfl rfl (by decide +kernel) ⟨Nat.le_of_ble_eq_true rfl, Nat.le_of_ble_eq_true rfl⟩) ⟨fun a U g mk q => by obtain ⟨q0, q1, qP, qK, qD⟩ := q; exact ⟨q0, q1, qP, va_K.moved (u := U) (U := U.calling g mk a) (Vm.Alike.refl U.vm) qK, qD⟩, va_recv hK hPc (ci := 0) (q0 := 0) rfl rfl, fun U hU hW => ⟨rfl, by rw [hU], by rw [hU]; exact hPc, va_K.moved hW.alike hK, hDc.weaken (fun _ _ _ _ => trivial)⟩⟩ rfl rfl hl.1 rfl (lv_room (Nat.le_of_ble_eq_true rfl)) dX8_reckon_219 ⟨Nat.le_of_ble_eq_true rfl, Nat.le_of_ble_eq_true rfl⟩) hS (fun q _ h => hFc q h) hFc (fun r_219 u t H1 locs ht hvm hw hB hz1 hk1 hS => ?_)
            obtain ⟨z_219, th1_219, mn1_219, SG1_219, VL1_219, W1_219⟩ := u
            obtain ⟨rfl, p0_219, p1_219, p2_219, p3_219⟩ : r_219 = I3 z_219 ∧ (Dg W1_219) ∧ (Dg VL1_219) ∧ (0 ≤ mn1_219 ∧ mn1_219 ≤ 60) ∧ (Mde mn SG VL ((SG a) * y) (rv W1_209 0) (rv W1_209 1) (4 : Int) z_219 th1_219 mn1_219 SG1_219 VL1_219) := hw
            obtain ⟨hP1, hK1, hD1⟩ := hB
            rw [ht] at hP1
            obtain ⟨hP, hD⟩ := va_join (wr := []) (w1 := [(am, .inr (0, [.int (I3 th1_219), .int (I3 mn1_219), .ref as_, .ref av, .ref aw, .int (I3 sm), .int (I3 wd), .int (I3 lp), .int (I3 mp), .int (I3 re)])), (as_, .inl (dA 0, 60, .inl (iA SG1_219))), (av, .inl (dA 1, 960, .inr (.inl (lA VL1_219)))), (aw, .inl (dA 1, 1024, .inr (.inl (lA W1_219))))]) hP hD [0, 1, 2, 3] [] rfl rfl (by decide) (by decide) hk1 hFc hP1 hD1
            generalize H1 = H at hP hS ⊢
            have hP : va_P (dC, dI) vwCl [(am, .inr (0, [.int (I3 th1_219), .int (I3 mn1_219), .ref as_, .ref av, .ref aw, .int (I3 sm), .int (I3 wd), .int (I3 lp), .int (I3 mp), .int (I3 re)])), (as_, .inl (dA 0, 60, .inl (iA SG1_219))), (av, .inl (dA 1, 960, .inr (.inl (lA VL1_219)))), (aw, .inl (dA 1, 1024, .inr (.inl (lA W1_219))))] H := hP
            have hD : va_D A [(am, .inr (0, [.int (I3 th1_219), .int (I3 mn1_219), .ref as_, .ref av, .ref aw, .int (I3 sm), .int (I3 wd), .int (I3 lp), .int (I3 mp), .int (I3 re)])), (as_, .inl (dA 0, 60, .inl (iA SG1_219))), (av, .inl (dA 1, 960, .inr (.inl (lA VL1_219)))), (aw, .inl (dA 1, 1024, .inr (.inl (lA W1_219))))] := hD
            have hM := p3_219
            rw [g0, g1, hyb] at hM
            have he := rec_46 (C := qv VL a * qv VL b) (pa := pv VL a) (pb := pv VL b) (x := SG a) (y := SG b) (A := pv VL a * qv VL b) (B := pv VL b * qv VL a) (show act = 4 ∨ act = 6 by omega)
            have hM2 : Mde mn SG VL (recG act (SG a) (SG b) (pv VL a * qv VL b) (pv VL b * qv VL a)) (recP act (SG a) (SG b) (pv VL a) (pv VL b) (pv VL a * qv VL b) (pv VL b * qv VL a)) (recQ act (pv VL b * qv VL a) (qv VL a * qv VL b)) 4 z_219 th1_219 mn1_219 SG1_219 VL1_219 := by rw [he.1, he.2.1, he.2.2]; exact hM
            have o_115 : Dg W1_219 := by first | assumption | omega | (constructor <;> omega)
            have o_116 : MI mn1_219 SG1_219 VL1_219 := by exact MI_Mde hI (by rw [he.2.2]; decide) hg3.1 hg3.2 p1_219 p2_219 hM2
            have o_117 : Mde mn SG VL (recG act (SG a) (SG b) (pv VL a * qv VL b) (pv VL b * qv VL a)) (recP act (SG a) (SG b) (pv VL a) (pv VL b) (pv VL a * qv VL b) (pv VL b * qv VL a)) (recQ act (pv VL b * qv VL a) (qv VL a * qv VL b)) 4 z_219 th1_219 mn1_219 SG1_219 VL1_219 := by exact hM2
            exact W.iret (v := I3 z_219) hx hb hr (fun t ht hW => ⟨⟨I3 z_219, (z_219, th1_219, mn1_219, SG1_219, VL1_219, W1_219), rfl, ⟨rfl, ⟨o_115, o_116, o_117⟩⟩, by rw [ht]; exact hP, va_K.moved hW.alike hK, hD⟩, hS.F ht⟩) hS.2.2 dX8_reckon_222
    refine lv_istore (lv' := [(5, .int (I3 y)), (0, .ref am), (1, .int (I3 act)), (2, .int (I3 a)), (3, .int (I3 b)), (4, .int (I3 (SG a)))]) hx hb dX8_reckon_35 hl (by decide) rfl (fun ls hl => ?_)
    refine lv_iload_n hx hb dX8_reckon_37 rfl (lv_at hl 2 rfl) ?_
    refine lv_iconst (v := I3 (2)) hx hb dX8_reckon_38 rfl ?_
    refine ix_icmp_ge (tgt := 58) hx hb (by first | assumption | decide | (constructor <;> omega)) (by first | assumption | decide | (constructor <;> omega)) dX8_reckon_39 (by decide) (fun c_39 => ?_) (fun c_39 => ?_)
    · skip
      refine lv_iload_n hx hb dX8_reckon_58 rfl (lv_at hl 2 rfl) ?_
      refine lv_iconst (v := I3 (2)) hx hb dX8_reckon_59 rfl ?_
      refine ix_icmp_ne (tgt := 100) hx hb (by first | assumption | decide | (constructor <;> omega)) (by first | assumption | decide | (constructor <;> omega)) dX8_reckon_60 (by decide) (fun c_60 => ?_) (fun c_60 => ?_)
      · skip
        refine lv_iload_n hx hb dX8_reckon_100 rfl (lv_at hl 2 rfl) ?_
        refine lv_iconst (v := I3 (3)) hx hb dX8_reckon_101 rfl ?_
        refine ix_icmp_ne (tgt := 128) hx hb (by first | assumption | decide | (constructor <;> omega)) (by first | assumption | decide | (constructor <;> omega)) dX8_reckon_102 (by decide) (fun c_102 => ?_) (fun c_102 => ?_)
        · skip
          refine lv_aload_n hx hb dX8_reckon_128 rfl (lv_at hl 1 rfl) ?_
          refine lv_iconst (v := I3 (4)) hx hb dX8_reckon_129 rfl ?_
          refine lv_iconst (v := I3 (5)) hx hb dX8_reckon_130 rfl ?_
          refine lv_bipush (v := I3 (7)) hx hb dX8_reckon_131 (by decide) ?_
          refine lv_bipush (v := I3 (8)) hx hb dX8_reckon_133 (by decide) ?_
          have h_118 : 0 ≤ (4 : Int) ∧ (4 : Int) < 16 := by decide
          have h_119 : 0 ≤ (5 : Int) ∧ (5 : Int) < 16 := by decide
          have h_120 : 0 ≤ (7 : Int) ∧ (7 : Int) < 16 := by decide
          have h_121 : 0 ≤ (8 : Int) ∧ (8 : Int) < 16 := by decide
          have h_122 : (4 : Int) ≠ (7 : Int) := by decide
          have h_123 : (4 : Int) ≠ (8 : Int) := by decide
          have h_124 : (5 : Int) ≠ (7 : Int) := by decide
          have h_125 : (5 : Int) ≠ (8 : Int) := by decide
          have h_126 : (7 : Int) ≠ (8 : Int) := by decide
          have h_127 : rv W5 (5 : Int) ≠ 0 := by rw [f5]; exact hBn (by omega)
          have h_128 : 2 * rv W5 (5 : Int) ≤ BN := by rw [f5]; omega
          have h_129 : Dg W5 := by first | assumption | omega | (constructor <;> omega)
          have hPc := hP.sub (ws' := [(am, .inr (0, [.int (I3 th), .int (I3 mn), .ref as_, .ref av, .ref aw, .int (I3 sm), .int (I3 wd), .int (I3 lp), .int (I3 mp), .int (I3 re)])), (as_, .inl (dA 0, 60, .inl (iA SG))), (av, .inl (dA 1, 960, .inr (.inl (lA VL)))), (aw, .inl (dA 1, 1024, .inr (.inl (lA W5))))]) [0, 1, 2, 3] rfl
          have hDc := hD.sub (ws' := [(am, .inr (0, [.int (I3 th), .int (I3 mn), .ref as_, .ref av, .ref aw, .int (I3 sm), .int (I3 wd), .int (I3 lp), .int (I3 mp), .int (I3 re)])), (as_, .inl (dA 0, 60, .inl (iA SG))), (av, .inl (dA 1, 960, .inr (.inl (lA VL)))), (aw, .inl (dA 1, 1024, .inr (.inl (lA W5))))]) [0, 1, 2, 3] (by decide) rfl
          have hFc := va_free (wc := [(am, .inr (0, [.int (I3 th), .int (I3 mn), .ref as_, .ref av, .ref aw, .int (I3 sm), .int (I3 wd), .int (I3 lp), .int (I3 mp), .int (I3 re)])), (as_, .inl (dA 0, 60, .inl (iA SG))), (av, .inl (dA 1, 960, .inr (.inl (lA VL)))), (aw, .inl (dA 1, 1024, .inr (.inl (lA W5))))]) hD hS hA [0, 1, 2, 3] rfl
          refine va_callv (va_runV (As := [.int (I3 4), .int (I3 5), .int (I3 7), .int (I3 8)]) (rest := []) ⟨hx, hb, hml, hown, hts⟩ (metX8_divide l dC dI dA am as_ av aw H.size th mn sm wd lp mp re SG VL W5 4 5 7 8 h_118 h_119 h_120 h_121 h_122 h_123 h_124 h_125 h_126 h_127 h_128 h_129) (cwV 4 hts (lw_V q1004 q1006 qs31 q66 q1007) rfl rfl rfl (by decide +kernel) ⟨Nat.le_of_ble_eq_true rfl, Nat.le_of_ble_eq_true rfl⟩) ⟨fun a U g mk q => by obtain ⟨q0, q1, qP, qK, qD⟩ := q; exact ⟨q0, q1, qP, va_K.moved (u := U) (U := U.calling g mk a) (Vm.Alike.refl U.vm) qK, qD⟩, va_recv hK hPc (ci := 0) (q0 := 0) rfl rfl, fun U hU hW => ⟨rfl, by rw [hU], by rw [hU]; exact hPc, va_K.moved hW.alike hK, hDc.weaken (fun _ _ _ _ => trivial)⟩⟩ rfl rfl hl.1 rfl (lv_room (Nat.le_of_ble_eq_true rfl)) dX8_reckon_135 ⟨Nat.le_of_ble_eq_true rfl, Nat.le_of_ble_eq_true rfl⟩) hS (fun q _ h => hFc q h) hFc (fun u t H1 locs ht hvm hw hB hz1 hk1 hS => ?_)
          obtain ⟨W1_135, rfl⟩ : ∃ z, z = u := ⟨_, rfl⟩
          obtain ⟨p0_135, p1_135, p2_135, p3_135⟩ : (Dg W1_135) ∧ (Fr2 W5 W1_135 (7 : Int) (8 : Int)) ∧ (rv W1_135 (7 : Int) = rv W5 (4 : Int) / rv W5 (5 : Int)) ∧ (rv W1_135 (8 : Int) = rv W5 (4 : Int) % rv W5 (5 : Int)) := hw
          obtain ⟨hP1, hK1, hD1⟩ := hB
          rw [ht] at hP1
          obtain ⟨hP, hD⟩ := va_join (wr := []) (w1 := [(am, .inr (0, [.int (I3 th), .int (I3 mn), .ref as_, .ref av, .ref aw, .int (I3 sm), .int (I3 wd), .int (I3 lp), .int (I3 mp), .int (I3 re)])), (as_, .inl (dA 0, 60, .inl (iA SG))), (av, .inl (dA 1, 960, .inr (.inl (lA VL)))), (aw, .inl (dA 1, 1024, .inr (.inl (lA W1_135))))]) hP hD [0, 1, 2, 3] [] rfl rfl (by decide) (by decide) hk1 hFc hP1 hD1
          generalize H1 = H at hP hS ⊢
          have hP : va_P (dC, dI) vwCl [(am, .inr (0, [.int (I3 th), .int (I3 mn), .ref as_, .ref av, .ref aw, .int (I3 sm), .int (I3 wd), .int (I3 lp), .int (I3 mp), .int (I3 re)])), (as_, .inl (dA 0, 60, .inl (iA SG))), (av, .inl (dA 1, 960, .inr (.inl (lA VL)))), (aw, .inl (dA 1, 1024, .inr (.inl (lA W1_135))))] H := hP
          have hD : va_D A [(am, .inr (0, [.int (I3 th), .int (I3 mn), .ref as_, .ref av, .ref aw, .int (I3 sm), .int (I3 wd), .int (I3 lp), .int (I3 mp), .int (I3 re)])), (as_, .inl (dA 0, 60, .inl (iA SG))), (av, .inl (dA 1, 960, .inr (.inl (lA VL)))), (aw, .inl (dA 1, 1024, .inr (.inl (lA W1_135))))] := hD
          have hyb : y = SG b := by rw [hy]; unfold recY; rw [if_neg (by omega)]
          refine lv_iload_n hx hb dX8_reckon_138 rfl (lv_at hl 2 rfl) ?_
          refine lv_bipush (v := I3 (6)) hx hb dX8_reckon_139 (by decide) ?_
          refine ix_icmp_ge (tgt := 165) hx hb (by first | assumption | decide | (constructor <;> omega)) (by first | assumption | decide | (constructor <;> omega)) dX8_reckon_141 (by decide) (fun c_141 => ?_) (fun c_141 => ?_)
          · skip
            refine lv_iconst (v := I3 (0)) hx hb dX8_reckon_165 rfl ?_
            have e8 : rv W1_135 8 = pv VL a * qv VL b % (pv VL b * qv VL a) := by rw [p3_135, f4, f5]
            have e_130 : 4 ≤ act := by first | assumption | omega | (constructor <;> omega)
            have e_131 : ((0 : Int) = 1 ∧ recDn act (SG a) (SG b) (pv VL a * qv VL b) (pv VL b * qv VL a)) ∨ ((0 : Int) = 0 ∧ ¬ recDn act (SG a) (SG b) (pv VL a * qv VL b) (pv VL b * qv VL a)) := by first | exact Or.inl ⟨rfl, by omega, by rw [← hyb]; omega, by omega⟩ | (refine Or.inr ⟨rfl, fun ⟨q1, q2, q3⟩ => ?_⟩; rw [← hyb] at q2; omega)
            have e_132 : Dg W1_135 := by first | assumption | omega | (constructor <;> omega)
            have e_133 : rv W1_135 5 = pv VL b * qv VL a := by exact (Fr2_rv p1_135 (by decide) (by decide)).trans f5
            have e_134 : rv W1_135 6 = qv VL a * qv VL b := by exact (Fr2_rv p1_135 (by decide) (by decide)).trans f6
            have e_135 : rv W1_135 7 = pv VL a * qv VL b / (pv VL b * qv VL a) := by rw [p2_135, f4, f5]
            have e_136 : rv W1_135 8 = pv VL a * qv VL b % (pv VL b * qv VL a) := by exact e8
            exact cut_166 0 W1_135 e_130 e_131 e_132 e_133 e_134 e_135 e_136 _ _ hP hD hS ls (lv_sub hl [1, 2, 3, 4, 5, 0] rfl)
          · skip
            refine lv_iload hx hb dX8_reckon_144 (lv_at hl 5 rfl) ?_
            refine lv_iload hx hb dX8_reckon_146 (lv_at hl 0 rfl) ?_
            refine ix_imul hx hb dX8_reckon_148 ?_
            have hm_ : SG a * y = SG a * SG b := by rw [hyb]
            refine ix_if_ge (tgt := 165) hx hb (by rw [hyb]; constructor <;> omega) dX8_reckon_149 (by decide) (fun c_149 => ?_) (fun c_149 => ?_)
            · skip
              refine lv_iconst (v := I3 (0)) hx hb dX8_reckon_165 rfl ?_
              have e8 : rv W1_135 8 = pv VL a * qv VL b % (pv VL b * qv VL a) := by rw [p3_135, f4, f5]
              have e_137 : 4 ≤ act := by first | assumption | omega | (constructor <;> omega)
              have e_138 : ((0 : Int) = 1 ∧ recDn act (SG a) (SG b) (pv VL a * qv VL b) (pv VL b * qv VL a)) ∨ ((0 : Int) = 0 ∧ ¬ recDn act (SG a) (SG b) (pv VL a * qv VL b) (pv VL b * qv VL a)) := by first | exact Or.inl ⟨rfl, by omega, by rw [← hyb]; omega, by omega⟩ | (refine Or.inr ⟨rfl, fun ⟨q1, q2, q3⟩ => ?_⟩; rw [← hyb] at q2; omega)
              have e_139 : Dg W1_135 := by first | assumption | omega | (constructor <;> omega)
              have e_140 : rv W1_135 5 = pv VL b * qv VL a := by exact (Fr2_rv p1_135 (by decide) (by decide)).trans f5
              have e_141 : rv W1_135 6 = qv VL a * qv VL b := by exact (Fr2_rv p1_135 (by decide) (by decide)).trans f6
              have e_142 : rv W1_135 7 = pv VL a * qv VL b / (pv VL b * qv VL a) := by rw [p2_135, f4, f5]
              have e_143 : rv W1_135 8 = pv VL a * qv VL b % (pv VL b * qv VL a) := by exact e8
              exact cut_166 0 W1_135 e_137 e_138 e_139 e_140 e_141 e_142 e_143 _ _ hP hD hS ls (lv_sub hl [1, 2, 3, 4, 5, 0] rfl)
            · skip
              refine lv_aload_n hx hb dX8_reckon_152 rfl (lv_at hl 1 rfl) ?_
              refine lv_bipush (v := I3 (8)) hx hb dX8_reckon_153 (by decide) ?_
              have h_144 : 0 ≤ (8 : Int) ∧ (8 : Int) < 16 := by decide
              have h_145 : Dg W1_135 := by first | assumption | omega | (constructor <;> omega)
              have hPc := hP.sub (ws' := [(am, .inr (0, [.int (I3 th), .int (I3 mn), .ref as_, .ref av, .ref aw, .int (I3 sm), .int (I3 wd), .int (I3 lp), .int (I3 mp), .int (I3 re)])), (as_, .inl (dA 0, 60, .inl (iA SG))), (av, .inl (dA 1, 960, .inr (.inl (lA VL)))), (aw, .inl (dA 1, 1024, .inr (.inl (lA W1_135))))]) [0, 1, 2, 3] rfl
              have hDc := hD.sub (ws' := [(am, .inr (0, [.int (I3 th), .int (I3 mn), .ref as_, .ref av, .ref aw, .int (I3 sm), .int (I3 wd), .int (I3 lp), .int (I3 mp), .int (I3 re)])), (as_, .inl (dA 0, 60, .inl (iA SG))), (av, .inl (dA 1, 960, .inr (.inl (lA VL)))), (aw, .inl (dA 1, 1024, .inr (.inl (lA W1_135))))]) [0, 1, 2, 3] (by decide) rfl
              have hFc := va_free (wc := [(am, .inr (0, [.int (I3 th), .int (I3 mn), .ref as_, .ref av, .ref aw, .int (I3 sm), .int (I3 wd), .int (I3 lp), .int (I3 mp), .int (I3 re)])), (as_, .inl (dA 0, 60, .inl (iA SG))), (av, .inl (dA 1, 960, .inr (.inl (lA VL)))), (aw, .inl (dA 1, 1024, .inr (.inl (lA W1_135))))]) hD hS hA [0, 1, 2, 3] rfl
              refine va_calli (va_runV (As := [.int (I3 8)]) (rest := []) ⟨hx, hb, hml, hown, hts⟩ (metX8_isZero l dC dI dA am as_ av aw H.size th mn sm wd lp mp re SG VL W1_135 8 h_144 h_145) (cwV 1 hts (lw_V q968 q970 qs22 q66 q971) rfl rfl rfl (by decide +kernel) ⟨Nat.le_of_ble_eq_true rfl, Nat.le_of_ble_eq_true rfl⟩) ⟨fun a U g mk q => by obtain ⟨q0, q1, qP, qK, qD⟩ := q; exact ⟨q0, q1, qP, va_K.moved (u := U) (U := U.calling g mk a) (Vm.Alike.refl U.vm) qK, qD⟩, va_recv hK hPc (ci := 0) (q0 := 0) rfl rfl, fun U hU hW => ⟨rfl, by rw [hU], by rw [hU]; exact hPc, va_K.moved hW.alike hK, hDc.weaken (fun _ _ _ _ => trivial)⟩⟩ rfl rfl hl.1 rfl (lv_room (Nat.le_of_ble_eq_true rfl)) dX8_reckon_155 ⟨Nat.le_of_ble_eq_true rfl, Nat.le_of_ble_eq_true rfl⟩) hS (fun q _ h => hFc q h) hFc (fun r_155 u t H1 locs ht hvm hw hB hz1 hk1 hS => ?_)
              obtain ⟨z_155, rfl⟩ : ∃ z, z = u := ⟨_, rfl⟩
              obtain ⟨rfl, p0_155⟩ : r_155 = I3 z_155 ∧ (z_155 = if rv W1_135 (8 : Int) = 0 then 1 else 0) := hw
              obtain ⟨hP1, hK1, hD1⟩ := hB
              rw [ht] at hP1
              obtain ⟨hP, hD⟩ := va_join (wr := []) (w1 := [(am, .inr (0, [.int (I3 th), .int (I3 mn), .ref as_, .ref av, .ref aw, .int (I3 sm), .int (I3 wd), .int (I3 lp), .int (I3 mp), .int (I3 re)])), (as_, .inl (dA 0, 60, .inl (iA SG))), (av, .inl (dA 1, 960, .inr (.inl (lA VL)))), (aw, .inl (dA 1, 1024, .inr (.inl (lA W1_135))))]) hP hD [0, 1, 2, 3] [] rfl rfl (by decide) (by decide) hk1 hFc hP1 hD1
              generalize H1 = H at hP hS ⊢
              have hP : va_P (dC, dI) vwCl [(am, .inr (0, [.int (I3 th), .int (I3 mn), .ref as_, .ref av, .ref aw, .int (I3 sm), .int (I3 wd), .int (I3 lp), .int (I3 mp), .int (I3 re)])), (as_, .inl (dA 0, 60, .inl (iA SG))), (av, .inl (dA 1, 960, .inr (.inl (lA VL)))), (aw, .inl (dA 1, 1024, .inr (.inl (lA W1_135))))] H := hP
              have hD : va_D A [(am, .inr (0, [.int (I3 th), .int (I3 mn), .ref as_, .ref av, .ref aw, .int (I3 sm), .int (I3 wd), .int (I3 lp), .int (I3 mp), .int (I3 re)])), (as_, .inl (dA 0, 60, .inl (iA SG))), (av, .inl (dA 1, 960, .inr (.inl (lA VL)))), (aw, .inl (dA 1, 1024, .inr (.inl (lA W1_135))))] := hD
              have y_155 := b01 p0_155
              refine ix_if_ne (tgt := 165) hx hb (by first | assumption | decide | (constructor <;> omega)) dX8_reckon_158 (by decide) (fun c_158 => ?_) (fun c_158 => ?_)
              · skip
                refine lv_iconst (v := I3 (0)) hx hb dX8_reckon_165 rfl ?_
                have e8 : rv W1_135 8 = pv VL a * qv VL b % (pv VL b * qv VL a) := by rw [p3_135, f4, f5]
                have e_146 : 4 ≤ act := by first | assumption | omega | (constructor <;> omega)
                have e_147 : ((0 : Int) = 1 ∧ recDn act (SG a) (SG b) (pv VL a * qv VL b) (pv VL b * qv VL a)) ∨ ((0 : Int) = 0 ∧ ¬ recDn act (SG a) (SG b) (pv VL a * qv VL b) (pv VL b * qv VL a)) := by first | exact Or.inl ⟨rfl, by omega, by rw [← hyb]; omega, by omega⟩ | (refine Or.inr ⟨rfl, fun ⟨q1, q2, q3⟩ => ?_⟩; rw [← hyb] at q2; omega)
                have e_148 : Dg W1_135 := by first | assumption | omega | (constructor <;> omega)
                have e_149 : rv W1_135 5 = pv VL b * qv VL a := by exact (Fr2_rv p1_135 (by decide) (by decide)).trans f5
                have e_150 : rv W1_135 6 = qv VL a * qv VL b := by exact (Fr2_rv p1_135 (by decide) (by decide)).trans f6
                have e_151 : rv W1_135 7 = pv VL a * qv VL b / (pv VL b * qv VL a) := by rw [p2_135, f4, f5]
                have e_152 : rv W1_135 8 = pv VL a * qv VL b % (pv VL b * qv VL a) := by exact e8
                exact cut_166 0 W1_135 e_146 e_147 e_148 e_149 e_150 e_151 e_152 _ _ hP hD hS ls (lv_sub hl [1, 2, 3, 4, 5, 0] rfl)
              · skip
                refine lv_iconst (v := I3 (1)) hx hb dX8_reckon_161 rfl ?_
                refine lv_goto (tgt := 166) hx hb dX8_reckon_162 (by decide) ?_
                have e8 : rv W1_135 8 = pv VL a * qv VL b % (pv VL b * qv VL a) := by rw [p3_135, f4, f5]
                have e_153 : 4 ≤ act := by first | assumption | omega | (constructor <;> omega)
                have e_154 : ((1 : Int) = 1 ∧ recDn act (SG a) (SG b) (pv VL a * qv VL b) (pv VL b * qv VL a)) ∨ ((1 : Int) = 0 ∧ ¬ recDn act (SG a) (SG b) (pv VL a * qv VL b) (pv VL b * qv VL a)) := by first | exact Or.inl ⟨rfl, by omega, by rw [← hyb]; omega, by omega⟩ | (refine Or.inr ⟨rfl, fun ⟨q1, q2, q3⟩ => ?_⟩; rw [← hyb] at q2; omega)
                have e_155 : Dg W1_135 := by first | assumption | omega | (constructor <;> omega)
                have e_156 : rv W1_135 5 = pv VL b * qv VL a := by exact (Fr2_rv p1_135 (by decide) (by decide)).trans f5
                have e_157 : rv W1_135 6 = qv VL a * qv VL b := by exact (Fr2_rv p1_135 (by decide) (by decide)).trans f6
                have e_158 : rv W1_135 7 = pv VL a * qv VL b / (pv VL b * qv VL a) := by rw [p2_135, f4, f5]
                have e_159 : rv W1_135 8 = pv VL a * qv VL b % (pv VL b * qv VL a) := by exact e8
                exact cut_166 1 W1_135 e_153 e_154 e_155 e_156 e_157 e_158 e_159 _ _ hP hD hS ls (lv_sub hl [1, 2, 3, 4, 5, 0] rfl)
        · skip
          refine lv_aload_n hx hb dX8_reckon_105 rfl (lv_at hl 1 rfl) ?_
          refine lv_iconst (v := I3 (4)) hx hb dX8_reckon_106 rfl ?_
          refine lv_iconst (v := I3 (0)) hx hb dX8_reckon_107 rfl ?_
          have h_160 : 0 ≤ (4 : Int) ∧ (4 : Int) < 16 := by decide
          have h_161 : 0 ≤ (0 : Int) ∧ (0 : Int) < 16 := by decide
          have h_162 : (4 : Int) ≠ (0 : Int) := by decide
          have h_163 : Dg W5 := by first | assumption | omega | (constructor <;> omega)
          have hPc := hP.sub (ws' := [(am, .inr (0, [.int (I3 th), .int (I3 mn), .ref as_, .ref av, .ref aw, .int (I3 sm), .int (I3 wd), .int (I3 lp), .int (I3 mp), .int (I3 re)])), (as_, .inl (dA 0, 60, .inl (iA SG))), (av, .inl (dA 1, 960, .inr (.inl (lA VL)))), (aw, .inl (dA 1, 1024, .inr (.inl (lA W5))))]) [0, 1, 2, 3] rfl
          have hDc := hD.sub (ws' := [(am, .inr (0, [.int (I3 th), .int (I3 mn), .ref as_, .ref av, .ref aw, .int (I3 sm), .int (I3 wd), .int (I3 lp), .int (I3 mp), .int (I3 re)])), (as_, .inl (dA 0, 60, .inl (iA SG))), (av, .inl (dA 1, 960, .inr (.inl (lA VL)))), (aw, .inl (dA 1, 1024, .inr (.inl (lA W5))))]) [0, 1, 2, 3] (by decide) rfl
          have hFc := va_free (wc := [(am, .inr (0, [.int (I3 th), .int (I3 mn), .ref as_, .ref av, .ref aw, .int (I3 sm), .int (I3 wd), .int (I3 lp), .int (I3 mp), .int (I3 re)])), (as_, .inl (dA 0, 60, .inl (iA SG))), (av, .inl (dA 1, 960, .inr (.inl (lA VL)))), (aw, .inl (dA 1, 1024, .inr (.inl (lA W5))))]) hD hS hA [0, 1, 2, 3] rfl
          refine va_callv (va_runV (As := [.int (I3 4), .int (I3 0)]) (rest := []) ⟨hx, hb, hml, hown, hts⟩ (metX8_copy l dC dI dA am as_ av aw H.size th mn sm wd lp mp re SG VL W5 4 0 h_160 h_161 h_162 h_163) (cwV 2 hts (lw_V q976 q978 qs24 q66 q979) rfl rfl rfl (by decide +kernel) ⟨Nat.le_of_ble_eq_true rfl, Nat.le_of_ble_eq_true rfl⟩) ⟨fun a U g mk q => by obtain ⟨q0, q1, qP, qK, qD⟩ := q; exact ⟨q0, q1, qP, va_K.moved (u := U) (U := U.calling g mk a) (Vm.Alike.refl U.vm) qK, qD⟩, va_recv hK hPc (ci := 0) (q0 := 0) rfl rfl, fun U hU hW => ⟨rfl, by rw [hU], by rw [hU]; exact hPc, va_K.moved hW.alike hK, hDc.weaken (fun _ _ _ _ => trivial)⟩⟩ rfl rfl hl.1 rfl (lv_room (Nat.le_of_ble_eq_true rfl)) dX8_reckon_108 ⟨Nat.le_of_ble_eq_true rfl, Nat.le_of_ble_eq_true rfl⟩) hS (fun q _ h => hFc q h) hFc (fun u t H1 locs ht hvm hw hB hz1 hk1 hS => ?_)
          obtain ⟨W1_108, rfl⟩ : ∃ z, z = u := ⟨_, rfl⟩
          obtain ⟨p0_108, p1_108, p2_108⟩ : (Dg W1_108) ∧ (Fr W5 W1_108 (0 : Int)) ∧ (rv W1_108 (0 : Int) = rv W5 (4 : Int)) := hw
          obtain ⟨hP1, hK1, hD1⟩ := hB
          rw [ht] at hP1
          obtain ⟨hP, hD⟩ := va_join (wr := []) (w1 := [(am, .inr (0, [.int (I3 th), .int (I3 mn), .ref as_, .ref av, .ref aw, .int (I3 sm), .int (I3 wd), .int (I3 lp), .int (I3 mp), .int (I3 re)])), (as_, .inl (dA 0, 60, .inl (iA SG))), (av, .inl (dA 1, 960, .inr (.inl (lA VL)))), (aw, .inl (dA 1, 1024, .inr (.inl (lA W1_108))))]) hP hD [0, 1, 2, 3] [] rfl rfl (by decide) (by decide) hk1 hFc hP1 hD1
          generalize H1 = H at hP hS ⊢
          have hP : va_P (dC, dI) vwCl [(am, .inr (0, [.int (I3 th), .int (I3 mn), .ref as_, .ref av, .ref aw, .int (I3 sm), .int (I3 wd), .int (I3 lp), .int (I3 mp), .int (I3 re)])), (as_, .inl (dA 0, 60, .inl (iA SG))), (av, .inl (dA 1, 960, .inr (.inl (lA VL)))), (aw, .inl (dA 1, 1024, .inr (.inl (lA W1_108))))] H := hP
          have hD : va_D A [(am, .inr (0, [.int (I3 th), .int (I3 mn), .ref as_, .ref av, .ref aw, .int (I3 sm), .int (I3 wd), .int (I3 lp), .int (I3 mp), .int (I3 re)])), (as_, .inl (dA 0, 60, .inl (iA SG))), (av, .inl (dA 1, 960, .inr (.inl (lA VL)))), (aw, .inl (dA 1, 1024, .inr (.inl (lA W1_108))))] := hD
          refine lv_aload_n hx hb dX8_reckon_111 rfl (lv_at hl 1 rfl) ?_
          refine lv_iconst (v := I3 (5)) hx hb dX8_reckon_112 rfl ?_
          refine lv_iconst (v := I3 (1)) hx hb dX8_reckon_113 rfl ?_
          have h_164 : 0 ≤ (5 : Int) ∧ (5 : Int) < 16 := by decide
          have h_165 : 0 ≤ (1 : Int) ∧ (1 : Int) < 16 := by decide
          have h_166 : (5 : Int) ≠ (1 : Int) := by decide
          have h_167 : Dg W1_108 := by first | assumption | omega | (constructor <;> omega)
          have hPc := hP.sub (ws' := [(am, .inr (0, [.int (I3 th), .int (I3 mn), .ref as_, .ref av, .ref aw, .int (I3 sm), .int (I3 wd), .int (I3 lp), .int (I3 mp), .int (I3 re)])), (as_, .inl (dA 0, 60, .inl (iA SG))), (av, .inl (dA 1, 960, .inr (.inl (lA VL)))), (aw, .inl (dA 1, 1024, .inr (.inl (lA W1_108))))]) [0, 1, 2, 3] rfl
          have hDc := hD.sub (ws' := [(am, .inr (0, [.int (I3 th), .int (I3 mn), .ref as_, .ref av, .ref aw, .int (I3 sm), .int (I3 wd), .int (I3 lp), .int (I3 mp), .int (I3 re)])), (as_, .inl (dA 0, 60, .inl (iA SG))), (av, .inl (dA 1, 960, .inr (.inl (lA VL)))), (aw, .inl (dA 1, 1024, .inr (.inl (lA W1_108))))]) [0, 1, 2, 3] (by decide) rfl
          have hFc := va_free (wc := [(am, .inr (0, [.int (I3 th), .int (I3 mn), .ref as_, .ref av, .ref aw, .int (I3 sm), .int (I3 wd), .int (I3 lp), .int (I3 mp), .int (I3 re)])), (as_, .inl (dA 0, 60, .inl (iA SG))), (av, .inl (dA 1, 960, .inr (.inl (lA VL)))), (aw, .inl (dA 1, 1024, .inr (.inl (lA W1_108))))]) hD hS hA [0, 1, 2, 3] rfl
          refine va_callv (va_runV (As := [.int (I3 5), .int (I3 1)]) (rest := []) ⟨hx, hb, hml, hown, hts⟩ (metX8_copy l dC dI dA am as_ av aw H.size th mn sm wd lp mp re SG VL W1_108 5 1 h_164 h_165 h_166 h_167) (cwV 2 hts (lw_V q976 q978 qs24 q66 q979) rfl rfl rfl (by decide +kernel) ⟨Nat.le_of_ble_eq_true rfl, Nat.le_of_ble_eq_true rfl⟩) ⟨fun a U g mk q => by obtain ⟨q0, q1, qP, qK, qD⟩ := q; exact ⟨q0, q1, qP, va_K.moved (u := U) (U := U.calling g mk a) (Vm.Alike.refl U.vm) qK, qD⟩, va_recv hK hPc (ci := 0) (q0 := 0) rfl rfl, fun U hU hW => ⟨rfl, by rw [hU], by rw [hU]; exact hPc, va_K.moved hW.alike hK, hDc.weaken (fun _ _ _ _ => trivial)⟩⟩ rfl rfl hl.1 rfl (lv_room (Nat.le_of_ble_eq_true rfl)) dX8_reckon_114 ⟨Nat.le_of_ble_eq_true rfl, Nat.le_of_ble_eq_true rfl⟩) hS (fun q _ h => hFc q h) hFc (fun u t H1 locs ht hvm hw hB hz1 hk1 hS => ?_)
          obtain ⟨W1_114, rfl⟩ : ∃ z, z = u := ⟨_, rfl⟩
          obtain ⟨p0_114, p1_114, p2_114⟩ : (Dg W1_114) ∧ (Fr W1_108 W1_114 (1 : Int)) ∧ (rv W1_114 (1 : Int) = rv W1_108 (5 : Int)) := hw
          obtain ⟨hP1, hK1, hD1⟩ := hB
          rw [ht] at hP1
          obtain ⟨hP, hD⟩ := va_join (wr := []) (w1 := [(am, .inr (0, [.int (I3 th), .int (I3 mn), .ref as_, .ref av, .ref aw, .int (I3 sm), .int (I3 wd), .int (I3 lp), .int (I3 mp), .int (I3 re)])), (as_, .inl (dA 0, 60, .inl (iA SG))), (av, .inl (dA 1, 960, .inr (.inl (lA VL)))), (aw, .inl (dA 1, 1024, .inr (.inl (lA W1_114))))]) hP hD [0, 1, 2, 3] [] rfl rfl (by decide) (by decide) hk1 hFc hP1 hD1
          generalize H1 = H at hP hS ⊢
          have hP : va_P (dC, dI) vwCl [(am, .inr (0, [.int (I3 th), .int (I3 mn), .ref as_, .ref av, .ref aw, .int (I3 sm), .int (I3 wd), .int (I3 lp), .int (I3 mp), .int (I3 re)])), (as_, .inl (dA 0, 60, .inl (iA SG))), (av, .inl (dA 1, 960, .inr (.inl (lA VL)))), (aw, .inl (dA 1, 1024, .inr (.inl (lA W1_114))))] H := hP
          have hD : va_D A [(am, .inr (0, [.int (I3 th), .int (I3 mn), .ref as_, .ref av, .ref aw, .int (I3 sm), .int (I3 wd), .int (I3 lp), .int (I3 mp), .int (I3 re)])), (as_, .inl (dA 0, 60, .inl (iA SG))), (av, .inl (dA 1, 960, .inr (.inl (lA VL)))), (aw, .inl (dA 1, 1024, .inr (.inl (lA W1_114))))] := hD
          have g0 : rv W1_114 0 = pv VL a * qv VL b := (Fr_rv p1_114 (by decide)).trans (p2_108.trans f4)
          have g1 : rv W1_114 1 = pv VL b * qv VL a := p2_114.trans ((Fr_rv p1_108 (by decide)).trans f5)
          have hyb : y = SG b := by rw [hy]; unfold recY; rw [if_neg (by omega)]
          refine lv_aload_n hx hb dX8_reckon_117 rfl (lv_at hl 1 rfl) ?_
          refine lv_iload hx hb dX8_reckon_118 (lv_at hl 5 rfl) ?_
          refine lv_iload hx hb dX8_reckon_120 (lv_at hl 0 rfl) ?_
          refine ix_imul hx hb dX8_reckon_122 ?_
          refine lv_iconst (v := I3 (4)) hx hb dX8_reckon_123 rfl ?_
          have h_168 : Dg W1_114 := by first | assumption | omega | (constructor <;> omega)
          have h_169 : Dg VL := by first | assumption | omega | (constructor <;> omega)
          have h_170 : 0 ≤ mn ∧ mn ≤ 60 := by first | assumption | omega | (constructor <;> omega)
          have h_171 : In3 ((SG a) * y) := by rw [hyb]; obtain ⟨q, -, -⟩ := hp3; constructor <;> omega
          have h_172 : In3 (4 : Int) := by first | assumption | omega | (constructor <;> omega)
          have h_173 : rv W1_114 1 ≠ 0 := by rw [g1]; exact hBn (by omega)
          have h_174 : 2 * rv W1_114 1 ≤ BN := by rw [g1]; omega
          have hPc := hP.sub (ws' := [(am, .inr (0, [.int (I3 th), .int (I3 mn), .ref as_, .ref av, .ref aw, .int (I3 sm), .int (I3 wd), .int (I3 lp), .int (I3 mp), .int (I3 re)])), (as_, .inl (dA 0, 60, .inl (iA SG))), (av, .inl (dA 1, 960, .inr (.inl (lA VL)))), (aw, .inl (dA 1, 1024, .inr (.inl (lA W1_114))))]) [0, 1, 2, 3] rfl
          have hDc := hD.sub (ws' := [(am, .inr (0, [.int (I3 th), .int (I3 mn), .ref as_, .ref av, .ref aw, .int (I3 sm), .int (I3 wd), .int (I3 lp), .int (I3 mp), .int (I3 re)])), (as_, .inl (dA 0, 60, .inl (iA SG))), (av, .inl (dA 1, 960, .inr (.inl (lA VL)))), (aw, .inl (dA 1, 1024, .inr (.inl (lA W1_114))))]) [0, 1, 2, 3] (by decide) rfl
          have hFc := va_free (wc := [(am, .inr (0, [.int (I3 th), .int (I3 mn), .ref as_, .ref av, .ref aw, .int (I3 sm), .int (I3 wd), .int (I3 lp), .int (I3 mp), .int (I3 re)])), (as_, .inl (dA 0, 60, .inl (iA SG))), (av, .inl (dA 1, 960, .inr (.inl (lA VL)))), (aw, .inl (dA 1, 1024, .inr (.inl (lA W1_114))))]) hD hS hA [0, 1, 2, 3] rfl
          refine va_calli (va_runV (As := [.int (I3 ((SG a) * y)), .int (I3 4)]) (rest := []) ⟨hx, hb, hml, hown, hts⟩ (metX8_make l dC dI dA am as_ av aw H.size th mn sm wd lp mp re SG VL W1_114 ((SG a) * y) 4 h_168 h_169 h_170 h_171 h_172 h_173 h_174) (cwV 2 hts (lw_V q964 q966 qs21 q66 q967) rfl rfl rfl (by decide +kernel) ⟨Nat.le_of_ble_eq_true rfl, Nat.le_of_ble_eq_true rfl⟩) ⟨fun a U g mk q => by obtain ⟨q0, q1, qP, qK, qD⟩ := q; exact ⟨q0, q1, qP, va_K.moved (u := U) (U := U.calling g mk a) (Vm.Alike.refl U.vm) qK, qD⟩, va_recv hK hPc (ci := 0) (q0 := 0) rfl rfl, fun U hU hW => ⟨rfl, by rw [hU], by rw [hU]; exact hPc, va_K.moved hW.alike hK, hDc.weaken (fun _ _ _ _ => trivial)⟩⟩ rfl rfl hl.1 rfl (lv_room (Nat.le_of_ble_eq_true rfl)) dX8_reckon_124 ⟨Nat.le_of_ble_eq_true rfl, Nat.le_of_ble_eq_true rfl⟩) hS (fun q _ h => hFc q h) hFc (fun r_124 u t H1 locs ht hvm hw hB hz1 hk1 hS => ?_)
          obtain ⟨z_124, th1_124, mn1_124, SG1_124, VL1_124, W1_124⟩ := u
          obtain ⟨rfl, p0_124, p1_124, p2_124, p3_124⟩ : r_124 = I3 z_124 ∧ (Dg W1_124) ∧ (Dg VL1_124) ∧ (0 ≤ mn1_124 ∧ mn1_124 ≤ 60) ∧ (Mde mn SG VL ((SG a) * y) (rv W1_114 0) (rv W1_114 1) (4 : Int) z_124 th1_124 mn1_124 SG1_124 VL1_124) := hw
          obtain ⟨hP1, hK1, hD1⟩ := hB
          rw [ht] at hP1
          obtain ⟨hP, hD⟩ := va_join (wr := []) (w1 := [(am, .inr (0, [.int (I3 th1_124), .int (I3 mn1_124), .ref as_, .ref av, .ref aw, .int (I3 sm), .int (I3 wd), .int (I3 lp), .int (I3 mp), .int (I3 re)])), (as_, .inl (dA 0, 60, .inl (iA SG1_124))), (av, .inl (dA 1, 960, .inr (.inl (lA VL1_124)))), (aw, .inl (dA 1, 1024, .inr (.inl (lA W1_124))))]) hP hD [0, 1, 2, 3] [] rfl rfl (by decide) (by decide) hk1 hFc hP1 hD1
          generalize H1 = H at hP hS ⊢
          have hP : va_P (dC, dI) vwCl [(am, .inr (0, [.int (I3 th1_124), .int (I3 mn1_124), .ref as_, .ref av, .ref aw, .int (I3 sm), .int (I3 wd), .int (I3 lp), .int (I3 mp), .int (I3 re)])), (as_, .inl (dA 0, 60, .inl (iA SG1_124))), (av, .inl (dA 1, 960, .inr (.inl (lA VL1_124)))), (aw, .inl (dA 1, 1024, .inr (.inl (lA W1_124))))] H := hP
          have hD : va_D A [(am, .inr (0, [.int (I3 th1_124), .int (I3 mn1_124), .ref as_, .ref av, .ref aw, .int (I3 sm), .int (I3 wd), .int (I3 lp), .int (I3 mp), .int (I3 re)])), (as_, .inl (dA 0, 60, .inl (iA SG1_124))), (av, .inl (dA 1, 960, .inr (.inl (lA VL1_124)))), (aw, .inl (dA 1, 1024, .inr (.inl (lA W1_124))))] := hD
          have hM := p3_124
          rw [g0, g1, hyb] at hM
          have he := rec_3 (C := qv VL a * qv VL b) (pa := pv VL a) (pb := pv VL b) (x := SG a) (y := SG b) (A := pv VL a * qv VL b) (B := pv VL b * qv VL a) (show act = 3 by omega)
          have hM2 : Mde mn SG VL (recG act (SG a) (SG b) (pv VL a * qv VL b) (pv VL b * qv VL a)) (recP act (SG a) (SG b) (pv VL a) (pv VL b) (pv VL a * qv VL b) (pv VL b * qv VL a)) (recQ act (pv VL b * qv VL a) (qv VL a * qv VL b)) 4 z_124 th1_124 mn1_124 SG1_124 VL1_124 := by rw [he.1, he.2.1, he.2.2]; exact hM
          have o_175 : Dg W1_124 := by first | assumption | omega | (constructor <;> omega)
          have o_176 : MI mn1_124 SG1_124 VL1_124 := by exact MI_Mde hI (by rw [he.2.2]; exact hBn (by omega)) hg3.1 hg3.2 p1_124 p2_124 hM2
          have o_177 : Mde mn SG VL (recG act (SG a) (SG b) (pv VL a * qv VL b) (pv VL b * qv VL a)) (recP act (SG a) (SG b) (pv VL a) (pv VL b) (pv VL a * qv VL b) (pv VL b * qv VL a)) (recQ act (pv VL b * qv VL a) (qv VL a * qv VL b)) 4 z_124 th1_124 mn1_124 SG1_124 VL1_124 := by exact hM2
          exact W.iret (v := I3 z_124) hx hb hr (fun t ht hW => ⟨⟨I3 z_124, (z_124, th1_124, mn1_124, SG1_124, VL1_124, W1_124), rfl, ⟨rfl, ⟨o_175, o_176, o_177⟩⟩, by rw [ht]; exact hP, va_K.moved hW.alike hK, hD⟩, hS.F ht⟩) hS.2.2 dX8_reckon_127
      · skip
        refine lv_aload_n hx hb dX8_reckon_63 rfl (lv_at hl 1 rfl) ?_
        refine lv_iload_n hx hb dX8_reckon_64 rfl (lv_at hl 3 rfl) ?_
        refine lv_iconst (v := I3 (2)) hx hb dX8_reckon_65 rfl ?_
        have h_178 : 0 ≤ a ∧ a < 60 := by first | assumption | omega | (constructor <;> omega)
        have h_179 : 0 ≤ (2 : Int) ∧ (2 : Int) < 16 := by decide
        have h_180 : Dg W5 := by first | assumption | omega | (constructor <;> omega)
        have h_181 : Dg VL := by first | assumption | omega | (constructor <;> omega)
        have hPc := hP.sub (ws' := [(am, .inr (0, [.int (I3 th), .int (I3 mn), .ref as_, .ref av, .ref aw, .int (I3 sm), .int (I3 wd), .int (I3 lp), .int (I3 mp), .int (I3 re)])), (as_, .inl (dA 0, 60, .inl (iA SG))), (av, .inl (dA 1, 960, .inr (.inl (lA VL)))), (aw, .inl (dA 1, 1024, .inr (.inl (lA W5))))]) [0, 1, 2, 3] rfl
        have hDc := hD.sub (ws' := [(am, .inr (0, [.int (I3 th), .int (I3 mn), .ref as_, .ref av, .ref aw, .int (I3 sm), .int (I3 wd), .int (I3 lp), .int (I3 mp), .int (I3 re)])), (as_, .inl (dA 0, 60, .inl (iA SG))), (av, .inl (dA 1, 960, .inr (.inl (lA VL)))), (aw, .inl (dA 1, 1024, .inr (.inl (lA W5))))]) [0, 1, 2, 3] (by decide) rfl
        have hFc := va_free (wc := [(am, .inr (0, [.int (I3 th), .int (I3 mn), .ref as_, .ref av, .ref aw, .int (I3 sm), .int (I3 wd), .int (I3 lp), .int (I3 mp), .int (I3 re)])), (as_, .inl (dA 0, 60, .inl (iA SG))), (av, .inl (dA 1, 960, .inr (.inl (lA VL)))), (aw, .inl (dA 1, 1024, .inr (.inl (lA W5))))]) hD hS hA [0, 1, 2, 3] rfl
        refine va_callv (va_runV (As := [.int (I3 a), .int (I3 2)]) (rest := []) ⟨hx, hb, hml, hown, hts⟩ (metX8_loadP l dC dI dA am as_ av aw H.size th mn sm wd lp mp re SG VL W5 a 2 h_178 h_179 h_180 h_181) (cwV 2 hts (lw_V q1066 q1068 qs39 q66 q1069) rfl rfl rfl (by decide +kernel) ⟨Nat.le_of_ble_eq_true rfl, Nat.le_of_ble_eq_true rfl⟩) ⟨fun a U g mk q => by obtain ⟨q0, q1, qP, qK, qD⟩ := q; exact ⟨q0, q1, qP, va_K.moved (u := U) (U := U.calling g mk a) (Vm.Alike.refl U.vm) qK, qD⟩, va_recv hK hPc (ci := 0) (q0 := 0) rfl rfl, fun U hU hW => ⟨rfl, by rw [hU], by rw [hU]; exact hPc, va_K.moved hW.alike hK, hDc.weaken (fun _ _ _ _ => trivial)⟩⟩ rfl rfl hl.1 rfl (lv_room (Nat.le_of_ble_eq_true rfl)) dX8_reckon_66 ⟨Nat.le_of_ble_eq_true rfl, Nat.le_of_ble_eq_true rfl⟩) hS (fun q _ h => hFc q h) hFc (fun u t H1 locs ht hvm hw hB hz1 hk1 hS => ?_)
        obtain ⟨W1_66, rfl⟩ : ∃ z, z = u := ⟨_, rfl⟩
        obtain ⟨p0_66, p1_66, p2_66⟩ : (Dg W1_66) ∧ (Fr W5 W1_66 (2 : Int)) ∧ (rv W1_66 (2 : Int) = pv VL a) := hw
        obtain ⟨hP1, hK1, hD1⟩ := hB
        rw [ht] at hP1
        obtain ⟨hP, hD⟩ := va_join (wr := []) (w1 := [(am, .inr (0, [.int (I3 th), .int (I3 mn), .ref as_, .ref av, .ref aw, .int (I3 sm), .int (I3 wd), .int (I3 lp), .int (I3 mp), .int (I3 re)])), (as_, .inl (dA 0, 60, .inl (iA SG))), (av, .inl (dA 1, 960, .inr (.inl (lA VL)))), (aw, .inl (dA 1, 1024, .inr (.inl (lA W1_66))))]) hP hD [0, 1, 2, 3] [] rfl rfl (by decide) (by decide) hk1 hFc hP1 hD1
        generalize H1 = H at hP hS ⊢
        have hP : va_P (dC, dI) vwCl [(am, .inr (0, [.int (I3 th), .int (I3 mn), .ref as_, .ref av, .ref aw, .int (I3 sm), .int (I3 wd), .int (I3 lp), .int (I3 mp), .int (I3 re)])), (as_, .inl (dA 0, 60, .inl (iA SG))), (av, .inl (dA 1, 960, .inr (.inl (lA VL)))), (aw, .inl (dA 1, 1024, .inr (.inl (lA W1_66))))] H := hP
        have hD : va_D A [(am, .inr (0, [.int (I3 th), .int (I3 mn), .ref as_, .ref av, .ref aw, .int (I3 sm), .int (I3 wd), .int (I3 lp), .int (I3 mp), .int (I3 re)])), (as_, .inl (dA 0, 60, .inl (iA SG))), (av, .inl (dA 1, 960, .inr (.inl (lA VL)))), (aw, .inl (dA 1, 1024, .inr (.inl (lA W1_66))))] := hD
        refine lv_aload_n hx hb dX8_reckon_69 rfl (lv_at hl 1 rfl) ?_
        refine lv_iload_n hx hb dX8_reckon_70 rfl (lv_at hl 4 rfl) ?_
        refine lv_iconst (v := I3 (3)) hx hb dX8_reckon_71 rfl ?_
        have h_182 : 0 ≤ b ∧ b < 60 := by first | assumption | omega | (constructor <;> omega)
        have h_183 : 0 ≤ (3 : Int) ∧ (3 : Int) < 16 := by decide
        have h_184 : Dg W1_66 := by first | assumption | omega | (constructor <;> omega)
        have h_185 : Dg VL := by first | assumption | omega | (constructor <;> omega)
        have hPc := hP.sub (ws' := [(am, .inr (0, [.int (I3 th), .int (I3 mn), .ref as_, .ref av, .ref aw, .int (I3 sm), .int (I3 wd), .int (I3 lp), .int (I3 mp), .int (I3 re)])), (as_, .inl (dA 0, 60, .inl (iA SG))), (av, .inl (dA 1, 960, .inr (.inl (lA VL)))), (aw, .inl (dA 1, 1024, .inr (.inl (lA W1_66))))]) [0, 1, 2, 3] rfl
        have hDc := hD.sub (ws' := [(am, .inr (0, [.int (I3 th), .int (I3 mn), .ref as_, .ref av, .ref aw, .int (I3 sm), .int (I3 wd), .int (I3 lp), .int (I3 mp), .int (I3 re)])), (as_, .inl (dA 0, 60, .inl (iA SG))), (av, .inl (dA 1, 960, .inr (.inl (lA VL)))), (aw, .inl (dA 1, 1024, .inr (.inl (lA W1_66))))]) [0, 1, 2, 3] (by decide) rfl
        have hFc := va_free (wc := [(am, .inr (0, [.int (I3 th), .int (I3 mn), .ref as_, .ref av, .ref aw, .int (I3 sm), .int (I3 wd), .int (I3 lp), .int (I3 mp), .int (I3 re)])), (as_, .inl (dA 0, 60, .inl (iA SG))), (av, .inl (dA 1, 960, .inr (.inl (lA VL)))), (aw, .inl (dA 1, 1024, .inr (.inl (lA W1_66))))]) hD hS hA [0, 1, 2, 3] rfl
        refine va_callv (va_runV (As := [.int (I3 b), .int (I3 3)]) (rest := []) ⟨hx, hb, hml, hown, hts⟩ (metX8_loadP l dC dI dA am as_ av aw H.size th mn sm wd lp mp re SG VL W1_66 b 3 h_182 h_183 h_184 h_185) (cwV 2 hts (lw_V q1066 q1068 qs39 q66 q1069) rfl rfl rfl (by decide +kernel) ⟨Nat.le_of_ble_eq_true rfl, Nat.le_of_ble_eq_true rfl⟩) ⟨fun a U g mk q => by obtain ⟨q0, q1, qP, qK, qD⟩ := q; exact ⟨q0, q1, qP, va_K.moved (u := U) (U := U.calling g mk a) (Vm.Alike.refl U.vm) qK, qD⟩, va_recv hK hPc (ci := 0) (q0 := 0) rfl rfl, fun U hU hW => ⟨rfl, by rw [hU], by rw [hU]; exact hPc, va_K.moved hW.alike hK, hDc.weaken (fun _ _ _ _ => trivial)⟩⟩ rfl rfl hl.1 rfl (lv_room (Nat.le_of_ble_eq_true rfl)) dX8_reckon_72 ⟨Nat.le_of_ble_eq_true rfl, Nat.le_of_ble_eq_true rfl⟩) hS (fun q _ h => hFc q h) hFc (fun u t H1 locs ht hvm hw hB hz1 hk1 hS => ?_)
        obtain ⟨W1_72, rfl⟩ : ∃ z, z = u := ⟨_, rfl⟩
        obtain ⟨p0_72, p1_72, p2_72⟩ : (Dg W1_72) ∧ (Fr W1_66 W1_72 (3 : Int)) ∧ (rv W1_72 (3 : Int) = pv VL b) := hw
        obtain ⟨hP1, hK1, hD1⟩ := hB
        rw [ht] at hP1
        obtain ⟨hP, hD⟩ := va_join (wr := []) (w1 := [(am, .inr (0, [.int (I3 th), .int (I3 mn), .ref as_, .ref av, .ref aw, .int (I3 sm), .int (I3 wd), .int (I3 lp), .int (I3 mp), .int (I3 re)])), (as_, .inl (dA 0, 60, .inl (iA SG))), (av, .inl (dA 1, 960, .inr (.inl (lA VL)))), (aw, .inl (dA 1, 1024, .inr (.inl (lA W1_72))))]) hP hD [0, 1, 2, 3] [] rfl rfl (by decide) (by decide) hk1 hFc hP1 hD1
        generalize H1 = H at hP hS ⊢
        have hP : va_P (dC, dI) vwCl [(am, .inr (0, [.int (I3 th), .int (I3 mn), .ref as_, .ref av, .ref aw, .int (I3 sm), .int (I3 wd), .int (I3 lp), .int (I3 mp), .int (I3 re)])), (as_, .inl (dA 0, 60, .inl (iA SG))), (av, .inl (dA 1, 960, .inr (.inl (lA VL)))), (aw, .inl (dA 1, 1024, .inr (.inl (lA W1_72))))] H := hP
        have hD : va_D A [(am, .inr (0, [.int (I3 th), .int (I3 mn), .ref as_, .ref av, .ref aw, .int (I3 sm), .int (I3 wd), .int (I3 lp), .int (I3 mp), .int (I3 re)])), (as_, .inl (dA 0, 60, .inl (iA SG))), (av, .inl (dA 1, 960, .inr (.inl (lA VL)))), (aw, .inl (dA 1, 1024, .inr (.inl (lA W1_72))))] := hD
        refine lv_aload_n hx hb dX8_reckon_75 rfl (lv_at hl 1 rfl) ?_
        refine lv_iconst (v := I3 (2)) hx hb dX8_reckon_76 rfl ?_
        refine lv_iconst (v := I3 (3)) hx hb dX8_reckon_77 rfl ?_
        refine lv_iconst (v := I3 (0)) hx hb dX8_reckon_78 rfl ?_
        have h_186 : 0 ≤ (2 : Int) ∧ (2 : Int) < 16 := by decide
        have h_187 : 0 ≤ (3 : Int) ∧ (3 : Int) < 16 := by decide
        have h_188 : 0 ≤ (0 : Int) ∧ (0 : Int) < 16 := by decide
        have h_189 : (2 : Int) ≠ (0 : Int) := by decide
        have h_190 : (3 : Int) ≠ (0 : Int) := by decide
        have h_191 : Dg W1_72 := by first | assumption | omega | (constructor <;> omega)
        have hPc := hP.sub (ws' := [(am, .inr (0, [.int (I3 th), .int (I3 mn), .ref as_, .ref av, .ref aw, .int (I3 sm), .int (I3 wd), .int (I3 lp), .int (I3 mp), .int (I3 re)])), (as_, .inl (dA 0, 60, .inl (iA SG))), (av, .inl (dA 1, 960, .inr (.inl (lA VL)))), (aw, .inl (dA 1, 1024, .inr (.inl (lA W1_72))))]) [0, 1, 2, 3] rfl
        have hDc := hD.sub (ws' := [(am, .inr (0, [.int (I3 th), .int (I3 mn), .ref as_, .ref av, .ref aw, .int (I3 sm), .int (I3 wd), .int (I3 lp), .int (I3 mp), .int (I3 re)])), (as_, .inl (dA 0, 60, .inl (iA SG))), (av, .inl (dA 1, 960, .inr (.inl (lA VL)))), (aw, .inl (dA 1, 1024, .inr (.inl (lA W1_72))))]) [0, 1, 2, 3] (by decide) rfl
        have hFc := va_free (wc := [(am, .inr (0, [.int (I3 th), .int (I3 mn), .ref as_, .ref av, .ref aw, .int (I3 sm), .int (I3 wd), .int (I3 lp), .int (I3 mp), .int (I3 re)])), (as_, .inl (dA 0, 60, .inl (iA SG))), (av, .inl (dA 1, 960, .inr (.inl (lA VL)))), (aw, .inl (dA 1, 1024, .inr (.inl (lA W1_72))))]) hD hS hA [0, 1, 2, 3] rfl
        refine va_callv (va_runV (As := [.int (I3 2), .int (I3 3), .int (I3 0)]) (rest := []) ⟨hx, hb, hml, hown, hts⟩ (metX8_times l dC dI dA am as_ av aw H.size th mn sm wd lp mp re SG VL W1_72 2 3 0 h_186 h_187 h_188 h_189 h_190 h_191) (cwV 3 hts (lw_V q1074 q1076 qs41 q66 q1077) rfl rfl rfl (by decide +kernel) ⟨Nat.le_of_ble_eq_true rfl, Nat.le_of_ble_eq_true rfl⟩) ⟨fun a U g mk q => by obtain ⟨q0, q1, qP, qK, qD⟩ := q; exact ⟨q0, q1, qP, va_K.moved (u := U) (U := U.calling g mk a) (Vm.Alike.refl U.vm) qK, qD⟩, va_recv hK hPc (ci := 0) (q0 := 0) rfl rfl, fun U hU hW => ⟨rfl, by rw [hU], by rw [hU]; exact hPc, va_K.moved hW.alike hK, hDc.weaken (fun _ _ _ _ => trivial)⟩⟩ rfl rfl hl.1 rfl (lv_room (Nat.le_of_ble_eq_true rfl)) dX8_reckon_79 ⟨Nat.le_of_ble_eq_true rfl, Nat.le_of_ble_eq_true rfl⟩) hS (fun q _ h => hFc q h) hFc (fun u t H1 locs ht hvm hw hB hz1 hk1 hS => ?_)
        obtain ⟨W1_79, rfl⟩ : ∃ z, z = u := ⟨_, rfl⟩
        obtain ⟨p0_79, p1_79, p2_79⟩ : (Dg W1_79) ∧ (Fr W1_72 W1_79 (0 : Int)) ∧ (rv W1_79 (0 : Int) = rv W1_72 (2 : Int) * rv W1_72 (3 : Int) % BN) := hw
        obtain ⟨hP1, hK1, hD1⟩ := hB
        rw [ht] at hP1
        obtain ⟨hP, hD⟩ := va_join (wr := []) (w1 := [(am, .inr (0, [.int (I3 th), .int (I3 mn), .ref as_, .ref av, .ref aw, .int (I3 sm), .int (I3 wd), .int (I3 lp), .int (I3 mp), .int (I3 re)])), (as_, .inl (dA 0, 60, .inl (iA SG))), (av, .inl (dA 1, 960, .inr (.inl (lA VL)))), (aw, .inl (dA 1, 1024, .inr (.inl (lA W1_79))))]) hP hD [0, 1, 2, 3] [] rfl rfl (by decide) (by decide) hk1 hFc hP1 hD1
        generalize H1 = H at hP hS ⊢
        have hP : va_P (dC, dI) vwCl [(am, .inr (0, [.int (I3 th), .int (I3 mn), .ref as_, .ref av, .ref aw, .int (I3 sm), .int (I3 wd), .int (I3 lp), .int (I3 mp), .int (I3 re)])), (as_, .inl (dA 0, 60, .inl (iA SG))), (av, .inl (dA 1, 960, .inr (.inl (lA VL)))), (aw, .inl (dA 1, 1024, .inr (.inl (lA W1_79))))] H := hP
        have hD : va_D A [(am, .inr (0, [.int (I3 th), .int (I3 mn), .ref as_, .ref av, .ref aw, .int (I3 sm), .int (I3 wd), .int (I3 lp), .int (I3 mp), .int (I3 re)])), (as_, .inl (dA 0, 60, .inl (iA SG))), (av, .inl (dA 1, 960, .inr (.inl (lA VL)))), (aw, .inl (dA 1, 1024, .inr (.inl (lA W1_79))))] := hD
        have d0 : rv W1_79 0 = pv VL a * pv VL b := by rw [p2_79, p2_72, Fr_rv p1_72 (by decide), p2_66]; exact mod_BN (by omega)
        have d6 : rv W1_79 6 = qv VL a * qv VL b := (Fr_rv p1_79 (by decide)).trans ((Fr_rv p1_72 (by decide)).trans ((Fr_rv p1_66 (by decide)).trans f6))
        refine lv_aload_n hx hb dX8_reckon_82 rfl (lv_at hl 1 rfl) ?_
        refine lv_bipush (v := I3 (6)) hx hb dX8_reckon_83 (by decide) ?_
        refine lv_iconst (v := I3 (1)) hx hb dX8_reckon_85 rfl ?_
        have h_192 : 0 ≤ (6 : Int) ∧ (6 : Int) < 16 := by decide
        have h_193 : 0 ≤ (1 : Int) ∧ (1 : Int) < 16 := by decide
        have h_194 : (6 : Int) ≠ (1 : Int) := by decide
        have h_195 : Dg W1_79 := by first | assumption | omega | (constructor <;> omega)
        have hPc := hP.sub (ws' := [(am, .inr (0, [.int (I3 th), .int (I3 mn), .ref as_, .ref av, .ref aw, .int (I3 sm), .int (I3 wd), .int (I3 lp), .int (I3 mp), .int (I3 re)])), (as_, .inl (dA 0, 60, .inl (iA SG))), (av, .inl (dA 1, 960, .inr (.inl (lA VL)))), (aw, .inl (dA 1, 1024, .inr (.inl (lA W1_79))))]) [0, 1, 2, 3] rfl
        have hDc := hD.sub (ws' := [(am, .inr (0, [.int (I3 th), .int (I3 mn), .ref as_, .ref av, .ref aw, .int (I3 sm), .int (I3 wd), .int (I3 lp), .int (I3 mp), .int (I3 re)])), (as_, .inl (dA 0, 60, .inl (iA SG))), (av, .inl (dA 1, 960, .inr (.inl (lA VL)))), (aw, .inl (dA 1, 1024, .inr (.inl (lA W1_79))))]) [0, 1, 2, 3] (by decide) rfl
        have hFc := va_free (wc := [(am, .inr (0, [.int (I3 th), .int (I3 mn), .ref as_, .ref av, .ref aw, .int (I3 sm), .int (I3 wd), .int (I3 lp), .int (I3 mp), .int (I3 re)])), (as_, .inl (dA 0, 60, .inl (iA SG))), (av, .inl (dA 1, 960, .inr (.inl (lA VL)))), (aw, .inl (dA 1, 1024, .inr (.inl (lA W1_79))))]) hD hS hA [0, 1, 2, 3] rfl
        refine va_callv (va_runV (As := [.int (I3 6), .int (I3 1)]) (rest := []) ⟨hx, hb, hml, hown, hts⟩ (metX8_copy l dC dI dA am as_ av aw H.size th mn sm wd lp mp re SG VL W1_79 6 1 h_192 h_193 h_194 h_195) (cwV 2 hts (lw_V q976 q978 qs24 q66 q979) rfl rfl rfl (by decide +kernel) ⟨Nat.le_of_ble_eq_true rfl, Nat.le_of_ble_eq_true rfl⟩) ⟨fun a U g mk q => by obtain ⟨q0, q1, qP, qK, qD⟩ := q; exact ⟨q0, q1, qP, va_K.moved (u := U) (U := U.calling g mk a) (Vm.Alike.refl U.vm) qK, qD⟩, va_recv hK hPc (ci := 0) (q0 := 0) rfl rfl, fun U hU hW => ⟨rfl, by rw [hU], by rw [hU]; exact hPc, va_K.moved hW.alike hK, hDc.weaken (fun _ _ _ _ => trivial)⟩⟩ rfl rfl hl.1 rfl (lv_room (Nat.le_of_ble_eq_true rfl)) dX8_reckon_86 ⟨Nat.le_of_ble_eq_true rfl, Nat.le_of_ble_eq_true rfl⟩) hS (fun q _ h => hFc q h) hFc (fun u t H1 locs ht hvm hw hB hz1 hk1 hS => ?_)
        obtain ⟨W1_86, rfl⟩ : ∃ z, z = u := ⟨_, rfl⟩
        obtain ⟨p0_86, p1_86, p2_86⟩ : (Dg W1_86) ∧ (Fr W1_79 W1_86 (1 : Int)) ∧ (rv W1_86 (1 : Int) = rv W1_79 (6 : Int)) := hw
        obtain ⟨hP1, hK1, hD1⟩ := hB
        rw [ht] at hP1
        obtain ⟨hP, hD⟩ := va_join (wr := []) (w1 := [(am, .inr (0, [.int (I3 th), .int (I3 mn), .ref as_, .ref av, .ref aw, .int (I3 sm), .int (I3 wd), .int (I3 lp), .int (I3 mp), .int (I3 re)])), (as_, .inl (dA 0, 60, .inl (iA SG))), (av, .inl (dA 1, 960, .inr (.inl (lA VL)))), (aw, .inl (dA 1, 1024, .inr (.inl (lA W1_86))))]) hP hD [0, 1, 2, 3] [] rfl rfl (by decide) (by decide) hk1 hFc hP1 hD1
        generalize H1 = H at hP hS ⊢
        have hP : va_P (dC, dI) vwCl [(am, .inr (0, [.int (I3 th), .int (I3 mn), .ref as_, .ref av, .ref aw, .int (I3 sm), .int (I3 wd), .int (I3 lp), .int (I3 mp), .int (I3 re)])), (as_, .inl (dA 0, 60, .inl (iA SG))), (av, .inl (dA 1, 960, .inr (.inl (lA VL)))), (aw, .inl (dA 1, 1024, .inr (.inl (lA W1_86))))] H := hP
        have hD : va_D A [(am, .inr (0, [.int (I3 th), .int (I3 mn), .ref as_, .ref av, .ref aw, .int (I3 sm), .int (I3 wd), .int (I3 lp), .int (I3 mp), .int (I3 re)])), (as_, .inl (dA 0, 60, .inl (iA SG))), (av, .inl (dA 1, 960, .inr (.inl (lA VL)))), (aw, .inl (dA 1, 1024, .inr (.inl (lA W1_86))))] := hD
        have g0 : rv W1_86 0 = pv VL a * pv VL b := (Fr_rv p1_86 (by decide)).trans d0
        have g1 : rv W1_86 1 = qv VL a * qv VL b := p2_86.trans d6
        have hyb : y = SG b := by rw [hy]; unfold recY; rw [if_neg (by omega)]
        refine lv_aload_n hx hb dX8_reckon_89 rfl (lv_at hl 1 rfl) ?_
        refine lv_iload hx hb dX8_reckon_90 (lv_at hl 5 rfl) ?_
        refine lv_iload hx hb dX8_reckon_92 (lv_at hl 0 rfl) ?_
        refine ix_imul hx hb dX8_reckon_94 ?_
        refine lv_iconst (v := I3 (4)) hx hb dX8_reckon_95 rfl ?_
        have h_196 : Dg W1_86 := by first | assumption | omega | (constructor <;> omega)
        have h_197 : Dg VL := by first | assumption | omega | (constructor <;> omega)
        have h_198 : 0 ≤ mn ∧ mn ≤ 60 := by first | assumption | omega | (constructor <;> omega)
        have h_199 : In3 ((SG a) * y) := by rw [hyb]; obtain ⟨q, -, -⟩ := hp3; constructor <;> omega
        have h_200 : In3 (4 : Int) := by first | assumption | omega | (constructor <;> omega)
        have h_201 : rv W1_86 1 ≠ 0 := by rw [g1]; exact hC0
        have h_202 : 2 * rv W1_86 1 ≤ BN := by rw [g1]; omega
        have hPc := hP.sub (ws' := [(am, .inr (0, [.int (I3 th), .int (I3 mn), .ref as_, .ref av, .ref aw, .int (I3 sm), .int (I3 wd), .int (I3 lp), .int (I3 mp), .int (I3 re)])), (as_, .inl (dA 0, 60, .inl (iA SG))), (av, .inl (dA 1, 960, .inr (.inl (lA VL)))), (aw, .inl (dA 1, 1024, .inr (.inl (lA W1_86))))]) [0, 1, 2, 3] rfl
        have hDc := hD.sub (ws' := [(am, .inr (0, [.int (I3 th), .int (I3 mn), .ref as_, .ref av, .ref aw, .int (I3 sm), .int (I3 wd), .int (I3 lp), .int (I3 mp), .int (I3 re)])), (as_, .inl (dA 0, 60, .inl (iA SG))), (av, .inl (dA 1, 960, .inr (.inl (lA VL)))), (aw, .inl (dA 1, 1024, .inr (.inl (lA W1_86))))]) [0, 1, 2, 3] (by decide) rfl
        have hFc := va_free (wc := [(am, .inr (0, [.int (I3 th), .int (I3 mn), .ref as_, .ref av, .ref aw, .int (I3 sm), .int (I3 wd), .int (I3 lp), .int (I3 mp), .int (I3 re)])), (as_, .inl (dA 0, 60, .inl (iA SG))), (av, .inl (dA 1, 960, .inr (.inl (lA VL)))), (aw, .inl (dA 1, 1024, .inr (.inl (lA W1_86))))]) hD hS hA [0, 1, 2, 3] rfl
        refine va_calli (va_runV (As := [.int (I3 ((SG a) * y)), .int (I3 4)]) (rest := []) ⟨hx, hb, hml, hown, hts⟩ (metX8_make l dC dI dA am as_ av aw H.size th mn sm wd lp mp re SG VL W1_86 ((SG a) * y) 4 h_196 h_197 h_198 h_199 h_200 h_201 h_202) (cwV 2 hts (lw_V q964 q966 qs21 q66 q967) rfl rfl rfl (by decide +kernel) ⟨Nat.le_of_ble_eq_true rfl, Nat.le_of_ble_eq_true rfl⟩) ⟨fun a U g mk q => by obtain ⟨q0, q1, qP, qK, qD⟩ := q; exact ⟨q0, q1, qP, va_K.moved (u := U) (U := U.calling g mk a) (Vm.Alike.refl U.vm) qK, qD⟩, va_recv hK hPc (ci := 0) (q0 := 0) rfl rfl, fun U hU hW => ⟨rfl, by rw [hU], by rw [hU]; exact hPc, va_K.moved hW.alike hK, hDc.weaken (fun _ _ _ _ => trivial)⟩⟩ rfl rfl hl.1 rfl (lv_room (Nat.le_of_ble_eq_true rfl)) dX8_reckon_96 ⟨Nat.le_of_ble_eq_true rfl, Nat.le_of_ble_eq_true rfl⟩) hS (fun q _ h => hFc q h) hFc (fun r_96 u t H1 locs ht hvm hw hB hz1 hk1 hS => ?_)
        obtain ⟨z_96, th1_96, mn1_96, SG1_96, VL1_96, W1_96⟩ := u
        obtain ⟨rfl, p0_96, p1_96, p2_96, p3_96⟩ : r_96 = I3 z_96 ∧ (Dg W1_96) ∧ (Dg VL1_96) ∧ (0 ≤ mn1_96 ∧ mn1_96 ≤ 60) ∧ (Mde mn SG VL ((SG a) * y) (rv W1_86 0) (rv W1_86 1) (4 : Int) z_96 th1_96 mn1_96 SG1_96 VL1_96) := hw
        obtain ⟨hP1, hK1, hD1⟩ := hB
        rw [ht] at hP1
        obtain ⟨hP, hD⟩ := va_join (wr := []) (w1 := [(am, .inr (0, [.int (I3 th1_96), .int (I3 mn1_96), .ref as_, .ref av, .ref aw, .int (I3 sm), .int (I3 wd), .int (I3 lp), .int (I3 mp), .int (I3 re)])), (as_, .inl (dA 0, 60, .inl (iA SG1_96))), (av, .inl (dA 1, 960, .inr (.inl (lA VL1_96)))), (aw, .inl (dA 1, 1024, .inr (.inl (lA W1_96))))]) hP hD [0, 1, 2, 3] [] rfl rfl (by decide) (by decide) hk1 hFc hP1 hD1
        generalize H1 = H at hP hS ⊢
        have hP : va_P (dC, dI) vwCl [(am, .inr (0, [.int (I3 th1_96), .int (I3 mn1_96), .ref as_, .ref av, .ref aw, .int (I3 sm), .int (I3 wd), .int (I3 lp), .int (I3 mp), .int (I3 re)])), (as_, .inl (dA 0, 60, .inl (iA SG1_96))), (av, .inl (dA 1, 960, .inr (.inl (lA VL1_96)))), (aw, .inl (dA 1, 1024, .inr (.inl (lA W1_96))))] H := hP
        have hD : va_D A [(am, .inr (0, [.int (I3 th1_96), .int (I3 mn1_96), .ref as_, .ref av, .ref aw, .int (I3 sm), .int (I3 wd), .int (I3 lp), .int (I3 mp), .int (I3 re)])), (as_, .inl (dA 0, 60, .inl (iA SG1_96))), (av, .inl (dA 1, 960, .inr (.inl (lA VL1_96)))), (aw, .inl (dA 1, 1024, .inr (.inl (lA W1_96))))] := hD
        have hM := p3_96
        rw [g0, g1, hyb] at hM
        have he := rec_2 (C := qv VL a * qv VL b) (pa := pv VL a) (pb := pv VL b) (x := SG a) (y := SG b) (A := pv VL a * qv VL b) (B := pv VL b * qv VL a) (show act = 2 by omega)
        have hM2 : Mde mn SG VL (recG act (SG a) (SG b) (pv VL a * qv VL b) (pv VL b * qv VL a)) (recP act (SG a) (SG b) (pv VL a) (pv VL b) (pv VL a * qv VL b) (pv VL b * qv VL a)) (recQ act (pv VL b * qv VL a) (qv VL a * qv VL b)) 4 z_96 th1_96 mn1_96 SG1_96 VL1_96 := by rw [he.1, he.2.1, he.2.2]; exact hM
        have o_203 : Dg W1_96 := by first | assumption | omega | (constructor <;> omega)
        have o_204 : MI mn1_96 SG1_96 VL1_96 := by exact MI_Mde hI (by rw [he.2.2]; exact hC0) hg3.1 hg3.2 p1_96 p2_96 hM2
        have o_205 : Mde mn SG VL (recG act (SG a) (SG b) (pv VL a * qv VL b) (pv VL b * qv VL a)) (recP act (SG a) (SG b) (pv VL a) (pv VL b) (pv VL a * qv VL b) (pv VL b * qv VL a)) (recQ act (pv VL b * qv VL a) (qv VL a * qv VL b)) 4 z_96 th1_96 mn1_96 SG1_96 VL1_96 := by exact hM2
        exact W.iret (v := I3 z_96) hx hb hr (fun t ht hW => ⟨⟨I3 z_96, (z_96, th1_96, mn1_96, SG1_96, VL1_96, W1_96), rfl, ⟨rfl, ⟨o_203, o_204, o_205⟩⟩, by rw [ht]; exact hP, va_K.moved hW.alike hK, hD⟩, hS.F ht⟩) hS.2.2 dX8_reckon_99
    · skip
      refine lv_aload_n hx hb dX8_reckon_42 rfl (lv_at hl 1 rfl) ?_
      refine lv_bipush (v := I3 (6)) hx hb dX8_reckon_43 (by decide) ?_
      refine lv_iconst (v := I3 (1)) hx hb dX8_reckon_45 rfl ?_
      have h_206 : 0 ≤ (6 : Int) ∧ (6 : Int) < 16 := by decide
      have h_207 : 0 ≤ (1 : Int) ∧ (1 : Int) < 16 := by decide
      have h_208 : (6 : Int) ≠ (1 : Int) := by decide
      have h_209 : Dg W5 := by first | assumption | omega | (constructor <;> omega)
      have hPc := hP.sub (ws' := [(am, .inr (0, [.int (I3 th), .int (I3 mn), .ref as_, .ref av, .ref aw, .int (I3 sm), .int (I3 wd), .int (I3 lp), .int (I3 mp), .int (I3 re)])), (as_, .inl (dA 0, 60, .inl (iA SG))), (av, .inl (dA 1, 960, .inr (.inl (lA VL)))), (aw, .inl (dA 1, 1024, .inr (.inl (lA W5))))]) [0, 1, 2, 3] rfl
      have hDc := hD.sub (ws' := [(am, .inr (0, [.int (I3 th), .int (I3 mn), .ref as_, .ref av, .ref aw, .int (I3 sm), .int (I3 wd), .int (I3 lp), .int (I3 mp), .int (I3 re)])), (as_, .inl (dA 0, 60, .inl (iA SG))), (av, .inl (dA 1, 960, .inr (.inl (lA VL)))), (aw, .inl (dA 1, 1024, .inr (.inl (lA W5))))]) [0, 1, 2, 3] (by decide) rfl
      have hFc := va_free (wc := [(am, .inr (0, [.int (I3 th), .int (I3 mn), .ref as_, .ref av, .ref aw, .int (I3 sm), .int (I3 wd), .int (I3 lp), .int (I3 mp), .int (I3 re)])), (as_, .inl (dA 0, 60, .inl (iA SG))), (av, .inl (dA 1, 960, .inr (.inl (lA VL)))), (aw, .inl (dA 1, 1024, .inr (.inl (lA W5))))]) hD hS hA [0, 1, 2, 3] rfl
      refine va_callv (va_runV (As := [.int (I3 6), .int (I3 1)]) (rest := []) ⟨hx, hb, hml, hown, hts⟩ (metX8_copy l dC dI dA am as_ av aw H.size th mn sm wd lp mp re SG VL W5 6 1 h_206 h_207 h_208 h_209) (cwV 2 hts (lw_V q976 q978 qs24 q66 q979) rfl rfl rfl (by decide +kernel) ⟨Nat.le_of_ble_eq_true rfl, Nat.le_of_ble_eq_true rfl⟩) ⟨fun a U g mk q => by obtain ⟨q0, q1, qP, qK, qD⟩ := q; exact ⟨q0, q1, qP, va_K.moved (u := U) (U := U.calling g mk a) (Vm.Alike.refl U.vm) qK, qD⟩, va_recv hK hPc (ci := 0) (q0 := 0) rfl rfl, fun U hU hW => ⟨rfl, by rw [hU], by rw [hU]; exact hPc, va_K.moved hW.alike hK, hDc.weaken (fun _ _ _ _ => trivial)⟩⟩ rfl rfl hl.1 rfl (lv_room (Nat.le_of_ble_eq_true rfl)) dX8_reckon_46 ⟨Nat.le_of_ble_eq_true rfl, Nat.le_of_ble_eq_true rfl⟩) hS (fun q _ h => hFc q h) hFc (fun u t H1 locs ht hvm hw hB hz1 hk1 hS => ?_)
      obtain ⟨W1_46, rfl⟩ : ∃ z, z = u := ⟨_, rfl⟩
      obtain ⟨p0_46, p1_46, p2_46⟩ : (Dg W1_46) ∧ (Fr W5 W1_46 (1 : Int)) ∧ (rv W1_46 (1 : Int) = rv W5 (6 : Int)) := hw
      obtain ⟨hP1, hK1, hD1⟩ := hB
      rw [ht] at hP1
      obtain ⟨hP, hD⟩ := va_join (wr := []) (w1 := [(am, .inr (0, [.int (I3 th), .int (I3 mn), .ref as_, .ref av, .ref aw, .int (I3 sm), .int (I3 wd), .int (I3 lp), .int (I3 mp), .int (I3 re)])), (as_, .inl (dA 0, 60, .inl (iA SG))), (av, .inl (dA 1, 960, .inr (.inl (lA VL)))), (aw, .inl (dA 1, 1024, .inr (.inl (lA W1_46))))]) hP hD [0, 1, 2, 3] [] rfl rfl (by decide) (by decide) hk1 hFc hP1 hD1
      generalize H1 = H at hP hS ⊢
      have hP : va_P (dC, dI) vwCl [(am, .inr (0, [.int (I3 th), .int (I3 mn), .ref as_, .ref av, .ref aw, .int (I3 sm), .int (I3 wd), .int (I3 lp), .int (I3 mp), .int (I3 re)])), (as_, .inl (dA 0, 60, .inl (iA SG))), (av, .inl (dA 1, 960, .inr (.inl (lA VL)))), (aw, .inl (dA 1, 1024, .inr (.inl (lA W1_46))))] H := hP
      have hD : va_D A [(am, .inr (0, [.int (I3 th), .int (I3 mn), .ref as_, .ref av, .ref aw, .int (I3 sm), .int (I3 wd), .int (I3 lp), .int (I3 mp), .int (I3 re)])), (as_, .inl (dA 0, 60, .inl (iA SG))), (av, .inl (dA 1, 960, .inr (.inl (lA VL)))), (aw, .inl (dA 1, 1024, .inr (.inl (lA W1_46))))] := hD
      refine lv_aload_n hx hb dX8_reckon_49 rfl (lv_at hl 1 rfl) ?_
      refine lv_iload hx hb dX8_reckon_50 (lv_at hl 5 rfl) ?_
      refine lv_iload hx hb dX8_reckon_52 (lv_at hl 0 rfl) ?_
      have h_210 : Dg W1_46 := by first | assumption | omega | (constructor <;> omega)
      have h_211 : MI mn SG VL := by first | assumption | omega | (constructor <;> omega)
      have h_212 : (SG a) = -1 ∨ (SG a) = 0 ∨ (SG a) = 1 := by exact ha2.1
      have h_213 : y = -1 ∨ y = 0 ∨ y = 1 := by exact hy3
      have h_214 : (SG a) = 0 → rv W1_46 4 = 0 := by intro q; rw [Fr_rv p1_46 (by decide), f4]; exact hA0 q
      have h_215 : y = 0 → rv W1_46 5 = 0 := by intro q; rw [Fr_rv p1_46 (by decide), f5]; apply hB0; rw [hy] at q; unfold recY at q; split at q <;> omega
      have h_216 : 4 * rv W1_46 4 ≤ BN := by rw [Fr_rv p1_46 (by decide), f4]; omega
      have h_217 : 4 * rv W1_46 5 ≤ BN := by rw [Fr_rv p1_46 (by decide), f5]; omega
      have h_218 : rv W1_46 1 ≠ 0 := by rw [p2_46, f6]; exact hC0
      have h_219 : 2 * rv W1_46 1 ≤ BN := by rw [p2_46, f6]; omega
      have hPc := hP.sub (ws' := [(am, .inr (0, [.int (I3 th), .int (I3 mn), .ref as_, .ref av, .ref aw, .int (I3 sm), .int (I3 wd), .int (I3 lp), .int (I3 mp), .int (I3 re)])), (as_, .inl (dA 0, 60, .inl (iA SG))), (av, .inl (dA 1, 960, .inr (.inl (lA VL)))), (aw, .inl (dA 1, 1024, .inr (.inl (lA W1_46))))]) [0, 1, 2, 3] rfl
      have hDc := hD.sub (ws' := [(am, .inr (0, [.int (I3 th), .int (I3 mn), .ref as_, .ref av, .ref aw, .int (I3 sm), .int (I3 wd), .int (I3 lp), .int (I3 mp), .int (I3 re)])), (as_, .inl (dA 0, 60, .inl (iA SG))), (av, .inl (dA 1, 960, .inr (.inl (lA VL)))), (aw, .inl (dA 1, 1024, .inr (.inl (lA W1_46))))]) [0, 1, 2, 3] (by decide) rfl
      have hFc := va_free (wc := [(am, .inr (0, [.int (I3 th), .int (I3 mn), .ref as_, .ref av, .ref aw, .int (I3 sm), .int (I3 wd), .int (I3 lp), .int (I3 mp), .int (I3 re)])), (as_, .inl (dA 0, 60, .inl (iA SG))), (av, .inl (dA 1, 960, .inr (.inl (lA VL)))), (aw, .inl (dA 1, 1024, .inr (.inl (lA W1_46))))]) hD hS hA [0, 1, 2, 3] rfl
      refine va_calli (va_runV (As := [.int (I3 (SG a)), .int (I3 y)]) (rest := []) ⟨hx, hb, hml, hown, hts⟩ (metX8_sum l dC dI dA am as_ av aw H.size th mn sm wd lp mp re SG VL W1_46 (SG a) y h_210 h_211 h_212 h_213 h_214 h_215 h_216 h_217 h_218 h_219) (cwV 2 hts (lw_V q1090 q1092 qs44 q66 q1093) rfl rfl rfl (by decide +kernel) ⟨Nat.le_of_ble_eq_true rfl, Nat.le_of_ble_eq_true rfl⟩) ⟨fun a U g mk q => by obtain ⟨q0, q1, qP, qK, qD⟩ := q; exact ⟨q0, q1, qP, va_K.moved (u := U) (U := U.calling g mk a) (Vm.Alike.refl U.vm) qK, qD⟩, va_recv hK hPc (ci := 0) (q0 := 0) rfl rfl, fun U hU hW => ⟨rfl, by rw [hU], by rw [hU]; exact hPc, va_K.moved hW.alike hK, hDc.weaken (fun _ _ _ _ => trivial)⟩⟩ rfl rfl hl.1 rfl (lv_room (Nat.le_of_ble_eq_true rfl)) dX8_reckon_54 ⟨Nat.le_of_ble_eq_true rfl, Nat.le_of_ble_eq_true rfl⟩) hS (fun q _ h => hFc q h) hFc (fun r_54 u t H1 locs ht hvm hw hB hz1 hk1 hS => ?_)
      obtain ⟨z_54, th1_54, mn1_54, SG1_54, VL1_54, W1_54⟩ := u
      obtain ⟨rfl, p0_54, p1_54, p2_54⟩ : r_54 = I3 z_54 ∧ (Dg W1_54) ∧ (MI mn1_54 SG1_54 VL1_54) ∧ (Mde mn SG VL ((sumG (SG a) y (rv W1_46 4) (rv W1_46 5))) ((sumP (SG a) y (rv W1_46 4) (rv W1_46 5))) ((rv W1_46 1)) 4 z_54 th1_54 mn1_54 SG1_54 VL1_54) := hw
      obtain ⟨hP1, hK1, hD1⟩ := hB
      rw [ht] at hP1
      obtain ⟨hP, hD⟩ := va_join (wr := []) (w1 := [(am, .inr (0, [.int (I3 th1_54), .int (I3 mn1_54), .ref as_, .ref av, .ref aw, .int (I3 sm), .int (I3 wd), .int (I3 lp), .int (I3 mp), .int (I3 re)])), (as_, .inl (dA 0, 60, .inl (iA SG1_54))), (av, .inl (dA 1, 960, .inr (.inl (lA VL1_54)))), (aw, .inl (dA 1, 1024, .inr (.inl (lA W1_54))))]) hP hD [0, 1, 2, 3] [] rfl rfl (by decide) (by decide) hk1 hFc hP1 hD1
      generalize H1 = H at hP hS ⊢
      have hP : va_P (dC, dI) vwCl [(am, .inr (0, [.int (I3 th1_54), .int (I3 mn1_54), .ref as_, .ref av, .ref aw, .int (I3 sm), .int (I3 wd), .int (I3 lp), .int (I3 mp), .int (I3 re)])), (as_, .inl (dA 0, 60, .inl (iA SG1_54))), (av, .inl (dA 1, 960, .inr (.inl (lA VL1_54)))), (aw, .inl (dA 1, 1024, .inr (.inl (lA W1_54))))] H := hP
      have hD : va_D A [(am, .inr (0, [.int (I3 th1_54), .int (I3 mn1_54), .ref as_, .ref av, .ref aw, .int (I3 sm), .int (I3 wd), .int (I3 lp), .int (I3 mp), .int (I3 re)])), (as_, .inl (dA 0, 60, .inl (iA SG1_54))), (av, .inl (dA 1, 960, .inr (.inl (lA VL1_54)))), (aw, .inl (dA 1, 1024, .inr (.inl (lA W1_54))))] := hD
      have hM := p2_54
      rw [Fr_rv p1_46 (show (4 : Int) ≠ 1 by decide), Fr_rv p1_46 (show (5 : Int) ≠ 1 by decide), p2_46, f4, f5, f6, hy] at hM
      have he := rec_01 (C := qv VL a * qv VL b) (pa := pv VL a) (pb := pv VL b) (x := SG a) (y := SG b) (A := pv VL a * qv VL b) (B := pv VL b * qv VL a) (show act < 2 by omega)
      have hM2 : Mde mn SG VL (recG act (SG a) (SG b) (pv VL a * qv VL b) (pv VL b * qv VL a)) (recP act (SG a) (SG b) (pv VL a) (pv VL b) (pv VL a * qv VL b) (pv VL b * qv VL a)) (recQ act (pv VL b * qv VL a) (qv VL a * qv VL b)) 4 z_54 th1_54 mn1_54 SG1_54 VL1_54 := by rw [he.1, he.2.1, he.2.2]; exact hM
      have o_220 : Dg W1_54 := by first | assumption | omega | (constructor <;> omega)
      have o_221 : MI mn1_54 SG1_54 VL1_54 := by exact p1_54
      have o_222 : Mde mn SG VL (recG act (SG a) (SG b) (pv VL a * qv VL b) (pv VL b * qv VL a)) (recP act (SG a) (SG b) (pv VL a) (pv VL b) (pv VL a * qv VL b) (pv VL b * qv VL a)) (recQ act (pv VL b * qv VL a) (qv VL a * qv VL b)) 4 z_54 th1_54 mn1_54 SG1_54 VL1_54 := by exact hM2
      exact W.iret (v := I3 z_54) hx hb hr (fun t ht hW => ⟨⟨I3 z_54, (z_54, th1_54, mn1_54, SG1_54, VL1_54, W1_54), rfl, ⟨rfl, ⟨o_220, o_221, o_222⟩⟩, by rw [ht]; exact hP, va_K.moved hW.alike hK, hD⟩, hS.F ht⟩) hS.2.2 dX8_reckon_57
  obtain ⟨hmn, hV, hAll⟩ := id hI
  have ha2 := hAll a (by omega) (by omega)
  have hb2 := hAll b (by omega) (by omega)
  have la := pv_lt hV a
  have lb := pv_lt hV b
  have ma := qv_lt hV a
  have mb := qv_lt hV b
  have hBB := BB_BN
  have hB82 := B8_2
  have t1 := mul_B8 la mb
  have t2 := mul_B8 lb ma
  have t3 := mul_B8 ma mb
  have t4 := mul_B8 la lb
  have hp3 := prod3 ha2.1 hb2.1
  have i_act : In3 act := ⟨by omega, by omega⟩
  have i_a : In3 (SG a) := ⟨by omega, by omega⟩
  have i_b : In3 (SG b) := ⟨by omega, by omega⟩
  have i_4 : In3 4 := by decide
  have hA0 : SG a = 0 → pv VL a * qv VL b = 0 := fun q => by rw [ha2.2.1.mp q, Nat.zero_mul]
  have hB0 : SG b = 0 → pv VL b * qv VL a = 0 := fun q => by rw [hb2.2.1.mp q, Nat.zero_mul]
  have hg3 := recG3 (act := act) hact.2 ha2.1 hb2.1 hA0 hB0 ha2.2.1.mp hb2.2.1.mp h0_
  have hC0 : qv VL a * qv VL b ≠ 0 := Nat.ne_of_gt (Nat.mul_pos (Nat.pos_of_ne_zero ha2.2.2.1) (Nat.pos_of_ne_zero hb2.2.2.1))
  have hBn : 3 ≤ act → pv VL b * qv VL a ≠ 0 := fun q => Nat.ne_of_gt (Nat.mul_pos (Nat.pos_of_ne_zero (fun w => h0_ q (hb2.2.1.mpr w))) (Nat.pos_of_ne_zero ha2.2.2.1))
  refine lv_aload_n hx hb dX8_reckon_0 rfl (lv_at hl 0 rfl) ?_
  refine lv_iload_n hx hb dX8_reckon_1 rfl (lv_at hl 2 rfl) ?_
  refine lv_iload_n hx hb dX8_reckon_2 rfl (lv_at hl 3 rfl) ?_
  have h_223 : Dg wf := by first | assumption | omega | (constructor <;> omega)
  have h_224 : Dg VL := by first | assumption | omega | (constructor <;> omega)
  have h_225 : 0 ≤ a ∧ a < 60 := by first | assumption | omega | (constructor <;> omega)
  have h_226 : 0 ≤ b ∧ b < 60 := by first | assumption | omega | (constructor <;> omega)
  have hPc := hP.sub (ws' := [(am, .inr (0, [.int (I3 th), .int (I3 mn), .ref as_, .ref av, .ref aw, .int (I3 sm), .int (I3 wd), .int (I3 lp), .int (I3 mp), .int (I3 re)])), (as_, .inl (dA 0, 60, .inl (iA SG))), (av, .inl (dA 1, 960, .inr (.inl (lA VL)))), (aw, .inl (dA 1, 1024, .inr (.inl (lA wf))))]) [0, 1, 2, 3] rfl
  have hDc := hD.sub (ws' := [(am, .inr (0, [.int (I3 th), .int (I3 mn), .ref as_, .ref av, .ref aw, .int (I3 sm), .int (I3 wd), .int (I3 lp), .int (I3 mp), .int (I3 re)])), (as_, .inl (dA 0, 60, .inl (iA SG))), (av, .inl (dA 1, 960, .inr (.inl (lA VL)))), (aw, .inl (dA 1, 1024, .inr (.inl (lA wf))))]) [0, 1, 2, 3] (by decide) rfl
  have hFc := va_free (wc := [(am, .inr (0, [.int (I3 th), .int (I3 mn), .ref as_, .ref av, .ref aw, .int (I3 sm), .int (I3 wd), .int (I3 lp), .int (I3 mp), .int (I3 re)])), (as_, .inl (dA 0, 60, .inl (iA SG))), (av, .inl (dA 1, 960, .inr (.inl (lA VL)))), (aw, .inl (dA 1, 1024, .inr (.inl (lA wf))))]) hD hS hA [0, 1, 2, 3] rfl
  refine va_callv (va_runV (As := [.int (I3 a), .int (I3 b)]) (rest := []) ⟨hx, hb, hml, hown, hts⟩ (metX8_level l dC dI dA am as_ av aw s.heap.size th mn sm wd lp mp re SG VL wf a b h_223 h_224 h_225 h_226) (cwV 2 hts (lw_V q1082 q1084 qs42 q66 q1085) rfl rfl rfl (by decide +kernel) ⟨Nat.le_of_ble_eq_true rfl, Nat.le_of_ble_eq_true rfl⟩) ⟨fun a U g mk q => by obtain ⟨q0, q1, qP, qK, qD⟩ := q; exact ⟨q0, q1, qP, va_K.moved (u := U) (U := U.calling g mk a) (Vm.Alike.refl U.vm) qK, qD⟩, va_recv hK hPc (ci := 0) (q0 := 0) rfl rfl, fun U hU hW => ⟨rfl, by rw [hU], by rw [hU]; exact hPc, va_K.moved hW.alike hK, hDc.weaken (fun _ _ _ _ => trivial)⟩⟩ rfl rfl hl.1 rfl (lv_room (Nat.le_of_ble_eq_true rfl)) dX8_reckon_3 ⟨Nat.le_of_ble_eq_true rfl, Nat.le_of_ble_eq_true rfl⟩) hS (fun q _ h => hFc q h) hFc (fun u t H1 locs ht hvm hw hB hz1 hk1 hS => ?_)
  obtain ⟨W1_3, rfl⟩ : ∃ z, z = u := ⟨_, rfl⟩
  obtain ⟨p0_3, p1_3, p2_3, p3_3⟩ : (Dg W1_3) ∧ (rv W1_3 4 = pv VL a * qv VL b) ∧ (rv W1_3 5 = pv VL b * qv VL a) ∧ (rv W1_3 6 = qv VL a * qv VL b) := hw
  obtain ⟨hP1, hK1, hD1⟩ := hB
  rw [ht] at hP1
  obtain ⟨hP, hD⟩ := va_join (wr := []) (w1 := [(am, .inr (0, [.int (I3 th), .int (I3 mn), .ref as_, .ref av, .ref aw, .int (I3 sm), .int (I3 wd), .int (I3 lp), .int (I3 mp), .int (I3 re)])), (as_, .inl (dA 0, 60, .inl (iA SG))), (av, .inl (dA 1, 960, .inr (.inl (lA VL)))), (aw, .inl (dA 1, 1024, .inr (.inl (lA W1_3))))]) hP hD [0, 1, 2, 3] [] rfl rfl (by decide) (by decide) hk1 hFc hP1 hD1
  generalize H1 = H at hP hS ⊢
  have hP : va_P (dC, dI) vwCl [(am, .inr (0, [.int (I3 th), .int (I3 mn), .ref as_, .ref av, .ref aw, .int (I3 sm), .int (I3 wd), .int (I3 lp), .int (I3 mp), .int (I3 re)])), (as_, .inl (dA 0, 60, .inl (iA SG))), (av, .inl (dA 1, 960, .inr (.inl (lA VL)))), (aw, .inl (dA 1, 1024, .inr (.inl (lA W1_3))))] H := hP
  have hD : va_D A [(am, .inr (0, [.int (I3 th), .int (I3 mn), .ref as_, .ref av, .ref aw, .int (I3 sm), .int (I3 wd), .int (I3 lp), .int (I3 mp), .int (I3 re)])), (as_, .inl (dA 0, 60, .inl (iA SG))), (av, .inl (dA 1, 960, .inr (.inl (lA VL)))), (aw, .inl (dA 1, 1024, .inr (.inl (lA W1_3))))] := hD
  refine lv_aload_n hx hb dX8_reckon_6 rfl (lv_at hl 0 rfl) ?_
  refine va_get (D := (dC, dI)) (ci := 0) (v := .ref as_) (C := RX8) (T := TX8) (N := 10) hx hb hts in_X8 hown hK hP 0 rfl rfl 2 (by decide) (hts _ q915) (fun _ h9 => h9) rfl dX8_reckon_7 ?_
  refine lv_iload_n hx hb dX8_reckon_10 rfl (lv_at hl 2 rfl) ?_
  refine ix_iald hx hb hK hP 1 0 rfl rfl (Nat.le_of_ble_eq_true rfl) (by omega) dX8_reckon_11 ?_
  refine lv_istore (lv' := [(4, .int (I3 (SG a))), (0, .ref am), (1, .int (I3 act)), (2, .int (I3 a)), (3, .int (I3 b))]) hx hb dX8_reckon_12 hl (by decide) rfl (fun ls hl => ?_)
  refine lv_iload_n hx hb dX8_reckon_14 rfl (lv_at hl 2 rfl) ?_
  refine lv_iconst (v := I3 (1)) hx hb dX8_reckon_15 rfl ?_
  refine ix_icmp_ne (tgt := 29) hx hb (by first | assumption | decide | (constructor <;> omega)) (by first | assumption | decide | (constructor <;> omega)) dX8_reckon_16 (by decide) (fun c_16 => ?_) (fun c_16 => ?_)
  · skip
    refine lv_aload_n hx hb dX8_reckon_29 rfl (lv_at hl 1 rfl) ?_
    refine va_get (D := (dC, dI)) (ci := 0) (v := .ref as_) (C := RX8) (T := TX8) (N := 10) hx hb hts in_X8 hown hK hP 0 rfl rfl 2 (by decide) (hts _ q915) (fun _ h9 => h9) rfl dX8_reckon_30 ?_
    refine lv_iload_n hx hb dX8_reckon_33 rfl (lv_at hl 4 rfl) ?_
    refine ix_iald hx hb hK hP 1 0 rfl rfl (Nat.le_of_ble_eq_true rfl) (by omega) dX8_reckon_34 ?_
    have e_227 : (SG b) = recY act (SG b) := by unfold recY; first | (rw [if_pos (by omega)]; done) | (rw [if_neg (by omega)]; done)
    have e_228 : Dg W1_3 := by first | assumption | omega | (constructor <;> omega)
    have e_229 : rv W1_3 4 = pv VL a * qv VL b := by first | assumption | omega | (constructor <;> omega)
    have e_230 : rv W1_3 5 = pv VL b * qv VL a := by first | assumption | omega | (constructor <;> omega)
    have e_231 : rv W1_3 6 = qv VL a * qv VL b := by first | assumption | omega | (constructor <;> omega)
    exact cut_35 (SG b) W1_3 e_227 e_228 e_229 e_230 e_231 _ _ hP hD hS ls (lv_sub hl [1, 2, 3, 4, 0] rfl)
  · skip
    refine lv_aload_n hx hb dX8_reckon_19 rfl (lv_at hl 1 rfl) ?_
    refine va_get (D := (dC, dI)) (ci := 0) (v := .ref as_) (C := RX8) (T := TX8) (N := 10) hx hb hts in_X8 hown hK hP 0 rfl rfl 2 (by decide) (hts _ q915) (fun _ h9 => h9) rfl dX8_reckon_20 ?_
    refine lv_iload_n hx hb dX8_reckon_23 rfl (lv_at hl 4 rfl) ?_
    refine ix_iald hx hb hK hP 1 0 rfl rfl (Nat.le_of_ble_eq_true rfl) (by omega) dX8_reckon_24 ?_
    refine ix_ineg hx hb dX8_reckon_25 ?_
    refine lv_goto (tgt := 35) hx hb dX8_reckon_26 (by decide) ?_
    have e_232 : (-(SG b)) = recY act (SG b) := by unfold recY; first | (rw [if_pos (by omega)]; done) | (rw [if_neg (by omega)]; done)
    have e_233 : Dg W1_3 := by first | assumption | omega | (constructor <;> omega)
    have e_234 : rv W1_3 4 = pv VL a * qv VL b := by first | assumption | omega | (constructor <;> omega)
    have e_235 : rv W1_3 5 = pv VL b * qv VL a := by first | assumption | omega | (constructor <;> omega)
    have e_236 : rv W1_3 6 = qv VL a * qv VL b := by first | assumption | omega | (constructor <;> omega)
    exact cut_35 (-(SG b)) W1_3 e_232 e_233 e_234 e_235 e_236 _ _ hP hD hS ls (lv_sub hl [1, 2, 3, 4, 0] rfl)
