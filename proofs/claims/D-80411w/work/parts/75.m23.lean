/-! the model: fromFloat -/
set_option maxRecDepth 100000
abbrev BmetX8_fromFloat (dC : Nat → ClassId) (dI : Nat → Nat → Nat) (dA : Nat → ClassId) (A : Nat → Prop) (am : Nat) (as_ : Nat) (av : Nat) (aw : Nat) (th : Int) (mn : Int) (sm : Int) (wd : Int) (lp : Int) (mp : Int) (re : Int) (SG : Int → Int) (VL : Int → Int) (wf : Int → Int) (v : Int) : Int × (Int → Int) × Int × Int × Int → State → Prop := fun u t => (fun (u : Int × (Int → Int) × Int × Int × Int) => (fun (z : Int) (W1 : Int → Int) (wd1 : Int) (lp1 : Int) (mp1 : Int) => va_P (dC, dI) vwCl [(am, .inr (0, [.int (I3 th), .int (I3 mn), .ref as_, .ref av, .ref aw, .int (I3 sm), .int (I3 wd1), .int (I3 lp1), .int (I3 mp1), .int (I3 re)])), (as_, .inl (dA 0, 60, .inl (iA SG))), (av, .inl (dA 1, 960, .inr (.inl (lA VL)))), (aw, .inl (dA 1, 1024, .inr (.inl (lA W1))))] t.heap ∧ va_K (dC, dI) vwCl (tyA dA) t ∧ va_D A [(am, .inr (0, [.int (I3 th), .int (I3 mn), .ref as_, .ref av, .ref aw, .int (I3 sm), .int (I3 wd1), .int (I3 lp1), .int (I3 mp1), .int (I3 re)])), (as_, .inl (dA 0, 60, .inl (iA SG))), (av, .inl (dA 1, 960, .inr (.inl (lA VL)))), (aw, .inl (dA 1, 1024, .inr (.inl (lA W1))))]) u.1 u.2.1 u.2.2.1 u.2.2.2.1 u.2.2.2.2) u
abbrev QmetX8_fromFloat (dC : Nat → ClassId) (dI : Nat → Nat → Nat) (dA : Nat → ClassId) (A : Nat → Prop) (am : Nat) (as_ : Nat) (av : Nat) (aw : Nat) (th : Int) (mn : Int) (sm : Int) (wd : Int) (lp : Int) (mp : Int) (re : Int) (SG : Int → Int) (VL : Int → Int) (wf : Int → Int) (v : Int) := va_Ql (fun (rt_ : Int64) => fun (u : Int × (Int → Int) × Int × Int × Int) => (fun (z : Int) (W1 : Int → Int) (wd1 : Int) (lp1 : Int) (mp1 : Int) => rt_ = L6 z ∧ (Dg W1) ∧ (ffX v z)) u.1 u.2.1 u.2.2.1 u.2.2.2.1 u.2.2.2.2) (BmetX8_fromFloat dC dI dA A am as_ av aw th mn sm wd lp mp re SG VL wf v) A
set_option maxHeartbeats 1000000 in
set_option maxRecDepth 100000 in
/-- fromFloat -/
theorem metX8_fromFloat (l : Launch) (dC : Nat → ClassId) (dI : Nat → Nat → Nat) (dA : Nat → ClassId) (am : Nat) (as_ : Nat) (av : Nat) (aw : Nat) (sz : Nat) (th : Int) (mn : Int) (sm : Int) (wd : Int) (lp : Int) (mp : Int) (re : Int) (SG : Int → Int) (VL : Int → Int) (wf : Int → Int) (v : Int) (hW : Dg wf) (hv : In3 v) : Met l yX8_fromFloat (ws_ yX8_fromFloat cX8_fromFloat 8 (some .long)) ({ frames := 5, cells := 0, slots := 0, locals := 200 }) (va_Pc [.ref am, .int (I3 v)] (fun U => U.heap.size = sz ∧ va_P (dC, dI) vwCl [(am, .inr (0, [.int (I3 th), .int (I3 mn), .ref as_, .ref av, .ref aw, .int (I3 sm), .int (I3 wd), .int (I3 lp), .int (I3 mp), .int (I3 re)])), (as_, .inl (dA 0, 60, .inl (iA SG))), (av, .inl (dA 1, 960, .inr (.inl (lA VL)))), (aw, .inl (dA 1, 1024, .inr (.inl (lA wf))))] U.heap ∧ va_K (dC, dI) vwCl (tyA dA) U ∧ va_D (fun _ => True) [(am, .inr (0, [.int (I3 th), .int (I3 mn), .ref as_, .ref av, .ref aw, .int (I3 sm), .int (I3 wd), .int (I3 lp), .int (I3 mp), .int (I3 re)])), (as_, .inl (dA 0, 60, .inl (iA SG))), (av, .inl (dA 1, 960, .inr (.inl (lA VL)))), (aw, .inl (dA 1, 1024, .inr (.inl (lA wf))))])) (QmetX8_fromFloat dC dI dA (va_A [(am, .inr (0, [.int (I3 th), .int (I3 mn), .ref as_, .ref av, .ref aw, .int (I3 sm), .int (I3 wd), .int (I3 lp), .int (I3 mp), .int (I3 re)])), (as_, .inl (dA 0, 60, .inl (iA SG))), (av, .inl (dA 1, 960, .inr (.inl (lA VL)))), (aw, .inl (dA 1, 1024, .inr (.inl (lA wf))))] sz) am as_ av aw th mn sm wd lp mp re SG VL wf v) 0 0 (va_A [(am, .inr (0, [.int (I3 th), .int (I3 mn), .ref as_, .ref av, .ref aw, .int (I3 sm), .int (I3 wd), .int (I3 lp), .int (I3 mp), .int (I3 re)])), (as_, .inl (dA 0, 60, .inl (iA SG))), (av, .inl (dA 1, 960, .inr (.inl (lA VL)))), (aw, .inl (dA 1, 1024, .inr (.inl (lA wf))))] sz) := by
  refine Met.ofW (cc := cX8_fromFloat) (maxL := 8) (ret := (some .long)) (by decide) rfl ?_
  intro p e s m args below meth c s₁ B hml hv
  obtain ⟨rfl, hsz, hP, hK, hD0⟩ := hv
  have hx := B.exec
  have hb := B.bytes
  have hr := B.returns
  have hts := atoms_spec (ws := (ws_ yX8_fromFloat cX8_fromFloat 8 (some .long))) B.pre
  have hts : ∀ w ∈ lw_all, w.before _ s = true := fun w h => hts w (List.mem_cons_of_mem _ h)
  have hown : s.vm.findClass RX8 = some m.cls := findClass_of_methodNamed B.named
  have hlocks := B.notSynchronized
  subst hsz
  have hD := hD0.self (sz := s.heap.size)
  generalize hAe : va_A [(am, .inr (0, [.int (I3 th), .int (I3 mn), .ref as_, .ref av, .ref aw, .int (I3 sm), .int (I3 wd), .int (I3 lp), .int (I3 mp), .int (I3 re)])), (as_, .inl (dA 0, 60, .inl (iA SG))), (av, .inl (dA 1, 960, .inr (.inl (lA VL)))), (aw, .inl (dA 1, 1024, .inr (.inl (lA wf))))] s.heap.size = A at hD ⊢
  have hA : ∀ q : Nat, s.heap.size ≤ q → A q := fun q h => by rw [← hAe]; exact Or.inr h
  have hS : va_S A s.heap s.heap [] := va_S.rf
  have hP : va_P (dC, dI) vwCl [(am, .inr (0, [.int (I3 th), .int (I3 mn), .ref as_, .ref av, .ref aw, .int (I3 sm), .int (I3 wd), .int (I3 lp), .int (I3 mp), .int (I3 re)])), (as_, .inl (dA 0, 60, .inl (iA SG))), (av, .inl (dA 1, 960, .inr (.inl (lA VL)))), (aw, .inl (dA 1, 1024, .inr (.inl (lA wf))))] s.heap := hP
  have hl := lv_entry ([.ref am, .int (I3 v)]) (n := 8) (Nat.le_of_ble_eq_true rfl)
  rw [lg_entry_eq]
  generalize (lg_sl ([.ref am, .int (I3 v)]) ++ List.replicate (8 - (lg_sl ([.ref am, .int (I3 v)])).length) Slot.unset).toArray = ls at hl ⊢
  have hl : lv_has ls 8 [(0, .ref am), (1, .int (I3 v))] := hl
  have cut_86 : ∀ (xx : Int) (pp : Int) (tt : Int), (eF v ≠ 255) → (xx = if eF v = 0 then pF v else pF v + 8388608) → (pp = if eF v = 0 then -149 else eF v - 150) → (0 ≤ xx ∧ xx < 16777216) → (-149 ≤ pp ∧ pp ≤ 200) → (tt = if v < 0 then -9223372036854775808 else 0) → ∀ (H : Heap) (locs : List Loc), va_P (dC, dI) vwCl [(am, .inr (0, [.int (I3 th), .int (I3 mn), .ref as_, .ref av, .ref aw, .int (I3 sm), .int (I3 wd), .int (I3 lp), .int (I3 mp), .int (I3 re)])), (as_, .inl (dA 0, 60, .inl (iA SG))), (av, .inl (dA 1, 960, .inr (.inl (lA VL)))), (aw, .inl (dA 1, 1024, .inr (.inl (lA wf))))] H → va_D A [(am, .inr (0, [.int (I3 th), .int (I3 mn), .ref as_, .ref av, .ref aw, .int (I3 sm), .int (I3 wd), .int (I3 lp), .int (I3 mp), .int (I3 re)])), (as_, .inl (dA 0, 60, .inl (iA SG))), (av, .inl (dA 1, 960, .inr (.inl (lA VL)))), (aw, .inl (dA 1, 1024, .inr (.inl (lA wf))))] → va_S A s.heap H locs → ∀ (ls : Array Slot), lv_has ls 8 [(0, .ref am), (1, .int (I3 v)), (2, .int (I3 (eF v))), (3, .int (I3 (pF v))), (4, .long (L6 tt)), (6, .long (L6 xx))] → W p l e (headSpec (ws_ yX8_fromFloat cX8_fromFloat 8 (some .long)) ({ frames := 5, cells := 0, slots := 0, locals := 200 })).room s m ([.ref am, .int (I3 v)] : List Value).toArray below meth c H locs 0 0 (MQ below (QmetX8_fromFloat dC dI dA A am as_ av aw th mn sm wd lp mp re SG VL wf v) ([.ref am, .int (I3 v)] : List Value).toArray s 0 0 A) (F0 m 86 ls [.int (I3 1), .int (I3 pp), .long (L6 xx), .ref am]) := by
    intro xx pp tt he hxx hpp hxr hpr htt H locs hP hD hS ls hl
    have hx_ := eF_r v
    have hf_ := pF_r v
    have h_1 : Dg wf := by first | assumption | omega | (constructor <;> omega)
    have h_2 : 0 ≤ xx ∧ xx < 9223372036854775808 := by constructor <;> omega
    have h_3 : -100000 ≤ pp ∧ pp ≤ 100000 := by constructor <;> omega
    have h_4 : (1 : Int) = 0 ∨ (1 : Int) = 1 := by exact Or.inr rfl
    have hPc := hP.sub (ws' := [(am, .inr (0, [.int (I3 th), .int (I3 mn), .ref as_, .ref av, .ref aw, .int (I3 sm), .int (I3 wd), .int (I3 lp), .int (I3 mp), .int (I3 re)])), (as_, .inl (dA 0, 60, .inl (iA SG))), (av, .inl (dA 1, 960, .inr (.inl (lA VL)))), (aw, .inl (dA 1, 1024, .inr (.inl (lA wf))))]) [0, 1, 2, 3] rfl
    have hDc := hD.sub (ws' := [(am, .inr (0, [.int (I3 th), .int (I3 mn), .ref as_, .ref av, .ref aw, .int (I3 sm), .int (I3 wd), .int (I3 lp), .int (I3 mp), .int (I3 re)])), (as_, .inl (dA 0, 60, .inl (iA SG))), (av, .inl (dA 1, 960, .inr (.inl (lA VL)))), (aw, .inl (dA 1, 1024, .inr (.inl (lA wf))))]) [0, 1, 2, 3] (by decide) rfl
    have hFc := va_free (wc := [(am, .inr (0, [.int (I3 th), .int (I3 mn), .ref as_, .ref av, .ref aw, .int (I3 sm), .int (I3 wd), .int (I3 lp), .int (I3 mp), .int (I3 re)])), (as_, .inl (dA 0, 60, .inl (iA SG))), (av, .inl (dA 1, 960, .inr (.inl (lA VL)))), (aw, .inl (dA 1, 1024, .inr (.inl (lA wf))))]) hD hS hA [0, 1, 2, 3] rfl
    refine va_calll (va_runV (As := [.long (L6 xx), .int (I3 pp), .int (I3 1)]) (rest := []) ⟨hx, hb, hml, hown, hts⟩ (metX8_scaled l dC dI dA am as_ av aw H.size th mn sm wd lp mp re SG VL wf xx pp 1 h_1 h_2 h_3 h_4) (cwV 3 hts (lw_V q1169 q1171 qs51 q66 q1172) rfl rfl rfl (by decide +kernel) ⟨Nat.le_of_ble_eq_true rfl, Nat.le_of_ble_eq_true rfl⟩) ⟨fun a U g mk q => by obtain ⟨q0, q1, qP, qK, qD⟩ := q; exact ⟨q0, q1, qP, va_K.moved (u := U) (U := U.calling g mk a) (Vm.Alike.refl U.vm) qK, qD⟩, va_recv hK hPc (ci := 0) (q0 := 0) rfl rfl, fun U hU hW => ⟨rfl, by rw [hU], by rw [hU]; exact hPc, va_K.moved hW.alike hK, hDc.weaken (fun _ _ _ _ => trivial)⟩⟩ rfl rfl hl.1 rfl (lv_room (Nat.le_of_ble_eq_true rfl)) dX8_fromFloat_86 ⟨Nat.le_of_ble_eq_true rfl, Nat.le_of_ble_eq_true rfl⟩) hS (fun q _ h => hFc q h) hFc (fun r_86 u t H1 locs ht hvm hw hB hz1 hk1 hS => ?_)
    obtain ⟨z_86, W1_86, wd1_86, lp1_86, mp1_86⟩ := u
    obtain ⟨rfl, p0_86, p1_86, p2_86, p3_86, p4_86, p5_86⟩ : r_86 = L6 z_86 ∧ (Dg W1_86) ∧ (xx = 0 → z_86 = 0) ∧ (xx ≠ 0 → (1 : Int) = 1 → rnB 64 (xx.toNat * 2 ^ pp.toNat) (2 ^ (-pp).toNat) 0 1 z_86) ∧ (xx ≠ 0 → (1 : Int) = 0 → rnB 32 (xx.toNat * 2 ^ pp.toNat) (2 ^ (-pp).toNat) 0 1 z_86) ∧ (0 ≤ z_86 ∧ z_86 ≤ 9218868437227405312) ∧ ((1 : Int) = 0 → z_86 ≤ 2139095040) := hw
    obtain ⟨hP1, hK1, hD1⟩ := hB
    rw [ht] at hP1
    obtain ⟨hP, hD⟩ := va_join (wr := []) (w1 := [(am, .inr (0, [.int (I3 th), .int (I3 mn), .ref as_, .ref av, .ref aw, .int (I3 sm), .int (I3 wd1_86), .int (I3 lp1_86), .int (I3 mp1_86), .int (I3 re)])), (as_, .inl (dA 0, 60, .inl (iA SG))), (av, .inl (dA 1, 960, .inr (.inl (lA VL)))), (aw, .inl (dA 1, 1024, .inr (.inl (lA W1_86))))]) hP hD [0, 1, 2, 3] [] rfl rfl (by decide) (by decide) hk1 hFc hP1 hD1
    generalize H1 = H at hP hS ⊢
    have hP : va_P (dC, dI) vwCl [(am, .inr (0, [.int (I3 th), .int (I3 mn), .ref as_, .ref av, .ref aw, .int (I3 sm), .int (I3 wd1_86), .int (I3 lp1_86), .int (I3 mp1_86), .int (I3 re)])), (as_, .inl (dA 0, 60, .inl (iA SG))), (av, .inl (dA 1, 960, .inr (.inl (lA VL)))), (aw, .inl (dA 1, 1024, .inr (.inl (lA W1_86))))] H := hP
    have hD : va_D A [(am, .inr (0, [.int (I3 th), .int (I3 mn), .ref as_, .ref av, .ref aw, .int (I3 sm), .int (I3 wd1_86), .int (I3 lp1_86), .int (I3 mp1_86), .int (I3 re)])), (as_, .inl (dA 0, 60, .inl (iA SG))), (av, .inl (dA 1, 960, .inr (.inl (lA VL)))), (aw, .inl (dA 1, 1024, .inr (.inl (lA W1_86))))] := hD
    refine lv_lload hx hb dX8_fromFloat_89 (lv_at hl 4 rfl) ?_
    refine ix_lor hx hb dX8_fromFloat_91 ?_
    refine ix_tl (y := sgb v z_86) (by rw [htt]; exact sgb_or (by omega)) ?_
    have o_5 : Dg W1_86 := by first | assumption | omega | (constructor <;> omega)
    have o_6 : ffX v (sgb v z_86) := by exact ⟨fun q => absurd q he, fun _ => ⟨z_86, by rw [← hxx, ← hpp]; exact ⟨p1_86, fun q => p2_86 q rfl⟩, rfl⟩⟩
    exact W.lret (v := L6 (sgb v z_86)) hx hb hr (fun t ht hW => ⟨⟨L6 (sgb v z_86), ((sgb v z_86), W1_86, wd1_86, lp1_86, mp1_86), rfl, ⟨rfl, ⟨o_5, o_6⟩⟩, by rw [ht]; exact hP, va_K.moved hW.alike hK, hD⟩, hS.F ht⟩) hS.2.2 dX8_fromFloat_92
  have cut_25 : ∀ (tt : Int), (tt = if v < 0 then -9223372036854775808 else 0) → ∀ (H : Heap) (locs : List Loc), va_P (dC, dI) vwCl [(am, .inr (0, [.int (I3 th), .int (I3 mn), .ref as_, .ref av, .ref aw, .int (I3 sm), .int (I3 wd), .int (I3 lp), .int (I3 mp), .int (I3 re)])), (as_, .inl (dA 0, 60, .inl (iA SG))), (av, .inl (dA 1, 960, .inr (.inl (lA VL)))), (aw, .inl (dA 1, 1024, .inr (.inl (lA wf))))] H → va_D A [(am, .inr (0, [.int (I3 th), .int (I3 mn), .ref as_, .ref av, .ref aw, .int (I3 sm), .int (I3 wd), .int (I3 lp), .int (I3 mp), .int (I3 re)])), (as_, .inl (dA 0, 60, .inl (iA SG))), (av, .inl (dA 1, 960, .inr (.inl (lA VL)))), (aw, .inl (dA 1, 1024, .inr (.inl (lA wf))))] → va_S A s.heap H locs → ∀ (ls : Array Slot), lv_has ls 8 [(0, .ref am), (1, .int (I3 v)), (2, .int (I3 (eF v))), (3, .int (I3 (pF v)))] → W p l e (headSpec (ws_ yX8_fromFloat cX8_fromFloat 8 (some .long)) ({ frames := 5, cells := 0, slots := 0, locals := 200 })).room s m ([.ref am, .int (I3 v)] : List Value).toArray below meth c H locs 0 0 (MQ below (QmetX8_fromFloat dC dI dA A am as_ av aw th mn sm wd lp mp re SG VL wf v) ([.ref am, .int (I3 v)] : List Value).toArray s 0 0 A) (F0 m 25 ls [.long (L6 tt)]) := by
    intro tt htt H locs hP hD hS ls hl
    have hx_ := eF_r v
    have hf_ := pF_r v
    refine lv_lstore (lv' := [(4, .long (L6 tt)), (0, .ref am), (1, .int (I3 v)), (2, .int (I3 (eF v))), (3, .int (I3 (pF v)))]) hx hb dX8_fromFloat_25 hl (by decide) rfl (fun ls hl => ?_)
    refine lv_iload_n hx hb dX8_fromFloat_27 rfl (lv_at hl 3 rfl) ?_
    refine lv_sipush (v := I3 (255)) hx hb dX8_fromFloat_28 (by decide) ?_
    refine ix_icmp_ne (tgt := 51) hx hb (by first | assumption | decide | (constructor <;> omega)) (by first | assumption | decide | (constructor <;> omega)) dX8_fromFloat_31 (by decide) (fun c_31 => ?_) (fun c_31 => ?_)
    · skip
      refine lv_iload_n hx hb dX8_fromFloat_51 rfl (lv_at hl 3 rfl) ?_
      refine ix_if_ne (tgt := 60) hx hb (by first | assumption | decide | (constructor <;> omega)) dX8_fromFloat_52 (by decide) (fun c_52 => ?_) (fun c_52 => ?_)
      · skip
        refine lv_iload_n hx hb dX8_fromFloat_60 rfl (lv_at hl 4 rfl) ?_
        refine lv_ldc hx hb hown (hts _ q1215) dX8_fromFloat_61 ?_
        refine ix_vi (x := (8388608)) (by decide) ?_
        refine ix_ior hx hb dX8_fromFloat_63 ?_
        refine ix_ti (y := pF v + 8388608) (by exact zor3_23 hf_) ?_
        refine ix_i2l hx hb (by first | assumption | decide | (constructor <;> omega)) dX8_fromFloat_64 ?_
        refine lv_lstore (lv' := [(6, .long (L6 (pF v + 8388608))), (4, .long (L6 tt)), (0, .ref am), (1, .int (I3 v)), (2, .int (I3 (eF v))), (3, .int (I3 (pF v)))]) hx hb dX8_fromFloat_65 hl (by decide) rfl (fun ls hl => ?_)
        refine lv_aload_n hx hb dX8_fromFloat_67 rfl (lv_at hl 2 rfl) ?_
        refine lv_lload hx hb dX8_fromFloat_68 (lv_at hl 0 rfl) ?_
        refine lv_iload_n hx hb dX8_fromFloat_70 rfl (lv_at hl 4 rfl) ?_
        refine ix_if_ne (tgt := 80) hx hb (by first | assumption | decide | (constructor <;> omega)) dX8_fromFloat_71 (by decide) (fun c_71 => ?_) (fun c_71 => ?_)
        · skip
          refine lv_iload_n hx hb dX8_fromFloat_80 rfl (lv_at hl 4 rfl) ?_
          refine lv_sipush (v := I3 (150)) hx hb dX8_fromFloat_81 (by decide) ?_
          refine ix_isub hx hb dX8_fromFloat_84 ?_
          refine lv_iconst (v := I3 (1)) hx hb dX8_fromFloat_85 rfl ?_
          have e_7 : eF v ≠ 255 := by first | assumption | omega | (constructor <;> omega)
          have e_8 : (pF v + 8388608) = if eF v = 0 then pF v else pF v + 8388608 := by first | (rw [if_pos (by omega)]; done) | (rw [if_neg (by omega)]; done)
          have e_9 : ((eF v) - 150) = if eF v = 0 then -149 else eF v - 150 := by first | (rw [if_pos (by omega)]; done) | (rw [if_neg (by omega)]; done)
          have e_10 : 0 ≤ (pF v + 8388608) ∧ (pF v + 8388608) < 16777216 := by first | assumption | omega | (constructor <;> omega)
          have e_11 : -149 ≤ ((eF v) - 150) ∧ ((eF v) - 150) ≤ 200 := by first | assumption | omega | (constructor <;> omega)
          have e_12 : tt = if v < 0 then -9223372036854775808 else 0 := by first | assumption | omega | (constructor <;> omega)
          exact cut_86 (pF v + 8388608) ((eF v) - 150) tt e_7 e_8 e_9 e_10 e_11 e_12 _ _ hP hD hS ls (lv_sub hl [2, 3, 4, 5, 1, 0] rfl)
        · skip
          omega
      · skip
        refine lv_iload_n hx hb dX8_fromFloat_55 rfl (lv_at hl 4 rfl) ?_
        refine ix_i2l hx hb (by first | assumption | decide | (constructor <;> omega)) dX8_fromFloat_56 ?_
        refine lv_goto (tgt := 65) hx hb dX8_fromFloat_57 (by decide) ?_
        refine lv_lstore (lv' := [(6, .long (L6 (pF v))), (4, .long (L6 tt)), (0, .ref am), (1, .int (I3 v)), (2, .int (I3 (eF v))), (3, .int (I3 (pF v)))]) hx hb dX8_fromFloat_65 hl (by decide) rfl (fun ls hl => ?_)
        refine lv_aload_n hx hb dX8_fromFloat_67 rfl (lv_at hl 2 rfl) ?_
        refine lv_lload hx hb dX8_fromFloat_68 (lv_at hl 0 rfl) ?_
        refine lv_iload_n hx hb dX8_fromFloat_70 rfl (lv_at hl 4 rfl) ?_
        refine ix_if_ne (tgt := 80) hx hb (by first | assumption | decide | (constructor <;> omega)) dX8_fromFloat_71 (by decide) (fun c_71 => ?_) (fun c_71 => ?_)
        · skip
          omega
        · skip
          refine lv_sipush (v := I3 (-149)) hx hb dX8_fromFloat_74 (by decide) ?_
          refine lv_goto (tgt := 85) hx hb dX8_fromFloat_77 (by decide) ?_
          refine lv_iconst (v := I3 (1)) hx hb dX8_fromFloat_85 rfl ?_
          have e_13 : eF v ≠ 255 := by first | assumption | omega | (constructor <;> omega)
          have e_14 : (pF v) = if eF v = 0 then pF v else pF v + 8388608 := by first | (rw [if_pos (by omega)]; done) | (rw [if_neg (by omega)]; done)
          have e_15 : (-149 : Int) = if eF v = 0 then -149 else eF v - 150 := by first | (rw [if_pos (by omega)]; done) | (rw [if_neg (by omega)]; done)
          have e_16 : 0 ≤ (pF v) ∧ (pF v) < 16777216 := by first | assumption | omega | (constructor <;> omega)
          have e_17 : -149 ≤ (-149 : Int) ∧ (-149 : Int) ≤ 200 := by first | assumption | omega | (constructor <;> omega)
          have e_18 : tt = if v < 0 then -9223372036854775808 else 0 := by first | assumption | omega | (constructor <;> omega)
          exact cut_86 (pF v) (-149) tt e_13 e_14 e_15 e_16 e_17 e_18 _ _ hP hD hS ls (lv_sub hl [2, 3, 4, 5, 1, 0] rfl)
    · skip
      refine lv_iload_n hx hb dX8_fromFloat_34 rfl (lv_at hl 4 rfl) ?_
      refine ix_if_ne (tgt := 47) hx hb (by first | assumption | decide | (constructor <;> omega)) dX8_fromFloat_35 (by decide) (fun c_35 => ?_) (fun c_35 => ?_)
      · skip
        refine lv_ldc2 hx hb hown (hts _ q1167) dX8_fromFloat_47 ?_
        refine ix_vl (x := (9221120237041090560)) (by decide) ?_
        have o_19 : Dg wf := by first | assumption | omega | (constructor <;> omega)
        have o_20 : ffX v (9221120237041090560 : Int) := by exact ⟨fun _ => by first | (rw [if_pos (by omega)]; done) | (rw [if_neg (by omega)]; done), fun q => by exfalso; omega⟩
        exact W.lret (v := L6 9221120237041090560) hx hb hr (fun t ht hW => ⟨⟨L6 9221120237041090560, (9221120237041090560, wf, wd, lp, mp), rfl, ⟨rfl, ⟨o_19, o_20⟩⟩, by rw [ht]; exact hP, va_K.moved hW.alike hK, hD⟩, hS.F ht⟩) hS.2.2 dX8_fromFloat_50
      · skip
        refine lv_ldc2 hx hb hown (hts _ q1190) dX8_fromFloat_38 ?_
        refine ix_vl (x := (9218868437227405312)) (by decide) ?_
        refine lv_lload hx hb dX8_fromFloat_41 (lv_at hl 0 rfl) ?_
        refine ix_lor hx hb dX8_fromFloat_43 ?_
        refine ix_tl (y := sgb v 9218868437227405312) (by rw [htt]; exact sgb_or (by decide)) ?_
        refine lv_goto (tgt := 50) hx hb dX8_fromFloat_44 (by decide) ?_
        have o_21 : Dg wf := by first | assumption | omega | (constructor <;> omega)
        have o_22 : ffX v (sgb v 9218868437227405312) := by exact ⟨fun _ => by first | (rw [if_pos (by omega)]; done) | (rw [if_neg (by omega)]; done), fun q => by exfalso; omega⟩
        exact W.lret (v := L6 (sgb v 9218868437227405312)) hx hb hr (fun t ht hW => ⟨⟨L6 (sgb v 9218868437227405312), ((sgb v 9218868437227405312), wf, wd, lp, mp), rfl, ⟨rfl, ⟨o_21, o_22⟩⟩, by rw [ht]; exact hP, va_K.moved hW.alike hK, hD⟩, hS.F ht⟩) hS.2.2 dX8_fromFloat_50
  have hx_ := eF_r v
  have hf_ := pF_r v
  refine lv_iload_n hx hb dX8_fromFloat_0 rfl (lv_at hl 1 rfl) ?_
  refine lv_bipush (v := I3 (23)) hx hb dX8_fromFloat_1 (by decide) ?_
  refine ix_ishr hx hb (by first | assumption | (constructor <;> omega)) (by first | decide | omega) dX8_fromFloat_3 ?_
  refine ix_ti (y := v / 8388608) rfl ?_
  refine lv_sipush (v := I3 (255)) hx hb dX8_fromFloat_4 (by decide) ?_
  refine ix_iandm hx hb 8 (by decide) (by decide) dX8_fromFloat_7 ?_
  refine ix_ti (y := (v / 8388608) % 256) rfl ?_
  refine ix_ti (y := eF v) (by rfl) ?_
  refine lv_istore_n (lv' := [(2, .int (I3 (eF v))), (0, .ref am), (1, .int (I3 v))]) hx hb dX8_fromFloat_8 rfl hl (by decide) rfl (fun ls hl => ?_)
  refine lv_iload_n hx hb dX8_fromFloat_9 rfl (lv_at hl 2 rfl) ?_
  refine lv_ldc hx hb hown (hts _ q1214) dX8_fromFloat_10 ?_
  refine ix_vi (x := (8388607)) (by decide) ?_
  refine ix_iandm hx hb 23 (by decide) (by decide) dX8_fromFloat_12 ?_
  refine ix_ti (y := v % 8388608) rfl ?_
  refine ix_ti (y := pF v) (by rfl) ?_
  refine lv_istore_n (lv' := [(3, .int (I3 (pF v))), (2, .int (I3 (eF v))), (0, .ref am), (1, .int (I3 v))]) hx hb dX8_fromFloat_13 rfl hl (by decide) rfl (fun ls hl => ?_)
  refine lv_iload_n hx hb dX8_fromFloat_14 rfl (lv_at hl 3 rfl) ?_
  refine ix_if_ge (tgt := 24) hx hb (by first | assumption | decide | (constructor <;> omega)) dX8_fromFloat_15 (by decide) (fun c_15 => ?_) (fun c_15 => ?_)
  · skip
    refine lv_lconst (v := L6 0) hx hb dX8_fromFloat_24 (by decide) ?_
    have e_23 : (0 : Int) = if v < 0 then -9223372036854775808 else 0 := by first | (rw [if_pos (by omega)]; done) | (rw [if_neg (by omega)]; done)
    exact cut_25 0 e_23 _ _ hP hD hS ls (lv_sub hl [2, 3, 1, 0] rfl)
  · skip
    refine lv_ldc2 hx hb hown (hts _ q1153) dX8_fromFloat_18 ?_
    refine ix_vl (x := (-9223372036854775808)) (by decide) ?_
    refine lv_goto (tgt := 25) hx hb dX8_fromFloat_21 (by decide) ?_
    have e_24 : (-9223372036854775808 : Int) = if v < 0 then -9223372036854775808 else 0 := by first | (rw [if_pos (by omega)]; done) | (rw [if_neg (by omega)]; done)
    exact cut_25 (-9223372036854775808) e_24 _ _ hP hD hS ls (lv_sub hl [2, 3, 1, 0] rfl)
