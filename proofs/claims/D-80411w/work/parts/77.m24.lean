/-! the model: remainder -/
set_option maxRecDepth 100000
abbrev BmetX8_remainder (dC : Nat → ClassId) (dI : Nat → Nat → Nat) (dA : Nat → ClassId) (A : Nat → Prop) (am : Nat) (as_ : Nat) (av : Nat) (aw : Nat) (th : Int) (mn : Int) (sm : Int) (wd : Int) (lp : Int) (mp : Int) (re : Int) (SG : Int → Int) (VL : Int → Int) (wf : Int → Int) (v : Int) (w : Int) : Int × (Int → Int) × Int × Int × Int → State → Prop := fun u t => (fun (u : Int × (Int → Int) × Int × Int × Int) => (fun (z : Int) (W1 : Int → Int) (wd1 : Int) (lp1 : Int) (mp1 : Int) => va_P (dC, dI) vwCl [(am, .inr (0, [.int (I3 th), .int (I3 mn), .ref as_, .ref av, .ref aw, .int (I3 sm), .int (I3 wd1), .int (I3 lp1), .int (I3 mp1), .int (I3 re)])), (as_, .inl (dA 0, 60, .inl (iA SG))), (av, .inl (dA 1, 960, .inr (.inl (lA VL)))), (aw, .inl (dA 1, 1024, .inr (.inl (lA W1))))] t.heap ∧ va_K (dC, dI) vwCl (tyA dA) t ∧ va_D A [(am, .inr (0, [.int (I3 th), .int (I3 mn), .ref as_, .ref av, .ref aw, .int (I3 sm), .int (I3 wd1), .int (I3 lp1), .int (I3 mp1), .int (I3 re)])), (as_, .inl (dA 0, 60, .inl (iA SG))), (av, .inl (dA 1, 960, .inr (.inl (lA VL)))), (aw, .inl (dA 1, 1024, .inr (.inl (lA W1))))]) u.1 u.2.1 u.2.2.1 u.2.2.2.1 u.2.2.2.2) u
abbrev QmetX8_remainder (dC : Nat → ClassId) (dI : Nat → Nat → Nat) (dA : Nat → ClassId) (A : Nat → Prop) (am : Nat) (as_ : Nat) (av : Nat) (aw : Nat) (th : Int) (mn : Int) (sm : Int) (wd : Int) (lp : Int) (mp : Int) (re : Int) (SG : Int → Int) (VL : Int → Int) (wf : Int → Int) (v : Int) (w : Int) := va_Ql (fun (rt_ : Int64) => fun (u : Int × (Int → Int) × Int × Int × Int) => (fun (z : Int) (W1 : Int → Int) (wd1 : Int) (lp1 : Int) (mp1 : Int) => rt_ = L6 z ∧ (Dg W1) ∧ (rmX v w z)) u.1 u.2.1 u.2.2.1 u.2.2.2.1 u.2.2.2.2) (BmetX8_remainder dC dI dA A am as_ av aw th mn sm wd lp mp re SG VL wf v w) A
set_option maxHeartbeats 4000000 in
set_option maxRecDepth 100000 in
/-- remainder -/
theorem metX8_remainder (l : Launch) (dC : Nat → ClassId) (dI : Nat → Nat → Nat) (dA : Nat → ClassId) (am : Nat) (as_ : Nat) (av : Nat) (aw : Nat) (sz : Nat) (th : Int) (mn : Int) (sm : Int) (wd : Int) (lp : Int) (mp : Int) (re : Int) (SG : Int → Int) (VL : Int → Int) (wf : Int → Int) (v : Int) (w : Int) (hW : Dg wf) (hv : In6 v) (hw : In6 w) : Met l yX8_remainder (ws_ yX8_remainder cX8_remainder 14 (some .long)) ({ frames := 5, cells := 0, slots := 0, locals := 200 }) (va_Pc [.ref am, .long (L6 v), .long (L6 w)] (fun U => U.heap.size = sz ∧ va_P (dC, dI) vwCl [(am, .inr (0, [.int (I3 th), .int (I3 mn), .ref as_, .ref av, .ref aw, .int (I3 sm), .int (I3 wd), .int (I3 lp), .int (I3 mp), .int (I3 re)])), (as_, .inl (dA 0, 60, .inl (iA SG))), (av, .inl (dA 1, 960, .inr (.inl (lA VL)))), (aw, .inl (dA 1, 1024, .inr (.inl (lA wf))))] U.heap ∧ va_K (dC, dI) vwCl (tyA dA) U ∧ va_D (fun _ => True) [(am, .inr (0, [.int (I3 th), .int (I3 mn), .ref as_, .ref av, .ref aw, .int (I3 sm), .int (I3 wd), .int (I3 lp), .int (I3 mp), .int (I3 re)])), (as_, .inl (dA 0, 60, .inl (iA SG))), (av, .inl (dA 1, 960, .inr (.inl (lA VL)))), (aw, .inl (dA 1, 1024, .inr (.inl (lA wf))))])) (QmetX8_remainder dC dI dA (va_A [(am, .inr (0, [.int (I3 th), .int (I3 mn), .ref as_, .ref av, .ref aw, .int (I3 sm), .int (I3 wd), .int (I3 lp), .int (I3 mp), .int (I3 re)])), (as_, .inl (dA 0, 60, .inl (iA SG))), (av, .inl (dA 1, 960, .inr (.inl (lA VL)))), (aw, .inl (dA 1, 1024, .inr (.inl (lA wf))))] sz) am as_ av aw th mn sm wd lp mp re SG VL wf v w) 0 0 (va_A [(am, .inr (0, [.int (I3 th), .int (I3 mn), .ref as_, .ref av, .ref aw, .int (I3 sm), .int (I3 wd), .int (I3 lp), .int (I3 mp), .int (I3 re)])), (as_, .inl (dA 0, 60, .inl (iA SG))), (av, .inl (dA 1, 960, .inr (.inl (lA VL)))), (aw, .inl (dA 1, 1024, .inr (.inl (lA wf))))] sz) := by
  refine Met.ofW (cc := cX8_remainder) (maxL := 14) (ret := (some .long)) (by decide) rfl ?_
  intro p e s m args below meth c s₁ B hml hv
  obtain ⟨rfl, hsz, hP, hK, hD0⟩ := hv
  have hx := B.exec
  have hb := B.bytes
  have hr := B.returns
  have hts := atoms_spec (ws := (ws_ yX8_remainder cX8_remainder 14 (some .long))) B.pre
  have hts : ∀ w ∈ lw_all, w.before _ s = true := fun w h => hts w (List.mem_cons_of_mem _ h)
  have hown : s.vm.findClass RX8 = some m.cls := findClass_of_methodNamed B.named
  have hlocks := B.notSynchronized
  subst hsz
  have hD := hD0.self (sz := s.heap.size)
  generalize hAe : va_A [(am, .inr (0, [.int (I3 th), .int (I3 mn), .ref as_, .ref av, .ref aw, .int (I3 sm), .int (I3 wd), .int (I3 lp), .int (I3 mp), .int (I3 re)])), (as_, .inl (dA 0, 60, .inl (iA SG))), (av, .inl (dA 1, 960, .inr (.inl (lA VL)))), (aw, .inl (dA 1, 1024, .inr (.inl (lA wf))))] s.heap.size = A at hD ⊢
  have hA : ∀ q : Nat, s.heap.size ≤ q → A q := fun q h => by rw [← hAe]; exact Or.inr h
  have hS : va_S A s.heap s.heap [] := va_S.rf
  have hP : va_P (dC, dI) vwCl [(am, .inr (0, [.int (I3 th), .int (I3 mn), .ref as_, .ref av, .ref aw, .int (I3 sm), .int (I3 wd), .int (I3 lp), .int (I3 mp), .int (I3 re)])), (as_, .inl (dA 0, 60, .inl (iA SG))), (av, .inl (dA 1, 960, .inr (.inl (lA VL)))), (aw, .inl (dA 1, 1024, .inr (.inl (lA wf))))] s.heap := hP
  have hl := lv_entry ([.ref am, .long (L6 v), .long (L6 w)]) (n := 14) (Nat.le_of_ble_eq_true rfl)
  rw [lg_entry_eq]
  generalize (lg_sl ([.ref am, .long (L6 v), .long (L6 w)]) ++ List.replicate (14 - (lg_sl ([.ref am, .long (L6 v), .long (L6 w)])).length) Slot.unset).toArray = ls at hl ⊢
  have hl : lv_has ls 14 [(0, .ref am), (1, .long (L6 v)), (3, .long (L6 w))] := hl
  have cut_163 : ∀ (rr : Int) (yy : Int), (¬ noX v) → (¬ noX w) → (¬ infX v) → (fX w ≠ 0) → (¬ infX w) → (rr = remR v w) → (yy = remY v w) → (0 ≤ rr ∧ rr < 9007199254740992) → ∀ (H : Heap) (locs : List Loc), va_P (dC, dI) vwCl [(am, .inr (0, [.int (I3 th), .int (I3 mn), .ref as_, .ref av, .ref aw, .int (I3 sm), .int (I3 wd), .int (I3 lp), .int (I3 mp), .int (I3 re)])), (as_, .inl (dA 0, 60, .inl (iA SG))), (av, .inl (dA 1, 960, .inr (.inl (lA VL)))), (aw, .inl (dA 1, 1024, .inr (.inl (lA wf))))] H → va_D A [(am, .inr (0, [.int (I3 th), .int (I3 mn), .ref as_, .ref av, .ref aw, .int (I3 sm), .int (I3 wd), .int (I3 lp), .int (I3 mp), .int (I3 re)])), (as_, .inl (dA 0, 60, .inl (iA SG))), (av, .inl (dA 1, 960, .inr (.inl (lA VL)))), (aw, .inl (dA 1, 1024, .inr (.inl (lA wf))))] → va_S A s.heap H locs → ∀ (ls : Array Slot), lv_has ls 14 [(0, .ref am), (1, .long (L6 v)), (10, .long (L6 rr)), (12, .int (I3 yy))] → W p l e (headSpec (ws_ yX8_remainder cX8_remainder 14 (some .long)) ({ frames := 5, cells := 0, slots := 0, locals := 200 })).room s m ([.ref am, .long (L6 v), .long (L6 w)] : List Value).toArray below meth c H locs 0 0 (MQ below (QmetX8_remainder dC dI dA A am as_ av aw th mn sm wd lp mp re SG VL wf v w) ([.ref am, .long (L6 v), .long (L6 w)] : List Value).toArray s 0 0 A) (F0 m 163 ls []) := by
    intro rr yy n1 n2 n3 n4 n5 hrr hyy hr2 H locs hP hD hS ls hl
    have xv_ := eX_r v
    have fv_ := fX_r v
    have pv_ := plX_r v
    have qv_ := pX_r v
    have xw_ := eX_r w
    have fw_ := fX_r w
    have pw_ := plX_r w
    have qw_ := pX_r w
    have ry_ := remY_r v w
    refine lv_aload_n hx hb dX8_remainder_163 rfl (lv_at hl 0 rfl) ?_
    refine lv_lload hx hb dX8_remainder_164 (lv_at hl 2 rfl) ?_
    refine lv_iload hx hb dX8_remainder_166 (lv_at hl 3 rfl) ?_
    refine lv_iconst (v := I3 (1)) hx hb dX8_remainder_168 rfl ?_
    have h_1 : Dg wf := by first | assumption | omega | (constructor <;> omega)
    have h_2 : 0 ≤ rr ∧ rr < 9223372036854775808 := by constructor <;> omega
    have h_3 : -100000 ≤ yy ∧ yy ≤ 100000 := by first | assumption | omega | (constructor <;> omega)
    have h_4 : (1 : Int) = 0 ∨ (1 : Int) = 1 := by first | assumption | omega | (constructor <;> omega)
    have hPc := hP.sub (ws' := [(am, .inr (0, [.int (I3 th), .int (I3 mn), .ref as_, .ref av, .ref aw, .int (I3 sm), .int (I3 wd), .int (I3 lp), .int (I3 mp), .int (I3 re)])), (as_, .inl (dA 0, 60, .inl (iA SG))), (av, .inl (dA 1, 960, .inr (.inl (lA VL)))), (aw, .inl (dA 1, 1024, .inr (.inl (lA wf))))]) [0, 1, 2, 3] rfl
    have hDc := hD.sub (ws' := [(am, .inr (0, [.int (I3 th), .int (I3 mn), .ref as_, .ref av, .ref aw, .int (I3 sm), .int (I3 wd), .int (I3 lp), .int (I3 mp), .int (I3 re)])), (as_, .inl (dA 0, 60, .inl (iA SG))), (av, .inl (dA 1, 960, .inr (.inl (lA VL)))), (aw, .inl (dA 1, 1024, .inr (.inl (lA wf))))]) [0, 1, 2, 3] (by decide) rfl
    have hFc := va_free (wc := [(am, .inr (0, [.int (I3 th), .int (I3 mn), .ref as_, .ref av, .ref aw, .int (I3 sm), .int (I3 wd), .int (I3 lp), .int (I3 mp), .int (I3 re)])), (as_, .inl (dA 0, 60, .inl (iA SG))), (av, .inl (dA 1, 960, .inr (.inl (lA VL)))), (aw, .inl (dA 1, 1024, .inr (.inl (lA wf))))]) hD hS hA [0, 1, 2, 3] rfl
    refine va_calll (va_runV (As := [.long (L6 rr), .int (I3 yy), .int (I3 1)]) (rest := []) ⟨hx, hb, hml, hown, hts⟩ (metX8_scaled l dC dI dA am as_ av aw H.size th mn sm wd lp mp re SG VL wf rr yy 1 h_1 h_2 h_3 h_4) (cwV 3 hts (lw_V q1169 q1171 qs51 q66 q1172) rfl rfl rfl (by decide +kernel) ⟨Nat.le_of_ble_eq_true rfl, Nat.le_of_ble_eq_true rfl⟩) ⟨fun a U g mk q => by obtain ⟨q0, q1, qP, qK, qD⟩ := q; exact ⟨q0, q1, qP, va_K.moved (u := U) (U := U.calling g mk a) (Vm.Alike.refl U.vm) qK, qD⟩, va_recv hK hPc (ci := 0) (q0 := 0) rfl rfl, fun U hU hW => ⟨rfl, by rw [hU], by rw [hU]; exact hPc, va_K.moved hW.alike hK, hDc.weaken (fun _ _ _ _ => trivial)⟩⟩ rfl rfl hl.1 rfl (lv_room (Nat.le_of_ble_eq_true rfl)) dX8_remainder_169 ⟨Nat.le_of_ble_eq_true rfl, Nat.le_of_ble_eq_true rfl⟩) hS (fun q _ h => hFc q h) hFc (fun r_169 u t H1 locs ht hvm hw hB hz1 hk1 hS => ?_)
    obtain ⟨z_169, W1_169, wd1_169, lp1_169, mp1_169⟩ := u
    obtain ⟨rfl, p0_169, p1_169, p2_169, p3_169, p4_169, p5_169⟩ : r_169 = L6 z_169 ∧ (Dg W1_169) ∧ (rr = 0 → z_169 = 0) ∧ (rr ≠ 0 → (1 : Int) = 1 → rnB 64 (rr.toNat * 2 ^ yy.toNat) (2 ^ (-yy).toNat) 0 1 z_169) ∧ (rr ≠ 0 → (1 : Int) = 0 → rnB 32 (rr.toNat * 2 ^ yy.toNat) (2 ^ (-yy).toNat) 0 1 z_169) ∧ (0 ≤ z_169 ∧ z_169 ≤ 9218868437227405312) ∧ ((1 : Int) = 0 → z_169 ≤ 2139095040) := hw
    obtain ⟨hP1, hK1, hD1⟩ := hB
    rw [ht] at hP1
    obtain ⟨hP, hD⟩ := va_join (wr := []) (w1 := [(am, .inr (0, [.int (I3 th), .int (I3 mn), .ref as_, .ref av, .ref aw, .int (I3 sm), .int (I3 wd1_169), .int (I3 lp1_169), .int (I3 mp1_169), .int (I3 re)])), (as_, .inl (dA 0, 60, .inl (iA SG))), (av, .inl (dA 1, 960, .inr (.inl (lA VL)))), (aw, .inl (dA 1, 1024, .inr (.inl (lA W1_169))))]) hP hD [0, 1, 2, 3] [] rfl rfl (by decide) (by decide) hk1 hFc hP1 hD1
    generalize H1 = H at hP hS ⊢
    have hP : va_P (dC, dI) vwCl [(am, .inr (0, [.int (I3 th), .int (I3 mn), .ref as_, .ref av, .ref aw, .int (I3 sm), .int (I3 wd1_169), .int (I3 lp1_169), .int (I3 mp1_169), .int (I3 re)])), (as_, .inl (dA 0, 60, .inl (iA SG))), (av, .inl (dA 1, 960, .inr (.inl (lA VL)))), (aw, .inl (dA 1, 1024, .inr (.inl (lA W1_169))))] H := hP
    have hD : va_D A [(am, .inr (0, [.int (I3 th), .int (I3 mn), .ref as_, .ref av, .ref aw, .int (I3 sm), .int (I3 wd1_169), .int (I3 lp1_169), .int (I3 mp1_169), .int (I3 re)])), (as_, .inl (dA 0, 60, .inl (iA SG))), (av, .inl (dA 1, 960, .inr (.inl (lA VL)))), (aw, .inl (dA 1, 1024, .inr (.inl (lA W1_169))))] := hD
    refine lv_lload_n hx hb dX8_remainder_172 rfl (lv_at hl 1 rfl) ?_
    refine lv_ldc2 hx hb hown (hts _ q1153) dX8_remainder_173 ?_
    refine ix_vl (x := (-9223372036854775808)) (by decide) ?_
    refine ix_land hx hb dX8_remainder_176 ?_
    refine ix_tl (y := (if v < 0 then -9223372036854775808 else 0)) (by exact zand6_sg hv) ?_
    refine ix_lor hx hb dX8_remainder_177 ?_
    refine ix_tl (y := sgb v z_169) (by exact sgb_or (by omega)) ?_
    have o_5 : Dg W1_169 := by first | assumption | omega | (constructor <;> omega)
    have o_6 : rmX v w (sgb v z_169) := by exact ⟨fun q => by exfalso; omega, fun _ => ⟨fun q => absurd q n5, fun _ => ⟨z_169, ⟨fun q => p1_169 (by omega), fun q => by rw [← hrr, ← hyy]; exact p2_169 (by omega) rfl⟩, rfl⟩⟩⟩
    exact W.lret (v := L6 (sgb v z_169)) hx hb hr (fun t ht hW => ⟨⟨L6 (sgb v z_169), ((sgb v z_169), W1_169, wd1_169, lp1_169, mp1_169), rfl, ⟨rfl, ⟨o_5, o_6⟩⟩, by rw [ht]; exact hP, va_K.moved hW.alike hK, hD⟩, hS.F ht⟩) hS.2.2 dX8_remainder_178
  have cut_98 : ∀ (fuel_98 : Nat), ∀ (n : Int) (d : Int) (rr : Int) (k : Int) (yy : Int), (¬ noX v) → (¬ noX w) → (¬ infX v) → (fX w ≠ 0) → (¬ infX w) → (n = fX w) → (d = plX v - plX w) → (0 ≤ d) → (0 ≤ k ∧ k ≤ d) → (rr = fX v * 2 ^ k.toNat % fX w) → ((d - k).toNat < fuel_98) → ∀ (H : Heap) (locs : List Loc), va_P (dC, dI) vwCl [(am, .inr (0, [.int (I3 th), .int (I3 mn), .ref as_, .ref av, .ref aw, .int (I3 sm), .int (I3 wd), .int (I3 lp), .int (I3 mp), .int (I3 re)])), (as_, .inl (dA 0, 60, .inl (iA SG))), (av, .inl (dA 1, 960, .inr (.inl (lA VL)))), (aw, .inl (dA 1, 1024, .inr (.inl (lA wf))))] H → va_D A [(am, .inr (0, [.int (I3 th), .int (I3 mn), .ref as_, .ref av, .ref aw, .int (I3 sm), .int (I3 wd), .int (I3 lp), .int (I3 mp), .int (I3 re)])), (as_, .inl (dA 0, 60, .inl (iA SG))), (av, .inl (dA 1, 960, .inr (.inl (lA VL)))), (aw, .inl (dA 1, 1024, .inr (.inl (lA wf))))] → va_S A s.heap H locs → ∀ (ls : Array Slot), lv_has ls 14 [(0, .ref am), (1, .long (L6 v)), (3, .long (L6 w)), (7, .long (L6 n)), (9, .int (I3 d)), (10, .long (L6 rr)), (12, .int (I3 yy)), (13, .int (I3 k))] → W p l e (headSpec (ws_ yX8_remainder cX8_remainder 14 (some .long)) ({ frames := 5, cells := 0, slots := 0, locals := 200 })).room s m ([.ref am, .long (L6 v), .long (L6 w)] : List Value).toArray below meth c H locs 0 0 (MQ below (QmetX8_remainder dC dI dA A am as_ av aw th mn sm wd lp mp re SG VL wf v w) ([.ref am, .long (L6 v), .long (L6 w)] : List Value).toArray s 0 0 A) (F0 m 98 ls []) := by
    intro fuel_98
    induction fuel_98 with
    | zero =>
      intro n d rr k yy n1 n2 n3 n4 n5 hn hdd hd0 hk hrm hm
      exact absurd hm (Nat.not_lt_zero _)
    | succ fuel_98 ih_98 =>
      intro n d rr k yy n1 n2 n3 n4 n5 hn hdd hd0 hk hrm hm_98 H locs hP hD hS ls hl
      have xv_ := eX_r v
      have fv_ := fX_r v
      have pv_ := plX_r v
      have qv_ := pX_r v
      have xw_ := eX_r w
      have fw_ := fX_r w
      have pw_ := plX_r w
      have qw_ := pX_r w
      have ry_ := remY_r v w
      have rr_ : 0 ≤ rr ∧ rr < 9007199254740992 := ⟨by rw [hrm]; exact Int.emod_nonneg _ (by omega), by rw [hrm]; have := Int.emod_lt_of_pos (fX v * 2 ^ k.toNat) (show 0 < fX w by omega); omega⟩
      refine lv_iload hx hb dX8_remainder_98 (lv_at hl 7 rfl) ?_
      refine lv_iload hx hb dX8_remainder_100 (lv_at hl 4 rfl) ?_
      refine ix_icmp_ge (tgt := 122) hx hb (by first | assumption | decide | (constructor <;> omega)) (by first | assumption | decide | (constructor <;> omega)) dX8_remainder_102 (by decide) (fun c_102 => ?_) (fun c_102 => ?_)
      · skip
        refine lv_lload_n hx hb dX8_remainder_122 rfl (lv_at hl 2 rfl) ?_
        have h_7 : In6 w := by first | assumption | omega | (constructor <;> omega)
        have hPc := hP.sub (ws' := []) [] rfl
        have hDc := hD.sub (ws' := []) [] (by decide) rfl
        have hFc := va_free (wc := []) hD hS hA [] rfl
        refine va_calli (va_runS (As := [.long (L6 w)]) (rest := []) ⟨hx, hb, hml, hown, hts⟩ (metX8_place l dC dI dA H.size w h_7) (va_cwS 1 hts (lw_S q1040 q1041 q66 q1042) rfl rfl rfl (by decide +kernel) ⟨Nat.le_of_ble_eq_true rfl, Nat.le_of_ble_eq_true rfl⟩) ⟨fun a U g mk q => by obtain ⟨q0, q1, qP, qK, qD⟩ := q; exact ⟨q0, q1, qP, va_K.moved (u := U) (U := U.calling g mk a) (Vm.Alike.refl U.vm) qK, qD⟩, fun U hU hW => ⟨rfl, by rw [hU], by rw [hU]; exact hPc, va_K.moved hW.alike hK, hDc.weaken (fun _ _ _ _ => trivial)⟩⟩ rfl rfl hl.1 rfl (lv_room (Nat.le_of_ble_eq_true rfl)) dX8_remainder_123 ⟨Nat.le_of_ble_eq_true rfl, Nat.le_of_ble_eq_true rfl⟩) hS (fun q _ h => hFc q h) hFc (fun r_123 u t H1 locs ht hvm hw hB hz1 hk1 hS => ?_)
        obtain ⟨z_123, rfl⟩ : ∃ z, z = u := ⟨_, rfl⟩
        obtain ⟨rfl, p0_123⟩ : r_123 = I3 z_123 ∧ (z_123 = plX w) := hw
        obtain ⟨hP1, hK1, hD1⟩ := hB
        rw [ht] at hP1
        obtain ⟨hP, hD⟩ := va_join (wr := [(am, .inr (0, [.int (I3 th), .int (I3 mn), .ref as_, .ref av, .ref aw, .int (I3 sm), .int (I3 wd), .int (I3 lp), .int (I3 mp), .int (I3 re)])), (as_, .inl (dA 0, 60, .inl (iA SG))), (av, .inl (dA 1, 960, .inr (.inl (lA VL)))), (aw, .inl (dA 1, 1024, .inr (.inl (lA wf))))]) (w1 := []) hP hD [] [0, 1, 2, 3] rfl rfl (by decide) (by decide) hk1 hFc hP1 hD1
        generalize H1 = H at hP hS ⊢
        have hP : va_P (dC, dI) vwCl [(am, .inr (0, [.int (I3 th), .int (I3 mn), .ref as_, .ref av, .ref aw, .int (I3 sm), .int (I3 wd), .int (I3 lp), .int (I3 mp), .int (I3 re)])), (as_, .inl (dA 0, 60, .inl (iA SG))), (av, .inl (dA 1, 960, .inr (.inl (lA VL)))), (aw, .inl (dA 1, 1024, .inr (.inl (lA wf))))] H := hP
        have hD : va_D A [(am, .inr (0, [.int (I3 th), .int (I3 mn), .ref as_, .ref av, .ref aw, .int (I3 sm), .int (I3 wd), .int (I3 lp), .int (I3 mp), .int (I3 re)])), (as_, .inl (dA 0, 60, .inl (iA SG))), (av, .inl (dA 1, 960, .inr (.inl (lA VL)))), (aw, .inl (dA 1, 1024, .inr (.inl (lA wf))))] := hD
        refine lv_istore (lv' := [(12, .int (I3 z_123)), (0, .ref am), (1, .long (L6 v)), (3, .long (L6 w)), (7, .long (L6 n)), (9, .int (I3 d)), (10, .long (L6 rr)), (13, .int (I3 k))]) hx hb dX8_remainder_126 hl (by decide) rfl (fun ls hl => ?_)
        refine lv_goto (tgt := 163) hx hb dX8_remainder_128 (by decide) ?_
        have hE := rm_e (v := v) (w := w) hdd hd0 (show k = d by omega) hrm
        have rr_ : 0 ≤ rr ∧ rr < 9007199254740992 := ⟨by rw [hrm]; exact Int.emod_nonneg _ (by omega), by rw [hrm]; have := Int.emod_lt_of_pos (fX v * 2 ^ k.toNat) (show 0 < fX w by omega); omega⟩
        have e_8 : ¬ noX v := by first | assumption | omega | (constructor <;> omega)
        have e_9 : ¬ noX w := by first | assumption | omega | (constructor <;> omega)
        have e_10 : ¬ infX v := by first | assumption | omega | (constructor <;> omega)
        have e_11 : fX w ≠ 0 := by first | assumption | omega | (constructor <;> omega)
        have e_12 : ¬ infX w := by first | assumption | omega | (constructor <;> omega)
        have e_13 : rr = remR v w := by exact hE.1
        have e_14 : z_123 = remY v w := by rw [p0_123]; exact hE.2
        have e_15 : 0 ≤ rr ∧ rr < 9007199254740992 := by exact rr_
        exact cut_163 rr z_123 e_8 e_9 e_10 e_11 e_12 e_13 e_14 e_15 _ _ hP hD hS ls (lv_sub hl [1, 2, 6, 0] rfl)
      · skip
        refine lv_ldc2 hx hb hown (hts _ q1168) dX8_remainder_105 ?_
        refine ix_vl (x := (2)) (by decide) ?_
        refine lv_lload hx hb dX8_remainder_108 (lv_at hl 5 rfl) ?_
        refine ix_lmul hx hb dX8_remainder_110 ?_
        refine lv_lload hx hb dX8_remainder_111 (lv_at hl 3 rfl) ?_
        refine ix_lrem hx hb (by constructor <;> omega) (by first | decide | (constructor <;> omega)) (by first | decide | omega) (by omega) dX8_remainder_113 ?_
        refine lv_lstore (lv' := [(10, .long (L6 ((2 * rr).tmod n))), (0, .ref am), (1, .long (L6 v)), (3, .long (L6 w)), (7, .long (L6 n)), (9, .int (I3 d)), (12, .int (I3 yy)), (13, .int (I3 k))]) hx hb dX8_remainder_114 hl (by decide) rfl (fun ls hl => ?_)
        refine lv_iinc (v := I3 (k + 1)) (lv' := [(13, .int (I3 (k + 1))), (10, .long (L6 ((2 * rr).tmod n))), (0, .ref am), (1, .long (L6 v)), (3, .long (L6 w)), (7, .long (L6 n)), (9, .int (I3 d)), (12, .int (I3 yy))]) hx hb dX8_remainder_116 hl (k := 7) rfl (I3_add _ _) (by decide) rfl (fun ls hl => ?_)
        refine lv_goto (tgt := 98) hx hb dX8_remainder_119 (by decide) ?_
        have e_16 : ¬ noX v := by first | assumption | omega | (constructor <;> omega)
        have e_17 : ¬ noX w := by first | assumption | omega | (constructor <;> omega)
        have e_18 : ¬ infX v := by first | assumption | omega | (constructor <;> omega)
        have e_19 : fX w ≠ 0 := by first | assumption | omega | (constructor <;> omega)
        have e_20 : ¬ infX w := by first | assumption | omega | (constructor <;> omega)
        have e_21 : n = fX w := by exact hn
        have e_22 : d = plX v - plX w := by first | assumption | omega | (constructor <;> omega)
        have e_23 : 0 ≤ d := by first | assumption | omega | (constructor <;> omega)
        have e_24 : 0 ≤ (k + 1) ∧ (k + 1) ≤ d := by first | assumption | omega | (constructor <;> omega)
        have e_25 : ((2 * rr).tmod n) = fX v * 2 ^ (k + 1).toNat % fX w := by rw [hn]; exact rm_s (by omega) (by omega) hrm
        have e_26 : (d - (k + 1)).toNat < fuel_98 := by omega
        exact ih_98 n d ((2 * rr).tmod n) (k + 1) yy e_16 e_17 e_18 e_19 e_20 e_21 e_22 e_23 e_24 e_25 e_26 _ _ hP hD hS ls (lv_sub hl [2, 3, 4, 5, 6, 1, 7, 0] rfl)
  have cut_50 : (¬ noX v) → (¬ noX w) → (¬ infX v) → (fX w ≠ 0) → (¬ infX w) → ∀ (H : Heap) (locs : List Loc), va_P (dC, dI) vwCl [(am, .inr (0, [.int (I3 th), .int (I3 mn), .ref as_, .ref av, .ref aw, .int (I3 sm), .int (I3 wd), .int (I3 lp), .int (I3 mp), .int (I3 re)])), (as_, .inl (dA 0, 60, .inl (iA SG))), (av, .inl (dA 1, 960, .inr (.inl (lA VL)))), (aw, .inl (dA 1, 1024, .inr (.inl (lA wf))))] H → va_D A [(am, .inr (0, [.int (I3 th), .int (I3 mn), .ref as_, .ref av, .ref aw, .int (I3 sm), .int (I3 wd), .int (I3 lp), .int (I3 mp), .int (I3 re)])), (as_, .inl (dA 0, 60, .inl (iA SG))), (av, .inl (dA 1, 960, .inr (.inl (lA VL)))), (aw, .inl (dA 1, 1024, .inr (.inl (lA wf))))] → va_S A s.heap H locs → ∀ (ls : Array Slot), lv_has ls 14 [(0, .ref am), (1, .long (L6 v)), (3, .long (L6 w))] → W p l e (headSpec (ws_ yX8_remainder cX8_remainder 14 (some .long)) ({ frames := 5, cells := 0, slots := 0, locals := 200 })).room s m ([.ref am, .long (L6 v), .long (L6 w)] : List Value).toArray below meth c H locs 0 0 (MQ below (QmetX8_remainder dC dI dA A am as_ av aw th mn sm wd lp mp re SG VL wf v w) ([.ref am, .long (L6 v), .long (L6 w)] : List Value).toArray s 0 0 A) (F0 m 50 ls []) := by
    intro  n1 n2 n3 n4 n5 H locs hP hD hS ls hl
    have xv_ := eX_r v
    have fv_ := fX_r v
    have pv_ := plX_r v
    have qv_ := pX_r v
    have xw_ := eX_r w
    have fw_ := fX_r w
    have pw_ := plX_r w
    have qw_ := pX_r w
    have ry_ := remY_r v w
    refine lv_lload_n hx hb dX8_remainder_50 rfl (lv_at hl 1 rfl) ?_
    have h_27 : In6 v := by first | assumption | omega | (constructor <;> omega)
    have hPc := hP.sub (ws' := []) [] rfl
    have hDc := hD.sub (ws' := []) [] (by decide) rfl
    have hFc := va_free (wc := []) hD hS hA [] rfl
    refine va_calll (va_runS (As := [.long (L6 v)]) (rest := []) ⟨hx, hb, hml, hown, hts⟩ (metX8_factor l dC dI dA H.size v h_27) (va_cwS 1 hts (lw_S q1032 q1033 q66 q1034) rfl rfl rfl (by decide +kernel) ⟨Nat.le_of_ble_eq_true rfl, Nat.le_of_ble_eq_true rfl⟩) ⟨fun a U g mk q => by obtain ⟨q0, q1, qP, qK, qD⟩ := q; exact ⟨q0, q1, qP, va_K.moved (u := U) (U := U.calling g mk a) (Vm.Alike.refl U.vm) qK, qD⟩, fun U hU hW => ⟨rfl, by rw [hU], by rw [hU]; exact hPc, va_K.moved hW.alike hK, hDc.weaken (fun _ _ _ _ => trivial)⟩⟩ rfl rfl hl.1 rfl (lv_room (Nat.le_of_ble_eq_true rfl)) dX8_remainder_51 ⟨Nat.le_of_ble_eq_true rfl, Nat.le_of_ble_eq_true rfl⟩) hS (fun q _ h => hFc q h) hFc (fun r_51 u t H1 locs ht hvm hw hB hz1 hk1 hS => ?_)
    obtain ⟨z_51, rfl⟩ : ∃ z, z = u := ⟨_, rfl⟩
    obtain ⟨rfl, p0_51⟩ : r_51 = L6 z_51 ∧ (z_51 = fX v) := hw
    obtain ⟨hP1, hK1, hD1⟩ := hB
    rw [ht] at hP1
    obtain ⟨hP, hD⟩ := va_join (wr := [(am, .inr (0, [.int (I3 th), .int (I3 mn), .ref as_, .ref av, .ref aw, .int (I3 sm), .int (I3 wd), .int (I3 lp), .int (I3 mp), .int (I3 re)])), (as_, .inl (dA 0, 60, .inl (iA SG))), (av, .inl (dA 1, 960, .inr (.inl (lA VL)))), (aw, .inl (dA 1, 1024, .inr (.inl (lA wf))))]) (w1 := []) hP hD [] [0, 1, 2, 3] rfl rfl (by decide) (by decide) hk1 hFc hP1 hD1
    generalize H1 = H at hP hS ⊢
    have hP : va_P (dC, dI) vwCl [(am, .inr (0, [.int (I3 th), .int (I3 mn), .ref as_, .ref av, .ref aw, .int (I3 sm), .int (I3 wd), .int (I3 lp), .int (I3 mp), .int (I3 re)])), (as_, .inl (dA 0, 60, .inl (iA SG))), (av, .inl (dA 1, 960, .inr (.inl (lA VL)))), (aw, .inl (dA 1, 1024, .inr (.inl (lA wf))))] H := hP
    have hD : va_D A [(am, .inr (0, [.int (I3 th), .int (I3 mn), .ref as_, .ref av, .ref aw, .int (I3 sm), .int (I3 wd), .int (I3 lp), .int (I3 mp), .int (I3 re)])), (as_, .inl (dA 0, 60, .inl (iA SG))), (av, .inl (dA 1, 960, .inr (.inl (lA VL)))), (aw, .inl (dA 1, 1024, .inr (.inl (lA wf))))] := hD
    refine lv_lstore (lv' := [(5, .long (L6 z_51)), (0, .ref am), (1, .long (L6 v)), (3, .long (L6 w))]) hx hb dX8_remainder_54 hl (by decide) rfl (fun ls hl => ?_)
    refine lv_lload_n hx hb dX8_remainder_56 rfl (lv_at hl 3 rfl) ?_
    have h_28 : In6 w := by first | assumption | omega | (constructor <;> omega)
    have hPc := hP.sub (ws' := []) [] rfl
    have hDc := hD.sub (ws' := []) [] (by decide) rfl
    have hFc := va_free (wc := []) hD hS hA [] rfl
    refine va_calll (va_runS (As := [.long (L6 w)]) (rest := []) ⟨hx, hb, hml, hown, hts⟩ (metX8_factor l dC dI dA H.size w h_28) (va_cwS 1 hts (lw_S q1032 q1033 q66 q1034) rfl rfl rfl (by decide +kernel) ⟨Nat.le_of_ble_eq_true rfl, Nat.le_of_ble_eq_true rfl⟩) ⟨fun a U g mk q => by obtain ⟨q0, q1, qP, qK, qD⟩ := q; exact ⟨q0, q1, qP, va_K.moved (u := U) (U := U.calling g mk a) (Vm.Alike.refl U.vm) qK, qD⟩, fun U hU hW => ⟨rfl, by rw [hU], by rw [hU]; exact hPc, va_K.moved hW.alike hK, hDc.weaken (fun _ _ _ _ => trivial)⟩⟩ rfl rfl hl.1 rfl (lv_room (Nat.le_of_ble_eq_true rfl)) dX8_remainder_57 ⟨Nat.le_of_ble_eq_true rfl, Nat.le_of_ble_eq_true rfl⟩) hS (fun q _ h => hFc q h) hFc (fun r_57 u t H1 locs ht hvm hw hB hz1 hk1 hS => ?_)
    obtain ⟨z_57, rfl⟩ : ∃ z, z = u := ⟨_, rfl⟩
    obtain ⟨rfl, p0_57⟩ : r_57 = L6 z_57 ∧ (z_57 = fX w) := hw
    obtain ⟨hP1, hK1, hD1⟩ := hB
    rw [ht] at hP1
    obtain ⟨hP, hD⟩ := va_join (wr := [(am, .inr (0, [.int (I3 th), .int (I3 mn), .ref as_, .ref av, .ref aw, .int (I3 sm), .int (I3 wd), .int (I3 lp), .int (I3 mp), .int (I3 re)])), (as_, .inl (dA 0, 60, .inl (iA SG))), (av, .inl (dA 1, 960, .inr (.inl (lA VL)))), (aw, .inl (dA 1, 1024, .inr (.inl (lA wf))))]) (w1 := []) hP hD [] [0, 1, 2, 3] rfl rfl (by decide) (by decide) hk1 hFc hP1 hD1
    generalize H1 = H at hP hS ⊢
    have hP : va_P (dC, dI) vwCl [(am, .inr (0, [.int (I3 th), .int (I3 mn), .ref as_, .ref av, .ref aw, .int (I3 sm), .int (I3 wd), .int (I3 lp), .int (I3 mp), .int (I3 re)])), (as_, .inl (dA 0, 60, .inl (iA SG))), (av, .inl (dA 1, 960, .inr (.inl (lA VL)))), (aw, .inl (dA 1, 1024, .inr (.inl (lA wf))))] H := hP
    have hD : va_D A [(am, .inr (0, [.int (I3 th), .int (I3 mn), .ref as_, .ref av, .ref aw, .int (I3 sm), .int (I3 wd), .int (I3 lp), .int (I3 mp), .int (I3 re)])), (as_, .inl (dA 0, 60, .inl (iA SG))), (av, .inl (dA 1, 960, .inr (.inl (lA VL)))), (aw, .inl (dA 1, 1024, .inr (.inl (lA wf))))] := hD
    refine lv_lstore (lv' := [(7, .long (L6 z_57)), (5, .long (L6 z_51)), (0, .ref am), (1, .long (L6 v)), (3, .long (L6 w))]) hx hb dX8_remainder_60 hl (by decide) rfl (fun ls hl => ?_)
    refine lv_lload_n hx hb dX8_remainder_62 rfl (lv_at hl 3 rfl) ?_
    have h_29 : In6 v := by first | assumption | omega | (constructor <;> omega)
    have hPc := hP.sub (ws' := []) [] rfl
    have hDc := hD.sub (ws' := []) [] (by decide) rfl
    have hFc := va_free (wc := []) hD hS hA [] rfl
    refine va_calli (va_runS (As := [.long (L6 v)]) (rest := []) ⟨hx, hb, hml, hown, hts⟩ (metX8_place l dC dI dA H.size v h_29) (va_cwS 1 hts (lw_S q1040 q1041 q66 q1042) rfl rfl rfl (by decide +kernel) ⟨Nat.le_of_ble_eq_true rfl, Nat.le_of_ble_eq_true rfl⟩) ⟨fun a U g mk q => by obtain ⟨q0, q1, qP, qK, qD⟩ := q; exact ⟨q0, q1, qP, va_K.moved (u := U) (U := U.calling g mk a) (Vm.Alike.refl U.vm) qK, qD⟩, fun U hU hW => ⟨rfl, by rw [hU], by rw [hU]; exact hPc, va_K.moved hW.alike hK, hDc.weaken (fun _ _ _ _ => trivial)⟩⟩ rfl rfl hl.1 rfl (lv_room (Nat.le_of_ble_eq_true rfl)) dX8_remainder_63 ⟨Nat.le_of_ble_eq_true rfl, Nat.le_of_ble_eq_true rfl⟩) hS (fun q _ h => hFc q h) hFc (fun r_63 u t H1 locs ht hvm hw hB hz1 hk1 hS => ?_)
    obtain ⟨z_63, rfl⟩ : ∃ z, z = u := ⟨_, rfl⟩
    obtain ⟨rfl, p0_63⟩ : r_63 = I3 z_63 ∧ (z_63 = plX v) := hw
    obtain ⟨hP1, hK1, hD1⟩ := hB
    rw [ht] at hP1
    obtain ⟨hP, hD⟩ := va_join (wr := [(am, .inr (0, [.int (I3 th), .int (I3 mn), .ref as_, .ref av, .ref aw, .int (I3 sm), .int (I3 wd), .int (I3 lp), .int (I3 mp), .int (I3 re)])), (as_, .inl (dA 0, 60, .inl (iA SG))), (av, .inl (dA 1, 960, .inr (.inl (lA VL)))), (aw, .inl (dA 1, 1024, .inr (.inl (lA wf))))]) (w1 := []) hP hD [] [0, 1, 2, 3] rfl rfl (by decide) (by decide) hk1 hFc hP1 hD1
    generalize H1 = H at hP hS ⊢
    have hP : va_P (dC, dI) vwCl [(am, .inr (0, [.int (I3 th), .int (I3 mn), .ref as_, .ref av, .ref aw, .int (I3 sm), .int (I3 wd), .int (I3 lp), .int (I3 mp), .int (I3 re)])), (as_, .inl (dA 0, 60, .inl (iA SG))), (av, .inl (dA 1, 960, .inr (.inl (lA VL)))), (aw, .inl (dA 1, 1024, .inr (.inl (lA wf))))] H := hP
    have hD : va_D A [(am, .inr (0, [.int (I3 th), .int (I3 mn), .ref as_, .ref av, .ref aw, .int (I3 sm), .int (I3 wd), .int (I3 lp), .int (I3 mp), .int (I3 re)])), (as_, .inl (dA 0, 60, .inl (iA SG))), (av, .inl (dA 1, 960, .inr (.inl (lA VL)))), (aw, .inl (dA 1, 1024, .inr (.inl (lA wf))))] := hD
    refine lv_lload_n hx hb dX8_remainder_66 rfl (lv_at hl 4 rfl) ?_
    have h_30 : In6 w := by first | assumption | omega | (constructor <;> omega)
    have hPc := hP.sub (ws' := []) [] rfl
    have hDc := hD.sub (ws' := []) [] (by decide) rfl
    have hFc := va_free (wc := []) hD hS hA [] rfl
    refine va_calli (va_runS (As := [.long (L6 w)]) (rest := [.int (I3 z_63)]) ⟨hx, hb, hml, hown, hts⟩ (metX8_place l dC dI dA H.size w h_30) (va_cwS 1 hts (lw_S q1040 q1041 q66 q1042) rfl rfl rfl (by decide +kernel) ⟨Nat.le_of_ble_eq_true rfl, Nat.le_of_ble_eq_true rfl⟩) ⟨fun a U g mk q => by obtain ⟨q0, q1, qP, qK, qD⟩ := q; exact ⟨q0, q1, qP, va_K.moved (u := U) (U := U.calling g mk a) (Vm.Alike.refl U.vm) qK, qD⟩, fun U hU hW => ⟨rfl, by rw [hU], by rw [hU]; exact hPc, va_K.moved hW.alike hK, hDc.weaken (fun _ _ _ _ => trivial)⟩⟩ rfl rfl hl.1 rfl (lv_room (Nat.le_of_ble_eq_true rfl)) dX8_remainder_67 ⟨Nat.le_of_ble_eq_true rfl, Nat.le_of_ble_eq_true rfl⟩) hS (fun q _ h => hFc q h) hFc (fun r_67 u t H1 locs ht hvm hw hB hz1 hk1 hS => ?_)
    obtain ⟨z_67, rfl⟩ : ∃ z, z = u := ⟨_, rfl⟩
    obtain ⟨rfl, p0_67⟩ : r_67 = I3 z_67 ∧ (z_67 = plX w) := hw
    obtain ⟨hP1, hK1, hD1⟩ := hB
    rw [ht] at hP1
    obtain ⟨hP, hD⟩ := va_join (wr := [(am, .inr (0, [.int (I3 th), .int (I3 mn), .ref as_, .ref av, .ref aw, .int (I3 sm), .int (I3 wd), .int (I3 lp), .int (I3 mp), .int (I3 re)])), (as_, .inl (dA 0, 60, .inl (iA SG))), (av, .inl (dA 1, 960, .inr (.inl (lA VL)))), (aw, .inl (dA 1, 1024, .inr (.inl (lA wf))))]) (w1 := []) hP hD [] [0, 1, 2, 3] rfl rfl (by decide) (by decide) hk1 hFc hP1 hD1
    generalize H1 = H at hP hS ⊢
    have hP : va_P (dC, dI) vwCl [(am, .inr (0, [.int (I3 th), .int (I3 mn), .ref as_, .ref av, .ref aw, .int (I3 sm), .int (I3 wd), .int (I3 lp), .int (I3 mp), .int (I3 re)])), (as_, .inl (dA 0, 60, .inl (iA SG))), (av, .inl (dA 1, 960, .inr (.inl (lA VL)))), (aw, .inl (dA 1, 1024, .inr (.inl (lA wf))))] H := hP
    have hD : va_D A [(am, .inr (0, [.int (I3 th), .int (I3 mn), .ref as_, .ref av, .ref aw, .int (I3 sm), .int (I3 wd), .int (I3 lp), .int (I3 mp), .int (I3 re)])), (as_, .inl (dA 0, 60, .inl (iA SG))), (av, .inl (dA 1, 960, .inr (.inl (lA VL)))), (aw, .inl (dA 1, 1024, .inr (.inl (lA wf))))] := hD
    refine ix_isub hx hb dX8_remainder_70 ?_
    refine lv_istore (lv' := [(9, .int (I3 (z_63 - z_67))), (7, .long (L6 z_57)), (5, .long (L6 z_51)), (0, .ref am), (1, .long (L6 v)), (3, .long (L6 w))]) hx hb dX8_remainder_71 hl (by decide) rfl (fun ls hl => ?_)
    refine lv_lload hx hb dX8_remainder_73 (lv_at hl 2 rfl) ?_
    refine lv_lstore (lv' := [(10, .long (L6 z_51)), (9, .int (I3 (z_63 - z_67))), (7, .long (L6 z_57)), (5, .long (L6 z_51)), (0, .ref am), (1, .long (L6 v)), (3, .long (L6 w))]) hx hb dX8_remainder_75 hl (by decide) rfl (fun ls hl => ?_)
    refine lv_lload_n hx hb dX8_remainder_77 rfl (lv_at hl 5 rfl) ?_
    have h_31 : In6 v := by first | assumption | omega | (constructor <;> omega)
    have hPc := hP.sub (ws' := []) [] rfl
    have hDc := hD.sub (ws' := []) [] (by decide) rfl
    have hFc := va_free (wc := []) hD hS hA [] rfl
    refine va_calli (va_runS (As := [.long (L6 v)]) (rest := []) ⟨hx, hb, hml, hown, hts⟩ (metX8_place l dC dI dA H.size v h_31) (va_cwS 1 hts (lw_S q1040 q1041 q66 q1042) rfl rfl rfl (by decide +kernel) ⟨Nat.le_of_ble_eq_true rfl, Nat.le_of_ble_eq_true rfl⟩) ⟨fun a U g mk q => by obtain ⟨q0, q1, qP, qK, qD⟩ := q; exact ⟨q0, q1, qP, va_K.moved (u := U) (U := U.calling g mk a) (Vm.Alike.refl U.vm) qK, qD⟩, fun U hU hW => ⟨rfl, by rw [hU], by rw [hU]; exact hPc, va_K.moved hW.alike hK, hDc.weaken (fun _ _ _ _ => trivial)⟩⟩ rfl rfl hl.1 rfl (lv_room (Nat.le_of_ble_eq_true rfl)) dX8_remainder_78 ⟨Nat.le_of_ble_eq_true rfl, Nat.le_of_ble_eq_true rfl⟩) hS (fun q _ h => hFc q h) hFc (fun r_78 u t H1 locs ht hvm hw hB hz1 hk1 hS => ?_)
    obtain ⟨z_78, rfl⟩ : ∃ z, z = u := ⟨_, rfl⟩
    obtain ⟨rfl, p0_78⟩ : r_78 = I3 z_78 ∧ (z_78 = plX v) := hw
    obtain ⟨hP1, hK1, hD1⟩ := hB
    rw [ht] at hP1
    obtain ⟨hP, hD⟩ := va_join (wr := [(am, .inr (0, [.int (I3 th), .int (I3 mn), .ref as_, .ref av, .ref aw, .int (I3 sm), .int (I3 wd), .int (I3 lp), .int (I3 mp), .int (I3 re)])), (as_, .inl (dA 0, 60, .inl (iA SG))), (av, .inl (dA 1, 960, .inr (.inl (lA VL)))), (aw, .inl (dA 1, 1024, .inr (.inl (lA wf))))]) (w1 := []) hP hD [] [0, 1, 2, 3] rfl rfl (by decide) (by decide) hk1 hFc hP1 hD1
    generalize H1 = H at hP hS ⊢
    have hP : va_P (dC, dI) vwCl [(am, .inr (0, [.int (I3 th), .int (I3 mn), .ref as_, .ref av, .ref aw, .int (I3 sm), .int (I3 wd), .int (I3 lp), .int (I3 mp), .int (I3 re)])), (as_, .inl (dA 0, 60, .inl (iA SG))), (av, .inl (dA 1, 960, .inr (.inl (lA VL)))), (aw, .inl (dA 1, 1024, .inr (.inl (lA wf))))] H := hP
    have hD : va_D A [(am, .inr (0, [.int (I3 th), .int (I3 mn), .ref as_, .ref av, .ref aw, .int (I3 sm), .int (I3 wd), .int (I3 lp), .int (I3 mp), .int (I3 re)])), (as_, .inl (dA 0, 60, .inl (iA SG))), (av, .inl (dA 1, 960, .inr (.inl (lA VL)))), (aw, .inl (dA 1, 1024, .inr (.inl (lA wf))))] := hD
    refine lv_istore (lv' := [(12, .int (I3 z_78)), (10, .long (L6 z_51)), (9, .int (I3 (z_63 - z_67))), (7, .long (L6 z_57)), (5, .long (L6 z_51)), (0, .ref am), (1, .long (L6 v)), (3, .long (L6 w))]) hx hb dX8_remainder_81 hl (by decide) rfl (fun ls hl => ?_)
    refine lv_iload hx hb dX8_remainder_83 (lv_at hl 2 rfl) ?_
    refine ix_if_lt (tgt := 131) hx hb (by first | assumption | decide | (constructor <;> omega)) dX8_remainder_85 (by decide) (fun c_85 => ?_) (fun c_85 => ?_)
    · skip
      refine lv_iload hx hb dX8_remainder_131 (lv_at hl 2 rfl) ?_
      refine ix_ineg hx hb dX8_remainder_133 ?_
      refine lv_bipush (v := I3 (53)) hx hb dX8_remainder_134 (by decide) ?_
      refine ix_icmp_ge (tgt := 163) hx hb (by first | assumption | decide | (constructor <;> omega)) (by first | assumption | decide | (constructor <;> omega)) dX8_remainder_136 (by decide) (fun c_136 => ?_) (fun c_136 => ?_)
      · skip
        have hlo := rm_lo (v := v) (w := w) (d := z_63 - z_67) (by omega) (by omega)
        have e_32 : ¬ noX v := by first | assumption | omega | (constructor <;> omega)
        have e_33 : ¬ noX w := by first | assumption | omega | (constructor <;> omega)
        have e_34 : ¬ infX v := by first | assumption | omega | (constructor <;> omega)
        have e_35 : fX w ≠ 0 := by first | assumption | omega | (constructor <;> omega)
        have e_36 : ¬ infX w := by first | assumption | omega | (constructor <;> omega)
        have e_37 : z_51 = remR v w := by rw [p0_51]; exact hlo.2.1 (by have := rm_far (n := fX w) (d := z_63 - z_67) (by omega) (by omega); omega)
        have e_38 : z_78 = remY v w := by rw [p0_78]; exact hlo.1.symm
        have e_39 : 0 ≤ z_51 ∧ z_51 < 9007199254740992 := by rw [p0_51]; omega
        exact cut_163 z_51 z_78 e_32 e_33 e_34 e_35 e_36 e_37 e_38 e_39 _ _ hP hD hS ls (lv_sub hl [5, 6, 1, 0] rfl)
      · skip
        refine lv_lload hx hb dX8_remainder_139 (lv_at hl 3 rfl) ?_
        refine lv_lconst (v := L6 1) hx hb dX8_remainder_141 (by decide) ?_
        refine lv_bipush (v := I3 (53)) hx hb dX8_remainder_142 (by decide) ?_
        refine lv_iload hx hb dX8_remainder_144 (lv_at hl 2 rfl) ?_
        refine ix_iadd hx hb dX8_remainder_146 ?_
        have hne := rm_near (n := fX w) (d := z_63 - z_67) (by omega) (by omega) (by omega)
        refine ix_lshl hx hb (by first | decide | omega) dX8_remainder_147 ?_
        refine ix_lcmp_ge (tgt := 163) hx hb (by first | assumption | decide | (constructor <;> omega)) (by rw [Int.one_mul]; have q3 := pw_mon (a := (53 + (z_63 - z_67)).toNat) (b := 53) (by omega); have q4 : (2 : Int) ^ 53 = 9007199254740992 := (by decide); have := ppos (53 + (z_63 - z_67)).toNat; constructor <;> omega) dX8_remainder_148 dX8_remainder_149 (by decide) (fun c_148 => ?_) (fun c_148 => ?_)
        · skip
          have hlo := rm_lo (v := v) (w := w) (d := z_63 - z_67) (by omega) (by omega)
          have hne := rm_near (n := fX w) (d := z_63 - z_67) (by omega) (by omega) (by omega)
          have e_40 : ¬ noX v := by first | assumption | omega | (constructor <;> omega)
          have e_41 : ¬ noX w := by first | assumption | omega | (constructor <;> omega)
          have e_42 : ¬ infX v := by first | assumption | omega | (constructor <;> omega)
          have e_43 : fX w ≠ 0 := by first | assumption | omega | (constructor <;> omega)
          have e_44 : ¬ infX w := by first | assumption | omega | (constructor <;> omega)
          have e_45 : z_51 = remR v w := by rw [p0_51]; exact hlo.2.1 (by have := hne.2 (by omega); omega)
          have e_46 : z_78 = remY v w := by rw [p0_78]; exact hlo.1.symm
          have e_47 : 0 ≤ z_51 ∧ z_51 < 9007199254740992 := by rw [p0_51]; omega
          exact cut_163 z_51 z_78 e_40 e_41 e_42 e_43 e_44 e_45 e_46 e_47 _ _ hP hD hS ls (lv_sub hl [5, 6, 1, 0] rfl)
        · skip
          refine lv_lload hx hb dX8_remainder_152 (lv_at hl 4 rfl) ?_
          refine lv_lload hx hb dX8_remainder_154 (lv_at hl 3 rfl) ?_
          refine lv_iload hx hb dX8_remainder_156 (lv_at hl 2 rfl) ?_
          refine ix_ineg hx hb dX8_remainder_158 ?_
          refine ix_lshl hx hb (by first | decide | omega) dX8_remainder_159 ?_
          refine ix_lrem hx hb (by constructor <;> omega) (by rw [p0_57]; have q1 := hne.1 (by omega); constructor <;> omega) (by rw [p0_57]; have q1 := hne.1 (by omega); omega) (by omega) dX8_remainder_160 ?_
          refine lv_lstore (lv' := [(10, .long (L6 (z_51.tmod (z_57 * 2 ^ (-(z_63 - z_67) : Int).toNat)))), (12, .int (I3 z_78)), (9, .int (I3 (z_63 - z_67))), (7, .long (L6 z_57)), (5, .long (L6 z_51)), (0, .ref am), (1, .long (L6 v)), (3, .long (L6 w))]) hx hb dX8_remainder_161 hl (by decide) rfl (fun ls hl => ?_)
          have hlo := rm_lo (v := v) (w := w) (d := z_63 - z_67) (by omega) (by omega)
          have hne := rm_near (n := fX w) (d := z_63 - z_67) (by omega) (by omega) (by omega)
          have e_48 : ¬ noX v := by first | assumption | omega | (constructor <;> omega)
          have e_49 : ¬ noX w := by first | assumption | omega | (constructor <;> omega)
          have e_50 : ¬ infX v := by first | assumption | omega | (constructor <;> omega)
          have e_51 : fX w ≠ 0 := by first | assumption | omega | (constructor <;> omega)
          have e_52 : ¬ infX w := by first | assumption | omega | (constructor <;> omega)
          have e_53 : (z_51.tmod (z_57 * 2 ^ (-(z_63 - z_67) : Int).toNat)) = remR v w := by rw [p0_51, p0_57]; exact (Int.tmod_eq_emod_of_nonneg fv_.1).trans hlo.2.2.symm
          have e_54 : z_78 = remY v w := by rw [p0_78]; exact hlo.1.symm
          have e_55 : 0 ≤ (z_51.tmod (z_57 * 2 ^ (-(z_63 - z_67) : Int).toNat)) ∧ (z_51.tmod (z_57 * 2 ^ (-(z_63 - z_67) : Int).toNat)) < 9007199254740992 := by rw [p0_51, p0_57, Int.tmod_eq_emod_of_nonneg fv_.1]; have q1 := hne.1 (by omega); exact ⟨Int.emod_nonneg _ (by omega), by have := Int.emod_lt_of_pos (fX v) q1.1; omega⟩
          exact cut_163 (z_51.tmod (z_57 * 2 ^ (-(z_63 - z_67) : Int).toNat)) z_78 e_48 e_49 e_50 e_51 e_52 e_53 e_54 e_55 _ _ hP hD hS ls (lv_sub hl [5, 6, 0, 1] rfl)
    · skip
      refine lv_lload hx hb dX8_remainder_88 (lv_at hl 4 rfl) ?_
      refine lv_lload hx hb dX8_remainder_90 (lv_at hl 3 rfl) ?_
      refine ix_lrem hx hb (by constructor <;> omega) (by first | decide | (constructor <;> omega)) (by first | decide | omega) (by omega) dX8_remainder_92 ?_
      refine lv_lstore (lv' := [(10, .long (L6 (z_51.tmod z_57))), (12, .int (I3 z_78)), (9, .int (I3 (z_63 - z_67))), (7, .long (L6 z_57)), (5, .long (L6 z_51)), (0, .ref am), (1, .long (L6 v)), (3, .long (L6 w))]) hx hb dX8_remainder_93 hl (by decide) rfl (fun ls hl => ?_)
      refine lv_iconst (v := I3 (0)) hx hb dX8_remainder_95 rfl ?_
      refine lv_istore (lv' := [(13, .int (I3 0)), (10, .long (L6 (z_51.tmod z_57))), (12, .int (I3 z_78)), (9, .int (I3 (z_63 - z_67))), (7, .long (L6 z_57)), (5, .long (L6 z_51)), (0, .ref am), (1, .long (L6 v)), (3, .long (L6 w))]) hx hb dX8_remainder_96 hl (by decide) rfl (fun ls hl => ?_)
      have e_56 : ¬ noX v := by first | assumption | omega | (constructor <;> omega)
      have e_57 : ¬ noX w := by first | assumption | omega | (constructor <;> omega)
      have e_58 : ¬ infX v := by first | assumption | omega | (constructor <;> omega)
      have e_59 : fX w ≠ 0 := by first | assumption | omega | (constructor <;> omega)
      have e_60 : ¬ infX w := by first | assumption | omega | (constructor <;> omega)
      have e_61 : z_57 = fX w := by exact p0_57
      have e_62 : (z_63 - z_67) = plX v - plX w := by first | assumption | omega | (constructor <;> omega)
      have e_63 : 0 ≤ (z_63 - z_67) := by first | assumption | omega | (constructor <;> omega)
      have e_64 : 0 ≤ (0 : Int) ∧ (0 : Int) ≤ (z_63 - z_67) := by first | assumption | omega | (constructor <;> omega)
      have e_65 : (z_51.tmod z_57) = fX v * 2 ^ (0 : Int).toNat % fX w := by rw [p0_51, p0_57]; exact rm_0 n4
      exact cut_98 (((z_63 - z_67) - (0 : Int)).toNat + 1) z_57 (z_63 - z_67) (z_51.tmod z_57) 0 z_78 e_56 e_57 e_58 e_59 e_60 e_61 e_62 e_63 e_64 e_65 (Nat.lt_succ_self _) _ _ hP hD hS ls (lv_sub hl [6, 7, 8, 4, 3, 1, 2, 0] rfl)
  have cut_41 : (¬ noX v) → (¬ noX w) → (¬ infX v) → (fX w ≠ 0) → ∀ (H : Heap) (locs : List Loc), va_P (dC, dI) vwCl [(am, .inr (0, [.int (I3 th), .int (I3 mn), .ref as_, .ref av, .ref aw, .int (I3 sm), .int (I3 wd), .int (I3 lp), .int (I3 mp), .int (I3 re)])), (as_, .inl (dA 0, 60, .inl (iA SG))), (av, .inl (dA 1, 960, .inr (.inl (lA VL)))), (aw, .inl (dA 1, 1024, .inr (.inl (lA wf))))] H → va_D A [(am, .inr (0, [.int (I3 th), .int (I3 mn), .ref as_, .ref av, .ref aw, .int (I3 sm), .int (I3 wd), .int (I3 lp), .int (I3 mp), .int (I3 re)])), (as_, .inl (dA 0, 60, .inl (iA SG))), (av, .inl (dA 1, 960, .inr (.inl (lA VL)))), (aw, .inl (dA 1, 1024, .inr (.inl (lA wf))))] → va_S A s.heap H locs → ∀ (ls : Array Slot), lv_has ls 14 [(0, .ref am), (1, .long (L6 v)), (3, .long (L6 w))] → W p l e (headSpec (ws_ yX8_remainder cX8_remainder 14 (some .long)) ({ frames := 5, cells := 0, slots := 0, locals := 200 })).room s m ([.ref am, .long (L6 v), .long (L6 w)] : List Value).toArray below meth c H locs 0 0 (MQ below (QmetX8_remainder dC dI dA A am as_ av aw th mn sm wd lp mp re SG VL wf v w) ([.ref am, .long (L6 v), .long (L6 w)] : List Value).toArray s 0 0 A) (F0 m 41 ls []) := by
    intro  n1 n2 n3 n4 H locs hP hD hS ls hl
    have xv_ := eX_r v
    have fv_ := fX_r v
    have pv_ := plX_r v
    have qv_ := pX_r v
    have xw_ := eX_r w
    have fw_ := fX_r w
    have pw_ := plX_r w
    have qw_ := pX_r w
    have ry_ := remY_r v w
    refine lv_lload_n hx hb dX8_remainder_41 rfl (lv_at hl 2 rfl) ?_
    have h_66 : In6 w := by first | assumption | omega | (constructor <;> omega)
    have hPc := hP.sub (ws' := []) [] rfl
    have hDc := hD.sub (ws' := []) [] (by decide) rfl
    have hFc := va_free (wc := []) hD hS hA [] rfl
    refine va_calli (va_runS (As := [.long (L6 w)]) (rest := []) ⟨hx, hb, hml, hown, hts⟩ (metX8_isInfinite l dC dI dA H.size w h_66) (va_cwS 1 hts (lw_S q1130 q1131 q66 q1132) rfl rfl rfl (by decide +kernel) ⟨Nat.le_of_ble_eq_true rfl, Nat.le_of_ble_eq_true rfl⟩) ⟨fun a U g mk q => by obtain ⟨q0, q1, qP, qK, qD⟩ := q; exact ⟨q0, q1, qP, va_K.moved (u := U) (U := U.calling g mk a) (Vm.Alike.refl U.vm) qK, qD⟩, fun U hU hW => ⟨rfl, by rw [hU], by rw [hU]; exact hPc, va_K.moved hW.alike hK, hDc.weaken (fun _ _ _ _ => trivial)⟩⟩ rfl rfl hl.1 rfl (lv_room (Nat.le_of_ble_eq_true rfl)) dX8_remainder_42 ⟨Nat.le_of_ble_eq_true rfl, Nat.le_of_ble_eq_true rfl⟩) hS (fun q _ h => hFc q h) hFc (fun r_42 u t H1 locs ht hvm hw hB hz1 hk1 hS => ?_)
    obtain ⟨z_42, rfl⟩ : ∃ z, z = u := ⟨_, rfl⟩
    obtain ⟨rfl, p0_42⟩ : r_42 = I3 z_42 ∧ (z_42 = if eX w = 2047 ∧ pX w = 0 then 1 else 0) := hw
    obtain ⟨hP1, hK1, hD1⟩ := hB
    rw [ht] at hP1
    obtain ⟨hP, hD⟩ := va_join (wr := [(am, .inr (0, [.int (I3 th), .int (I3 mn), .ref as_, .ref av, .ref aw, .int (I3 sm), .int (I3 wd), .int (I3 lp), .int (I3 mp), .int (I3 re)])), (as_, .inl (dA 0, 60, .inl (iA SG))), (av, .inl (dA 1, 960, .inr (.inl (lA VL)))), (aw, .inl (dA 1, 1024, .inr (.inl (lA wf))))]) (w1 := []) hP hD [] [0, 1, 2, 3] rfl rfl (by decide) (by decide) hk1 hFc hP1 hD1
    generalize H1 = H at hP hS ⊢
    have hP : va_P (dC, dI) vwCl [(am, .inr (0, [.int (I3 th), .int (I3 mn), .ref as_, .ref av, .ref aw, .int (I3 sm), .int (I3 wd), .int (I3 lp), .int (I3 mp), .int (I3 re)])), (as_, .inl (dA 0, 60, .inl (iA SG))), (av, .inl (dA 1, 960, .inr (.inl (lA VL)))), (aw, .inl (dA 1, 1024, .inr (.inl (lA wf))))] H := hP
    have hD : va_D A [(am, .inr (0, [.int (I3 th), .int (I3 mn), .ref as_, .ref av, .ref aw, .int (I3 sm), .int (I3 wd), .int (I3 lp), .int (I3 mp), .int (I3 re)])), (as_, .inl (dA 0, 60, .inl (iA SG))), (av, .inl (dA 1, 960, .inr (.inl (lA VL)))), (aw, .inl (dA 1, 1024, .inr (.inl (lA wf))))] := hD
    have y_42 := b01 p0_42
    refine ix_if_eq (tgt := 50) hx hb (by first | assumption | decide | (constructor <;> omega)) dX8_remainder_45 (by decide) (fun c_45 => ?_) (fun c_45 => ?_)
    · skip
      have e_67 : ¬ noX v := by first | assumption | omega | (constructor <;> omega)
      have e_68 : ¬ noX w := by first | assumption | omega | (constructor <;> omega)
      have e_69 : ¬ infX v := by first | assumption | omega | (constructor <;> omega)
      have e_70 : fX w ≠ 0 := by first | assumption | omega | (constructor <;> omega)
      have e_71 : ¬ infX w := by first | assumption | omega | (constructor <;> omega)
      exact cut_50  e_67 e_68 e_69 e_70 e_71 _ _ hP hD hS ls (lv_sub hl [0, 1, 2] rfl)
    · skip
      refine lv_lload_n hx hb dX8_remainder_48 rfl (lv_at hl 1 rfl) ?_
      have o_72 : Dg wf := by first | assumption | omega | (constructor <;> omega)
      have o_73 : rmX v w v := by exact ⟨fun q => by exfalso; omega, fun _ => ⟨fun _ => rfl, fun q => by exfalso; omega⟩⟩
      exact W.lret (v := L6 v) hx hb hr (fun t ht hW => ⟨⟨L6 v, (v, wf, wd, lp, mp), rfl, ⟨rfl, ⟨o_72, o_73⟩⟩, by rw [ht]; exact hP, va_K.moved hW.alike hK, hD⟩, hS.F ht⟩) hS.2.2 dX8_remainder_49
  have xv_ := eX_r v
  have fv_ := fX_r v
  have pv_ := plX_r v
  have qv_ := pX_r v
  have xw_ := eX_r w
  have fw_ := fX_r w
  have pw_ := plX_r w
  have qw_ := pX_r w
  have ry_ := remY_r v w
  refine lv_lload_n hx hb dX8_remainder_0 rfl (lv_at hl 1 rfl) ?_
  have h_74 : In6 v := by first | assumption | omega | (constructor <;> omega)
  have hPc := hP.sub (ws' := []) [] rfl
  have hDc := hD.sub (ws' := []) [] (by decide) rfl
  have hFc := va_free (wc := []) hD hS hA [] rfl
  refine va_calli (va_runS (As := [.long (L6 v)]) (rest := []) ⟨hx, hb, hml, hown, hts⟩ (metX8_isNo l dC dI dA s.heap.size v h_74) (va_cwS 1 hts (lw_S q1127 q1128 q66 q1129) rfl rfl rfl (by decide +kernel) ⟨Nat.le_of_ble_eq_true rfl, Nat.le_of_ble_eq_true rfl⟩) ⟨fun a U g mk q => by obtain ⟨q0, q1, qP, qK, qD⟩ := q; exact ⟨q0, q1, qP, va_K.moved (u := U) (U := U.calling g mk a) (Vm.Alike.refl U.vm) qK, qD⟩, fun U hU hW => ⟨rfl, by rw [hU], by rw [hU]; exact hPc, va_K.moved hW.alike hK, hDc.weaken (fun _ _ _ _ => trivial)⟩⟩ rfl rfl hl.1 rfl (lv_room (Nat.le_of_ble_eq_true rfl)) dX8_remainder_1 ⟨Nat.le_of_ble_eq_true rfl, Nat.le_of_ble_eq_true rfl⟩) hS (fun q _ h => hFc q h) hFc (fun r_1 u t H1 locs ht hvm hw hB hz1 hk1 hS => ?_)
  obtain ⟨z_1, rfl⟩ : ∃ z, z = u := ⟨_, rfl⟩
  obtain ⟨rfl, p0_1⟩ : r_1 = I3 z_1 ∧ (z_1 = if eX v = 2047 ∧ pX v ≠ 0 then 1 else 0) := hw
  obtain ⟨hP1, hK1, hD1⟩ := hB
  rw [ht] at hP1
  obtain ⟨hP, hD⟩ := va_join (wr := [(am, .inr (0, [.int (I3 th), .int (I3 mn), .ref as_, .ref av, .ref aw, .int (I3 sm), .int (I3 wd), .int (I3 lp), .int (I3 mp), .int (I3 re)])), (as_, .inl (dA 0, 60, .inl (iA SG))), (av, .inl (dA 1, 960, .inr (.inl (lA VL)))), (aw, .inl (dA 1, 1024, .inr (.inl (lA wf))))]) (w1 := []) hP hD [] [0, 1, 2, 3] rfl rfl (by decide) (by decide) hk1 hFc hP1 hD1
  generalize H1 = H at hP hS ⊢
  have hP : va_P (dC, dI) vwCl [(am, .inr (0, [.int (I3 th), .int (I3 mn), .ref as_, .ref av, .ref aw, .int (I3 sm), .int (I3 wd), .int (I3 lp), .int (I3 mp), .int (I3 re)])), (as_, .inl (dA 0, 60, .inl (iA SG))), (av, .inl (dA 1, 960, .inr (.inl (lA VL)))), (aw, .inl (dA 1, 1024, .inr (.inl (lA wf))))] H := hP
  have hD : va_D A [(am, .inr (0, [.int (I3 th), .int (I3 mn), .ref as_, .ref av, .ref aw, .int (I3 sm), .int (I3 wd), .int (I3 lp), .int (I3 mp), .int (I3 re)])), (as_, .inl (dA 0, 60, .inl (iA SG))), (av, .inl (dA 1, 960, .inr (.inl (lA VL)))), (aw, .inl (dA 1, 1024, .inr (.inl (lA wf))))] := hD
  have y_1 := b01 p0_1
  refine ix_if_ne (tgt := 37) hx hb (by first | assumption | decide | (constructor <;> omega)) dX8_remainder_4 (by decide) (fun c_4 => ?_) (fun c_4 => ?_)
  · skip
    refine lv_ldc2 hx hb hown (hts _ q1167) dX8_remainder_37 ?_
    refine ix_vl (x := (9221120237041090560)) (by decide) ?_
    have o_75 : Dg wf := by first | assumption | omega | (constructor <;> omega)
    have o_76 : rmX v w (9221120237041090560 : Int) := by exact ⟨fun _ => rfl, fun q => absurd (show rmNo v w by unfold rmNo; omega) q⟩
    exact W.lret (v := L6 9221120237041090560) hx hb hr (fun t ht hW => ⟨⟨L6 9221120237041090560, (9221120237041090560, wf, wd, lp, mp), rfl, ⟨rfl, ⟨o_75, o_76⟩⟩, by rw [ht]; exact hP, va_K.moved hW.alike hK, hD⟩, hS.F ht⟩) hS.2.2 dX8_remainder_40
  · skip
    refine lv_lload_n hx hb dX8_remainder_7 rfl (lv_at hl 2 rfl) ?_
    have h_77 : In6 w := by first | assumption | omega | (constructor <;> omega)
    have hPc := hP.sub (ws' := []) [] rfl
    have hDc := hD.sub (ws' := []) [] (by decide) rfl
    have hFc := va_free (wc := []) hD hS hA [] rfl
    refine va_calli (va_runS (As := [.long (L6 w)]) (rest := []) ⟨hx, hb, hml, hown, hts⟩ (metX8_isNo l dC dI dA H.size w h_77) (va_cwS 1 hts (lw_S q1127 q1128 q66 q1129) rfl rfl rfl (by decide +kernel) ⟨Nat.le_of_ble_eq_true rfl, Nat.le_of_ble_eq_true rfl⟩) ⟨fun a U g mk q => by obtain ⟨q0, q1, qP, qK, qD⟩ := q; exact ⟨q0, q1, qP, va_K.moved (u := U) (U := U.calling g mk a) (Vm.Alike.refl U.vm) qK, qD⟩, fun U hU hW => ⟨rfl, by rw [hU], by rw [hU]; exact hPc, va_K.moved hW.alike hK, hDc.weaken (fun _ _ _ _ => trivial)⟩⟩ rfl rfl hl.1 rfl (lv_room (Nat.le_of_ble_eq_true rfl)) dX8_remainder_8 ⟨Nat.le_of_ble_eq_true rfl, Nat.le_of_ble_eq_true rfl⟩) hS (fun q _ h => hFc q h) hFc (fun r_8 u t H1 locs ht hvm hw hB hz1 hk1 hS => ?_)
    obtain ⟨z_8, rfl⟩ : ∃ z, z = u := ⟨_, rfl⟩
    obtain ⟨rfl, p0_8⟩ : r_8 = I3 z_8 ∧ (z_8 = if eX w = 2047 ∧ pX w ≠ 0 then 1 else 0) := hw
    obtain ⟨hP1, hK1, hD1⟩ := hB
    rw [ht] at hP1
    obtain ⟨hP, hD⟩ := va_join (wr := [(am, .inr (0, [.int (I3 th), .int (I3 mn), .ref as_, .ref av, .ref aw, .int (I3 sm), .int (I3 wd), .int (I3 lp), .int (I3 mp), .int (I3 re)])), (as_, .inl (dA 0, 60, .inl (iA SG))), (av, .inl (dA 1, 960, .inr (.inl (lA VL)))), (aw, .inl (dA 1, 1024, .inr (.inl (lA wf))))]) (w1 := []) hP hD [] [0, 1, 2, 3] rfl rfl (by decide) (by decide) hk1 hFc hP1 hD1
    generalize H1 = H at hP hS ⊢
    have hP : va_P (dC, dI) vwCl [(am, .inr (0, [.int (I3 th), .int (I3 mn), .ref as_, .ref av, .ref aw, .int (I3 sm), .int (I3 wd), .int (I3 lp), .int (I3 mp), .int (I3 re)])), (as_, .inl (dA 0, 60, .inl (iA SG))), (av, .inl (dA 1, 960, .inr (.inl (lA VL)))), (aw, .inl (dA 1, 1024, .inr (.inl (lA wf))))] H := hP
    have hD : va_D A [(am, .inr (0, [.int (I3 th), .int (I3 mn), .ref as_, .ref av, .ref aw, .int (I3 sm), .int (I3 wd), .int (I3 lp), .int (I3 mp), .int (I3 re)])), (as_, .inl (dA 0, 60, .inl (iA SG))), (av, .inl (dA 1, 960, .inr (.inl (lA VL)))), (aw, .inl (dA 1, 1024, .inr (.inl (lA wf))))] := hD
    have y_8 := b01 p0_8
    refine ix_if_ne (tgt := 37) hx hb (by first | assumption | decide | (constructor <;> omega)) dX8_remainder_11 (by decide) (fun c_11 => ?_) (fun c_11 => ?_)
    · skip
      refine lv_ldc2 hx hb hown (hts _ q1167) dX8_remainder_37 ?_
      refine ix_vl (x := (9221120237041090560)) (by decide) ?_
      have o_78 : Dg wf := by first | assumption | omega | (constructor <;> omega)
      have o_79 : rmX v w (9221120237041090560 : Int) := by exact ⟨fun _ => rfl, fun q => absurd (show rmNo v w by unfold rmNo; omega) q⟩
      exact W.lret (v := L6 9221120237041090560) hx hb hr (fun t ht hW => ⟨⟨L6 9221120237041090560, (9221120237041090560, wf, wd, lp, mp), rfl, ⟨rfl, ⟨o_78, o_79⟩⟩, by rw [ht]; exact hP, va_K.moved hW.alike hK, hD⟩, hS.F ht⟩) hS.2.2 dX8_remainder_40
    · skip
      refine lv_lload_n hx hb dX8_remainder_14 rfl (lv_at hl 1 rfl) ?_
      have h_80 : In6 v := by first | assumption | omega | (constructor <;> omega)
      have hPc := hP.sub (ws' := []) [] rfl
      have hDc := hD.sub (ws' := []) [] (by decide) rfl
      have hFc := va_free (wc := []) hD hS hA [] rfl
      refine va_calli (va_runS (As := [.long (L6 v)]) (rest := []) ⟨hx, hb, hml, hown, hts⟩ (metX8_isInfinite l dC dI dA H.size v h_80) (va_cwS 1 hts (lw_S q1130 q1131 q66 q1132) rfl rfl rfl (by decide +kernel) ⟨Nat.le_of_ble_eq_true rfl, Nat.le_of_ble_eq_true rfl⟩) ⟨fun a U g mk q => by obtain ⟨q0, q1, qP, qK, qD⟩ := q; exact ⟨q0, q1, qP, va_K.moved (u := U) (U := U.calling g mk a) (Vm.Alike.refl U.vm) qK, qD⟩, fun U hU hW => ⟨rfl, by rw [hU], by rw [hU]; exact hPc, va_K.moved hW.alike hK, hDc.weaken (fun _ _ _ _ => trivial)⟩⟩ rfl rfl hl.1 rfl (lv_room (Nat.le_of_ble_eq_true rfl)) dX8_remainder_15 ⟨Nat.le_of_ble_eq_true rfl, Nat.le_of_ble_eq_true rfl⟩) hS (fun q _ h => hFc q h) hFc (fun r_15 u t H1 locs ht hvm hw hB hz1 hk1 hS => ?_)
      obtain ⟨z_15, rfl⟩ : ∃ z, z = u := ⟨_, rfl⟩
      obtain ⟨rfl, p0_15⟩ : r_15 = I3 z_15 ∧ (z_15 = if eX v = 2047 ∧ pX v = 0 then 1 else 0) := hw
      obtain ⟨hP1, hK1, hD1⟩ := hB
      rw [ht] at hP1
      obtain ⟨hP, hD⟩ := va_join (wr := [(am, .inr (0, [.int (I3 th), .int (I3 mn), .ref as_, .ref av, .ref aw, .int (I3 sm), .int (I3 wd), .int (I3 lp), .int (I3 mp), .int (I3 re)])), (as_, .inl (dA 0, 60, .inl (iA SG))), (av, .inl (dA 1, 960, .inr (.inl (lA VL)))), (aw, .inl (dA 1, 1024, .inr (.inl (lA wf))))]) (w1 := []) hP hD [] [0, 1, 2, 3] rfl rfl (by decide) (by decide) hk1 hFc hP1 hD1
      generalize H1 = H at hP hS ⊢
      have hP : va_P (dC, dI) vwCl [(am, .inr (0, [.int (I3 th), .int (I3 mn), .ref as_, .ref av, .ref aw, .int (I3 sm), .int (I3 wd), .int (I3 lp), .int (I3 mp), .int (I3 re)])), (as_, .inl (dA 0, 60, .inl (iA SG))), (av, .inl (dA 1, 960, .inr (.inl (lA VL)))), (aw, .inl (dA 1, 1024, .inr (.inl (lA wf))))] H := hP
      have hD : va_D A [(am, .inr (0, [.int (I3 th), .int (I3 mn), .ref as_, .ref av, .ref aw, .int (I3 sm), .int (I3 wd), .int (I3 lp), .int (I3 mp), .int (I3 re)])), (as_, .inl (dA 0, 60, .inl (iA SG))), (av, .inl (dA 1, 960, .inr (.inl (lA VL)))), (aw, .inl (dA 1, 1024, .inr (.inl (lA wf))))] := hD
      have y_15 := b01 p0_15
      refine ix_if_ne (tgt := 37) hx hb (by first | assumption | decide | (constructor <;> omega)) dX8_remainder_18 (by decide) (fun c_18 => ?_) (fun c_18 => ?_)
      · skip
        refine lv_ldc2 hx hb hown (hts _ q1167) dX8_remainder_37 ?_
        refine ix_vl (x := (9221120237041090560)) (by decide) ?_
        have o_81 : Dg wf := by first | assumption | omega | (constructor <;> omega)
        have o_82 : rmX v w (9221120237041090560 : Int) := by exact ⟨fun _ => rfl, fun q => absurd (show rmNo v w by unfold rmNo; omega) q⟩
        exact W.lret (v := L6 9221120237041090560) hx hb hr (fun t ht hW => ⟨⟨L6 9221120237041090560, (9221120237041090560, wf, wd, lp, mp), rfl, ⟨rfl, ⟨o_81, o_82⟩⟩, by rw [ht]; exact hP, va_K.moved hW.alike hK, hD⟩, hS.F ht⟩) hS.2.2 dX8_remainder_40
      · skip
        refine lv_lload_n hx hb dX8_remainder_21 rfl (lv_at hl 2 rfl) ?_
        have h_83 : In6 w := by first | assumption | omega | (constructor <;> omega)
        have hPc := hP.sub (ws' := []) [] rfl
        have hDc := hD.sub (ws' := []) [] (by decide) rfl
        have hFc := va_free (wc := []) hD hS hA [] rfl
        refine va_calll (va_runS (As := [.long (L6 w)]) (rest := []) ⟨hx, hb, hml, hown, hts⟩ (metX8_factor l dC dI dA H.size w h_83) (va_cwS 1 hts (lw_S q1032 q1033 q66 q1034) rfl rfl rfl (by decide +kernel) ⟨Nat.le_of_ble_eq_true rfl, Nat.le_of_ble_eq_true rfl⟩) ⟨fun a U g mk q => by obtain ⟨q0, q1, qP, qK, qD⟩ := q; exact ⟨q0, q1, qP, va_K.moved (u := U) (U := U.calling g mk a) (Vm.Alike.refl U.vm) qK, qD⟩, fun U hU hW => ⟨rfl, by rw [hU], by rw [hU]; exact hPc, va_K.moved hW.alike hK, hDc.weaken (fun _ _ _ _ => trivial)⟩⟩ rfl rfl hl.1 rfl (lv_room (Nat.le_of_ble_eq_true rfl)) dX8_remainder_22 ⟨Nat.le_of_ble_eq_true rfl, Nat.le_of_ble_eq_true rfl⟩) hS (fun q _ h => hFc q h) hFc (fun r_22 u t H1 locs ht hvm hw hB hz1 hk1 hS => ?_)
        obtain ⟨z_22, rfl⟩ : ∃ z, z = u := ⟨_, rfl⟩
        obtain ⟨rfl, p0_22⟩ : r_22 = L6 z_22 ∧ (z_22 = fX w) := hw
        obtain ⟨hP1, hK1, hD1⟩ := hB
        rw [ht] at hP1
        obtain ⟨hP, hD⟩ := va_join (wr := [(am, .inr (0, [.int (I3 th), .int (I3 mn), .ref as_, .ref av, .ref aw, .int (I3 sm), .int (I3 wd), .int (I3 lp), .int (I3 mp), .int (I3 re)])), (as_, .inl (dA 0, 60, .inl (iA SG))), (av, .inl (dA 1, 960, .inr (.inl (lA VL)))), (aw, .inl (dA 1, 1024, .inr (.inl (lA wf))))]) (w1 := []) hP hD [] [0, 1, 2, 3] rfl rfl (by decide) (by decide) hk1 hFc hP1 hD1
        generalize H1 = H at hP hS ⊢
        have hP : va_P (dC, dI) vwCl [(am, .inr (0, [.int (I3 th), .int (I3 mn), .ref as_, .ref av, .ref aw, .int (I3 sm), .int (I3 wd), .int (I3 lp), .int (I3 mp), .int (I3 re)])), (as_, .inl (dA 0, 60, .inl (iA SG))), (av, .inl (dA 1, 960, .inr (.inl (lA VL)))), (aw, .inl (dA 1, 1024, .inr (.inl (lA wf))))] H := hP
        have hD : va_D A [(am, .inr (0, [.int (I3 th), .int (I3 mn), .ref as_, .ref av, .ref aw, .int (I3 sm), .int (I3 wd), .int (I3 lp), .int (I3 mp), .int (I3 re)])), (as_, .inl (dA 0, 60, .inl (iA SG))), (av, .inl (dA 1, 960, .inr (.inl (lA VL)))), (aw, .inl (dA 1, 1024, .inr (.inl (lA wf))))] := hD
        refine lv_lconst (v := L6 0) hx hb dX8_remainder_25 (by decide) ?_
        refine ix_lcmp_ne (tgt := 41) hx hb (by first | assumption | decide | (constructor <;> omega)) (by first | assumption | decide | (constructor <;> omega)) dX8_remainder_26 dX8_remainder_27 (by decide) (fun c_26 => ?_) (fun c_26 => ?_)
        · skip
          have e_84 : ¬ noX v := by first | assumption | omega | (constructor <;> omega)
          have e_85 : ¬ noX w := by first | assumption | omega | (constructor <;> omega)
          have e_86 : ¬ infX v := by first | assumption | omega | (constructor <;> omega)
          have e_87 : fX w ≠ 0 := by first | omega | exact infX_f (by omega)
          exact cut_41  e_84 e_85 e_86 e_87 _ _ hP hD hS ls (lv_sub hl [0, 1, 2] rfl)
        · skip
          refine lv_lload_n hx hb dX8_remainder_30 rfl (lv_at hl 2 rfl) ?_
          have h_88 : In6 w := by first | assumption | omega | (constructor <;> omega)
          have hPc := hP.sub (ws' := []) [] rfl
          have hDc := hD.sub (ws' := []) [] (by decide) rfl
          have hFc := va_free (wc := []) hD hS hA [] rfl
          refine va_calli (va_runS (As := [.long (L6 w)]) (rest := []) ⟨hx, hb, hml, hown, hts⟩ (metX8_isInfinite l dC dI dA H.size w h_88) (va_cwS 1 hts (lw_S q1130 q1131 q66 q1132) rfl rfl rfl (by decide +kernel) ⟨Nat.le_of_ble_eq_true rfl, Nat.le_of_ble_eq_true rfl⟩) ⟨fun a U g mk q => by obtain ⟨q0, q1, qP, qK, qD⟩ := q; exact ⟨q0, q1, qP, va_K.moved (u := U) (U := U.calling g mk a) (Vm.Alike.refl U.vm) qK, qD⟩, fun U hU hW => ⟨rfl, by rw [hU], by rw [hU]; exact hPc, va_K.moved hW.alike hK, hDc.weaken (fun _ _ _ _ => trivial)⟩⟩ rfl rfl hl.1 rfl (lv_room (Nat.le_of_ble_eq_true rfl)) dX8_remainder_31 ⟨Nat.le_of_ble_eq_true rfl, Nat.le_of_ble_eq_true rfl⟩) hS (fun q _ h => hFc q h) hFc (fun r_31 u t H1 locs ht hvm hw hB hz1 hk1 hS => ?_)
          obtain ⟨z_31, rfl⟩ : ∃ z, z = u := ⟨_, rfl⟩
          obtain ⟨rfl, p0_31⟩ : r_31 = I3 z_31 ∧ (z_31 = if eX w = 2047 ∧ pX w = 0 then 1 else 0) := hw
          obtain ⟨hP1, hK1, hD1⟩ := hB
          rw [ht] at hP1
          obtain ⟨hP, hD⟩ := va_join (wr := [(am, .inr (0, [.int (I3 th), .int (I3 mn), .ref as_, .ref av, .ref aw, .int (I3 sm), .int (I3 wd), .int (I3 lp), .int (I3 mp), .int (I3 re)])), (as_, .inl (dA 0, 60, .inl (iA SG))), (av, .inl (dA 1, 960, .inr (.inl (lA VL)))), (aw, .inl (dA 1, 1024, .inr (.inl (lA wf))))]) (w1 := []) hP hD [] [0, 1, 2, 3] rfl rfl (by decide) (by decide) hk1 hFc hP1 hD1
          generalize H1 = H at hP hS ⊢
          have hP : va_P (dC, dI) vwCl [(am, .inr (0, [.int (I3 th), .int (I3 mn), .ref as_, .ref av, .ref aw, .int (I3 sm), .int (I3 wd), .int (I3 lp), .int (I3 mp), .int (I3 re)])), (as_, .inl (dA 0, 60, .inl (iA SG))), (av, .inl (dA 1, 960, .inr (.inl (lA VL)))), (aw, .inl (dA 1, 1024, .inr (.inl (lA wf))))] H := hP
          have hD : va_D A [(am, .inr (0, [.int (I3 th), .int (I3 mn), .ref as_, .ref av, .ref aw, .int (I3 sm), .int (I3 wd), .int (I3 lp), .int (I3 mp), .int (I3 re)])), (as_, .inl (dA 0, 60, .inl (iA SG))), (av, .inl (dA 1, 960, .inr (.inl (lA VL)))), (aw, .inl (dA 1, 1024, .inr (.inl (lA wf))))] := hD
          have y_31 := b01 p0_31
          refine ix_if_ne (tgt := 41) hx hb (by first | assumption | decide | (constructor <;> omega)) dX8_remainder_34 (by decide) (fun c_34 => ?_) (fun c_34 => ?_)
          · skip
            have e_89 : ¬ noX v := by first | assumption | omega | (constructor <;> omega)
            have e_90 : ¬ noX w := by first | assumption | omega | (constructor <;> omega)
            have e_91 : ¬ infX v := by first | assumption | omega | (constructor <;> omega)
            have e_92 : fX w ≠ 0 := by first | omega | exact infX_f (by omega)
            exact cut_41  e_89 e_90 e_91 e_92 _ _ hP hD hS ls (lv_sub hl [0, 1, 2] rfl)
          · skip
            refine lv_ldc2 hx hb hown (hts _ q1167) dX8_remainder_37 ?_
            refine ix_vl (x := (9221120237041090560)) (by decide) ?_
            have o_93 : Dg wf := by first | assumption | omega | (constructor <;> omega)
            have o_94 : rmX v w (9221120237041090560 : Int) := by exact ⟨fun _ => rfl, fun q => absurd (show rmNo v w by unfold rmNo; omega) q⟩
            exact W.lret (v := L6 9221120237041090560) hx hb hr (fun t ht hW => ⟨⟨L6 9221120237041090560, (9221120237041090560, wf, wd, lp, mp), rfl, ⟨rfl, ⟨o_93, o_94⟩⟩, by rw [ht]; exact hP, va_K.moved hW.alike hK, hD⟩, hS.F ht⟩) hS.2.2 dX8_remainder_40
