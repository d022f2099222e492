/-! the model: rounded -/
set_option maxRecDepth 100000
abbrev BmetX8_rounded (dC : Nat → ClassId) (dI : Nat → Nat → Nat) (dA : Nat → ClassId) (A : Nat → Prop) (am : Nat) (as_ : Nat) (av : Nat) (aw : Nat) (th : Int) (mn : Int) (sm : Int) (wd : Int) (lp : Int) (mp : Int) (re : Int) (SG : Int → Int) (VL : Int → Int) (wf : Int → Int) (kind : Int) (v : Int) : Int × (Int → Int) × Int × Int × Int × Int → State → Prop := fun u t => (fun (u : Int × (Int → Int) × Int × Int × Int × Int) => (fun (z : Int) (W1 : Int → Int) (wd1 : Int) (lp1 : Int) (mp1 : Int) (re1 : Int) => va_P (dC, dI) vwCl [(am, .inr (0, [.int (I3 th), .int (I3 mn), .ref as_, .ref av, .ref aw, .int (I3 sm), .int (I3 wd1), .int (I3 lp1), .int (I3 mp1), .int (I3 re1)])), (as_, .inl (dA 0, 60, .inl (iA SG))), (av, .inl (dA 1, 960, .inr (.inl (lA VL)))), (aw, .inl (dA 1, 1024, .inr (.inl (lA W1))))] t.heap ∧ va_K (dC, dI) vwCl (tyA dA) t ∧ va_D A [(am, .inr (0, [.int (I3 th), .int (I3 mn), .ref as_, .ref av, .ref aw, .int (I3 sm), .int (I3 wd1), .int (I3 lp1), .int (I3 mp1), .int (I3 re1)])), (as_, .inl (dA 0, 60, .inl (iA SG))), (av, .inl (dA 1, 960, .inr (.inl (lA VL)))), (aw, .inl (dA 1, 1024, .inr (.inl (lA W1))))]) u.1 u.2.1 u.2.2.1 u.2.2.2.1 u.2.2.2.2.1 u.2.2.2.2.2) u
abbrev QmetX8_rounded (dC : Nat → ClassId) (dI : Nat → Nat → Nat) (dA : Nat → ClassId) (A : Nat → Prop) (am : Nat) (as_ : Nat) (av : Nat) (aw : Nat) (th : Int) (mn : Int) (sm : Int) (wd : Int) (lp : Int) (mp : Int) (re : Int) (SG : Int → Int) (VL : Int → Int) (wf : Int → Int) (kind : Int) (v : Int) := va_Ql (fun (rt_ : Int64) => fun (u : Int × (Int → Int) × Int × Int × Int × Int) => (fun (z : Int) (W1 : Int → Int) (wd1 : Int) (lp1 : Int) (mp1 : Int) (re1 : Int) => rt_ = L6 z ∧ (Dg W1) ∧ (rdX kind v z)) u.1 u.2.1 u.2.2.1 u.2.2.2.1 u.2.2.2.2.1 u.2.2.2.2.2) (BmetX8_rounded dC dI dA A am as_ av aw th mn sm wd lp mp re SG VL wf kind v) A
set_option maxHeartbeats 1000000 in
set_option maxRecDepth 100000 in
/-- rounded -/
theorem metX8_rounded (l : Launch) (dC : Nat → ClassId) (dI : Nat → Nat → Nat) (dA : Nat → ClassId) (am : Nat) (as_ : Nat) (av : Nat) (aw : Nat) (sz : Nat) (th : Int) (mn : Int) (sm : Int) (wd : Int) (lp : Int) (mp : Int) (re : Int) (SG : Int → Int) (VL : Int → Int) (wf : Int → Int) (kind : Int) (v : Int) (hW : Dg wf) (hk : In3 kind) (hv : In6 v) : Met l yX8_rounded (ws_ yX8_rounded cX8_rounded 7 (some .long)) ({ frames := 5, cells := 0, slots := 0, locals := 200 }) (va_Pc [.ref am, .int (I3 kind), .long (L6 v)] (fun U => U.heap.size = sz ∧ va_P (dC, dI) vwCl [(am, .inr (0, [.int (I3 th), .int (I3 mn), .ref as_, .ref av, .ref aw, .int (I3 sm), .int (I3 wd), .int (I3 lp), .int (I3 mp), .int (I3 re)])), (as_, .inl (dA 0, 60, .inl (iA SG))), (av, .inl (dA 1, 960, .inr (.inl (lA VL)))), (aw, .inl (dA 1, 1024, .inr (.inl (lA wf))))] U.heap ∧ va_K (dC, dI) vwCl (tyA dA) U ∧ va_D (fun _ => True) [(am, .inr (0, [.int (I3 th), .int (I3 mn), .ref as_, .ref av, .ref aw, .int (I3 sm), .int (I3 wd), .int (I3 lp), .int (I3 mp), .int (I3 re)])), (as_, .inl (dA 0, 60, .inl (iA SG))), (av, .inl (dA 1, 960, .inr (.inl (lA VL)))), (aw, .inl (dA 1, 1024, .inr (.inl (lA wf))))])) (QmetX8_rounded dC dI dA (va_A [(am, .inr (0, [.int (I3 th), .int (I3 mn), .ref as_, .ref av, .ref aw, .int (I3 sm), .int (I3 wd), .int (I3 lp), .int (I3 mp), .int (I3 re)])), (as_, .inl (dA 0, 60, .inl (iA SG))), (av, .inl (dA 1, 960, .inr (.inl (lA VL)))), (aw, .inl (dA 1, 1024, .inr (.inl (lA wf))))] sz) am as_ av aw th mn sm wd lp mp re SG VL wf kind v) 0 0 (va_A [(am, .inr (0, [.int (I3 th), .int (I3 mn), .ref as_, .ref av, .ref aw, .int (I3 sm), .int (I3 wd), .int (I3 lp), .int (I3 mp), .int (I3 re)])), (as_, .inl (dA 0, 60, .inl (iA SG))), (av, .inl (dA 1, 960, .inr (.inl (lA VL)))), (aw, .inl (dA 1, 1024, .inr (.inl (lA wf))))] sz) := by
  refine Met.ofW (cc := cX8_rounded) (maxL := 7) (ret := (some .long)) (by decide) rfl ?_
  intro p e s m args below meth c s₁ B hml hv
  obtain ⟨rfl, hsz, hP, hK, hD0⟩ := hv
  have hx := B.exec
  have hb := B.bytes
  have hr := B.returns
  have hts := atoms_spec (ws := (ws_ yX8_rounded cX8_rounded 7 (some .long))) B.pre
  have hts : ∀ w ∈ lw_all, w.before _ s = true := fun w h => hts w (List.mem_cons_of_mem _ h)
  have hown : s.vm.findClass RX8 = some m.cls := findClass_of_methodNamed B.named
  have hlocks := B.notSynchronized
  subst hsz
  have hD := hD0.self (sz := s.heap.size)
  generalize hAe : va_A [(am, .inr (0, [.int (I3 th), .int (I3 mn), .ref as_, .ref av, .ref aw, .int (I3 sm), .int (I3 wd), .int (I3 lp), .int (I3 mp), .int (I3 re)])), (as_, .inl (dA 0, 60, .inl (iA SG))), (av, .inl (dA 1, 960, .inr (.inl (lA VL)))), (aw, .inl (dA 1, 1024, .inr (.inl (lA wf))))] s.heap.size = A at hD ⊢
  have hA : ∀ q : Nat, s.heap.size ≤ q → A q := fun q h => by rw [← hAe]; exact Or.inr h
  have hS : va_S A s.heap s.heap [] := va_S.rf
  have hP : va_P (dC, dI) vwCl [(am, .inr (0, [.int (I3 th), .int (I3 mn), .ref as_, .ref av, .ref aw, .int (I3 sm), .int (I3 wd), .int (I3 lp), .int (I3 mp), .int (I3 re)])), (as_, .inl (dA 0, 60, .inl (iA SG))), (av, .inl (dA 1, 960, .inr (.inl (lA VL)))), (aw, .inl (dA 1, 1024, .inr (.inl (lA wf))))] s.heap := hP
  have hl := lv_entry ([.ref am, .int (I3 kind), .long (L6 v)]) (n := 7) (Nat.le_of_ble_eq_true rfl)
  rw [lg_entry_eq]
  generalize (lg_sl ([.ref am, .int (I3 kind), .long (L6 v)]) ++ List.replicate (7 - (lg_sl ([.ref am, .int (I3 kind), .long (L6 v)])).length) Slot.unset).toArray = ls at hl ⊢
  have hl : lv_has ls 7 [(0, .ref am), (1, .int (I3 kind)), (2, .long (L6 v))] := hl
  have cut_116 : ∀ (g : Int) (w : Int) (rr : Int), (¬ (eX v = 2047 ∧ pX v ≠ 0)) → (¬ (eX v = 2047 ∨ 0 ≤ plX v)) → (w = fX v / 2 ^ (-plX v).toNat) → ((g = 1 ∧ rdG kind v (frR (fX v) (-plX v).toNat) (fX v / 2 ^ (-plX v).toNat)) ∨ (g = 0 ∧ ¬ rdG kind v (frR (fX v) (-plX v).toNat) (fX v / 2 ^ (-plX v).toNat))) → ∀ (H : Heap) (locs : List Loc), va_P (dC, dI) vwCl [(am, .inr (0, [.int (I3 th), .int (I3 mn), .ref as_, .ref av, .ref aw, .int (I3 sm), .int (I3 wd), .int (I3 lp), .int (I3 mp), .int (I3 rr)])), (as_, .inl (dA 0, 60, .inl (iA SG))), (av, .inl (dA 1, 960, .inr (.inl (lA VL)))), (aw, .inl (dA 1, 1024, .inr (.inl (lA wf))))] H → va_D A [(am, .inr (0, [.int (I3 th), .int (I3 mn), .ref as_, .ref av, .ref aw, .int (I3 sm), .int (I3 wd), .int (I3 lp), .int (I3 mp), .int (I3 rr)])), (as_, .inl (dA 0, 60, .inl (iA SG))), (av, .inl (dA 1, 960, .inr (.inl (lA VL)))), (aw, .inl (dA 1, 1024, .inr (.inl (lA wf))))] → va_S A s.heap H locs → ∀ (ls : Array Slot), lv_has ls 7 [(0, .ref am), (1, .int (I3 kind)), (2, .long (L6 v)), (4, .long (L6 w))] → W p l e (headSpec (ws_ yX8_rounded cX8_rounded 7 (some .long)) ({ frames := 5, cells := 0, slots := 0, locals := 200 })).room s m ([.ref am, .int (I3 kind), .long (L6 v)] : List Value).toArray below meth c H locs 0 0 (MQ below (QmetX8_rounded dC dI dA A am as_ av aw th mn sm wd lp mp re SG VL wf kind v) ([.ref am, .int (I3 kind), .long (L6 v)] : List Value).toArray s 0 0 A) (F0 m 116 ls [.int (I3 g)]) := by
    intro g w rr hno hlo hw hg H locs hP hD hS ls hl
    have hx_ := eX_r v
    have hf_ := fX_r v
    have hp_ := plX_r v
    have hr_ := frR_r (fX v) (-plX v).toNat
    have hd_ := fd_r (v := v) (n := (-plX v).toNat)
    refine lv_istore (lv' := [(6, .int (I3 g)), (0, .ref am), (1, .int (I3 kind)), (2, .long (L6 v)), (4, .long (L6 w))]) hx hb dX8_rounded_116 hl (by decide) rfl (fun ls hl => ?_)
    refine lv_lload hx hb dX8_rounded_118 (lv_at hl 4 rfl) ?_
    refine lv_iload hx hb dX8_rounded_120 (lv_at hl 0 rfl) ?_
    refine ix_if_eq (tgt := 129) hx hb (by first | assumption | decide | (constructor <;> omega)) dX8_rounded_122 (by decide) (fun c_122 => ?_) (fun c_122 => ?_)
    · skip
      refine lv_lconst (v := L6 0) hx hb dX8_rounded_129 (by decide) ?_
      refine ix_ladd hx hb dX8_rounded_130 ?_
      refine lv_lstore (lv' := [(4, .long (L6 (w + 0))), (6, .int (I3 g)), (0, .ref am), (1, .int (I3 kind)), (2, .long (L6 v))]) hx hb dX8_rounded_131 hl (by decide) rfl (fun ls hl => ?_)
      refine lv_aload_n hx hb dX8_rounded_133 rfl (lv_at hl 2 rfl) ?_
      refine lv_lload hx hb dX8_rounded_134 (lv_at hl 0 rfl) ?_
      refine lv_iconst (v := I3 (0)) hx hb dX8_rounded_136 rfl ?_
      refine lv_iconst (v := I3 (1)) hx hb dX8_rounded_137 rfl ?_
      have h_1 : Dg wf := by first | assumption | omega | (constructor <;> omega)
      have h_2 : 0 ≤ (w + 0) ∧ (w + 0) < 9223372036854775808 := by constructor <;> omega
      have h_3 : -100000 ≤ (0 : Int) ∧ (0 : Int) ≤ 100000 := by decide
      have h_4 : (1 : Int) = 0 ∨ (1 : Int) = 1 := by first | assumption | omega | (constructor <;> omega)
      have hPc := hP.sub (ws' := [(am, .inr (0, [.int (I3 th), .int (I3 mn), .ref as_, .ref av, .ref aw, .int (I3 sm), .int (I3 wd), .int (I3 lp), .int (I3 mp), .int (I3 rr)])), (as_, .inl (dA 0, 60, .inl (iA SG))), (av, .inl (dA 1, 960, .inr (.inl (lA VL)))), (aw, .inl (dA 1, 1024, .inr (.inl (lA wf))))]) [0, 1, 2, 3] rfl
      have hDc := hD.sub (ws' := [(am, .inr (0, [.int (I3 th), .int (I3 mn), .ref as_, .ref av, .ref aw, .int (I3 sm), .int (I3 wd), .int (I3 lp), .int (I3 mp), .int (I3 rr)])), (as_, .inl (dA 0, 60, .inl (iA SG))), (av, .inl (dA 1, 960, .inr (.inl (lA VL)))), (aw, .inl (dA 1, 1024, .inr (.inl (lA wf))))]) [0, 1, 2, 3] (by decide) rfl
      have hFc := va_free (wc := [(am, .inr (0, [.int (I3 th), .int (I3 mn), .ref as_, .ref av, .ref aw, .int (I3 sm), .int (I3 wd), .int (I3 lp), .int (I3 mp), .int (I3 rr)])), (as_, .inl (dA 0, 60, .inl (iA SG))), (av, .inl (dA 1, 960, .inr (.inl (lA VL)))), (aw, .inl (dA 1, 1024, .inr (.inl (lA wf))))]) hD hS hA [0, 1, 2, 3] rfl
      refine va_calll (va_runV (As := [.long (L6 (w + 0)), .int (I3 0), .int (I3 1)]) (rest := []) ⟨hx, hb, hml, hown, hts⟩ (metX8_scaled l dC dI dA am as_ av aw H.size th mn sm wd lp mp rr SG VL wf (w + 0) 0 1 h_1 h_2 h_3 h_4) (cwV 3 hts (lw_V q1169 q1171 qs51 q66 q1172) rfl rfl rfl (by decide +kernel) ⟨Nat.le_of_ble_eq_true rfl, Nat.le_of_ble_eq_true rfl⟩) ⟨fun a U g mk q => by obtain ⟨q0, q1, qP, qK, qD⟩ := q; exact ⟨q0, q1, qP, va_K.moved (u := U) (U := U.calling g mk a) (Vm.Alike.refl U.vm) qK, qD⟩, va_recv hK hPc (ci := 0) (q0 := 0) rfl rfl, fun U hU hW => ⟨rfl, by rw [hU], by rw [hU]; exact hPc, va_K.moved hW.alike hK, hDc.weaken (fun _ _ _ _ => trivial)⟩⟩ rfl rfl hl.1 rfl (lv_room (Nat.le_of_ble_eq_true rfl)) dX8_rounded_138 ⟨Nat.le_of_ble_eq_true rfl, Nat.le_of_ble_eq_true rfl⟩) hS (fun q _ h => hFc q h) hFc (fun r_138 u t H1 locs ht hvm hw hB hz1 hk1 hS => ?_)
      obtain ⟨z_138, W1_138, wd1_138, lp1_138, mp1_138⟩ := u
      obtain ⟨rfl, p0_138, p1_138, p2_138, p3_138, p4_138, p5_138⟩ : r_138 = L6 z_138 ∧ (Dg W1_138) ∧ ((w + 0) = 0 → z_138 = 0) ∧ ((w + 0) ≠ 0 → (1 : Int) = 1 → rnB 64 ((w + 0).toNat * 2 ^ (0 : Int).toNat) (2 ^ (-(0 : Int)).toNat) 0 1 z_138) ∧ ((w + 0) ≠ 0 → (1 : Int) = 0 → rnB 32 ((w + 0).toNat * 2 ^ (0 : Int).toNat) (2 ^ (-(0 : Int)).toNat) 0 1 z_138) ∧ (0 ≤ z_138 ∧ z_138 ≤ 9218868437227405312) ∧ ((1 : Int) = 0 → z_138 ≤ 2139095040) := hw
      obtain ⟨hP1, hK1, hD1⟩ := hB
      rw [ht] at hP1
      obtain ⟨hP, hD⟩ := va_join (wr := []) (w1 := [(am, .inr (0, [.int (I3 th), .int (I3 mn), .ref as_, .ref av, .ref aw, .int (I3 sm), .int (I3 wd1_138), .int (I3 lp1_138), .int (I3 mp1_138), .int (I3 rr)])), (as_, .inl (dA 0, 60, .inl (iA SG))), (av, .inl (dA 1, 960, .inr (.inl (lA VL)))), (aw, .inl (dA 1, 1024, .inr (.inl (lA W1_138))))]) hP hD [0, 1, 2, 3] [] rfl rfl (by decide) (by decide) hk1 hFc hP1 hD1
      generalize H1 = H at hP hS ⊢
      have hP : va_P (dC, dI) vwCl [(am, .inr (0, [.int (I3 th), .int (I3 mn), .ref as_, .ref av, .ref aw, .int (I3 sm), .int (I3 wd1_138), .int (I3 lp1_138), .int (I3 mp1_138), .int (I3 rr)])), (as_, .inl (dA 0, 60, .inl (iA SG))), (av, .inl (dA 1, 960, .inr (.inl (lA VL)))), (aw, .inl (dA 1, 1024, .inr (.inl (lA W1_138))))] H := hP
      have hD : va_D A [(am, .inr (0, [.int (I3 th), .int (I3 mn), .ref as_, .ref av, .ref aw, .int (I3 sm), .int (I3 wd1_138), .int (I3 lp1_138), .int (I3 mp1_138), .int (I3 rr)])), (as_, .inl (dA 0, 60, .inl (iA SG))), (av, .inl (dA 1, 960, .inr (.inl (lA VL)))), (aw, .inl (dA 1, 1024, .inr (.inl (lA W1_138))))] := hD
      refine lv_lload_n hx hb dX8_rounded_141 rfl (lv_at hl 4 rfl) ?_
      refine lv_ldc2 hx hb hown (hts _ q1153) dX8_rounded_142 ?_
      refine ix_vl (x := (-9223372036854775808)) (by decide) ?_
      refine ix_land hx hb dX8_rounded_145 ?_
      refine ix_tl (y := (if v < 0 then -9223372036854775808 else 0)) (by exact zand6_sg hv) ?_
      refine ix_lor hx hb dX8_rounded_146 ?_
      refine ix_tl (y := sgb v z_138) (by exact sgb_or (by omega)) ?_
      have o_5 : Dg W1_138 := by first | assumption | omega | (constructor <;> omega)
      have o_6 : rdX kind v (sgb v z_138) := by refine ⟨fun q => absurd q hno, fun _ => ⟨fun q => absurd q hlo, fun _ => ⟨z_138, ?_, rfl⟩⟩⟩; (first | rw [if_pos (by rcases hg with ⟨g1, g2⟩ | ⟨g1, g2⟩; exact g2; omega), ← hw] | rw [if_neg (by rcases hg with ⟨g1, g2⟩ | ⟨g1, g2⟩; omega; exact g2), ← hw]); exact ⟨p1_138, fun q => p2_138 q rfl⟩
      exact W.lret (v := L6 (sgb v z_138)) hx hb hr (fun t ht hW => ⟨⟨L6 (sgb v z_138), ((sgb v z_138), W1_138, wd1_138, lp1_138, mp1_138, rr), rfl, ⟨rfl, ⟨o_5, o_6⟩⟩, by rw [ht]; exact hP, va_K.moved hW.alike hK, hD⟩, hS.F ht⟩) hS.2.2 dX8_rounded_147
    · skip
      refine lv_lconst (v := L6 1) hx hb dX8_rounded_125 (by decide) ?_
      refine lv_goto (tgt := 130) hx hb dX8_rounded_126 (by decide) ?_
      refine ix_ladd hx hb dX8_rounded_130 ?_
      refine lv_lstore (lv' := [(4, .long (L6 (w + 1))), (6, .int (I3 g)), (0, .ref am), (1, .int (I3 kind)), (2, .long (L6 v))]) hx hb dX8_rounded_131 hl (by decide) rfl (fun ls hl => ?_)
      refine lv_aload_n hx hb dX8_rounded_133 rfl (lv_at hl 2 rfl) ?_
      refine lv_lload hx hb dX8_rounded_134 (lv_at hl 0 rfl) ?_
      refine lv_iconst (v := I3 (0)) hx hb dX8_rounded_136 rfl ?_
      refine lv_iconst (v := I3 (1)) hx hb dX8_rounded_137 rfl ?_
      have h_7 : Dg wf := by first | assumption | omega | (constructor <;> omega)
      have h_8 : 0 ≤ (w + 1) ∧ (w + 1) < 9223372036854775808 := by constructor <;> omega
      have h_9 : -100000 ≤ (0 : Int) ∧ (0 : Int) ≤ 100000 := by decide
      have h_10 : (1 : Int) = 0 ∨ (1 : Int) = 1 := by first | assumption | omega | (constructor <;> omega)
      have hPc := hP.sub (ws' := [(am, .inr (0, [.int (I3 th), .int (I3 mn), .ref as_, .ref av, .ref aw, .int (I3 sm), .int (I3 wd), .int (I3 lp), .int (I3 mp), .int (I3 rr)])), (as_, .inl (dA 0, 60, .inl (iA SG))), (av, .inl (dA 1, 960, .inr (.inl (lA VL)))), (aw, .inl (dA 1, 1024, .inr (.inl (lA wf))))]) [0, 1, 2, 3] rfl
      have hDc := hD.sub (ws' := [(am, .inr (0, [.int (I3 th), .int (I3 mn), .ref as_, .ref av, .ref aw, .int (I3 sm), .int (I3 wd), .int (I3 lp), .int (I3 mp), .int (I3 rr)])), (as_, .inl (dA 0, 60, .inl (iA SG))), (av, .inl (dA 1, 960, .inr (.inl (lA VL)))), (aw, .inl (dA 1, 1024, .inr (.inl (lA wf))))]) [0, 1, 2, 3] (by decide) rfl
      have hFc := va_free (wc := [(am, .inr (0, [.int (I3 th), .int (I3 mn), .ref as_, .ref av, .ref aw, .int (I3 sm), .int (I3 wd), .int (I3 lp), .int (I3 mp), .int (I3 rr)])), (as_, .inl (dA 0, 60, .inl (iA SG))), (av, .inl (dA 1, 960, .inr (.inl (lA VL)))), (aw, .inl (dA 1, 1024, .inr (.inl (lA wf))))]) hD hS hA [0, 1, 2, 3] rfl
      refine va_calll (va_runV (As := [.long (L6 (w + 1)), .int (I3 0), .int (I3 1)]) (rest := []) ⟨hx, hb, hml, hown, hts⟩ (metX8_scaled l dC dI dA am as_ av aw H.size th mn sm wd lp mp rr SG VL wf (w + 1) 0 1 h_7 h_8 h_9 h_10) (cwV 3 hts (lw_V q1169 q1171 qs51 q66 q1172) rfl rfl rfl (by decide +kernel) ⟨Nat.le_of_ble_eq_true rfl, Nat.le_of_ble_eq_true rfl⟩) ⟨fun a U g mk q => by obtain ⟨q0, q1, qP, qK, qD⟩ := q; exact ⟨q0, q1, qP, va_K.moved (u := U) (U := U.calling g mk a) (Vm.Alike.refl U.vm) qK, qD⟩, va_recv hK hPc (ci := 0) (q0 := 0) rfl rfl, fun U hU hW => ⟨rfl, by rw [hU], by rw [hU]; exact hPc, va_K.moved hW.alike hK, hDc.weaken (fun _ _ _ _ => trivial)⟩⟩ rfl rfl hl.1 rfl (lv_room (Nat.le_of_ble_eq_true rfl)) dX8_rounded_138 ⟨Nat.le_of_ble_eq_true rfl, Nat.le_of_ble_eq_true rfl⟩) hS (fun q _ h => hFc q h) hFc (fun r_138 u t H1 locs ht hvm hw hB hz1 hk1 hS => ?_)
      obtain ⟨z_138, W1_138, wd1_138, lp1_138, mp1_138⟩ := u
      obtain ⟨rfl, p0_138, p1_138, p2_138, p3_138, p4_138, p5_138⟩ : r_138 = L6 z_138 ∧ (Dg W1_138) ∧ ((w + 1) = 0 → z_138 = 0) ∧ ((w + 1) ≠ 0 → (1 : Int) = 1 → rnB 64 ((w + 1).toNat * 2 ^ (0 : Int).toNat) (2 ^ (-(0 : Int)).toNat) 0 1 z_138) ∧ ((w + 1) ≠ 0 → (1 : Int) = 0 → rnB 32 ((w + 1).toNat * 2 ^ (0 : Int).toNat) (2 ^ (-(0 : Int)).toNat) 0 1 z_138) ∧ (0 ≤ z_138 ∧ z_138 ≤ 9218868437227405312) ∧ ((1 : Int) = 0 → z_138 ≤ 2139095040) := hw
      obtain ⟨hP1, hK1, hD1⟩ := hB
      rw [ht] at hP1
      obtain ⟨hP, hD⟩ := va_join (wr := []) (w1 := [(am, .inr (0, [.int (I3 th), .int (I3 mn), .ref as_, .ref av, .ref aw, .int (I3 sm), .int (I3 wd1_138), .int (I3 lp1_138), .int (I3 mp1_138), .int (I3 rr)])), (as_, .inl (dA 0, 60, .inl (iA SG))), (av, .inl (dA 1, 960, .inr (.inl (lA VL)))), (aw, .inl (dA 1, 1024, .inr (.inl (lA W1_138))))]) hP hD [0, 1, 2, 3] [] rfl rfl (by decide) (by decide) hk1 hFc hP1 hD1
      generalize H1 = H at hP hS ⊢
      have hP : va_P (dC, dI) vwCl [(am, .inr (0, [.int (I3 th), .int (I3 mn), .ref as_, .ref av, .ref aw, .int (I3 sm), .int (I3 wd1_138), .int (I3 lp1_138), .int (I3 mp1_138), .int (I3 rr)])), (as_, .inl (dA 0, 60, .inl (iA SG))), (av, .inl (dA 1, 960, .inr (.inl (lA VL)))), (aw, .inl (dA 1, 1024, .inr (.inl (lA W1_138))))] H := hP
      have hD : va_D A [(am, .inr (0, [.int (I3 th), .int (I3 mn), .ref as_, .ref av, .ref aw, .int (I3 sm), .int (I3 wd1_138), .int (I3 lp1_138), .int (I3 mp1_138), .int (I3 rr)])), (as_, .inl (dA 0, 60, .inl (iA SG))), (av, .inl (dA 1, 960, .inr (.inl (lA VL)))), (aw, .inl (dA 1, 1024, .inr (.inl (lA W1_138))))] := hD
      refine lv_lload_n hx hb dX8_rounded_141 rfl (lv_at hl 4 rfl) ?_
      refine lv_ldc2 hx hb hown (hts _ q1153) dX8_rounded_142 ?_
      refine ix_vl (x := (-9223372036854775808)) (by decide) ?_
      refine ix_land hx hb dX8_rounded_145 ?_
      refine ix_tl (y := (if v < 0 then -9223372036854775808 else 0)) (by exact zand6_sg hv) ?_
      refine ix_lor hx hb dX8_rounded_146 ?_
      refine ix_tl (y := sgb v z_138) (by exact sgb_or (by omega)) ?_
      have o_11 : Dg W1_138 := by first | assumption | omega | (constructor <;> omega)
      have o_12 : rdX kind v (sgb v z_138) := by refine ⟨fun q => absurd q hno, fun _ => ⟨fun q => absurd q hlo, fun _ => ⟨z_138, ?_, rfl⟩⟩⟩; (first | rw [if_pos (by rcases hg with ⟨g1, g2⟩ | ⟨g1, g2⟩; exact g2; omega), ← hw] | rw [if_neg (by rcases hg with ⟨g1, g2⟩ | ⟨g1, g2⟩; omega; exact g2), ← hw]); exact ⟨p1_138, fun q => p2_138 q rfl⟩
      exact W.lret (v := L6 (sgb v z_138)) hx hb hr (fun t ht hW => ⟨⟨L6 (sgb v z_138), ((sgb v z_138), W1_138, wd1_138, lp1_138, mp1_138, rr), rfl, ⟨rfl, ⟨o_11, o_12⟩⟩, by rw [ht]; exact hP, va_K.moved hW.alike hK, hD⟩, hS.F ht⟩) hS.2.2 dX8_rounded_147
  have hx_ := eX_r v
  have hf_ := fX_r v
  have hp_ := plX_r v
  have hr_ := frR_r (fX v) (-plX v).toNat
  have hd_ := fd_r (v := v) (n := (-plX v).toNat)
  have hq_ := pX_r v
  refine lv_lload_n hx hb dX8_rounded_0 rfl (lv_at hl 2 rfl) ?_
  have h_13 : In6 v := by first | assumption | omega | (constructor <;> omega)
  have hPc := hP.sub (ws' := []) [] rfl
  have hDc := hD.sub (ws' := []) [] (by decide) rfl
  have hFc := va_free (wc := []) hD hS hA [] rfl
  refine va_calli (va_runS (As := [.long (L6 v)]) (rest := []) ⟨hx, hb, hml, hown, hts⟩ (metX8_isNo l dC dI dA s.heap.size v h_13) (va_cwS 1 hts (lw_S q1127 q1128 q66 q1129) rfl rfl rfl (by decide +kernel) ⟨Nat.le_of_ble_eq_true rfl, Nat.le_of_ble_eq_true rfl⟩) ⟨fun a U g mk q => by obtain ⟨q0, q1, qP, qK, qD⟩ := q; exact ⟨q0, q1, qP, va_K.moved (u := U) (U := U.calling g mk a) (Vm.Alike.refl U.vm) qK, qD⟩, fun U hU hW => ⟨rfl, by rw [hU], by rw [hU]; exact hPc, va_K.moved hW.alike hK, hDc.weaken (fun _ _ _ _ => trivial)⟩⟩ rfl rfl hl.1 rfl (lv_room (Nat.le_of_ble_eq_true rfl)) dX8_rounded_1 ⟨Nat.le_of_ble_eq_true rfl, Nat.le_of_ble_eq_true rfl⟩) hS (fun q _ h => hFc q h) hFc (fun r_1 u t H1 locs ht hvm hw hB hz1 hk1 hS => ?_)
  obtain ⟨z_1, rfl⟩ : ∃ z, z = u := ⟨_, rfl⟩
  obtain ⟨rfl, p0_1⟩ : r_1 = I3 z_1 ∧ (z_1 = if eX v = 2047 ∧ pX v ≠ 0 then 1 else 0) := hw
  obtain ⟨hP1, hK1, hD1⟩ := hB
  rw [ht] at hP1
  obtain ⟨hP, hD⟩ := va_join (wr := [(am, .inr (0, [.int (I3 th), .int (I3 mn), .ref as_, .ref av, .ref aw, .int (I3 sm), .int (I3 wd), .int (I3 lp), .int (I3 mp), .int (I3 re)])), (as_, .inl (dA 0, 60, .inl (iA SG))), (av, .inl (dA 1, 960, .inr (.inl (lA VL)))), (aw, .inl (dA 1, 1024, .inr (.inl (lA wf))))]) (w1 := []) hP hD [] [0, 1, 2, 3] rfl rfl (by decide) (by decide) hk1 hFc hP1 hD1
  generalize H1 = H at hP hS ⊢
  have hP : va_P (dC, dI) vwCl [(am, .inr (0, [.int (I3 th), .int (I3 mn), .ref as_, .ref av, .ref aw, .int (I3 sm), .int (I3 wd), .int (I3 lp), .int (I3 mp), .int (I3 re)])), (as_, .inl (dA 0, 60, .inl (iA SG))), (av, .inl (dA 1, 960, .inr (.inl (lA VL)))), (aw, .inl (dA 1, 1024, .inr (.inl (lA wf))))] H := hP
  have hD : va_D A [(am, .inr (0, [.int (I3 th), .int (I3 mn), .ref as_, .ref av, .ref aw, .int (I3 sm), .int (I3 wd), .int (I3 lp), .int (I3 mp), .int (I3 re)])), (as_, .inl (dA 0, 60, .inl (iA SG))), (av, .inl (dA 1, 960, .inr (.inl (lA VL)))), (aw, .inl (dA 1, 1024, .inr (.inl (lA wf))))] := hD
  have y_1 := b01 p0_1
  refine ix_if_eq (tgt := 11) hx hb (by first | assumption | decide | (constructor <;> omega)) dX8_rounded_4 (by decide) (fun c_4 => ?_) (fun c_4 => ?_)
  · skip
    refine lv_lload_n hx hb dX8_rounded_11 rfl (lv_at hl 2 rfl) ?_
    have h_14 : In6 v := by first | assumption | omega | (constructor <;> omega)
    have hPc := hP.sub (ws' := []) [] rfl
    have hDc := hD.sub (ws' := []) [] (by decide) rfl
    have hFc := va_free (wc := []) hD hS hA [] rfl
    refine va_calli (va_runS (As := [.long (L6 v)]) (rest := []) ⟨hx, hb, hml, hown, hts⟩ (metX8_isInfinite l dC dI dA H.size v h_14) (va_cwS 1 hts (lw_S q1130 q1131 q66 q1132) rfl rfl rfl (by decide +kernel) ⟨Nat.le_of_ble_eq_true rfl, Nat.le_of_ble_eq_true rfl⟩) ⟨fun a U g mk q => by obtain ⟨q0, q1, qP, qK, qD⟩ := q; exact ⟨q0, q1, qP, va_K.moved (u := U) (U := U.calling g mk a) (Vm.Alike.refl U.vm) qK, qD⟩, fun U hU hW => ⟨rfl, by rw [hU], by rw [hU]; exact hPc, va_K.moved hW.alike hK, hDc.weaken (fun _ _ _ _ => trivial)⟩⟩ rfl rfl hl.1 rfl (lv_room (Nat.le_of_ble_eq_true rfl)) dX8_rounded_12 ⟨Nat.le_of_ble_eq_true rfl, Nat.le_of_ble_eq_true rfl⟩) hS (fun q _ h => hFc q h) hFc (fun r_12 u t H1 locs ht hvm hw hB hz1 hk1 hS => ?_)
    obtain ⟨z_12, rfl⟩ : ∃ z, z = u := ⟨_, rfl⟩
    obtain ⟨rfl, p0_12⟩ : r_12 = I3 z_12 ∧ (z_12 = if eX v = 2047 ∧ pX v = 0 then 1 else 0) := hw
    obtain ⟨hP1, hK1, hD1⟩ := hB
    rw [ht] at hP1
    obtain ⟨hP, hD⟩ := va_join (wr := [(am, .inr (0, [.int (I3 th), .int (I3 mn), .ref as_, .ref av, .ref aw, .int (I3 sm), .int (I3 wd), .int (I3 lp), .int (I3 mp), .int (I3 re)])), (as_, .inl (dA 0, 60, .inl (iA SG))), (av, .inl (dA 1, 960, .inr (.inl (lA VL)))), (aw, .inl (dA 1, 1024, .inr (.inl (lA wf))))]) (w1 := []) hP hD [] [0, 1, 2, 3] rfl rfl (by decide) (by decide) hk1 hFc hP1 hD1
    generalize H1 = H at hP hS ⊢
    have hP : va_P (dC, dI) vwCl [(am, .inr (0, [.int (I3 th), .int (I3 mn), .ref as_, .ref av, .ref aw, .int (I3 sm), .int (I3 wd), .int (I3 lp), .int (I3 mp), .int (I3 re)])), (as_, .inl (dA 0, 60, .inl (iA SG))), (av, .inl (dA 1, 960, .inr (.inl (lA VL)))), (aw, .inl (dA 1, 1024, .inr (.inl (lA wf))))] H := hP
    have hD : va_D A [(am, .inr (0, [.int (I3 th), .int (I3 mn), .ref as_, .ref av, .ref aw, .int (I3 sm), .int (I3 wd), .int (I3 lp), .int (I3 mp), .int (I3 re)])), (as_, .inl (dA 0, 60, .inl (iA SG))), (av, .inl (dA 1, 960, .inr (.inl (lA VL)))), (aw, .inl (dA 1, 1024, .inr (.inl (lA wf))))] := hD
    have y_12 := b01 p0_12
    refine ix_if_ne (tgt := 25) hx hb (by first | assumption | decide | (constructor <;> omega)) dX8_rounded_15 (by decide) (fun c_15 => ?_) (fun c_15 => ?_)
    · skip
      refine lv_lload_n hx hb dX8_rounded_25 rfl (lv_at hl 2 rfl) ?_
      have o_15 : Dg wf := by first | assumption | omega | (constructor <;> omega)
      have o_16 : rdX kind v v := by exact ⟨fun q => by exfalso; omega, fun _ => ⟨fun _ => rfl, fun q => by exfalso; omega⟩⟩
      exact W.lret (v := L6 v) hx hb hr (fun t ht hW => ⟨⟨L6 v, (v, wf, wd, lp, mp, re), rfl, ⟨rfl, ⟨o_15, o_16⟩⟩, by rw [ht]; exact hP, va_K.moved hW.alike hK, hD⟩, hS.F ht⟩) hS.2.2 dX8_rounded_26
    · skip
      refine lv_lload_n hx hb dX8_rounded_18 rfl (lv_at hl 2 rfl) ?_
      have h_17 : In6 v := by first | assumption | omega | (constructor <;> omega)
      have hPc := hP.sub (ws' := []) [] rfl
      have hDc := hD.sub (ws' := []) [] (by decide) rfl
      have hFc := va_free (wc := []) hD hS hA [] rfl
      refine va_calli (va_runS (As := [.long (L6 v)]) (rest := []) ⟨hx, hb, hml, hown, hts⟩ (metX8_place l dC dI dA H.size v h_17) (va_cwS 1 hts (lw_S q1040 q1041 q66 q1042) rfl rfl rfl (by decide +kernel) ⟨Nat.le_of_ble_eq_true rfl, Nat.le_of_ble_eq_true rfl⟩) ⟨fun a U g mk q => by obtain ⟨q0, q1, qP, qK, qD⟩ := q; exact ⟨q0, q1, qP, va_K.moved (u := U) (U := U.calling g mk a) (Vm.Alike.refl U.vm) qK, qD⟩, fun U hU hW => ⟨rfl, by rw [hU], by rw [hU]; exact hPc, va_K.moved hW.alike hK, hDc.weaken (fun _ _ _ _ => trivial)⟩⟩ rfl rfl hl.1 rfl (lv_room (Nat.le_of_ble_eq_true rfl)) dX8_rounded_19 ⟨Nat.le_of_ble_eq_true rfl, Nat.le_of_ble_eq_true rfl⟩) hS (fun q _ h => hFc q h) hFc (fun r_19 u t H1 locs ht hvm hw hB hz1 hk1 hS => ?_)
      obtain ⟨z_19, rfl⟩ : ∃ z, z = u := ⟨_, rfl⟩
      obtain ⟨rfl, p0_19⟩ : r_19 = I3 z_19 ∧ (z_19 = plX v) := hw
      obtain ⟨hP1, hK1, hD1⟩ := hB
      rw [ht] at hP1
      obtain ⟨hP, hD⟩ := va_join (wr := [(am, .inr (0, [.int (I3 th), .int (I3 mn), .ref as_, .ref av, .ref aw, .int (I3 sm), .int (I3 wd), .int (I3 lp), .int (I3 mp), .int (I3 re)])), (as_, .inl (dA 0, 60, .inl (iA SG))), (av, .inl (dA 1, 960, .inr (.inl (lA VL)))), (aw, .inl (dA 1, 1024, .inr (.inl (lA wf))))]) (w1 := []) hP hD [] [0, 1, 2, 3] rfl rfl (by decide) (by decide) hk1 hFc hP1 hD1
      generalize H1 = H at hP hS ⊢
      have hP : va_P (dC, dI) vwCl [(am, .inr (0, [.int (I3 th), .int (I3 mn), .ref as_, .ref av, .ref aw, .int (I3 sm), .int (I3 wd), .int (I3 lp), .int (I3 mp), .int (I3 re)])), (as_, .inl (dA 0, 60, .inl (iA SG))), (av, .inl (dA 1, 960, .inr (.inl (lA VL)))), (aw, .inl (dA 1, 1024, .inr (.inl (lA wf))))] H := hP
      have hD : va_D A [(am, .inr (0, [.int (I3 th), .int (I3 mn), .ref as_, .ref av, .ref aw, .int (I3 sm), .int (I3 wd), .int (I3 lp), .int (I3 mp), .int (I3 re)])), (as_, .inl (dA 0, 60, .inl (iA SG))), (av, .inl (dA 1, 960, .inr (.inl (lA VL)))), (aw, .inl (dA 1, 1024, .inr (.inl (lA wf))))] := hD
      refine ix_if_lt (tgt := 27) hx hb (by first | assumption | decide | (constructor <;> omega)) dX8_rounded_22 (by decide) (fun c_22 => ?_) (fun c_22 => ?_)
      · skip
        refine lv_aload_n hx hb dX8_rounded_27 rfl (lv_at hl 0 rfl) ?_
        refine lv_lload_n hx hb dX8_rounded_28 rfl (lv_at hl 2 rfl) ?_
        have h_18 : In6 v := by first | assumption | omega | (constructor <;> omega)
        have hPc := hP.sub (ws' := [(am, .inr (0, [.int (I3 th), .int (I3 mn), .ref as_, .ref av, .ref aw, .int (I3 sm), .int (I3 wd), .int (I3 lp), .int (I3 mp), .int (I3 re)])), (as_, .inl (dA 0, 60, .inl (iA SG))), (av, .inl (dA 1, 960, .inr (.inl (lA VL)))), (aw, .inl (dA 1, 1024, .inr (.inl (lA wf))))]) [0, 1, 2, 3] rfl
        have hDc := hD.sub (ws' := [(am, .inr (0, [.int (I3 th), .int (I3 mn), .ref as_, .ref av, .ref aw, .int (I3 sm), .int (I3 wd), .int (I3 lp), .int (I3 mp), .int (I3 re)])), (as_, .inl (dA 0, 60, .inl (iA SG))), (av, .inl (dA 1, 960, .inr (.inl (lA VL)))), (aw, .inl (dA 1, 1024, .inr (.inl (lA wf))))]) [0, 1, 2, 3] (by decide) rfl
        have hFc := va_free (wc := [(am, .inr (0, [.int (I3 th), .int (I3 mn), .ref as_, .ref av, .ref aw, .int (I3 sm), .int (I3 wd), .int (I3 lp), .int (I3 mp), .int (I3 re)])), (as_, .inl (dA 0, 60, .inl (iA SG))), (av, .inl (dA 1, 960, .inr (.inl (lA VL)))), (aw, .inl (dA 1, 1024, .inr (.inl (lA wf))))]) hD hS hA [0, 1, 2, 3] rfl
        refine va_calll (va_runV (As := [.long (L6 v)]) (rest := []) ⟨hx, hb, hml, hown, hts⟩ (metX8_front l dC dI dA am as_ av aw H.size th mn sm wd lp mp re SG VL wf v h_18) (cwV 1 hts (lw_V q1177 q1179 qs53 q66 q1180) rfl rfl rfl (by decide +kernel) ⟨Nat.le_of_ble_eq_true rfl, Nat.le_of_ble_eq_true rfl⟩) ⟨fun a U g mk q => by obtain ⟨q0, q1, qP, qK, qD⟩ := q; exact ⟨q0, q1, qP, va_K.moved (u := U) (U := U.calling g mk a) (Vm.Alike.refl U.vm) qK, qD⟩, va_recv hK hPc (ci := 0) (q0 := 0) rfl rfl, fun U hU hW => ⟨rfl, by rw [hU], by rw [hU]; exact hPc, va_K.moved hW.alike hK, hDc.weaken (fun _ _ _ _ => trivial)⟩⟩ rfl rfl hl.1 rfl (lv_room (Nat.le_of_ble_eq_true rfl)) dX8_rounded_29 ⟨Nat.le_of_ble_eq_true rfl, Nat.le_of_ble_eq_true rfl⟩) hS (fun q _ h => hFc q h) hFc (fun r_29 u t H1 locs ht hvm hw hB hz1 hk1 hS => ?_)
        obtain ⟨z_29, re1_29⟩ := u
        obtain ⟨rfl, p0_29, p1_29⟩ : r_29 = L6 z_29 ∧ (z_29 = fX v / 2 ^ (-plX v).toNat) ∧ (re1_29 = frR (fX v) (-plX v).toNat) := hw
        obtain ⟨hP1, hK1, hD1⟩ := hB
        rw [ht] at hP1
        obtain ⟨hP, hD⟩ := va_join (wr := []) (w1 := [(am, .inr (0, [.int (I3 th), .int (I3 mn), .ref as_, .ref av, .ref aw, .int (I3 sm), .int (I3 wd), .int (I3 lp), .int (I3 mp), .int (I3 re1_29)])), (as_, .inl (dA 0, 60, .inl (iA SG))), (av, .inl (dA 1, 960, .inr (.inl (lA VL)))), (aw, .inl (dA 1, 1024, .inr (.inl (lA wf))))]) hP hD [0, 1, 2, 3] [] rfl rfl (by decide) (by decide) hk1 hFc hP1 hD1
        generalize H1 = H at hP hS ⊢
        have hP : va_P (dC, dI) vwCl [(am, .inr (0, [.int (I3 th), .int (I3 mn), .ref as_, .ref av, .ref aw, .int (I3 sm), .int (I3 wd), .int (I3 lp), .int (I3 mp), .int (I3 re1_29)])), (as_, .inl (dA 0, 60, .inl (iA SG))), (av, .inl (dA 1, 960, .inr (.inl (lA VL)))), (aw, .inl (dA 1, 1024, .inr (.inl (lA wf))))] H := hP
        have hD : va_D A [(am, .inr (0, [.int (I3 th), .int (I3 mn), .ref as_, .ref av, .ref aw, .int (I3 sm), .int (I3 wd), .int (I3 lp), .int (I3 mp), .int (I3 re1_29)])), (as_, .inl (dA 0, 60, .inl (iA SG))), (av, .inl (dA 1, 960, .inr (.inl (lA VL)))), (aw, .inl (dA 1, 1024, .inr (.inl (lA wf))))] := hD
        have i_r : In3 re1_29 := by rw [p1_29]; constructor <;> omega
        have hrr : 0 ≤ re1_29 ∧ re1_29 ≤ 3 := by rw [p1_29]; exact hr_
        refine lv_lstore (lv' := [(4, .long (L6 z_29)), (0, .ref am), (1, .int (I3 kind)), (2, .long (L6 v))]) hx hb dX8_rounded_32 hl (by decide) rfl (fun ls hl => ?_)
        refine lv_iload_n hx hb dX8_rounded_34 rfl (lv_at hl 2 rfl) ?_
        refine lv_iconst (v := I3 (1)) hx hb dX8_rounded_35 rfl ?_
        refine ix_icmp_ne (tgt := 60) hx hb (by first | assumption | decide | (constructor <;> omega)) (by first | assumption | decide | (constructor <;> omega)) dX8_rounded_36 (by decide) (fun c_36 => ?_) (fun c_36 => ?_)
        · skip
          refine lv_iload_n hx hb dX8_rounded_60 rfl (lv_at hl 2 rfl) ?_
          refine lv_iconst (v := I3 (2)) hx hb dX8_rounded_61 rfl ?_
          refine ix_icmp_ne (tgt := 86) hx hb (by first | assumption | decide | (constructor <;> omega)) (by first | assumption | decide | (constructor <;> omega)) dX8_rounded_62 (by decide) (fun c_62 => ?_) (fun c_62 => ?_)
          · skip
            refine lv_aload_n hx hb dX8_rounded_86 rfl (lv_at hl 1 rfl) ?_
            refine va_get (D := (dC, dI)) (ci := 0) (v := .int (I3 re1_29)) (C := RX8) (T := TX8) (N := 10) hx hb hts in_X8 hown hK hP 0 rfl rfl 9 (by decide) (hts _ q922) (fun _ h9 => h9) rfl dX8_rounded_87 ?_
            refine lv_iconst (v := I3 (3)) hx hb dX8_rounded_90 rfl ?_
            refine ix_icmp_eq (tgt := 111) hx hb (by first | assumption | decide | (constructor <;> omega)) (by first | assumption | decide | (constructor <;> omega)) dX8_rounded_91 (by decide) (fun c_91 => ?_) (fun c_91 => ?_)
            · skip
              refine lv_iconst (v := I3 (1)) hx hb dX8_rounded_111 rfl ?_
              refine lv_goto (tgt := 116) hx hb dX8_rounded_112 (by decide) ?_
              have e_19 : ¬ (eX v = 2047 ∧ pX v ≠ 0) := by first | assumption | omega | (constructor <;> omega)
              have e_20 : ¬ (eX v = 2047 ∨ 0 ≤ plX v) := by first | assumption | omega | (constructor <;> omega)
              have e_21 : z_29 = fX v / 2 ^ (-plX v).toNat := by first | assumption | omega | (constructor <;> omega)
              have e_22 : ((1 : Int) = 1 ∧ rdG kind v (frR (fX v) (-plX v).toNat) (fX v / 2 ^ (-plX v).toNat)) ∨ ((1 : Int) = 0 ∧ ¬ rdG kind v (frR (fX v) (-plX v).toNat) (fX v / 2 ^ (-plX v).toNat)) := by rw [← p1_29, ← p0_29]; first | (refine Or.inl ⟨rfl, ?_⟩; unfold rdG; omega) | (refine Or.inr ⟨rfl, ?_⟩; unfold rdG; omega)
              exact cut_116 1 z_29 re1_29 e_19 e_20 e_21 e_22 _ _ hP hD hS ls (lv_sub hl [1, 2, 3, 0] rfl)
            · skip
              refine lv_aload_n hx hb dX8_rounded_94 rfl (lv_at hl 1 rfl) ?_
              refine va_get (D := (dC, dI)) (ci := 0) (v := .int (I3 re1_29)) (C := RX8) (T := TX8) (N := 10) hx hb hts in_X8 hown hK hP 0 rfl rfl 9 (by decide) (hts _ q922) (fun _ h9 => h9) rfl dX8_rounded_95 ?_
              refine lv_iconst (v := I3 (2)) hx hb dX8_rounded_98 rfl ?_
              refine ix_icmp_ne (tgt := 115) hx hb (by first | assumption | decide | (constructor <;> omega)) (by first | assumption | decide | (constructor <;> omega)) dX8_rounded_99 (by decide) (fun c_99 => ?_) (fun c_99 => ?_)
              · skip
                refine lv_iconst (v := I3 (0)) hx hb dX8_rounded_115 rfl ?_
                have e_23 : ¬ (eX v = 2047 ∧ pX v ≠ 0) := by first | assumption | omega | (constructor <;> omega)
                have e_24 : ¬ (eX v = 2047 ∨ 0 ≤ plX v) := by first | assumption | omega | (constructor <;> omega)
                have e_25 : z_29 = fX v / 2 ^ (-plX v).toNat := by first | assumption | omega | (constructor <;> omega)
                have e_26 : ((0 : Int) = 1 ∧ rdG kind v (frR (fX v) (-plX v).toNat) (fX v / 2 ^ (-plX v).toNat)) ∨ ((0 : Int) = 0 ∧ ¬ rdG kind v (frR (fX v) (-plX v).toNat) (fX v / 2 ^ (-plX v).toNat)) := by rw [← p1_29, ← p0_29]; first | (refine Or.inl ⟨rfl, ?_⟩; unfold rdG; omega) | (refine Or.inr ⟨rfl, ?_⟩; unfold rdG; omega)
                exact cut_116 0 z_29 re1_29 e_23 e_24 e_25 e_26 _ _ hP hD hS ls (lv_sub hl [1, 2, 3, 0] rfl)
              · skip
                refine lv_lload hx hb dX8_rounded_102 (lv_at hl 0 rfl) ?_
                refine lv_lconst (v := L6 1) hx hb dX8_rounded_104 (by decide) ?_
                refine ix_landm hx hb 1 (by decide) (by decide) dX8_rounded_105 ?_
                refine ix_tl (y := z_29 % 2) rfl ?_
                refine lv_lconst (v := L6 1) hx hb dX8_rounded_106 (by decide) ?_
                refine ix_lcmp_ne (tgt := 115) hx hb (by first | assumption | decide | (constructor <;> omega)) (by first | assumption | decide | (constructor <;> omega)) dX8_rounded_107 dX8_rounded_108 (by decide) (fun c_107 => ?_) (fun c_107 => ?_)
                · skip
                  refine lv_iconst (v := I3 (0)) hx hb dX8_rounded_115 rfl ?_
                  have e_27 : ¬ (eX v = 2047 ∧ pX v ≠ 0) := by first | assumption | omega | (constructor <;> omega)
                  have e_28 : ¬ (eX v = 2047 ∨ 0 ≤ plX v) := by first | assumption | omega | (constructor <;> omega)
                  have e_29 : z_29 = fX v / 2 ^ (-plX v).toNat := by first | assumption | omega | (constructor <;> omega)
                  have e_30 : ((0 : Int) = 1 ∧ rdG kind v (frR (fX v) (-plX v).toNat) (fX v / 2 ^ (-plX v).toNat)) ∨ ((0 : Int) = 0 ∧ ¬ rdG kind v (frR (fX v) (-plX v).toNat) (fX v / 2 ^ (-plX v).toNat)) := by rw [← p1_29, ← p0_29]; first | (refine Or.inl ⟨rfl, ?_⟩; unfold rdG; omega) | (refine Or.inr ⟨rfl, ?_⟩; unfold rdG; omega)
                  exact cut_116 0 z_29 re1_29 e_27 e_28 e_29 e_30 _ _ hP hD hS ls (lv_sub hl [1, 2, 3, 0] rfl)
                · skip
                  refine lv_iconst (v := I3 (1)) hx hb dX8_rounded_111 rfl ?_
                  refine lv_goto (tgt := 116) hx hb dX8_rounded_112 (by decide) ?_
                  have e_31 : ¬ (eX v = 2047 ∧ pX v ≠ 0) := by first | assumption | omega | (constructor <;> omega)
                  have e_32 : ¬ (eX v = 2047 ∨ 0 ≤ plX v) := by first | assumption | omega | (constructor <;> omega)
                  have e_33 : z_29 = fX v / 2 ^ (-plX v).toNat := by first | assumption | omega | (constructor <;> omega)
                  have e_34 : ((1 : Int) = 1 ∧ rdG kind v (frR (fX v) (-plX v).toNat) (fX v / 2 ^ (-plX v).toNat)) ∨ ((1 : Int) = 0 ∧ ¬ rdG kind v (frR (fX v) (-plX v).toNat) (fX v / 2 ^ (-plX v).toNat)) := by rw [← p1_29, ← p0_29]; first | (refine Or.inl ⟨rfl, ?_⟩; unfold rdG; omega) | (refine Or.inr ⟨rfl, ?_⟩; unfold rdG; omega)
                  exact cut_116 1 z_29 re1_29 e_31 e_32 e_33 e_34 _ _ hP hD hS ls (lv_sub hl [1, 2, 3, 0] rfl)
          · skip
            refine lv_lload_n hx hb dX8_rounded_65 rfl (lv_at hl 3 rfl) ?_
            refine lv_lconst (v := L6 0) hx hb dX8_rounded_66 (by decide) ?_
            refine ix_lcmp_lt (tgt := 82) hx hb (by first | assumption | decide | (constructor <;> omega)) (by first | assumption | decide | (constructor <;> omega)) dX8_rounded_67 dX8_rounded_68 (by decide) (fun c_67 => ?_) (fun c_67 => ?_)
            · skip
              refine lv_iconst (v := I3 (0)) hx hb dX8_rounded_82 rfl ?_
              refine lv_goto (tgt := 116) hx hb dX8_rounded_83 (by decide) ?_
              have e_35 : ¬ (eX v = 2047 ∧ pX v ≠ 0) := by first | assumption | omega | (constructor <;> omega)
              have e_36 : ¬ (eX v = 2047 ∨ 0 ≤ plX v) := by first | assumption | omega | (constructor <;> omega)
              have e_37 : z_29 = fX v / 2 ^ (-plX v).toNat := by first | assumption | omega | (constructor <;> omega)
              have e_38 : ((0 : Int) = 1 ∧ rdG kind v (frR (fX v) (-plX v).toNat) (fX v / 2 ^ (-plX v).toNat)) ∨ ((0 : Int) = 0 ∧ ¬ rdG kind v (frR (fX v) (-plX v).toNat) (fX v / 2 ^ (-plX v).toNat)) := by rw [← p1_29, ← p0_29]; first | (refine Or.inl ⟨rfl, ?_⟩; unfold rdG; omega) | (refine Or.inr ⟨rfl, ?_⟩; unfold rdG; omega)
              exact cut_116 0 z_29 re1_29 e_35 e_36 e_37 e_38 _ _ hP hD hS ls (lv_sub hl [1, 2, 3, 0] rfl)
            · skip
              refine lv_aload_n hx hb dX8_rounded_71 rfl (lv_at hl 1 rfl) ?_
              refine va_get (D := (dC, dI)) (ci := 0) (v := .int (I3 re1_29)) (C := RX8) (T := TX8) (N := 10) hx hb hts in_X8 hown hK hP 0 rfl rfl 9 (by decide) (hts _ q922) (fun _ h9 => h9) rfl dX8_rounded_72 ?_
              refine ix_if_le (tgt := 82) hx hb (by first | assumption | decide | (constructor <;> omega)) dX8_rounded_75 (by decide) (fun c_75 => ?_) (fun c_75 => ?_)
              · skip
                refine lv_iconst (v := I3 (0)) hx hb dX8_rounded_82 rfl ?_
                refine lv_goto (tgt := 116) hx hb dX8_rounded_83 (by decide) ?_
                have e_39 : ¬ (eX v = 2047 ∧ pX v ≠ 0) := by first | assumption | omega | (constructor <;> omega)
                have e_40 : ¬ (eX v = 2047 ∨ 0 ≤ plX v) := by first | assumption | omega | (constructor <;> omega)
                have e_41 : z_29 = fX v / 2 ^ (-plX v).toNat := by first | assumption | omega | (constructor <;> omega)
                have e_42 : ((0 : Int) = 1 ∧ rdG kind v (frR (fX v) (-plX v).toNat) (fX v / 2 ^ (-plX v).toNat)) ∨ ((0 : Int) = 0 ∧ ¬ rdG kind v (frR (fX v) (-plX v).toNat) (fX v / 2 ^ (-plX v).toNat)) := by rw [← p1_29, ← p0_29]; first | (refine Or.inl ⟨rfl, ?_⟩; unfold rdG; omega) | (refine Or.inr ⟨rfl, ?_⟩; unfold rdG; omega)
                exact cut_116 0 z_29 re1_29 e_39 e_40 e_41 e_42 _ _ hP hD hS ls (lv_sub hl [1, 2, 3, 0] rfl)
              · skip
                refine lv_iconst (v := I3 (1)) hx hb dX8_rounded_78 rfl ?_
                refine lv_goto (tgt := 116) hx hb dX8_rounded_79 (by decide) ?_
                have e_43 : ¬ (eX v = 2047 ∧ pX v ≠ 0) := by first | assumption | omega | (constructor <;> omega)
                have e_44 : ¬ (eX v = 2047 ∨ 0 ≤ plX v) := by first | assumption | omega | (constructor <;> omega)
                have e_45 : z_29 = fX v / 2 ^ (-plX v).toNat := by first | assumption | omega | (constructor <;> omega)
                have e_46 : ((1 : Int) = 1 ∧ rdG kind v (frR (fX v) (-plX v).toNat) (fX v / 2 ^ (-plX v).toNat)) ∨ ((1 : Int) = 0 ∧ ¬ rdG kind v (frR (fX v) (-plX v).toNat) (fX v / 2 ^ (-plX v).toNat)) := by rw [← p1_29, ← p0_29]; first | (refine Or.inl ⟨rfl, ?_⟩; unfold rdG; omega) | (refine Or.inr ⟨rfl, ?_⟩; unfold rdG; omega)
                exact cut_116 1 z_29 re1_29 e_43 e_44 e_45 e_46 _ _ hP hD hS ls (lv_sub hl [1, 2, 3, 0] rfl)
        · skip
          refine lv_lload_n hx hb dX8_rounded_39 rfl (lv_at hl 3 rfl) ?_
          refine lv_lconst (v := L6 0) hx hb dX8_rounded_40 (by decide) ?_
          refine ix_lcmp_ge (tgt := 56) hx hb (by first | assumption | decide | (constructor <;> omega)) (by first | assumption | decide | (constructor <;> omega)) dX8_rounded_41 dX8_rounded_42 (by decide) (fun c_41 => ?_) (fun c_41 => ?_)
          · skip
            refine lv_iconst (v := I3 (0)) hx hb dX8_rounded_56 rfl ?_
            refine lv_goto (tgt := 116) hx hb dX8_rounded_57 (by decide) ?_
            have e_47 : ¬ (eX v = 2047 ∧ pX v ≠ 0) := by first | assumption | omega | (constructor <;> omega)
            have e_48 : ¬ (eX v = 2047 ∨ 0 ≤ plX v) := by first | assumption | omega | (constructor <;> omega)
            have e_49 : z_29 = fX v / 2 ^ (-plX v).toNat := by first | assumption | omega | (constructor <;> omega)
            have e_50 : ((0 : Int) = 1 ∧ rdG kind v (frR (fX v) (-plX v).toNat) (fX v / 2 ^ (-plX v).toNat)) ∨ ((0 : Int) = 0 ∧ ¬ rdG kind v (frR (fX v) (-plX v).toNat) (fX v / 2 ^ (-plX v).toNat)) := by rw [← p1_29, ← p0_29]; first | (refine Or.inl ⟨rfl, ?_⟩; unfold rdG; omega) | (refine Or.inr ⟨rfl, ?_⟩; unfold rdG; omega)
            exact cut_116 0 z_29 re1_29 e_47 e_48 e_49 e_50 _ _ hP hD hS ls (lv_sub hl [1, 2, 3, 0] rfl)
          · skip
            refine lv_aload_n hx hb dX8_rounded_45 rfl (lv_at hl 1 rfl) ?_
            refine va_get (D := (dC, dI)) (ci := 0) (v := .int (I3 re1_29)) (C := RX8) (T := TX8) (N := 10) hx hb hts in_X8 hown hK hP 0 rfl rfl 9 (by decide) (hts _ q922) (fun _ h9 => h9) rfl dX8_rounded_46 ?_
            refine ix_if_le (tgt := 56) hx hb (by first | assumption | decide | (constructor <;> omega)) dX8_rounded_49 (by decide) (fun c_49 => ?_) (fun c_49 => ?_)
            · skip
              refine lv_iconst (v := I3 (0)) hx hb dX8_rounded_56 rfl ?_
              refine lv_goto (tgt := 116) hx hb dX8_rounded_57 (by decide) ?_
              have e_51 : ¬ (eX v = 2047 ∧ pX v ≠ 0) := by first | assumption | omega | (constructor <;> omega)
              have e_52 : ¬ (eX v = 2047 ∨ 0 ≤ plX v) := by first | assumption | omega | (constructor <;> omega)
              have e_53 : z_29 = fX v / 2 ^ (-plX v).toNat := by first | assumption | omega | (constructor <;> omega)
              have e_54 : ((0 : Int) = 1 ∧ rdG kind v (frR (fX v) (-plX v).toNat) (fX v / 2 ^ (-plX v).toNat)) ∨ ((0 : Int) = 0 ∧ ¬ rdG kind v (frR (fX v) (-plX v).toNat) (fX v / 2 ^ (-plX v).toNat)) := by rw [← p1_29, ← p0_29]; first | (refine Or.inl ⟨rfl, ?_⟩; unfold rdG; omega) | (refine Or.inr ⟨rfl, ?_⟩; unfold rdG; omega)
              exact cut_116 0 z_29 re1_29 e_51 e_52 e_53 e_54 _ _ hP hD hS ls (lv_sub hl [1, 2, 3, 0] rfl)
            · skip
              refine lv_iconst (v := I3 (1)) hx hb dX8_rounded_52 rfl ?_
              refine lv_goto (tgt := 116) hx hb dX8_rounded_53 (by decide) ?_
              have e_55 : ¬ (eX v = 2047 ∧ pX v ≠ 0) := by first | assumption | omega | (constructor <;> omega)
              have e_56 : ¬ (eX v = 2047 ∨ 0 ≤ plX v) := by first | assumption | omega | (constructor <;> omega)
              have e_57 : z_29 = fX v / 2 ^ (-plX v).toNat := by first | assumption | omega | (constructor <;> omega)
              have e_58 : ((1 : Int) = 1 ∧ rdG kind v (frR (fX v) (-plX v).toNat) (fX v / 2 ^ (-plX v).toNat)) ∨ ((1 : Int) = 0 ∧ ¬ rdG kind v (frR (fX v) (-plX v).toNat) (fX v / 2 ^ (-plX v).toNat)) := by rw [← p1_29, ← p0_29]; first | (refine Or.inl ⟨rfl, ?_⟩; unfold rdG; omega) | (refine Or.inr ⟨rfl, ?_⟩; unfold rdG; omega)
              exact cut_116 1 z_29 re1_29 e_55 e_56 e_57 e_58 _ _ hP hD hS ls (lv_sub hl [1, 2, 3, 0] rfl)
      · skip
        refine lv_lload_n hx hb dX8_rounded_25 rfl (lv_at hl 2 rfl) ?_
        have o_59 : Dg wf := by first | assumption | omega | (constructor <;> omega)
        have o_60 : rdX kind v v := by exact ⟨fun q => by exfalso; omega, fun _ => ⟨fun _ => rfl, fun q => by exfalso; omega⟩⟩
        exact W.lret (v := L6 v) hx hb hr (fun t ht hW => ⟨⟨L6 v, (v, wf, wd, lp, mp, re), rfl, ⟨rfl, ⟨o_59, o_60⟩⟩, by rw [ht]; exact hP, va_K.moved hW.alike hK, hD⟩, hS.F ht⟩) hS.2.2 dX8_rounded_26
  · skip
    refine lv_ldc2 hx hb hown (hts _ q1167) dX8_rounded_7 ?_
    refine ix_vl (x := (9221120237041090560)) (by decide) ?_
    have o_61 : Dg wf := by first | assumption | omega | (constructor <;> omega)
    have o_62 : rdX kind v (9221120237041090560 : Int) := by exact ⟨fun _ => rfl, fun q => by exfalso; omega⟩
    exact W.lret (v := L6 9221120237041090560) hx hb hr (fun t ht hW => ⟨⟨L6 9221120237041090560, (9221120237041090560, wf, wd, lp, mp, re), rfl, ⟨rfl, ⟨o_61, o_62⟩⟩, by rw [ht]; exact hP, va_K.moved hW.alike hK, hD⟩, hS.F ht⟩) hS.2.2 dX8_rounded_10
