/-! the model: cut, cast -/
set_option maxRecDepth 100000
abbrev BmetX8_cut (dC : Nat → ClassId) (dI : Nat → Nat → Nat) (dA : Nat → ClassId) (A : Nat → Prop) (am : Nat) (as_ : Nat) (av : Nat) (aw : Nat) (th : Int) (mn : Int) (sm : Int) (wd : Int) (lp : Int) (mp : Int) (re : Int) (SG : Int → Int) (VL : Int → Int) (wf : Int → Int) (v : Int) (o : Int) : Int × Int → State → Prop := fun u t => (fun (u : Int × Int) => (fun (z : Int) (re1 : Int) => va_P (dC, dI) vwCl [(am, .inr (0, [.int (I3 th), .int (I3 mn), .ref as_, .ref av, .ref aw, .int (I3 sm), .int (I3 wd), .int (I3 lp), .int (I3 mp), .int (I3 re1)])), (as_, .inl (dA 0, 60, .inl (iA SG))), (av, .inl (dA 1, 960, .inr (.inl (lA VL)))), (aw, .inl (dA 1, 1024, .inr (.inl (lA wf))))] t.heap ∧ va_K (dC, dI) vwCl (tyA dA) t ∧ va_D A [(am, .inr (0, [.int (I3 th), .int (I3 mn), .ref as_, .ref av, .ref aw, .int (I3 sm), .int (I3 wd), .int (I3 lp), .int (I3 mp), .int (I3 re1)])), (as_, .inl (dA 0, 60, .inl (iA SG))), (av, .inl (dA 1, 960, .inr (.inl (lA VL)))), (aw, .inl (dA 1, 1024, .inr (.inl (lA wf))))]) u.1 u.2) u
abbrev QmetX8_cut (dC : Nat → ClassId) (dI : Nat → Nat → Nat) (dA : Nat → ClassId) (A : Nat → Prop) (am : Nat) (as_ : Nat) (av : Nat) (aw : Nat) (th : Int) (mn : Int) (sm : Int) (wd : Int) (lp : Int) (mp : Int) (re : Int) (SG : Int → Int) (VL : Int → Int) (wf : Int → Int) (v : Int) (o : Int) := va_Ql (fun (rt_ : Int64) => fun (u : Int × Int) => (fun (z : Int) (re1 : Int) => rt_ = L6 z ∧ (z = cutX v (if o = 1 then 9223372036854775807 else 2147483647))) u.1 u.2) (BmetX8_cut dC dI dA A am as_ av aw th mn sm wd lp mp re SG VL wf v o) A
set_option maxHeartbeats 4000000 in
set_option maxRecDepth 100000 in
/-- cut -/
theorem metX8_cut (l : Launch) (dC : Nat → ClassId) (dI : Nat → Nat → Nat) (dA : Nat → ClassId) (am : Nat) (as_ : Nat) (av : Nat) (aw : Nat) (sz : Nat) (th : Int) (mn : Int) (sm : Int) (wd : Int) (lp : Int) (mp : Int) (re : Int) (SG : Int → Int) (VL : Int → Int) (wf : Int → Int) (v : Int) (o : Int) (hv : In6 v) (ho : o = 0 ∨ o = 1) : Met l yX8_cut (ws_ yX8_cut cX8_cut 9 (some .long)) ({ frames := 4, cells := 0, slots := 0, locals := 160 }) (va_Pc [.ref am, .long (L6 v), .int (I3 o)] (fun U => U.heap.size = sz ∧ va_P (dC, dI) vwCl [(am, .inr (0, [.int (I3 th), .int (I3 mn), .ref as_, .ref av, .ref aw, .int (I3 sm), .int (I3 wd), .int (I3 lp), .int (I3 mp), .int (I3 re)])), (as_, .inl (dA 0, 60, .inl (iA SG))), (av, .inl (dA 1, 960, .inr (.inl (lA VL)))), (aw, .inl (dA 1, 1024, .inr (.inl (lA wf))))] U.heap ∧ va_K (dC, dI) vwCl (tyA dA) U ∧ va_D (fun _ => True) [(am, .inr (0, [.int (I3 th), .int (I3 mn), .ref as_, .ref av, .ref aw, .int (I3 sm), .int (I3 wd), .int (I3 lp), .int (I3 mp), .int (I3 re)])), (as_, .inl (dA 0, 60, .inl (iA SG))), (av, .inl (dA 1, 960, .inr (.inl (lA VL)))), (aw, .inl (dA 1, 1024, .inr (.inl (lA wf))))])) (QmetX8_cut dC dI dA (va_A [(am, .inr (0, [.int (I3 th), .int (I3 mn), .ref as_, .ref av, .ref aw, .int (I3 sm), .int (I3 wd), .int (I3 lp), .int (I3 mp), .int (I3 re)])), (as_, .inl (dA 0, 60, .inl (iA SG))), (av, .inl (dA 1, 960, .inr (.inl (lA VL)))), (aw, .inl (dA 1, 1024, .inr (.inl (lA wf))))] sz) am as_ av aw th mn sm wd lp mp re SG VL wf v o) 0 0 (va_A [(am, .inr (0, [.int (I3 th), .int (I3 mn), .ref as_, .ref av, .ref aw, .int (I3 sm), .int (I3 wd), .int (I3 lp), .int (I3 mp), .int (I3 re)])), (as_, .inl (dA 0, 60, .inl (iA SG))), (av, .inl (dA 1, 960, .inr (.inl (lA VL)))), (aw, .inl (dA 1, 1024, .inr (.inl (lA wf))))] sz) := by
  refine Met.ofW (cc := cX8_cut) (maxL := 9) (ret := (some .long)) (by decide) rfl ?_
  intro p e s m args below meth c s₁ B hml hv
  obtain ⟨rfl, hsz, hP, hK, hD0⟩ := hv
  have hx := B.exec
  have hb := B.bytes
  have hr := B.returns
  have hts := atoms_spec (ws := (ws_ yX8_cut cX8_cut 9 (some .long))) B.pre
  have hts : ∀ w ∈ lw_all, w.before _ s = true := fun w h => hts w (List.mem_cons_of_mem _ h)
  have hown : s.vm.findClass RX8 = some m.cls := findClass_of_methodNamed B.named
  have hlocks := B.notSynchronized
  subst hsz
  have hD := hD0.self (sz := s.heap.size)
  generalize hAe : va_A [(am, .inr (0, [.int (I3 th), .int (I3 mn), .ref as_, .ref av, .ref aw, .int (I3 sm), .int (I3 wd), .int (I3 lp), .int (I3 mp), .int (I3 re)])), (as_, .inl (dA 0, 60, .inl (iA SG))), (av, .inl (dA 1, 960, .inr (.inl (lA VL)))), (aw, .inl (dA 1, 1024, .inr (.inl (lA wf))))] s.heap.size = A at hD ⊢
  have hA : ∀ q : Nat, s.heap.size ≤ q → A q := fun q h => by rw [← hAe]; exact Or.inr h
  have hS : va_S A s.heap s.heap [] := va_S.rf
  have hP : va_P (dC, dI) vwCl [(am, .inr (0, [.int (I3 th), .int (I3 mn), .ref as_, .ref av, .ref aw, .int (I3 sm), .int (I3 wd), .int (I3 lp), .int (I3 mp), .int (I3 re)])), (as_, .inl (dA 0, 60, .inl (iA SG))), (av, .inl (dA 1, 960, .inr (.inl (lA VL)))), (aw, .inl (dA 1, 1024, .inr (.inl (lA wf))))] s.heap := hP
  have hl := lv_entry ([.ref am, .long (L6 v), .int (I3 o)]) (n := 9) (Nat.le_of_ble_eq_true rfl)
  rw [lg_entry_eq]
  generalize (lg_sl ([.ref am, .long (L6 v), .int (I3 o)]) ++ List.replicate (9 - (lg_sl ([.ref am, .long (L6 v), .int (I3 o)])).length) Slot.unset).toArray = ls at hl ⊢
  have hl : lv_has ls 9 [(0, .ref am), (1, .long (L6 v)), (3, .int (I3 o))] := hl
  have cut_79 : ∀ (vv : Int) (mo : Int) (re5 : Int), (¬ noX v) → (¬ infX v) → (plX v ≤ 10) → ((o = 1 ∧ mo = 9223372036854775807) ∨ (o = 0 ∧ mo = 2147483647)) → (vv = tX v) → ∀ (H : Heap) (locs : List Loc), va_P (dC, dI) vwCl [(am, .inr (0, [.int (I3 th), .int (I3 mn), .ref as_, .ref av, .ref aw, .int (I3 sm), .int (I3 wd), .int (I3 lp), .int (I3 mp), .int (I3 re5)])), (as_, .inl (dA 0, 60, .inl (iA SG))), (av, .inl (dA 1, 960, .inr (.inl (lA VL)))), (aw, .inl (dA 1, 1024, .inr (.inl (lA wf))))] H → va_D A [(am, .inr (0, [.int (I3 th), .int (I3 mn), .ref as_, .ref av, .ref aw, .int (I3 sm), .int (I3 wd), .int (I3 lp), .int (I3 mp), .int (I3 re5)])), (as_, .inl (dA 0, 60, .inl (iA SG))), (av, .inl (dA 1, 960, .inr (.inl (lA VL)))), (aw, .inl (dA 1, 1024, .inr (.inl (lA wf))))] → va_S A s.heap H locs → ∀ (ls : Array Slot), lv_has ls 9 [(0, .ref am), (1, .long (L6 v)), (3, .int (I3 o)), (4, .long (L6 mo)), (6, .int (I3 0))] → W p l e (headSpec (ws_ yX8_cut cX8_cut 9 (some .long)) ({ frames := 4, cells := 0, slots := 0, locals := 160 })).room s m ([.ref am, .long (L6 v), .int (I3 o)] : List Value).toArray below meth c H locs 0 0 (MQ below (QmetX8_cut dC dI dA A am as_ av aw th mn sm wd lp mp re SG VL wf v o) ([.ref am, .long (L6 v), .int (I3 o)] : List Value).toArray s 0 0 A) (F0 m 79 ls [.long (L6 vv)]) := by
    intro vv mo re5 n1 n3 hpl hmo hvv H locs hP hD hS ls hl
    have xv_ := eX_r v
    have fv_ := fX_r v
    have pv_ := plX_r v
    have qv_ := pX_r v
    have tn_ := tX_nn v
    have em : (if o = 1 then (9223372036854775807 : Int) else 2147483647) = mo := by rcases hmo with ⟨q1, q2⟩ | ⟨q1, q2⟩ <;> subst q1 <;> subst q2 <;> rfl
    have htl := tX_lt (v := v) hpl
    refine lv_lstore (lv' := [(7, .long (L6 vv)), (0, .ref am), (1, .long (L6 v)), (3, .int (I3 o)), (4, .long (L6 mo)), (6, .int (I3 0))]) hx hb dX8_cut_79 hl (by decide) rfl (fun ls hl => ?_)
    refine lv_lload_n hx hb dX8_cut_81 rfl (lv_at hl 2 rfl) ?_
    have h_1 : In6 v := by first | assumption | omega | (constructor <;> omega)
    have hPc := hP.sub (ws' := []) [] rfl
    have hDc := hD.sub (ws' := []) [] (by decide) rfl
    have hFc := va_free (wc := []) hD hS hA [] rfl
    refine va_calli (va_runS (As := [.long (L6 v)]) (rest := []) ⟨hx, hb, hml, hown, hts⟩ (metX8_place l dC dI dA H.size v h_1) (va_cwS 1 hts (lw_S q1040 q1041 q66 q1042) rfl rfl rfl (by decide +kernel) ⟨Nat.le_of_ble_eq_true rfl, Nat.le_of_ble_eq_true rfl⟩) ⟨fun a U g mk q => by obtain ⟨q0, q1, qP, qK, qD⟩ := q; exact ⟨q0, q1, qP, va_K.moved (u := U) (U := U.calling g mk a) (Vm.Alike.refl U.vm) qK, qD⟩, fun U hU hW => ⟨rfl, by rw [hU], by rw [hU]; exact hPc, va_K.moved hW.alike hK, hDc.weaken (fun _ _ _ _ => trivial)⟩⟩ rfl rfl hl.1 rfl (lv_room (Nat.le_of_ble_eq_true rfl)) dX8_cut_82 ⟨Nat.le_of_ble_eq_true rfl, Nat.le_of_ble_eq_true rfl⟩) hS (fun q _ h => hFc q h) hFc (fun r_82 u t H1 locs ht hvm hw hB hz1 hk1 hS => ?_)
    obtain ⟨z_82, rfl⟩ : ∃ z, z = u := ⟨_, rfl⟩
    obtain ⟨rfl, p0_82⟩ : r_82 = I3 z_82 ∧ (z_82 = plX v) := hw
    obtain ⟨hP1, hK1, hD1⟩ := hB
    rw [ht] at hP1
    obtain ⟨hP, hD⟩ := va_join (wr := [(am, .inr (0, [.int (I3 th), .int (I3 mn), .ref as_, .ref av, .ref aw, .int (I3 sm), .int (I3 wd), .int (I3 lp), .int (I3 mp), .int (I3 re5)])), (as_, .inl (dA 0, 60, .inl (iA SG))), (av, .inl (dA 1, 960, .inr (.inl (lA VL)))), (aw, .inl (dA 1, 1024, .inr (.inl (lA wf))))]) (w1 := []) hP hD [] [0, 1, 2, 3] rfl rfl (by decide) (by decide) hk1 hFc hP1 hD1
    generalize H1 = H at hP hS ⊢
    have hP : va_P (dC, dI) vwCl [(am, .inr (0, [.int (I3 th), .int (I3 mn), .ref as_, .ref av, .ref aw, .int (I3 sm), .int (I3 wd), .int (I3 lp), .int (I3 mp), .int (I3 re5)])), (as_, .inl (dA 0, 60, .inl (iA SG))), (av, .inl (dA 1, 960, .inr (.inl (lA VL)))), (aw, .inl (dA 1, 1024, .inr (.inl (lA wf))))] H := hP
    have hD : va_D A [(am, .inr (0, [.int (I3 th), .int (I3 mn), .ref as_, .ref av, .ref aw, .int (I3 sm), .int (I3 wd), .int (I3 lp), .int (I3 mp), .int (I3 re5)])), (as_, .inl (dA 0, 60, .inl (iA SG))), (av, .inl (dA 1, 960, .inr (.inl (lA VL)))), (aw, .inl (dA 1, 1024, .inr (.inl (lA wf))))] := hD
    refine lv_bipush (v := I3 (10)) hx hb dX8_cut_85 (by decide) ?_
    refine ix_icmp_ne (tgt := 102) hx hb (by first | assumption | decide | (constructor <;> omega)) (by first | assumption | decide | (constructor <;> omega)) dX8_cut_87 (by decide) (fun c_87 => ?_) (fun c_87 => ?_)
    · skip
      refine lv_lload hx hb dX8_cut_102 (lv_at hl 0 rfl) ?_
      refine lv_lconst (v := L6 0) hx hb dX8_cut_104 (by decide) ?_
      refine ix_lcmp_lt (tgt := 117) hx hb (by first | assumption | decide | (constructor <;> omega)) (by first | assumption | decide | (constructor <;> omega)) dX8_cut_105 dX8_cut_106 (by decide) (fun c_105 => ?_) (fun c_105 => ?_)
      · skip
        refine lv_iconst (v := I3 (1)) hx hb dX8_cut_117 rfl ?_
        refine lv_goto (tgt := 122) hx hb dX8_cut_118 (by decide) ?_
        refine lv_istore (lv' := [(6, .int (I3 1)), (7, .long (L6 vv)), (0, .ref am), (1, .long (L6 v)), (3, .int (I3 o)), (4, .long (L6 mo))]) hx hb dX8_cut_122 hl (by decide) rfl (fun ls hl => ?_)
        refine lv_iload hx hb dX8_cut_124 (lv_at hl 0 rfl) ?_
        refine ix_if_eq (tgt := 146) hx hb (by first | assumption | decide | (constructor <;> omega)) dX8_cut_126 (by decide) (fun c_126 => ?_) (fun c_126 => ?_)
        · skip
          omega
        · skip
          refine lv_lload_n hx hb dX8_cut_129 rfl (lv_at hl 3 rfl) ?_
          refine lv_lconst (v := L6 0) hx hb dX8_cut_130 (by decide) ?_
          refine ix_lcmp_ge (tgt := 143) hx hb (by first | assumption | decide | (constructor <;> omega)) (by first | assumption | decide | (constructor <;> omega)) dX8_cut_131 dX8_cut_132 (by decide) (fun c_131 => ?_) (fun c_131 => ?_)
          · skip
            refine lv_lload hx hb dX8_cut_143 (lv_at hl 5 rfl) ?_
            have o_2 : mo = cutX v (if o = 1 then 9223372036854775807 else 2147483647) := by rw [em]; unfold cutX; first | (rw [if_pos (by omega)]; first | done | omega) | (rw [if_pos (by omega), if_pos (by omega)]; first | done | omega) | (rw [if_neg (by omega), if_pos (by omega), if_pos (by omega)]; first | done | omega) | (rw [if_neg (by omega), if_pos (by omega), if_neg (by omega)]; first | done | omega) | (rw [if_neg (by omega), if_neg (by omega), if_pos (by omega)]; first | done | omega) | (rw [if_neg (by omega), if_neg (by omega), if_neg (by omega)]; first | done | omega) | (rw [if_pos (by omega), if_pos (by omega), if_pos (by omega)]; first | done | omega) | (rw [if_pos (by omega), if_pos (by omega), if_neg (by omega)]; first | done | omega) | (rw [if_pos (by omega), if_neg (by omega)]; first | done | omega)
            exact W.lret (v := L6 mo) hx hb hr (fun t ht hW => ⟨⟨L6 mo, (mo, re5), rfl, ⟨rfl, o_2⟩, by rw [ht]; exact hP, va_K.moved hW.alike hK, hD⟩, hS.F ht⟩) hS.2.2 dX8_cut_145
          · skip
            refine lv_lload hx hb dX8_cut_135 (lv_at hl 5 rfl) ?_
            refine ix_lneg hx hb dX8_cut_137 ?_
            refine lv_lconst (v := L6 1) hx hb dX8_cut_138 (by decide) ?_
            refine ix_lsub hx hb dX8_cut_139 ?_
            refine lv_goto (tgt := 145) hx hb dX8_cut_140 (by decide) ?_
            have o_3 : ((-mo) - 1) = cutX v (if o = 1 then 9223372036854775807 else 2147483647) := by rw [em]; unfold cutX; first | (rw [if_pos (by omega)]; first | done | omega) | (rw [if_pos (by omega), if_pos (by omega)]; first | done | omega) | (rw [if_neg (by omega), if_pos (by omega), if_pos (by omega)]; first | done | omega) | (rw [if_neg (by omega), if_pos (by omega), if_neg (by omega)]; first | done | omega) | (rw [if_neg (by omega), if_neg (by omega), if_pos (by omega)]; first | done | omega) | (rw [if_neg (by omega), if_neg (by omega), if_neg (by omega)]; first | done | omega) | (rw [if_pos (by omega), if_pos (by omega), if_pos (by omega)]; first | done | omega) | (rw [if_pos (by omega), if_pos (by omega), if_neg (by omega)]; first | done | omega) | (rw [if_pos (by omega), if_neg (by omega)]; first | done | omega)
            exact W.lret (v := L6 ((-mo) - 1)) hx hb hr (fun t ht hW => ⟨⟨L6 ((-mo) - 1), (((-mo) - 1), re5), rfl, ⟨rfl, o_3⟩, by rw [ht]; exact hP, va_K.moved hW.alike hK, hD⟩, hS.F ht⟩) hS.2.2 dX8_cut_145
      · skip
        refine lv_lload hx hb dX8_cut_109 (lv_at hl 0 rfl) ?_
        refine lv_lload hx hb dX8_cut_111 (lv_at hl 4 rfl) ?_
        refine ix_lcmp_le (tgt := 121) hx hb (by first | assumption | decide | (constructor <;> omega)) (by first | assumption | decide | (constructor <;> omega)) dX8_cut_113 dX8_cut_114 (by decide) (fun c_113 => ?_) (fun c_113 => ?_)
        · skip
          refine lv_iconst (v := I3 (0)) hx hb dX8_cut_121 rfl ?_
          refine lv_istore (lv' := [(6, .int (I3 0)), (7, .long (L6 vv)), (0, .ref am), (1, .long (L6 v)), (3, .int (I3 o)), (4, .long (L6 mo))]) hx hb dX8_cut_122 hl (by decide) rfl (fun ls hl => ?_)
          refine lv_iload hx hb dX8_cut_124 (lv_at hl 0 rfl) ?_
          refine ix_if_eq (tgt := 146) hx hb (by first | assumption | decide | (constructor <;> omega)) dX8_cut_126 (by decide) (fun c_126 => ?_) (fun c_126 => ?_)
          · skip
            refine lv_lload_n hx hb dX8_cut_146 rfl (lv_at hl 3 rfl) ?_
            refine lv_lconst (v := L6 0) hx hb dX8_cut_147 (by decide) ?_
            refine ix_lcmp_ge (tgt := 158) hx hb (by first | assumption | decide | (constructor <;> omega)) (by first | assumption | decide | (constructor <;> omega)) dX8_cut_148 dX8_cut_149 (by decide) (fun c_148 => ?_) (fun c_148 => ?_)
            · skip
              refine lv_lload hx hb dX8_cut_158 (lv_at hl 1 rfl) ?_
              have o_4 : vv = cutX v (if o = 1 then 9223372036854775807 else 2147483647) := by rw [em]; unfold cutX; first | (rw [if_pos (by omega)]; first | done | omega) | (rw [if_pos (by omega), if_pos (by omega)]; first | done | omega) | (rw [if_neg (by omega), if_pos (by omega), if_pos (by omega)]; first | done | omega) | (rw [if_neg (by omega), if_pos (by omega), if_neg (by omega)]; first | done | omega) | (rw [if_neg (by omega), if_neg (by omega), if_pos (by omega)]; first | done | omega) | (rw [if_neg (by omega), if_neg (by omega), if_neg (by omega)]; first | done | omega) | (rw [if_pos (by omega), if_pos (by omega), if_pos (by omega)]; first | done | omega) | (rw [if_pos (by omega), if_pos (by omega), if_neg (by omega)]; first | done | omega) | (rw [if_pos (by omega), if_neg (by omega)]; first | done | omega)
              exact W.lret (v := L6 vv) hx hb hr (fun t ht hW => ⟨⟨L6 vv, (vv, re5), rfl, ⟨rfl, o_4⟩, by rw [ht]; exact hP, va_K.moved hW.alike hK, hD⟩, hS.F ht⟩) hS.2.2 dX8_cut_160
            · skip
              refine lv_lload hx hb dX8_cut_152 (lv_at hl 1 rfl) ?_
              refine ix_lneg hx hb dX8_cut_154 ?_
              refine lv_goto (tgt := 160) hx hb dX8_cut_155 (by decide) ?_
              have o_5 : (-vv) = cutX v (if o = 1 then 9223372036854775807 else 2147483647) := by rw [em]; unfold cutX; first | (rw [if_pos (by omega)]; first | done | omega) | (rw [if_pos (by omega), if_pos (by omega)]; first | done | omega) | (rw [if_neg (by omega), if_pos (by omega), if_pos (by omega)]; first | done | omega) | (rw [if_neg (by omega), if_pos (by omega), if_neg (by omega)]; first | done | omega) | (rw [if_neg (by omega), if_neg (by omega), if_pos (by omega)]; first | done | omega) | (rw [if_neg (by omega), if_neg (by omega), if_neg (by omega)]; first | done | omega) | (rw [if_pos (by omega), if_pos (by omega), if_pos (by omega)]; first | done | omega) | (rw [if_pos (by omega), if_pos (by omega), if_neg (by omega)]; first | done | omega) | (rw [if_pos (by omega), if_neg (by omega)]; first | done | omega)
              exact W.lret (v := L6 (-vv)) hx hb hr (fun t ht hW => ⟨⟨L6 (-vv), ((-vv), re5), rfl, ⟨rfl, o_5⟩, by rw [ht]; exact hP, va_K.moved hW.alike hK, hD⟩, hS.F ht⟩) hS.2.2 dX8_cut_160
          · skip
            omega
        · skip
          refine lv_iconst (v := I3 (1)) hx hb dX8_cut_117 rfl ?_
          refine lv_goto (tgt := 122) hx hb dX8_cut_118 (by decide) ?_
          refine lv_istore (lv' := [(6, .int (I3 1)), (7, .long (L6 vv)), (0, .ref am), (1, .long (L6 v)), (3, .int (I3 o)), (4, .long (L6 mo))]) hx hb dX8_cut_122 hl (by decide) rfl (fun ls hl => ?_)
          refine lv_iload hx hb dX8_cut_124 (lv_at hl 0 rfl) ?_
          refine ix_if_eq (tgt := 146) hx hb (by first | assumption | decide | (constructor <;> omega)) dX8_cut_126 (by decide) (fun c_126 => ?_) (fun c_126 => ?_)
          · skip
            omega
          · skip
            refine lv_lload_n hx hb dX8_cut_129 rfl (lv_at hl 3 rfl) ?_
            refine lv_lconst (v := L6 0) hx hb dX8_cut_130 (by decide) ?_
            refine ix_lcmp_ge (tgt := 143) hx hb (by first | assumption | decide | (constructor <;> omega)) (by first | assumption | decide | (constructor <;> omega)) dX8_cut_131 dX8_cut_132 (by decide) (fun c_131 => ?_) (fun c_131 => ?_)
            · skip
              refine lv_lload hx hb dX8_cut_143 (lv_at hl 5 rfl) ?_
              have o_6 : mo = cutX v (if o = 1 then 9223372036854775807 else 2147483647) := by rw [em]; unfold cutX; first | (rw [if_pos (by omega)]; first | done | omega) | (rw [if_pos (by omega), if_pos (by omega)]; first | done | omega) | (rw [if_neg (by omega), if_pos (by omega), if_pos (by omega)]; first | done | omega) | (rw [if_neg (by omega), if_pos (by omega), if_neg (by omega)]; first | done | omega) | (rw [if_neg (by omega), if_neg (by omega), if_pos (by omega)]; first | done | omega) | (rw [if_neg (by omega), if_neg (by omega), if_neg (by omega)]; first | done | omega) | (rw [if_pos (by omega), if_pos (by omega), if_pos (by omega)]; first | done | omega) | (rw [if_pos (by omega), if_pos (by omega), if_neg (by omega)]; first | done | omega) | (rw [if_pos (by omega), if_neg (by omega)]; first | done | omega)
              exact W.lret (v := L6 mo) hx hb hr (fun t ht hW => ⟨⟨L6 mo, (mo, re5), rfl, ⟨rfl, o_6⟩, by rw [ht]; exact hP, va_K.moved hW.alike hK, hD⟩, hS.F ht⟩) hS.2.2 dX8_cut_145
            · skip
              refine lv_lload hx hb dX8_cut_135 (lv_at hl 5 rfl) ?_
              refine ix_lneg hx hb dX8_cut_137 ?_
              refine lv_lconst (v := L6 1) hx hb dX8_cut_138 (by decide) ?_
              refine ix_lsub hx hb dX8_cut_139 ?_
              refine lv_goto (tgt := 145) hx hb dX8_cut_140 (by decide) ?_
              have o_7 : ((-mo) - 1) = cutX v (if o = 1 then 9223372036854775807 else 2147483647) := by rw [em]; unfold cutX; first | (rw [if_pos (by omega)]; first | done | omega) | (rw [if_pos (by omega), if_pos (by omega)]; first | done | omega) | (rw [if_neg (by omega), if_pos (by omega), if_pos (by omega)]; first | done | omega) | (rw [if_neg (by omega), if_pos (by omega), if_neg (by omega)]; first | done | omega) | (rw [if_neg (by omega), if_neg (by omega), if_pos (by omega)]; first | done | omega) | (rw [if_neg (by omega), if_neg (by omega), if_neg (by omega)]; first | done | omega) | (rw [if_pos (by omega), if_pos (by omega), if_pos (by omega)]; first | done | omega) | (rw [if_pos (by omega), if_pos (by omega), if_neg (by omega)]; first | done | omega) | (rw [if_pos (by omega), if_neg (by omega)]; first | done | omega)
              exact W.lret (v := L6 ((-mo) - 1)) hx hb hr (fun t ht hW => ⟨⟨L6 ((-mo) - 1), (((-mo) - 1), re5), rfl, ⟨rfl, o_7⟩, by rw [ht]; exact hP, va_K.moved hW.alike hK, hD⟩, hS.F ht⟩) hS.2.2 dX8_cut_145
    · skip
      refine lv_lload_n hx hb dX8_cut_90 rfl (lv_at hl 2 rfl) ?_
      have h_8 : In6 v := by first | assumption | omega | (constructor <;> omega)
      have hPc := hP.sub (ws' := []) [] rfl
      have hDc := hD.sub (ws' := []) [] (by decide) rfl
      have hFc := va_free (wc := []) hD hS hA [] rfl
      refine va_calll (va_runS (As := [.long (L6 v)]) (rest := []) ⟨hx, hb, hml, hown, hts⟩ (metX8_factor l dC dI dA H.size v h_8) (va_cwS 1 hts (lw_S q1032 q1033 q66 q1034) rfl rfl rfl (by decide +kernel) ⟨Nat.le_of_ble_eq_true rfl, Nat.le_of_ble_eq_true rfl⟩) ⟨fun a U g mk q => by obtain ⟨q0, q1, qP, qK, qD⟩ := q; exact ⟨q0, q1, qP, va_K.moved (u := U) (U := U.calling g mk a) (Vm.Alike.refl U.vm) qK, qD⟩, fun U hU hW => ⟨rfl, by rw [hU], by rw [hU]; exact hPc, va_K.moved hW.alike hK, hDc.weaken (fun _ _ _ _ => trivial)⟩⟩ rfl rfl hl.1 rfl (lv_room (Nat.le_of_ble_eq_true rfl)) dX8_cut_91 ⟨Nat.le_of_ble_eq_true rfl, Nat.le_of_ble_eq_true rfl⟩) hS (fun q _ h => hFc q h) hFc (fun r_91 u t H1 locs ht hvm hw hB hz1 hk1 hS => ?_)
      obtain ⟨z_91, rfl⟩ : ∃ z, z = u := ⟨_, rfl⟩
      obtain ⟨rfl, p0_91⟩ : r_91 = L6 z_91 ∧ (z_91 = fX v) := hw
      obtain ⟨hP1, hK1, hD1⟩ := hB
      rw [ht] at hP1
      obtain ⟨hP, hD⟩ := va_join (wr := [(am, .inr (0, [.int (I3 th), .int (I3 mn), .ref as_, .ref av, .ref aw, .int (I3 sm), .int (I3 wd), .int (I3 lp), .int (I3 mp), .int (I3 re5)])), (as_, .inl (dA 0, 60, .inl (iA SG))), (av, .inl (dA 1, 960, .inr (.inl (lA VL)))), (aw, .inl (dA 1, 1024, .inr (.inl (lA wf))))]) (w1 := []) hP hD [] [0, 1, 2, 3] rfl rfl (by decide) (by decide) hk1 hFc hP1 hD1
      generalize H1 = H at hP hS ⊢
      have hP : va_P (dC, dI) vwCl [(am, .inr (0, [.int (I3 th), .int (I3 mn), .ref as_, .ref av, .ref aw, .int (I3 sm), .int (I3 wd), .int (I3 lp), .int (I3 mp), .int (I3 re5)])), (as_, .inl (dA 0, 60, .inl (iA SG))), (av, .inl (dA 1, 960, .inr (.inl (lA VL)))), (aw, .inl (dA 1, 1024, .inr (.inl (lA wf))))] H := hP
      have hD : va_D A [(am, .inr (0, [.int (I3 th), .int (I3 mn), .ref as_, .ref av, .ref aw, .int (I3 sm), .int (I3 wd), .int (I3 lp), .int (I3 mp), .int (I3 re5)])), (as_, .inl (dA 0, 60, .inl (iA SG))), (av, .inl (dA 1, 960, .inr (.inl (lA VL)))), (aw, .inl (dA 1, 1024, .inr (.inl (lA wf))))] := hD
      have i_91 : In6 z_91 := by rw [p0_91]; constructor <;> omega
      have d_91 : z_91 / 9007199254740992 = 0 := by omega
      refine lv_bipush (v := I3 (53)) hx hb dX8_cut_94 (by decide) ?_
      refine ix_lshr hx hb (by rw [p0_91]; constructor <;> omega) (by first | decide | omega) dX8_cut_96 ?_
      refine ix_tl (y := z_91 / 9007199254740992) rfl ?_
      refine lv_lconst (v := L6 0) hx hb dX8_cut_97 (by decide) ?_
      refine ix_lcmp_gt (tgt := 117) hx hb (by first | assumption | decide | (constructor <;> omega)) (by first | assumption | decide | (constructor <;> omega)) dX8_cut_98 dX8_cut_99 (by decide) (fun c_98 => ?_) (fun c_98 => ?_)
      · skip
        refine lv_iconst (v := I3 (1)) hx hb dX8_cut_117 rfl ?_
        refine lv_goto (tgt := 122) hx hb dX8_cut_118 (by decide) ?_
        refine lv_istore (lv' := [(6, .int (I3 1)), (7, .long (L6 vv)), (0, .ref am), (1, .long (L6 v)), (3, .int (I3 o)), (4, .long (L6 mo))]) hx hb dX8_cut_122 hl (by decide) rfl (fun ls hl => ?_)
        refine lv_iload hx hb dX8_cut_124 (lv_at hl 0 rfl) ?_
        refine ix_if_eq (tgt := 146) hx hb (by first | assumption | decide | (constructor <;> omega)) dX8_cut_126 (by decide) (fun c_126 => ?_) (fun c_126 => ?_)
        · skip
          omega
        · skip
          refine lv_lload_n hx hb dX8_cut_129 rfl (lv_at hl 3 rfl) ?_
          refine lv_lconst (v := L6 0) hx hb dX8_cut_130 (by decide) ?_
          refine ix_lcmp_ge (tgt := 143) hx hb (by first | assumption | decide | (constructor <;> omega)) (by first | assumption | decide | (constructor <;> omega)) dX8_cut_131 dX8_cut_132 (by decide) (fun c_131 => ?_) (fun c_131 => ?_)
          · skip
            refine lv_lload hx hb dX8_cut_143 (lv_at hl 5 rfl) ?_
            have o_9 : mo = cutX v (if o = 1 then 9223372036854775807 else 2147483647) := by rw [em]; unfold cutX; first | (rw [if_pos (by omega)]; first | done | omega) | (rw [if_pos (by omega), if_pos (by omega)]; first | done | omega) | (rw [if_neg (by omega), if_pos (by omega), if_pos (by omega)]; first | done | omega) | (rw [if_neg (by omega), if_pos (by omega), if_neg (by omega)]; first | done | omega) | (rw [if_neg (by omega), if_neg (by omega), if_pos (by omega)]; first | done | omega) | (rw [if_neg (by omega), if_neg (by omega), if_neg (by omega)]; first | done | omega) | (rw [if_pos (by omega), if_pos (by omega), if_pos (by omega)]; first | done | omega) | (rw [if_pos (by omega), if_pos (by omega), if_neg (by omega)]; first | done | omega) | (rw [if_pos (by omega), if_neg (by omega)]; first | done | omega)
            exact W.lret (v := L6 mo) hx hb hr (fun t ht hW => ⟨⟨L6 mo, (mo, re5), rfl, ⟨rfl, o_9⟩, by rw [ht]; exact hP, va_K.moved hW.alike hK, hD⟩, hS.F ht⟩) hS.2.2 dX8_cut_145
          · skip
            refine lv_lload hx hb dX8_cut_135 (lv_at hl 5 rfl) ?_
            refine ix_lneg hx hb dX8_cut_137 ?_
            refine lv_lconst (v := L6 1) hx hb dX8_cut_138 (by decide) ?_
            refine ix_lsub hx hb dX8_cut_139 ?_
            refine lv_goto (tgt := 145) hx hb dX8_cut_140 (by decide) ?_
            have o_10 : ((-mo) - 1) = cutX v (if o = 1 then 9223372036854775807 else 2147483647) := by rw [em]; unfold cutX; first | (rw [if_pos (by omega)]; first | done | omega) | (rw [if_pos (by omega), if_pos (by omega)]; first | done | omega) | (rw [if_neg (by omega), if_pos (by omega), if_pos (by omega)]; first | done | omega) | (rw [if_neg (by omega), if_pos (by omega), if_neg (by omega)]; first | done | omega) | (rw [if_neg (by omega), if_neg (by omega), if_pos (by omega)]; first | done | omega) | (rw [if_neg (by omega), if_neg (by omega), if_neg (by omega)]; first | done | omega) | (rw [if_pos (by omega), if_pos (by omega), if_pos (by omega)]; first | done | omega) | (rw [if_pos (by omega), if_pos (by omega), if_neg (by omega)]; first | done | omega) | (rw [if_pos (by omega), if_neg (by omega)]; first | done | omega)
            exact W.lret (v := L6 ((-mo) - 1)) hx hb hr (fun t ht hW => ⟨⟨L6 ((-mo) - 1), (((-mo) - 1), re5), rfl, ⟨rfl, o_10⟩, by rw [ht]; exact hP, va_K.moved hW.alike hK, hD⟩, hS.F ht⟩) hS.2.2 dX8_cut_145
      · skip
        refine lv_lload hx hb dX8_cut_102 (lv_at hl 0 rfl) ?_
        refine lv_lconst (v := L6 0) hx hb dX8_cut_104 (by decide) ?_
        refine ix_lcmp_lt (tgt := 117) hx hb (by first | assumption | decide | (constructor <;> omega)) (by first | assumption | decide | (constructor <;> omega)) dX8_cut_105 dX8_cut_106 (by decide) (fun c_105 => ?_) (fun c_105 => ?_)
        · skip
          refine lv_iconst (v := I3 (1)) hx hb dX8_cut_117 rfl ?_
          refine lv_goto (tgt := 122) hx hb dX8_cut_118 (by decide) ?_
          refine lv_istore (lv' := [(6, .int (I3 1)), (7, .long (L6 vv)), (0, .ref am), (1, .long (L6 v)), (3, .int (I3 o)), (4, .long (L6 mo))]) hx hb dX8_cut_122 hl (by decide) rfl (fun ls hl => ?_)
          refine lv_iload hx hb dX8_cut_124 (lv_at hl 0 rfl) ?_
          refine ix_if_eq (tgt := 146) hx hb (by first | assumption | decide | (constructor <;> omega)) dX8_cut_126 (by decide) (fun c_126 => ?_) (fun c_126 => ?_)
          · skip
            omega
          · skip
            refine lv_lload_n hx hb dX8_cut_129 rfl (lv_at hl 3 rfl) ?_
            refine lv_lconst (v := L6 0) hx hb dX8_cut_130 (by decide) ?_
            refine ix_lcmp_ge (tgt := 143) hx hb (by first | assumption | decide | (constructor <;> omega)) (by first | assumption | decide | (constructor <;> omega)) dX8_cut_131 dX8_cut_132 (by decide) (fun c_131 => ?_) (fun c_131 => ?_)
            · skip
              refine lv_lload hx hb dX8_cut_143 (lv_at hl 5 rfl) ?_
              have o_11 : mo = cutX v (if o = 1 then 9223372036854775807 else 2147483647) := by rw [em]; unfold cutX; first | (rw [if_pos (by omega)]; first | done | omega) | (rw [if_pos (by omega), if_pos (by omega)]; first | done | omega) | (rw [if_neg (by omega), if_pos (by omega), if_pos (by omega)]; first | done | omega) | (rw [if_neg (by omega), if_pos (by omega), if_neg (by omega)]; first | done | omega) | (rw [if_neg (by omega), if_neg (by omega), if_pos (by omega)]; first | done | omega) | (rw [if_neg (by omega), if_neg (by omega), if_neg (by omega)]; first | done | omega) | (rw [if_pos (by omega), if_pos (by omega), if_pos (by omega)]; first | done | omega) | (rw [if_pos (by omega), if_pos (by omega), if_neg (by omega)]; first | done | omega) | (rw [if_pos (by omega), if_neg (by omega)]; first | done | omega)
              exact W.lret (v := L6 mo) hx hb hr (fun t ht hW => ⟨⟨L6 mo, (mo, re5), rfl, ⟨rfl, o_11⟩, by rw [ht]; exact hP, va_K.moved hW.alike hK, hD⟩, hS.F ht⟩) hS.2.2 dX8_cut_145
            · skip
              refine lv_lload hx hb dX8_cut_135 (lv_at hl 5 rfl) ?_
              refine ix_lneg hx hb dX8_cut_137 ?_
              refine lv_lconst (v := L6 1) hx hb dX8_cut_138 (by decide) ?_
              refine ix_lsub hx hb dX8_cut_139 ?_
              refine lv_goto (tgt := 145) hx hb dX8_cut_140 (by decide) ?_
              have o_12 : ((-mo) - 1) = cutX v (if o = 1 then 9223372036854775807 else 2147483647) := by rw [em]; unfold cutX; first | (rw [if_pos (by omega)]; first | done | omega) | (rw [if_pos (by omega), if_pos (by omega)]; first | done | omega) | (rw [if_neg (by omega), if_pos (by omega), if_pos (by omega)]; first | done | omega) | (rw [if_neg (by omega), if_pos (by omega), if_neg (by omega)]; first | done | omega) | (rw [if_neg (by omega), if_neg (by omega), if_pos (by omega)]; first | done | omega) | (rw [if_neg (by omega), if_neg (by omega), if_neg (by omega)]; first | done | omega) | (rw [if_pos (by omega), if_pos (by omega), if_pos (by omega)]; first | done | omega) | (rw [if_pos (by omega), if_pos (by omega), if_neg (by omega)]; first | done | omega) | (rw [if_pos (by omega), if_neg (by omega)]; first | done | omega)
              exact W.lret (v := L6 ((-mo) - 1)) hx hb hr (fun t ht hW => ⟨⟨L6 ((-mo) - 1), (((-mo) - 1), re5), rfl, ⟨rfl, o_12⟩, by rw [ht]; exact hP, va_K.moved hW.alike hK, hD⟩, hS.F ht⟩) hS.2.2 dX8_cut_145
        · skip
          refine lv_lload hx hb dX8_cut_109 (lv_at hl 0 rfl) ?_
          refine lv_lload hx hb dX8_cut_111 (lv_at hl 4 rfl) ?_
          refine ix_lcmp_le (tgt := 121) hx hb (by first | assumption | decide | (constructor <;> omega)) (by first | assumption | decide | (constructor <;> omega)) dX8_cut_113 dX8_cut_114 (by decide) (fun c_113 => ?_) (fun c_113 => ?_)
          · skip
            refine lv_iconst (v := I3 (0)) hx hb dX8_cut_121 rfl ?_
            refine lv_istore (lv' := [(6, .int (I3 0)), (7, .long (L6 vv)), (0, .ref am), (1, .long (L6 v)), (3, .int (I3 o)), (4, .long (L6 mo))]) hx hb dX8_cut_122 hl (by decide) rfl (fun ls hl => ?_)
            refine lv_iload hx hb dX8_cut_124 (lv_at hl 0 rfl) ?_
            refine ix_if_eq (tgt := 146) hx hb (by first | assumption | decide | (constructor <;> omega)) dX8_cut_126 (by decide) (fun c_126 => ?_) (fun c_126 => ?_)
            · skip
              refine lv_lload_n hx hb dX8_cut_146 rfl (lv_at hl 3 rfl) ?_
              refine lv_lconst (v := L6 0) hx hb dX8_cut_147 (by decide) ?_
              refine ix_lcmp_ge (tgt := 158) hx hb (by first | assumption | decide | (constructor <;> omega)) (by first | assumption | decide | (constructor <;> omega)) dX8_cut_148 dX8_cut_149 (by decide) (fun c_148 => ?_) (fun c_148 => ?_)
              · skip
                refine lv_lload hx hb dX8_cut_158 (lv_at hl 1 rfl) ?_
                have o_13 : vv = cutX v (if o = 1 then 9223372036854775807 else 2147483647) := by rw [em]; unfold cutX; first | (rw [if_pos (by omega)]; first | done | omega) | (rw [if_pos (by omega), if_pos (by omega)]; first | done | omega) | (rw [if_neg (by omega), if_pos (by omega), if_pos (by omega)]; first | done | omega) | (rw [if_neg (by omega), if_pos (by omega), if_neg (by omega)]; first | done | omega) | (rw [if_neg (by omega), if_neg (by omega), if_pos (by omega)]; first | done | omega) | (rw [if_neg (by omega), if_neg (by omega), if_neg (by omega)]; first | done | omega) | (rw [if_pos (by omega), if_pos (by omega), if_pos (by omega)]; first | done | omega) | (rw [if_pos (by omega), if_pos (by omega), if_neg (by omega)]; first | done | omega) | (rw [if_pos (by omega), if_neg (by omega)]; first | done | omega)
                exact W.lret (v := L6 vv) hx hb hr (fun t ht hW => ⟨⟨L6 vv, (vv, re5), rfl, ⟨rfl, o_13⟩, by rw [ht]; exact hP, va_K.moved hW.alike hK, hD⟩, hS.F ht⟩) hS.2.2 dX8_cut_160
              · skip
                refine lv_lload hx hb dX8_cut_152 (lv_at hl 1 rfl) ?_
                refine ix_lneg hx hb dX8_cut_154 ?_
                refine lv_goto (tgt := 160) hx hb dX8_cut_155 (by decide) ?_
                have o_14 : (-vv) = cutX v (if o = 1 then 9223372036854775807 else 2147483647) := by rw [em]; unfold cutX; first | (rw [if_pos (by omega)]; first | done | omega) | (rw [if_pos (by omega), if_pos (by omega)]; first | done | omega) | (rw [if_neg (by omega), if_pos (by omega), if_pos (by omega)]; first | done | omega) | (rw [if_neg (by omega), if_pos (by omega), if_neg (by omega)]; first | done | omega) | (rw [if_neg (by omega), if_neg (by omega), if_pos (by omega)]; first | done | omega) | (rw [if_neg (by omega), if_neg (by omega), if_neg (by omega)]; first | done | omega) | (rw [if_pos (by omega), if_pos (by omega), if_pos (by omega)]; first | done | omega) | (rw [if_pos (by omega), if_pos (by omega), if_neg (by omega)]; first | done | omega) | (rw [if_pos (by omega), if_neg (by omega)]; first | done | omega)
                exact W.lret (v := L6 (-vv)) hx hb hr (fun t ht hW => ⟨⟨L6 (-vv), ((-vv), re5), rfl, ⟨rfl, o_14⟩, by rw [ht]; exact hP, va_K.moved hW.alike hK, hD⟩, hS.F ht⟩) hS.2.2 dX8_cut_160
            · skip
              omega
          · skip
            refine lv_iconst (v := I3 (1)) hx hb dX8_cut_117 rfl ?_
            refine lv_goto (tgt := 122) hx hb dX8_cut_118 (by decide) ?_
            refine lv_istore (lv' := [(6, .int (I3 1)), (7, .long (L6 vv)), (0, .ref am), (1, .long (L6 v)), (3, .int (I3 o)), (4, .long (L6 mo))]) hx hb dX8_cut_122 hl (by decide) rfl (fun ls hl => ?_)
            refine lv_iload hx hb dX8_cut_124 (lv_at hl 0 rfl) ?_
            refine ix_if_eq (tgt := 146) hx hb (by first | assumption | decide | (constructor <;> omega)) dX8_cut_126 (by decide) (fun c_126 => ?_) (fun c_126 => ?_)
            · skip
              omega
            · skip
              refine lv_lload_n hx hb dX8_cut_129 rfl (lv_at hl 3 rfl) ?_
              refine lv_lconst (v := L6 0) hx hb dX8_cut_130 (by decide) ?_
              refine ix_lcmp_ge (tgt := 143) hx hb (by first | assumption | decide | (constructor <;> omega)) (by first | assumption | decide | (constructor <;> omega)) dX8_cut_131 dX8_cut_132 (by decide) (fun c_131 => ?_) (fun c_131 => ?_)
              · skip
                refine lv_lload hx hb dX8_cut_143 (lv_at hl 5 rfl) ?_
                have o_15 : mo = cutX v (if o = 1 then 9223372036854775807 else 2147483647) := by rw [em]; unfold cutX; first | (rw [if_pos (by omega)]; first | done | omega) | (rw [if_pos (by omega), if_pos (by omega)]; first | done | omega) | (rw [if_neg (by omega), if_pos (by omega), if_pos (by omega)]; first | done | omega) | (rw [if_neg (by omega), if_pos (by omega), if_neg (by omega)]; first | done | omega) | (rw [if_neg (by omega), if_neg (by omega), if_pos (by omega)]; first | done | omega) | (rw [if_neg (by omega), if_neg (by omega), if_neg (by omega)]; first | done | omega) | (rw [if_pos (by omega), if_pos (by omega), if_pos (by omega)]; first | done | omega) | (rw [if_pos (by omega), if_pos (by omega), if_neg (by omega)]; first | done | omega) | (rw [if_pos (by omega), if_neg (by omega)]; first | done | omega)
                exact W.lret (v := L6 mo) hx hb hr (fun t ht hW => ⟨⟨L6 mo, (mo, re5), rfl, ⟨rfl, o_15⟩, by rw [ht]; exact hP, va_K.moved hW.alike hK, hD⟩, hS.F ht⟩) hS.2.2 dX8_cut_145
              · skip
                refine lv_lload hx hb dX8_cut_135 (lv_at hl 5 rfl) ?_
                refine ix_lneg hx hb dX8_cut_137 ?_
                refine lv_lconst (v := L6 1) hx hb dX8_cut_138 (by decide) ?_
                refine ix_lsub hx hb dX8_cut_139 ?_
                refine lv_goto (tgt := 145) hx hb dX8_cut_140 (by decide) ?_
                have o_16 : ((-mo) - 1) = cutX v (if o = 1 then 9223372036854775807 else 2147483647) := by rw [em]; unfold cutX; first | (rw [if_pos (by omega)]; first | done | omega) | (rw [if_pos (by omega), if_pos (by omega)]; first | done | omega) | (rw [if_neg (by omega), if_pos (by omega), if_pos (by omega)]; first | done | omega) | (rw [if_neg (by omega), if_pos (by omega), if_neg (by omega)]; first | done | omega) | (rw [if_neg (by omega), if_neg (by omega), if_pos (by omega)]; first | done | omega) | (rw [if_neg (by omega), if_neg (by omega), if_neg (by omega)]; first | done | omega) | (rw [if_pos (by omega), if_pos (by omega), if_pos (by omega)]; first | done | omega) | (rw [if_pos (by omega), if_pos (by omega), if_neg (by omega)]; first | done | omega) | (rw [if_pos (by omega), if_neg (by omega)]; first | done | omega)
                exact W.lret (v := L6 ((-mo) - 1)) hx hb hr (fun t ht hW => ⟨⟨L6 ((-mo) - 1), (((-mo) - 1), re5), rfl, ⟨rfl, o_16⟩, by rw [ht]; exact hP, va_K.moved hW.alike hK, hD⟩, hS.F ht⟩) hS.2.2 dX8_cut_145
  have cut_22 : ∀ (mo : Int), (¬ noX v) → ((o = 1 ∧ mo = 9223372036854775807) ∨ (o = 0 ∧ mo = 2147483647)) → ∀ (H : Heap) (locs : List Loc), va_P (dC, dI) vwCl [(am, .inr (0, [.int (I3 th), .int (I3 mn), .ref as_, .ref av, .ref aw, .int (I3 sm), .int (I3 wd), .int (I3 lp), .int (I3 mp), .int (I3 re)])), (as_, .inl (dA 0, 60, .inl (iA SG))), (av, .inl (dA 1, 960, .inr (.inl (lA VL)))), (aw, .inl (dA 1, 1024, .inr (.inl (lA wf))))] H → va_D A [(am, .inr (0, [.int (I3 th), .int (I3 mn), .ref as_, .ref av, .ref aw, .int (I3 sm), .int (I3 wd), .int (I3 lp), .int (I3 mp), .int (I3 re)])), (as_, .inl (dA 0, 60, .inl (iA SG))), (av, .inl (dA 1, 960, .inr (.inl (lA VL)))), (aw, .inl (dA 1, 1024, .inr (.inl (lA wf))))] → va_S A s.heap H locs → ∀ (ls : Array Slot), lv_has ls 9 [(0, .ref am), (1, .long (L6 v)), (3, .int (I3 o))] → W p l e (headSpec (ws_ yX8_cut cX8_cut 9 (some .long)) ({ frames := 4, cells := 0, slots := 0, locals := 160 })).room s m ([.ref am, .long (L6 v), .int (I3 o)] : List Value).toArray below meth c H locs 0 0 (MQ below (QmetX8_cut dC dI dA A am as_ av aw th mn sm wd lp mp re SG VL wf v o) ([.ref am, .long (L6 v), .int (I3 o)] : List Value).toArray s 0 0 A) (F0 m 22 ls [.long (L6 mo)]) := by
    intro mo n1 hmo H locs hP hD hS ls hl
    have xv_ := eX_r v
    have fv_ := fX_r v
    have pv_ := plX_r v
    have qv_ := pX_r v
    have tn_ := tX_nn v
    have em : (if o = 1 then (9223372036854775807 : Int) else 2147483647) = mo := by rcases hmo with ⟨q1, q2⟩ | ⟨q1, q2⟩ <;> subst q1 <;> subst q2 <;> rfl
    have hfar := fun q : 10 < plX v => tX_far q
    refine lv_lstore (lv' := [(4, .long (L6 mo)), (0, .ref am), (1, .long (L6 v)), (3, .int (I3 o))]) hx hb dX8_cut_22 hl (by decide) rfl (fun ls hl => ?_)
    refine lv_lload_n hx hb dX8_cut_24 rfl (lv_at hl 2 rfl) ?_
    have h_17 : In6 v := by first | assumption | omega | (constructor <;> omega)
    have hPc := hP.sub (ws' := []) [] rfl
    have hDc := hD.sub (ws' := []) [] (by decide) rfl
    have hFc := va_free (wc := []) hD hS hA [] rfl
    refine va_calli (va_runS (As := [.long (L6 v)]) (rest := []) ⟨hx, hb, hml, hown, hts⟩ (metX8_isInfinite l dC dI dA H.size v h_17) (va_cwS 1 hts (lw_S q1130 q1131 q66 q1132) rfl rfl rfl (by decide +kernel) ⟨Nat.le_of_ble_eq_true rfl, Nat.le_of_ble_eq_true rfl⟩) ⟨fun a U g mk q => by obtain ⟨q0, q1, qP, qK, qD⟩ := q; exact ⟨q0, q1, qP, va_K.moved (u := U) (U := U.calling g mk a) (Vm.Alike.refl U.vm) qK, qD⟩, fun U hU hW => ⟨rfl, by rw [hU], by rw [hU]; exact hPc, va_K.moved hW.alike hK, hDc.weaken (fun _ _ _ _ => trivial)⟩⟩ rfl rfl hl.1 rfl (lv_room (Nat.le_of_ble_eq_true rfl)) dX8_cut_25 ⟨Nat.le_of_ble_eq_true rfl, Nat.le_of_ble_eq_true rfl⟩) hS (fun q _ h => hFc q h) hFc (fun r_25 u t H1 locs ht hvm hw hB hz1 hk1 hS => ?_)
    obtain ⟨z_25, rfl⟩ : ∃ z, z = u := ⟨_, rfl⟩
    obtain ⟨rfl, p0_25⟩ : r_25 = I3 z_25 ∧ (z_25 = if eX v = 2047 ∧ pX v = 0 then 1 else 0) := hw
    obtain ⟨hP1, hK1, hD1⟩ := hB
    rw [ht] at hP1
    obtain ⟨hP, hD⟩ := va_join (wr := [(am, .inr (0, [.int (I3 th), .int (I3 mn), .ref as_, .ref av, .ref aw, .int (I3 sm), .int (I3 wd), .int (I3 lp), .int (I3 mp), .int (I3 re)])), (as_, .inl (dA 0, 60, .inl (iA SG))), (av, .inl (dA 1, 960, .inr (.inl (lA VL)))), (aw, .inl (dA 1, 1024, .inr (.inl (lA wf))))]) (w1 := []) hP hD [] [0, 1, 2, 3] rfl rfl (by decide) (by decide) hk1 hFc hP1 hD1
    generalize H1 = H at hP hS ⊢
    have hP : va_P (dC, dI) vwCl [(am, .inr (0, [.int (I3 th), .int (I3 mn), .ref as_, .ref av, .ref aw, .int (I3 sm), .int (I3 wd), .int (I3 lp), .int (I3 mp), .int (I3 re)])), (as_, .inl (dA 0, 60, .inl (iA SG))), (av, .inl (dA 1, 960, .inr (.inl (lA VL)))), (aw, .inl (dA 1, 1024, .inr (.inl (lA wf))))] H := hP
    have hD : va_D A [(am, .inr (0, [.int (I3 th), .int (I3 mn), .ref as_, .ref av, .ref aw, .int (I3 sm), .int (I3 wd), .int (I3 lp), .int (I3 mp), .int (I3 re)])), (as_, .inl (dA 0, 60, .inl (iA SG))), (av, .inl (dA 1, 960, .inr (.inl (lA VL)))), (aw, .inl (dA 1, 1024, .inr (.inl (lA wf))))] := hD
    have y_25 := b01 p0_25
    refine ix_if_ne (tgt := 40) hx hb (by first | assumption | decide | (constructor <;> omega)) dX8_cut_28 (by decide) (fun c_28 => ?_) (fun c_28 => ?_)
    · skip
      refine lv_iconst (v := I3 (1)) hx hb dX8_cut_40 rfl ?_
      refine lv_goto (tgt := 45) hx hb dX8_cut_41 (by decide) ?_
      refine lv_istore (lv' := [(6, .int (I3 1)), (4, .long (L6 mo)), (0, .ref am), (1, .long (L6 v)), (3, .int (I3 o))]) hx hb dX8_cut_45 hl (by decide) rfl (fun ls hl => ?_)
      refine lv_lconst (v := L6 0) hx hb dX8_cut_47 (by decide) ?_
      refine lv_lstore (lv' := [(7, .long (L6 0)), (6, .int (I3 1)), (4, .long (L6 mo)), (0, .ref am), (1, .long (L6 v)), (3, .int (I3 o))]) hx hb dX8_cut_48 hl (by decide) rfl (fun ls hl => ?_)
      refine lv_iload hx hb dX8_cut_50 (lv_at hl 1 rfl) ?_
      refine ix_if_ne (tgt := 124) hx hb (by first | assumption | decide | (constructor <;> omega)) dX8_cut_52 (by decide) (fun c_52 => ?_) (fun c_52 => ?_)
      · skip
        refine lv_iload hx hb dX8_cut_124 (lv_at hl 1 rfl) ?_
        refine ix_if_eq (tgt := 146) hx hb (by first | assumption | decide | (constructor <;> omega)) dX8_cut_126 (by decide) (fun c_126 => ?_) (fun c_126 => ?_)
        · skip
          omega
        · skip
          refine lv_lload_n hx hb dX8_cut_129 rfl (lv_at hl 4 rfl) ?_
          refine lv_lconst (v := L6 0) hx hb dX8_cut_130 (by decide) ?_
          refine ix_lcmp_ge (tgt := 143) hx hb (by first | assumption | decide | (constructor <;> omega)) (by first | assumption | decide | (constructor <;> omega)) dX8_cut_131 dX8_cut_132 (by decide) (fun c_131 => ?_) (fun c_131 => ?_)
          · skip
            refine lv_lload hx hb dX8_cut_143 (lv_at hl 2 rfl) ?_
            have o_18 : mo = cutX v (if o = 1 then 9223372036854775807 else 2147483647) := by rw [em]; unfold cutX; first | (rw [if_pos (by omega)]; first | done | omega) | (rw [if_pos (by omega), if_pos (by omega)]; first | done | omega) | (rw [if_neg (by omega), if_pos (by omega), if_pos (by omega)]; first | done | omega) | (rw [if_neg (by omega), if_pos (by omega), if_neg (by omega)]; first | done | omega) | (rw [if_neg (by omega), if_neg (by omega), if_pos (by omega)]; first | done | omega) | (rw [if_neg (by omega), if_neg (by omega), if_neg (by omega)]; first | done | omega) | (rw [if_pos (by omega), if_pos (by omega), if_pos (by omega)]; first | done | omega) | (rw [if_pos (by omega), if_pos (by omega), if_neg (by omega)]; first | done | omega) | (rw [if_pos (by omega), if_neg (by omega)]; first | done | omega)
            exact W.lret (v := L6 mo) hx hb hr (fun t ht hW => ⟨⟨L6 mo, (mo, re), rfl, ⟨rfl, o_18⟩, by rw [ht]; exact hP, va_K.moved hW.alike hK, hD⟩, hS.F ht⟩) hS.2.2 dX8_cut_145
          · skip
            refine lv_lload hx hb dX8_cut_135 (lv_at hl 2 rfl) ?_
            refine ix_lneg hx hb dX8_cut_137 ?_
            refine lv_lconst (v := L6 1) hx hb dX8_cut_138 (by decide) ?_
            refine ix_lsub hx hb dX8_cut_139 ?_
            refine lv_goto (tgt := 145) hx hb dX8_cut_140 (by decide) ?_
            have o_19 : ((-mo) - 1) = cutX v (if o = 1 then 9223372036854775807 else 2147483647) := by rw [em]; unfold cutX; first | (rw [if_pos (by omega)]; first | done | omega) | (rw [if_pos (by omega), if_pos (by omega)]; first | done | omega) | (rw [if_neg (by omega), if_pos (by omega), if_pos (by omega)]; first | done | omega) | (rw [if_neg (by omega), if_pos (by omega), if_neg (by omega)]; first | done | omega) | (rw [if_neg (by omega), if_neg (by omega), if_pos (by omega)]; first | done | omega) | (rw [if_neg (by omega), if_neg (by omega), if_neg (by omega)]; first | done | omega) | (rw [if_pos (by omega), if_pos (by omega), if_pos (by omega)]; first | done | omega) | (rw [if_pos (by omega), if_pos (by omega), if_neg (by omega)]; first | done | omega) | (rw [if_pos (by omega), if_neg (by omega)]; first | done | omega)
            exact W.lret (v := L6 ((-mo) - 1)) hx hb hr (fun t ht hW => ⟨⟨L6 ((-mo) - 1), (((-mo) - 1), re), rfl, ⟨rfl, o_19⟩, by rw [ht]; exact hP, va_K.moved hW.alike hK, hD⟩, hS.F ht⟩) hS.2.2 dX8_cut_145
      · skip
        omega
    · skip
      refine lv_lload_n hx hb dX8_cut_31 rfl (lv_at hl 2 rfl) ?_
      have h_20 : In6 v := by first | assumption | omega | (constructor <;> omega)
      have hPc := hP.sub (ws' := []) [] rfl
      have hDc := hD.sub (ws' := []) [] (by decide) rfl
      have hFc := va_free (wc := []) hD hS hA [] rfl
      refine va_calli (va_runS (As := [.long (L6 v)]) (rest := []) ⟨hx, hb, hml, hown, hts⟩ (metX8_place l dC dI dA H.size v h_20) (va_cwS 1 hts (lw_S q1040 q1041 q66 q1042) rfl rfl rfl (by decide +kernel) ⟨Nat.le_of_ble_eq_true rfl, Nat.le_of_ble_eq_true rfl⟩) ⟨fun a U g mk q => by obtain ⟨q0, q1, qP, qK, qD⟩ := q; exact ⟨q0, q1, qP, va_K.moved (u := U) (U := U.calling g mk a) (Vm.Alike.refl U.vm) qK, qD⟩, fun U hU hW => ⟨rfl, by rw [hU], by rw [hU]; exact hPc, va_K.moved hW.alike hK, hDc.weaken (fun _ _ _ _ => trivial)⟩⟩ rfl rfl hl.1 rfl (lv_room (Nat.le_of_ble_eq_true rfl)) dX8_cut_32 ⟨Nat.le_of_ble_eq_true rfl, Nat.le_of_ble_eq_true rfl⟩) hS (fun q _ h => hFc q h) hFc (fun r_32 u t H1 locs ht hvm hw hB hz1 hk1 hS => ?_)
      obtain ⟨z_32, rfl⟩ : ∃ z, z = u := ⟨_, rfl⟩
      obtain ⟨rfl, p0_32⟩ : r_32 = I3 z_32 ∧ (z_32 = plX v) := hw
      obtain ⟨hP1, hK1, hD1⟩ := hB
      rw [ht] at hP1
      obtain ⟨hP, hD⟩ := va_join (wr := [(am, .inr (0, [.int (I3 th), .int (I3 mn), .ref as_, .ref av, .ref aw, .int (I3 sm), .int (I3 wd), .int (I3 lp), .int (I3 mp), .int (I3 re)])), (as_, .inl (dA 0, 60, .inl (iA SG))), (av, .inl (dA 1, 960, .inr (.inl (lA VL)))), (aw, .inl (dA 1, 1024, .inr (.inl (lA wf))))]) (w1 := []) hP hD [] [0, 1, 2, 3] rfl rfl (by decide) (by decide) hk1 hFc hP1 hD1
      generalize H1 = H at hP hS ⊢
      have hP : va_P (dC, dI) vwCl [(am, .inr (0, [.int (I3 th), .int (I3 mn), .ref as_, .ref av, .ref aw, .int (I3 sm), .int (I3 wd), .int (I3 lp), .int (I3 mp), .int (I3 re)])), (as_, .inl (dA 0, 60, .inl (iA SG))), (av, .inl (dA 1, 960, .inr (.inl (lA VL)))), (aw, .inl (dA 1, 1024, .inr (.inl (lA wf))))] H := hP
      have hD : va_D A [(am, .inr (0, [.int (I3 th), .int (I3 mn), .ref as_, .ref av, .ref aw, .int (I3 sm), .int (I3 wd), .int (I3 lp), .int (I3 mp), .int (I3 re)])), (as_, .inl (dA 0, 60, .inl (iA SG))), (av, .inl (dA 1, 960, .inr (.inl (lA VL)))), (aw, .inl (dA 1, 1024, .inr (.inl (lA wf))))] := hD
      refine lv_bipush (v := I3 (10)) hx hb dX8_cut_35 (by decide) ?_
      refine ix_icmp_le (tgt := 44) hx hb (by first | assumption | decide | (constructor <;> omega)) (by first | assumption | decide | (constructor <;> omega)) dX8_cut_37 (by decide) (fun c_37 => ?_) (fun c_37 => ?_)
      · skip
        refine lv_iconst (v := I3 (0)) hx hb dX8_cut_44 rfl ?_
        refine lv_istore (lv' := [(6, .int (I3 0)), (4, .long (L6 mo)), (0, .ref am), (1, .long (L6 v)), (3, .int (I3 o))]) hx hb dX8_cut_45 hl (by decide) rfl (fun ls hl => ?_)
        refine lv_lconst (v := L6 0) hx hb dX8_cut_47 (by decide) ?_
        refine lv_lstore (lv' := [(7, .long (L6 0)), (6, .int (I3 0)), (4, .long (L6 mo)), (0, .ref am), (1, .long (L6 v)), (3, .int (I3 o))]) hx hb dX8_cut_48 hl (by decide) rfl (fun ls hl => ?_)
        refine lv_iload hx hb dX8_cut_50 (lv_at hl 1 rfl) ?_
        refine ix_if_ne (tgt := 124) hx hb (by first | assumption | decide | (constructor <;> omega)) dX8_cut_52 (by decide) (fun c_52 => ?_) (fun c_52 => ?_)
        · skip
          omega
        · skip
          refine lv_lload_n hx hb dX8_cut_55 rfl (lv_at hl 4 rfl) ?_
          have h_21 : In6 v := by first | assumption | omega | (constructor <;> omega)
          have hPc := hP.sub (ws' := []) [] rfl
          have hDc := hD.sub (ws' := []) [] (by decide) rfl
          have hFc := va_free (wc := []) hD hS hA [] rfl
          refine va_calli (va_runS (As := [.long (L6 v)]) (rest := []) ⟨hx, hb, hml, hown, hts⟩ (metX8_place l dC dI dA H.size v h_21) (va_cwS 1 hts (lw_S q1040 q1041 q66 q1042) rfl rfl rfl (by decide +kernel) ⟨Nat.le_of_ble_eq_true rfl, Nat.le_of_ble_eq_true rfl⟩) ⟨fun a U g mk q => by obtain ⟨q0, q1, qP, qK, qD⟩ := q; exact ⟨q0, q1, qP, va_K.moved (u := U) (U := U.calling g mk a) (Vm.Alike.refl U.vm) qK, qD⟩, fun U hU hW => ⟨rfl, by rw [hU], by rw [hU]; exact hPc, va_K.moved hW.alike hK, hDc.weaken (fun _ _ _ _ => trivial)⟩⟩ rfl rfl hl.1 rfl (lv_room (Nat.le_of_ble_eq_true rfl)) dX8_cut_56 ⟨Nat.le_of_ble_eq_true rfl, Nat.le_of_ble_eq_true rfl⟩) hS (fun q _ h => hFc q h) hFc (fun r_56 u t H1 locs ht hvm hw hB hz1 hk1 hS => ?_)
          obtain ⟨z_56, rfl⟩ : ∃ z, z = u := ⟨_, rfl⟩
          obtain ⟨rfl, p0_56⟩ : r_56 = I3 z_56 ∧ (z_56 = plX v) := hw
          obtain ⟨hP1, hK1, hD1⟩ := hB
          rw [ht] at hP1
          obtain ⟨hP, hD⟩ := va_join (wr := [(am, .inr (0, [.int (I3 th), .int (I3 mn), .ref as_, .ref av, .ref aw, .int (I3 sm), .int (I3 wd), .int (I3 lp), .int (I3 mp), .int (I3 re)])), (as_, .inl (dA 0, 60, .inl (iA SG))), (av, .inl (dA 1, 960, .inr (.inl (lA VL)))), (aw, .inl (dA 1, 1024, .inr (.inl (lA wf))))]) (w1 := []) hP hD [] [0, 1, 2, 3] rfl rfl (by decide) (by decide) hk1 hFc hP1 hD1
          generalize H1 = H at hP hS ⊢
          have hP : va_P (dC, dI) vwCl [(am, .inr (0, [.int (I3 th), .int (I3 mn), .ref as_, .ref av, .ref aw, .int (I3 sm), .int (I3 wd), .int (I3 lp), .int (I3 mp), .int (I3 re)])), (as_, .inl (dA 0, 60, .inl (iA SG))), (av, .inl (dA 1, 960, .inr (.inl (lA VL)))), (aw, .inl (dA 1, 1024, .inr (.inl (lA wf))))] H := hP
          have hD : va_D A [(am, .inr (0, [.int (I3 th), .int (I3 mn), .ref as_, .ref av, .ref aw, .int (I3 sm), .int (I3 wd), .int (I3 lp), .int (I3 mp), .int (I3 re)])), (as_, .inl (dA 0, 60, .inl (iA SG))), (av, .inl (dA 1, 960, .inr (.inl (lA VL)))), (aw, .inl (dA 1, 1024, .inr (.inl (lA wf))))] := hD
          refine ix_if_le (tgt := 74) hx hb (by first | assumption | decide | (constructor <;> omega)) dX8_cut_59 (by decide) (fun c_59 => ?_) (fun c_59 => ?_)
          · skip
            refine lv_aload_n hx hb dX8_cut_74 rfl (lv_at hl 3 rfl) ?_
            refine lv_lload_n hx hb dX8_cut_75 rfl (lv_at hl 4 rfl) ?_
            have h_22 : In6 v := by first | assumption | omega | (constructor <;> omega)
            have hPc := hP.sub (ws' := [(am, .inr (0, [.int (I3 th), .int (I3 mn), .ref as_, .ref av, .ref aw, .int (I3 sm), .int (I3 wd), .int (I3 lp), .int (I3 mp), .int (I3 re)])), (as_, .inl (dA 0, 60, .inl (iA SG))), (av, .inl (dA 1, 960, .inr (.inl (lA VL)))), (aw, .inl (dA 1, 1024, .inr (.inl (lA wf))))]) [0, 1, 2, 3] rfl
            have hDc := hD.sub (ws' := [(am, .inr (0, [.int (I3 th), .int (I3 mn), .ref as_, .ref av, .ref aw, .int (I3 sm), .int (I3 wd), .int (I3 lp), .int (I3 mp), .int (I3 re)])), (as_, .inl (dA 0, 60, .inl (iA SG))), (av, .inl (dA 1, 960, .inr (.inl (lA VL)))), (aw, .inl (dA 1, 1024, .inr (.inl (lA wf))))]) [0, 1, 2, 3] (by decide) rfl
            have hFc := va_free (wc := [(am, .inr (0, [.int (I3 th), .int (I3 mn), .ref as_, .ref av, .ref aw, .int (I3 sm), .int (I3 wd), .int (I3 lp), .int (I3 mp), .int (I3 re)])), (as_, .inl (dA 0, 60, .inl (iA SG))), (av, .inl (dA 1, 960, .inr (.inl (lA VL)))), (aw, .inl (dA 1, 1024, .inr (.inl (lA wf))))]) hD hS hA [0, 1, 2, 3] rfl
            refine va_calll (va_runV (As := [.long (L6 v)]) (rest := []) ⟨hx, hb, hml, hown, hts⟩ (metX8_front l dC dI dA am as_ av aw H.size th mn sm wd lp mp re SG VL wf v h_22) (cwV 1 hts (lw_V q1177 q1179 qs53 q66 q1180) rfl rfl rfl (by decide +kernel) ⟨Nat.le_of_ble_eq_true rfl, Nat.le_of_ble_eq_true rfl⟩) ⟨fun a U g mk q => by obtain ⟨q0, q1, qP, qK, qD⟩ := q; exact ⟨q0, q1, qP, va_K.moved (u := U) (U := U.calling g mk a) (Vm.Alike.refl U.vm) qK, qD⟩, va_recv hK hPc (ci := 0) (q0 := 0) rfl rfl, fun U hU hW => ⟨rfl, by rw [hU], by rw [hU]; exact hPc, va_K.moved hW.alike hK, hDc.weaken (fun _ _ _ _ => trivial)⟩⟩ rfl rfl hl.1 rfl (lv_room (Nat.le_of_ble_eq_true rfl)) dX8_cut_76 ⟨Nat.le_of_ble_eq_true rfl, Nat.le_of_ble_eq_true rfl⟩) hS (fun q _ h => hFc q h) hFc (fun r_76 u t H1 locs ht hvm hw hB hz1 hk1 hS => ?_)
            obtain ⟨z_76, re1_76⟩ := u
            obtain ⟨rfl, p0_76, p1_76⟩ : r_76 = L6 z_76 ∧ (z_76 = fX v / 2 ^ (-plX v).toNat) ∧ (re1_76 = frR (fX v) (-plX v).toNat) := hw
            obtain ⟨hP1, hK1, hD1⟩ := hB
            rw [ht] at hP1
            obtain ⟨hP, hD⟩ := va_join (wr := []) (w1 := [(am, .inr (0, [.int (I3 th), .int (I3 mn), .ref as_, .ref av, .ref aw, .int (I3 sm), .int (I3 wd), .int (I3 lp), .int (I3 mp), .int (I3 re1_76)])), (as_, .inl (dA 0, 60, .inl (iA SG))), (av, .inl (dA 1, 960, .inr (.inl (lA VL)))), (aw, .inl (dA 1, 1024, .inr (.inl (lA wf))))]) hP hD [0, 1, 2, 3] [] rfl rfl (by decide) (by decide) hk1 hFc hP1 hD1
            generalize H1 = H at hP hS ⊢
            have hP : va_P (dC, dI) vwCl [(am, .inr (0, [.int (I3 th), .int (I3 mn), .ref as_, .ref av, .ref aw, .int (I3 sm), .int (I3 wd), .int (I3 lp), .int (I3 mp), .int (I3 re1_76)])), (as_, .inl (dA 0, 60, .inl (iA SG))), (av, .inl (dA 1, 960, .inr (.inl (lA VL)))), (aw, .inl (dA 1, 1024, .inr (.inl (lA wf))))] H := hP
            have hD : va_D A [(am, .inr (0, [.int (I3 th), .int (I3 mn), .ref as_, .ref av, .ref aw, .int (I3 sm), .int (I3 wd), .int (I3 lp), .int (I3 mp), .int (I3 re1_76)])), (as_, .inl (dA 0, 60, .inl (iA SG))), (av, .inl (dA 1, 960, .inr (.inl (lA VL)))), (aw, .inl (dA 1, 1024, .inr (.inl (lA wf))))] := hD
            have e_23 : ¬ noX v := by first | assumption | omega | (constructor <;> omega)
            have e_24 : ¬ infX v := by first | assumption | omega | (constructor <;> omega)
            have e_25 : plX v ≤ 10 := by first | assumption | omega | (constructor <;> omega)
            have e_26 : (o = 1 ∧ mo = 9223372036854775807) ∨ (o = 0 ∧ mo = 2147483647) := by first | assumption | omega | (constructor <;> omega)
            have e_27 : z_76 = tX v := by rw [p0_76]; exact (tX_lo (by omega)).symm
            exact cut_79 z_76 mo re1_76 e_23 e_24 e_25 e_26 e_27 _ _ hP hD hS ls (lv_sub hl [3, 4, 5, 2, 1] rfl)
          · skip
            refine lv_lload_n hx hb dX8_cut_62 rfl (lv_at hl 4 rfl) ?_
            have h_28 : In6 v := by first | assumption | omega | (constructor <;> omega)
            have hPc := hP.sub (ws' := []) [] rfl
            have hDc := hD.sub (ws' := []) [] (by decide) rfl
            have hFc := va_free (wc := []) hD hS hA [] rfl
            refine va_calll (va_runS (As := [.long (L6 v)]) (rest := []) ⟨hx, hb, hml, hown, hts⟩ (metX8_factor l dC dI dA H.size v h_28) (va_cwS 1 hts (lw_S q1032 q1033 q66 q1034) rfl rfl rfl (by decide +kernel) ⟨Nat.le_of_ble_eq_true rfl, Nat.le_of_ble_eq_true rfl⟩) ⟨fun a U g mk q => by obtain ⟨q0, q1, qP, qK, qD⟩ := q; exact ⟨q0, q1, qP, va_K.moved (u := U) (U := U.calling g mk a) (Vm.Alike.refl U.vm) qK, qD⟩, fun U hU hW => ⟨rfl, by rw [hU], by rw [hU]; exact hPc, va_K.moved hW.alike hK, hDc.weaken (fun _ _ _ _ => trivial)⟩⟩ rfl rfl hl.1 rfl (lv_room (Nat.le_of_ble_eq_true rfl)) dX8_cut_63 ⟨Nat.le_of_ble_eq_true rfl, Nat.le_of_ble_eq_true rfl⟩) hS (fun q _ h => hFc q h) hFc (fun r_63 u t H1 locs ht hvm hw hB hz1 hk1 hS => ?_)
            obtain ⟨z_63, rfl⟩ : ∃ z, z = u := ⟨_, rfl⟩
            obtain ⟨rfl, p0_63⟩ : r_63 = L6 z_63 ∧ (z_63 = fX v) := hw
            obtain ⟨hP1, hK1, hD1⟩ := hB
            rw [ht] at hP1
            obtain ⟨hP, hD⟩ := va_join (wr := [(am, .inr (0, [.int (I3 th), .int (I3 mn), .ref as_, .ref av, .ref aw, .int (I3 sm), .int (I3 wd), .int (I3 lp), .int (I3 mp), .int (I3 re)])), (as_, .inl (dA 0, 60, .inl (iA SG))), (av, .inl (dA 1, 960, .inr (.inl (lA VL)))), (aw, .inl (dA 1, 1024, .inr (.inl (lA wf))))]) (w1 := []) hP hD [] [0, 1, 2, 3] rfl rfl (by decide) (by decide) hk1 hFc hP1 hD1
            generalize H1 = H at hP hS ⊢
            have hP : va_P (dC, dI) vwCl [(am, .inr (0, [.int (I3 th), .int (I3 mn), .ref as_, .ref av, .ref aw, .int (I3 sm), .int (I3 wd), .int (I3 lp), .int (I3 mp), .int (I3 re)])), (as_, .inl (dA 0, 60, .inl (iA SG))), (av, .inl (dA 1, 960, .inr (.inl (lA VL)))), (aw, .inl (dA 1, 1024, .inr (.inl (lA wf))))] H := hP
            have hD : va_D A [(am, .inr (0, [.int (I3 th), .int (I3 mn), .ref as_, .ref av, .ref aw, .int (I3 sm), .int (I3 wd), .int (I3 lp), .int (I3 mp), .int (I3 re)])), (as_, .inl (dA 0, 60, .inl (iA SG))), (av, .inl (dA 1, 960, .inr (.inl (lA VL)))), (aw, .inl (dA 1, 1024, .inr (.inl (lA wf))))] := hD
            refine lv_lload_n hx hb dX8_cut_66 rfl (lv_at hl 4 rfl) ?_
            have h_29 : In6 v := by first | assumption | omega | (constructor <;> omega)
            have hPc := hP.sub (ws' := []) [] rfl
            have hDc := hD.sub (ws' := []) [] (by decide) rfl
            have hFc := va_free (wc := []) hD hS hA [] rfl
            refine va_calli (va_runS (As := [.long (L6 v)]) (rest := [.long (L6 z_63)]) ⟨hx, hb, hml, hown, hts⟩ (metX8_place l dC dI dA H.size v h_29) (va_cwS 1 hts (lw_S q1040 q1041 q66 q1042) rfl rfl rfl (by decide +kernel) ⟨Nat.le_of_ble_eq_true rfl, Nat.le_of_ble_eq_true rfl⟩) ⟨fun a U g mk q => by obtain ⟨q0, q1, qP, qK, qD⟩ := q; exact ⟨q0, q1, qP, va_K.moved (u := U) (U := U.calling g mk a) (Vm.Alike.refl U.vm) qK, qD⟩, fun U hU hW => ⟨rfl, by rw [hU], by rw [hU]; exact hPc, va_K.moved hW.alike hK, hDc.weaken (fun _ _ _ _ => trivial)⟩⟩ rfl rfl hl.1 rfl (lv_room (Nat.le_of_ble_eq_true rfl)) dX8_cut_67 ⟨Nat.le_of_ble_eq_true rfl, Nat.le_of_ble_eq_true rfl⟩) hS (fun q _ h => hFc q h) hFc (fun r_67 u t H1 locs ht hvm hw hB hz1 hk1 hS => ?_)
            obtain ⟨z_67, rfl⟩ : ∃ z, z = u := ⟨_, rfl⟩
            obtain ⟨rfl, p0_67⟩ : r_67 = I3 z_67 ∧ (z_67 = plX v) := hw
            obtain ⟨hP1, hK1, hD1⟩ := hB
            rw [ht] at hP1
            obtain ⟨hP, hD⟩ := va_join (wr := [(am, .inr (0, [.int (I3 th), .int (I3 mn), .ref as_, .ref av, .ref aw, .int (I3 sm), .int (I3 wd), .int (I3 lp), .int (I3 mp), .int (I3 re)])), (as_, .inl (dA 0, 60, .inl (iA SG))), (av, .inl (dA 1, 960, .inr (.inl (lA VL)))), (aw, .inl (dA 1, 1024, .inr (.inl (lA wf))))]) (w1 := []) hP hD [] [0, 1, 2, 3] rfl rfl (by decide) (by decide) hk1 hFc hP1 hD1
            generalize H1 = H at hP hS ⊢
            have hP : va_P (dC, dI) vwCl [(am, .inr (0, [.int (I3 th), .int (I3 mn), .ref as_, .ref av, .ref aw, .int (I3 sm), .int (I3 wd), .int (I3 lp), .int (I3 mp), .int (I3 re)])), (as_, .inl (dA 0, 60, .inl (iA SG))), (av, .inl (dA 1, 960, .inr (.inl (lA VL)))), (aw, .inl (dA 1, 1024, .inr (.inl (lA wf))))] H := hP
            have hD : va_D A [(am, .inr (0, [.int (I3 th), .int (I3 mn), .ref as_, .ref av, .ref aw, .int (I3 sm), .int (I3 wd), .int (I3 lp), .int (I3 mp), .int (I3 re)])), (as_, .inl (dA 0, 60, .inl (iA SG))), (av, .inl (dA 1, 960, .inr (.inl (lA VL)))), (aw, .inl (dA 1, 1024, .inr (.inl (lA wf))))] := hD
            refine ix_lshl hx hb (by first | decide | omega) dX8_cut_70 ?_
            refine lv_goto (tgt := 79) hx hb dX8_cut_71 (by decide) ?_
            have e_30 : ¬ noX v := by first | assumption | omega | (constructor <;> omega)
            have e_31 : ¬ infX v := by first | assumption | omega | (constructor <;> omega)
            have e_32 : plX v ≤ 10 := by first | assumption | omega | (constructor <;> omega)
            have e_33 : (o = 1 ∧ mo = 9223372036854775807) ∨ (o = 0 ∧ mo = 2147483647) := by first | assumption | omega | (constructor <;> omega)
            have e_34 : (z_63 * 2 ^ (z_67 : Int).toNat) = tX v := by rw [p0_63, p0_67]; exact (tX_hi (by omega)).symm
            exact cut_79 (z_63 * 2 ^ (z_67 : Int).toNat) mo re e_30 e_31 e_32 e_33 e_34 _ _ hP hD hS ls (lv_sub hl [3, 4, 5, 2, 1] rfl)
      · skip
        refine lv_iconst (v := I3 (1)) hx hb dX8_cut_40 rfl ?_
        refine lv_goto (tgt := 45) hx hb dX8_cut_41 (by decide) ?_
        refine lv_istore (lv' := [(6, .int (I3 1)), (4, .long (L6 mo)), (0, .ref am), (1, .long (L6 v)), (3, .int (I3 o))]) hx hb dX8_cut_45 hl (by decide) rfl (fun ls hl => ?_)
        refine lv_lconst (v := L6 0) hx hb dX8_cut_47 (by decide) ?_
        refine lv_lstore (lv' := [(7, .long (L6 0)), (6, .int (I3 1)), (4, .long (L6 mo)), (0, .ref am), (1, .long (L6 v)), (3, .int (I3 o))]) hx hb dX8_cut_48 hl (by decide) rfl (fun ls hl => ?_)
        refine lv_iload hx hb dX8_cut_50 (lv_at hl 1 rfl) ?_
        refine ix_if_ne (tgt := 124) hx hb (by first | assumption | decide | (constructor <;> omega)) dX8_cut_52 (by decide) (fun c_52 => ?_) (fun c_52 => ?_)
        · skip
          refine lv_iload hx hb dX8_cut_124 (lv_at hl 1 rfl) ?_
          refine ix_if_eq (tgt := 146) hx hb (by first | assumption | decide | (constructor <;> omega)) dX8_cut_126 (by decide) (fun c_126 => ?_) (fun c_126 => ?_)
          · skip
            omega
          · skip
            refine lv_lload_n hx hb dX8_cut_129 rfl (lv_at hl 4 rfl) ?_
            refine lv_lconst (v := L6 0) hx hb dX8_cut_130 (by decide) ?_
            refine ix_lcmp_ge (tgt := 143) hx hb (by first | assumption | decide | (constructor <;> omega)) (by first | assumption | decide | (constructor <;> omega)) dX8_cut_131 dX8_cut_132 (by decide) (fun c_131 => ?_) (fun c_131 => ?_)
            · skip
              refine lv_lload hx hb dX8_cut_143 (lv_at hl 2 rfl) ?_
              have o_35 : mo = cutX v (if o = 1 then 9223372036854775807 else 2147483647) := by rw [em]; unfold cutX; first | (rw [if_pos (by omega)]; first | done | omega) | (rw [if_pos (by omega), if_pos (by omega)]; first | done | omega) | (rw [if_neg (by omega), if_pos (by omega), if_pos (by omega)]; first | done | omega) | (rw [if_neg (by omega), if_pos (by omega), if_neg (by omega)]; first | done | omega) | (rw [if_neg (by omega), if_neg (by omega), if_pos (by omega)]; first | done | omega) | (rw [if_neg (by omega), if_neg (by omega), if_neg (by omega)]; first | done | omega) | (rw [if_pos (by omega), if_pos (by omega), if_pos (by omega)]; first | done | omega) | (rw [if_pos (by omega), if_pos (by omega), if_neg (by omega)]; first | done | omega) | (rw [if_pos (by omega), if_neg (by omega)]; first | done | omega)
              exact W.lret (v := L6 mo) hx hb hr (fun t ht hW => ⟨⟨L6 mo, (mo, re), rfl, ⟨rfl, o_35⟩, by rw [ht]; exact hP, va_K.moved hW.alike hK, hD⟩, hS.F ht⟩) hS.2.2 dX8_cut_145
            · skip
              refine lv_lload hx hb dX8_cut_135 (lv_at hl 2 rfl) ?_
              refine ix_lneg hx hb dX8_cut_137 ?_
              refine lv_lconst (v := L6 1) hx hb dX8_cut_138 (by decide) ?_
              refine ix_lsub hx hb dX8_cut_139 ?_
              refine lv_goto (tgt := 145) hx hb dX8_cut_140 (by decide) ?_
              have o_36 : ((-mo) - 1) = cutX v (if o = 1 then 9223372036854775807 else 2147483647) := by rw [em]; unfold cutX; first | (rw [if_pos (by omega)]; first | done | omega) | (rw [if_pos (by omega), if_pos (by omega)]; first | done | omega) | (rw [if_neg (by omega), if_pos (by omega), if_pos (by omega)]; first | done | omega) | (rw [if_neg (by omega), if_pos (by omega), if_neg (by omega)]; first | done | omega) | (rw [if_neg (by omega), if_neg (by omega), if_pos (by omega)]; first | done | omega) | (rw [if_neg (by omega), if_neg (by omega), if_neg (by omega)]; first | done | omega) | (rw [if_pos (by omega), if_pos (by omega), if_pos (by omega)]; first | done | omega) | (rw [if_pos (by omega), if_pos (by omega), if_neg (by omega)]; first | done | omega) | (rw [if_pos (by omega), if_neg (by omega)]; first | done | omega)
              exact W.lret (v := L6 ((-mo) - 1)) hx hb hr (fun t ht hW => ⟨⟨L6 ((-mo) - 1), (((-mo) - 1), re), rfl, ⟨rfl, o_36⟩, by rw [ht]; exact hP, va_K.moved hW.alike hK, hD⟩, hS.F ht⟩) hS.2.2 dX8_cut_145
        · skip
          omega
  have xv_ := eX_r v
  have fv_ := fX_r v
  have pv_ := plX_r v
  have qv_ := pX_r v
  have tn_ := tX_nn v
  refine lv_lload_n hx hb dX8_cut_0 rfl (lv_at hl 1 rfl) ?_
  have h_37 : In6 v := by first | assumption | omega | (constructor <;> omega)
  have hPc := hP.sub (ws' := []) [] rfl
  have hDc := hD.sub (ws' := []) [] (by decide) rfl
  have hFc := va_free (wc := []) hD hS hA [] rfl
  refine va_calli (va_runS (As := [.long (L6 v)]) (rest := []) ⟨hx, hb, hml, hown, hts⟩ (metX8_isNo l dC dI dA s.heap.size v h_37) (va_cwS 1 hts (lw_S q1127 q1128 q66 q1129) rfl rfl rfl (by decide +kernel) ⟨Nat.le_of_ble_eq_true rfl, Nat.le_of_ble_eq_true rfl⟩) ⟨fun a U g mk q => by obtain ⟨q0, q1, qP, qK, qD⟩ := q; exact ⟨q0, q1, qP, va_K.moved (u := U) (U := U.calling g mk a) (Vm.Alike.refl U.vm) qK, qD⟩, fun U hU hW => ⟨rfl, by rw [hU], by rw [hU]; exact hPc, va_K.moved hW.alike hK, hDc.weaken (fun _ _ _ _ => trivial)⟩⟩ rfl rfl hl.1 rfl (lv_room (Nat.le_of_ble_eq_true rfl)) dX8_cut_1 ⟨Nat.le_of_ble_eq_true rfl, Nat.le_of_ble_eq_true rfl⟩) hS (fun q _ h => hFc q h) hFc (fun r_1 u t H1 locs ht hvm hw hB hz1 hk1 hS => ?_)
  obtain ⟨z_1, rfl⟩ : ∃ z, z = u := ⟨_, rfl⟩
  obtain ⟨rfl, p0_1⟩ : r_1 = I3 z_1 ∧ (z_1 = if eX v = 2047 ∧ pX v ≠ 0 then 1 else 0) := hw
  obtain ⟨hP1, hK1, hD1⟩ := hB
  rw [ht] at hP1
  obtain ⟨hP, hD⟩ := va_join (wr := [(am, .inr (0, [.int (I3 th), .int (I3 mn), .ref as_, .ref av, .ref aw, .int (I3 sm), .int (I3 wd), .int (I3 lp), .int (I3 mp), .int (I3 re)])), (as_, .inl (dA 0, 60, .inl (iA SG))), (av, .inl (dA 1, 960, .inr (.inl (lA VL)))), (aw, .inl (dA 1, 1024, .inr (.inl (lA wf))))]) (w1 := []) hP hD [] [0, 1, 2, 3] rfl rfl (by decide) (by decide) hk1 hFc hP1 hD1
  generalize H1 = H at hP hS ⊢
  have hP : va_P (dC, dI) vwCl [(am, .inr (0, [.int (I3 th), .int (I3 mn), .ref as_, .ref av, .ref aw, .int (I3 sm), .int (I3 wd), .int (I3 lp), .int (I3 mp), .int (I3 re)])), (as_, .inl (dA 0, 60, .inl (iA SG))), (av, .inl (dA 1, 960, .inr (.inl (lA VL)))), (aw, .inl (dA 1, 1024, .inr (.inl (lA wf))))] H := hP
  have hD : va_D A [(am, .inr (0, [.int (I3 th), .int (I3 mn), .ref as_, .ref av, .ref aw, .int (I3 sm), .int (I3 wd), .int (I3 lp), .int (I3 mp), .int (I3 re)])), (as_, .inl (dA 0, 60, .inl (iA SG))), (av, .inl (dA 1, 960, .inr (.inl (lA VL)))), (aw, .inl (dA 1, 1024, .inr (.inl (lA wf))))] := hD
  have y_1 := b01 p0_1
  refine ix_if_eq (tgt := 9) hx hb (by first | assumption | decide | (constructor <;> omega)) dX8_cut_4 (by decide) (fun c_4 => ?_) (fun c_4 => ?_)
  · skip
    refine lv_iload_n hx hb dX8_cut_9 rfl (lv_at hl 2 rfl) ?_
    refine ix_if_eq (tgt := 19) hx hb (by first | assumption | decide | (constructor <;> omega)) dX8_cut_10 (by decide) (fun c_10 => ?_) (fun c_10 => ?_)
    · skip
      refine lv_ldc2 hx hb hown (hts _ q1203) dX8_cut_19 ?_
      refine ix_vl (x := (2147483647)) (by decide) ?_
      have e_38 : ¬ noX v := by first | assumption | omega | (constructor <;> omega)
      have e_39 : (o = 1 ∧ (2147483647 : Int) = 9223372036854775807) ∨ (o = 0 ∧ (2147483647 : Int) = 2147483647) := by first | assumption | omega | (constructor <;> omega)
      exact cut_22 2147483647 e_38 e_39 _ _ hP hD hS ls (lv_sub hl [0, 1, 2] rfl)
    · skip
      refine lv_ldc2 hx hb hown (hts _ q1184) dX8_cut_13 ?_
      refine ix_vl (x := (9223372036854775807)) (by decide) ?_
      refine lv_goto (tgt := 22) hx hb dX8_cut_16 (by decide) ?_
      have e_40 : ¬ noX v := by first | assumption | omega | (constructor <;> omega)
      have e_41 : (o = 1 ∧ (9223372036854775807 : Int) = 9223372036854775807) ∨ (o = 0 ∧ (9223372036854775807 : Int) = 2147483647) := by first | assumption | omega | (constructor <;> omega)
      exact cut_22 9223372036854775807 e_40 e_41 _ _ hP hD hS ls (lv_sub hl [0, 1, 2] rfl)
  · skip
    refine lv_lconst (v := L6 0) hx hb dX8_cut_7 (by decide) ?_
    have o_42 : (0 : Int) = cutX v (if o = 1 then 9223372036854775807 else 2147483647) := by unfold cutX; first | (rw [if_pos (by omega)]; first | done | omega) | (rw [if_pos (by omega), if_pos (by omega)]; first | done | omega) | (rw [if_neg (by omega), if_pos (by omega), if_pos (by omega)]; first | done | omega) | (rw [if_neg (by omega), if_pos (by omega), if_neg (by omega)]; first | done | omega) | (rw [if_neg (by omega), if_neg (by omega), if_pos (by omega)]; first | done | omega) | (rw [if_neg (by omega), if_neg (by omega), if_neg (by omega)]; first | done | omega) | (rw [if_pos (by omega), if_pos (by omega), if_pos (by omega)]; first | done | omega) | (rw [if_pos (by omega), if_pos (by omega), if_neg (by omega)]; first | done | omega) | (rw [if_pos (by omega), if_neg (by omega)]; first | done | omega)
    exact W.lret (v := L6 0) hx hb hr (fun t ht hW => ⟨⟨L6 0, (0, re), rfl, ⟨rfl, o_42⟩, by rw [ht]; exact hP, va_K.moved hW.alike hK, hD⟩, hS.F ht⟩) hS.2.2 dX8_cut_8
abbrev BmetX8_cast (dC : Nat → ClassId) (dI : Nat → Nat → Nat) (dA : Nat → ClassId) (A : Nat → Prop) (am : Nat) (as_ : Nat) (av : Nat) (aw : Nat) (th : Int) (mn : Int) (sm : Int) (wd : Int) (lp : Int) (mp : Int) (re : Int) (SG : Int → Int) (VL : Int → Int) (wf : Int → Int) (kind : Int) (v : Int) : Int × Int × (Int → Int) × Int × Int × Int × Int → State → Prop := fun u t => (fun (u : Int × Int × (Int → Int) × Int × Int × Int × Int) => (fun (z : Int) (th1 : Int) (W1 : Int → Int) (wd1 : Int) (lp1 : Int) (mp1 : Int) (re1 : Int) => va_P (dC, dI) vwCl [(am, .inr (0, [.int (I3 th1), .int (I3 mn), .ref as_, .ref av, .ref aw, .int (I3 sm), .int (I3 wd1), .int (I3 lp1), .int (I3 mp1), .int (I3 re1)])), (as_, .inl (dA 0, 60, .inl (iA SG))), (av, .inl (dA 1, 960, .inr (.inl (lA VL)))), (aw, .inl (dA 1, 1024, .inr (.inl (lA W1))))] t.heap ∧ va_K (dC, dI) vwCl (tyA dA) t ∧ va_D A [(am, .inr (0, [.int (I3 th1), .int (I3 mn), .ref as_, .ref av, .ref aw, .int (I3 sm), .int (I3 wd1), .int (I3 lp1), .int (I3 mp1), .int (I3 re1)])), (as_, .inl (dA 0, 60, .inl (iA SG))), (av, .inl (dA 1, 960, .inr (.inl (lA VL)))), (aw, .inl (dA 1, 1024, .inr (.inl (lA W1))))]) u.1 u.2.1 u.2.2.1 u.2.2.2.1 u.2.2.2.2.1 u.2.2.2.2.2.1 u.2.2.2.2.2.2) u
abbrev QmetX8_cast (dC : Nat → ClassId) (dI : Nat → Nat → Nat) (dA : Nat → ClassId) (A : Nat → Prop) (am : Nat) (as_ : Nat) (av : Nat) (aw : Nat) (th : Int) (mn : Int) (sm : Int) (wd : Int) (lp : Int) (mp : Int) (re : Int) (SG : Int → Int) (VL : Int → Int) (wf : Int → Int) (kind : Int) (v : Int) := va_Ql (fun (rt_ : Int64) => fun (u : Int × Int × (Int → Int) × Int × Int × Int × Int) => (fun (z : Int) (th1 : Int) (W1 : Int → Int) (wd1 : Int) (lp1 : Int) (mp1 : Int) (re1 : Int) => rt_ = L6 z ∧ (Dg W1) ∧ (¬ (0 ≤ kind ∧ kind ≤ 6) → th1 = 1 ∧ z = 0) ∧ (0 ≤ kind ∧ kind ≤ 6 → th1 = 0 ∧ caX kind v z)) u.1 u.2.1 u.2.2.1 u.2.2.2.1 u.2.2.2.2.1 u.2.2.2.2.2.1 u.2.2.2.2.2.2) (BmetX8_cast dC dI dA A am as_ av aw th mn sm wd lp mp re SG VL wf kind v) A
set_option maxHeartbeats 4000000 in
set_option maxRecDepth 100000 in
/-- cast -/
theorem metX8_cast (l : Launch) (dC : Nat → ClassId) (dI : Nat → Nat → Nat) (dA : Nat → ClassId) (am : Nat) (as_ : Nat) (av : Nat) (aw : Nat) (sz : Nat) (th : Int) (mn : Int) (sm : Int) (wd : Int) (lp : Int) (mp : Int) (re : Int) (SG : Int → Int) (VL : Int → Int) (wf : Int → Int) (kind : Int) (v : Int) (hW : Dg wf) (hk3 : In3 kind) (hv : In6 v) : Met l yX8_cast (ws_ yX8_cast cX8_cast 5 (some .long)) ({ frames := 6, cells := 0, slots := 0, locals := 240 }) (va_Pc [.ref am, .int (I3 kind), .long (L6 v)] (fun U => U.heap.size = sz ∧ va_P (dC, dI) vwCl [(am, .inr (0, [.int (I3 th), .int (I3 mn), .ref as_, .ref av, .ref aw, .int (I3 sm), .int (I3 wd), .int (I3 lp), .int (I3 mp), .int (I3 re)])), (as_, .inl (dA 0, 60, .inl (iA SG))), (av, .inl (dA 1, 960, .inr (.inl (lA VL)))), (aw, .inl (dA 1, 1024, .inr (.inl (lA wf))))] U.heap ∧ va_K (dC, dI) vwCl (tyA dA) U ∧ va_D (fun _ => True) [(am, .inr (0, [.int (I3 th), .int (I3 mn), .ref as_, .ref av, .ref aw, .int (I3 sm), .int (I3 wd), .int (I3 lp), .int (I3 mp), .int (I3 re)])), (as_, .inl (dA 0, 60, .inl (iA SG))), (av, .inl (dA 1, 960, .inr (.inl (lA VL)))), (aw, .inl (dA 1, 1024, .inr (.inl (lA wf))))])) (QmetX8_cast dC dI dA (va_A [(am, .inr (0, [.int (I3 th), .int (I3 mn), .ref as_, .ref av, .ref aw, .int (I3 sm), .int (I3 wd), .int (I3 lp), .int (I3 mp), .int (I3 re)])), (as_, .inl (dA 0, 60, .inl (iA SG))), (av, .inl (dA 1, 960, .inr (.inl (lA VL)))), (aw, .inl (dA 1, 1024, .inr (.inl (lA wf))))] sz) am as_ av aw th mn sm wd lp mp re SG VL wf kind v) 0 0 (va_A [(am, .inr (0, [.int (I3 th), .int (I3 mn), .ref as_, .ref av, .ref aw, .int (I3 sm), .int (I3 wd), .int (I3 lp), .int (I3 mp), .int (I3 re)])), (as_, .inl (dA 0, 60, .inl (iA SG))), (av, .inl (dA 1, 960, .inr (.inl (lA VL)))), (aw, .inl (dA 1, 1024, .inr (.inl (lA wf))))] sz) := by
  refine Met.ofW (cc := cX8_cast) (maxL := 5) (ret := (some .long)) (by decide) rfl ?_
  intro p e s m args below meth c s₁ B hml hv
  obtain ⟨rfl, hsz, hP, hK, hD0⟩ := hv
  have hx := B.exec
  have hb := B.bytes
  have hr := B.returns
  have hts := atoms_spec (ws := (ws_ yX8_cast cX8_cast 5 (some .long))) B.pre
  have hts : ∀ w ∈ lw_all, w.before _ s = true := fun w h => hts w (List.mem_cons_of_mem _ h)
  have hown : s.vm.findClass RX8 = some m.cls := findClass_of_methodNamed B.named
  have hlocks := B.notSynchronized
  subst hsz
  have hD := hD0.self (sz := s.heap.size)
  generalize hAe : va_A [(am, .inr (0, [.int (I3 th), .int (I3 mn), .ref as_, .ref av, .ref aw, .int (I3 sm), .int (I3 wd), .int (I3 lp), .int (I3 mp), .int (I3 re)])), (as_, .inl (dA 0, 60, .inl (iA SG))), (av, .inl (dA 1, 960, .inr (.inl (lA VL)))), (aw, .inl (dA 1, 1024, .inr (.inl (lA wf))))] s.heap.size = A at hD ⊢
  have hA : ∀ q : Nat, s.heap.size ≤ q → A q := fun q h => by rw [← hAe]; exact Or.inr h
  have hS : va_S A s.heap s.heap [] := va_S.rf
  have hP : va_P (dC, dI) vwCl [(am, .inr (0, [.int (I3 th), .int (I3 mn), .ref as_, .ref av, .ref aw, .int (I3 sm), .int (I3 wd), .int (I3 lp), .int (I3 mp), .int (I3 re)])), (as_, .inl (dA 0, 60, .inl (iA SG))), (av, .inl (dA 1, 960, .inr (.inl (lA VL)))), (aw, .inl (dA 1, 1024, .inr (.inl (lA wf))))] s.heap := hP
  have hl := lv_entry ([.ref am, .int (I3 kind), .long (L6 v)]) (n := 5) (Nat.le_of_ble_eq_true rfl)
  rw [lg_entry_eq]
  generalize (lg_sl ([.ref am, .int (I3 kind), .long (L6 v)]) ++ List.replicate (5 - (lg_sl ([.ref am, .int (I3 kind), .long (L6 v)])).length) Slot.unset).toArray = ls at hl ⊢
  have hl : lv_has ls 5 [(0, .ref am), (1, .int (I3 kind)), (2, .long (L6 v))] := hl
  have xv_ := eX_r v
  have fv_ := fX_r v
  have pv_ := plX_r v
  have qv_ := pX_r v
  have tn_ := tX_nn v
  refine lv_iload_n hx hb dX8_cast_0 rfl (lv_at hl 1 rfl) ?_
  refine ix_if_lt (tgt := 10) hx hb (by first | assumption | decide | (constructor <;> omega)) dX8_cast_1 (by decide) (fun c_1 => ?_) (fun c_1 => ?_)
  · skip
    refine lv_aload_n hx hb dX8_cast_10 rfl (lv_at hl 0 rfl) ?_
    refine lv_iconst (v := I3 (1)) hx hb dX8_cast_11 rfl ?_
    have h_1 : In3 (1 : Int) := by first | assumption | omega | (constructor <;> omega)
    have hPc := hP.sub (ws' := [(am, .inr (0, [.int (I3 th), .int (I3 mn), .ref as_, .ref av, .ref aw, .int (I3 sm), .int (I3 wd), .int (I3 lp), .int (I3 mp), .int (I3 re)])), (as_, .inl (dA 0, 60, .inl (iA SG))), (av, .inl (dA 1, 960, .inr (.inl (lA VL)))), (aw, .inl (dA 1, 1024, .inr (.inl (lA wf))))]) [0, 1, 2, 3] rfl
    have hDc := hD.sub (ws' := [(am, .inr (0, [.int (I3 th), .int (I3 mn), .ref as_, .ref av, .ref aw, .int (I3 sm), .int (I3 wd), .int (I3 lp), .int (I3 mp), .int (I3 re)])), (as_, .inl (dA 0, 60, .inl (iA SG))), (av, .inl (dA 1, 960, .inr (.inl (lA VL)))), (aw, .inl (dA 1, 1024, .inr (.inl (lA wf))))]) [0, 1, 2, 3] (by decide) rfl
    have hFc := va_free (wc := [(am, .inr (0, [.int (I3 th), .int (I3 mn), .ref as_, .ref av, .ref aw, .int (I3 sm), .int (I3 wd), .int (I3 lp), .int (I3 mp), .int (I3 re)])), (as_, .inl (dA 0, 60, .inl (iA SG))), (av, .inl (dA 1, 960, .inr (.inl (lA VL)))), (aw, .inl (dA 1, 1024, .inr (.inl (lA wf))))]) hD hS hA [0, 1, 2, 3] rfl
    refine va_calli (va_runV (As := [.int (I3 1)]) (rest := []) ⟨hx, hb, hml, hown, hts⟩ (metX8_fails l dC dI dA am as_ av aw s.heap.size th mn sm wd lp mp re SG VL wf 1 h_1) (cwV 1 hts (lw_V q1016 q1018 qs34 q66 q1019) rfl rfl rfl (by decide +kernel) ⟨Nat.le_of_ble_eq_true rfl, Nat.le_of_ble_eq_true rfl⟩) ⟨fun a U g mk q => by obtain ⟨q0, q1, qP, qK, qD⟩ := q; exact ⟨q0, q1, qP, va_K.moved (u := U) (U := U.calling g mk a) (Vm.Alike.refl U.vm) qK, qD⟩, va_recv hK hPc (ci := 0) (q0 := 0) rfl rfl, fun U hU hW => ⟨rfl, by rw [hU], by rw [hU]; exact hPc, va_K.moved hW.alike hK, hDc.weaken (fun _ _ _ _ => trivial)⟩⟩ rfl rfl hl.1 rfl (lv_room (Nat.le_of_ble_eq_true rfl)) dX8_cast_12 ⟨Nat.le_of_ble_eq_true rfl, Nat.le_of_ble_eq_true rfl⟩) hS (fun q _ h => hFc q h) hFc (fun r_12 u t H1 locs ht hvm hw hB hz1 hk1 hS => ?_)
    obtain ⟨z_12, th1_12⟩ := u
    obtain ⟨rfl, p0_12, p1_12⟩ : r_12 = I3 z_12 ∧ (z_12 = 0) ∧ (th1_12 = (1 : Int)) := hw
    obtain ⟨hP1, hK1, hD1⟩ := hB
    rw [ht] at hP1
    obtain ⟨hP, hD⟩ := va_join (wr := []) (w1 := [(am, .inr (0, [.int (I3 th1_12), .int (I3 mn), .ref as_, .ref av, .ref aw, .int (I3 sm), .int (I3 wd), .int (I3 lp), .int (I3 mp), .int (I3 re)])), (as_, .inl (dA 0, 60, .inl (iA SG))), (av, .inl (dA 1, 960, .inr (.inl (lA VL)))), (aw, .inl (dA 1, 1024, .inr (.inl (lA wf))))]) hP hD [0, 1, 2, 3] [] rfl rfl (by decide) (by decide) hk1 hFc hP1 hD1
    generalize H1 = H at hP hS ⊢
    have hP : va_P (dC, dI) vwCl [(am, .inr (0, [.int (I3 th1_12), .int (I3 mn), .ref as_, .ref av, .ref aw, .int (I3 sm), .int (I3 wd), .int (I3 lp), .int (I3 mp), .int (I3 re)])), (as_, .inl (dA 0, 60, .inl (iA SG))), (av, .inl (dA 1, 960, .inr (.inl (lA VL)))), (aw, .inl (dA 1, 1024, .inr (.inl (lA wf))))] H := hP
    have hD : va_D A [(am, .inr (0, [.int (I3 th1_12), .int (I3 mn), .ref as_, .ref av, .ref aw, .int (I3 sm), .int (I3 wd), .int (I3 lp), .int (I3 mp), .int (I3 re)])), (as_, .inl (dA 0, 60, .inl (iA SG))), (av, .inl (dA 1, 960, .inr (.inl (lA VL)))), (aw, .inl (dA 1, 1024, .inr (.inl (lA wf))))] := hD
    refine ix_i2l hx hb (by rw [p0_12]; decide) dX8_cast_15 ?_
    have o_2 : Dg wf := by first | assumption | omega | (constructor <;> omega)
    have o_3 : ¬ (0 ≤ kind ∧ kind ≤ 6) → th1_12 = 1 ∧ z_12 = 0 := by intro _; exact ⟨p1_12, p0_12⟩
    have o_4 : 0 ≤ kind ∧ kind ≤ 6 → th1_12 = 0 ∧ caX kind v z_12 := by intro q; exfalso; omega
    exact W.lret (v := L6 z_12) hx hb hr (fun t ht hW => ⟨⟨L6 z_12, (z_12, th1_12, wf, wd, lp, mp, re), rfl, ⟨rfl, ⟨o_2, o_3, o_4⟩⟩, by rw [ht]; exact hP, va_K.moved hW.alike hK, hD⟩, hS.F ht⟩) hS.2.2 dX8_cast_16
  · skip
    refine lv_iload_n hx hb dX8_cast_4 rfl (lv_at hl 1 rfl) ?_
    refine lv_bipush (v := I3 (6)) hx hb dX8_cast_5 (by decide) ?_
    refine ix_icmp_le (tgt := 17) hx hb (by first | assumption | decide | (constructor <;> omega)) (by first | assumption | decide | (constructor <;> omega)) dX8_cast_7 (by decide) (fun c_7 => ?_) (fun c_7 => ?_)
    · skip
      refine lv_aload_n hx hb dX8_cast_17 rfl (lv_at hl 0 rfl) ?_
      refine lv_iconst (v := I3 (0)) hx hb dX8_cast_18 rfl ?_
      refine va_put (D := (dC, dI)) (ci := 0) (v := .int (I3 0)) (ty := .int) (C := RX8) (T := TX8) (N := 10) hx hb hts in_X8 tyX8 tyX8_ok nmX8 hown hK hP hD hS 0 rfl rfl 0 (by decide) (hts _ q913) (fun _ h9 => h9) rfl (by decide +kernel) rfl rfl (Nat.le_of_ble_eq_true rfl) dX8_cast_19 (fun H locs hP hD hS => ?_)
      have hP : va_P (dC, dI) vwCl [(am, .inr (0, [.int (I3 0), .int (I3 mn), .ref as_, .ref av, .ref aw, .int (I3 sm), .int (I3 wd), .int (I3 lp), .int (I3 mp), .int (I3 re)])), (as_, .inl (dA 0, 60, .inl (iA SG))), (av, .inl (dA 1, 960, .inr (.inl (lA VL)))), (aw, .inl (dA 1, 1024, .inr (.inl (lA wf))))] H := hP
      have hD : va_D A [(am, .inr (0, [.int (I3 0), .int (I3 mn), .ref as_, .ref av, .ref aw, .int (I3 sm), .int (I3 wd), .int (I3 lp), .int (I3 mp), .int (I3 re)])), (as_, .inl (dA 0, 60, .inl (iA SG))), (av, .inl (dA 1, 960, .inr (.inl (lA VL)))), (aw, .inl (dA 1, 1024, .inr (.inl (lA wf))))] := hD
      refine lv_aload_n hx hb dX8_cast_22 rfl (lv_at hl 0 rfl) ?_
      refine lv_lload_n hx hb dX8_cast_23 rfl (lv_at hl 2 rfl) ?_
      refine lv_iconst (v := I3 (0)) hx hb dX8_cast_24 rfl ?_
      have h_5 : In6 v := by first | assumption | omega | (constructor <;> omega)
      have h_6 : (0 : Int) = 0 ∨ (0 : Int) = 1 := by first | assumption | omega | (constructor <;> omega)
      have hPc := hP.sub (ws' := [(am, .inr (0, [.int (I3 ((0 : Int))), .int (I3 mn), .ref as_, .ref av, .ref aw, .int (I3 sm), .int (I3 wd), .int (I3 lp), .int (I3 mp), .int (I3 re)])), (as_, .inl (dA 0, 60, .inl (iA SG))), (av, .inl (dA 1, 960, .inr (.inl (lA VL)))), (aw, .inl (dA 1, 1024, .inr (.inl (lA wf))))]) [0, 1, 2, 3] rfl
      have hDc := hD.sub (ws' := [(am, .inr (0, [.int (I3 ((0 : Int))), .int (I3 mn), .ref as_, .ref av, .ref aw, .int (I3 sm), .int (I3 wd), .int (I3 lp), .int (I3 mp), .int (I3 re)])), (as_, .inl (dA 0, 60, .inl (iA SG))), (av, .inl (dA 1, 960, .inr (.inl (lA VL)))), (aw, .inl (dA 1, 1024, .inr (.inl (lA wf))))]) [0, 1, 2, 3] (by decide) rfl
      have hFc := va_free (wc := [(am, .inr (0, [.int (I3 ((0 : Int))), .int (I3 mn), .ref as_, .ref av, .ref aw, .int (I3 sm), .int (I3 wd), .int (I3 lp), .int (I3 mp), .int (I3 re)])), (as_, .inl (dA 0, 60, .inl (iA SG))), (av, .inl (dA 1, 960, .inr (.inl (lA VL)))), (aw, .inl (dA 1, 1024, .inr (.inl (lA wf))))]) hD hS hA [0, 1, 2, 3] rfl
      refine va_calll (va_runV (As := [.long (L6 v), .int (I3 0)]) (rest := []) ⟨hx, hb, hml, hown, hts⟩ (metX8_cut l dC dI dA am as_ av aw H.size 0 mn sm wd lp mp re SG VL wf v 0 h_5 h_6) (cwV 2 hts (lw_V q1199 q1201 qs55 q66 q1202) rfl rfl rfl (by decide +kernel) ⟨Nat.le_of_ble_eq_true rfl, Nat.le_of_ble_eq_true rfl⟩) ⟨fun a U g mk q => by obtain ⟨q0, q1, qP, qK, qD⟩ := q; exact ⟨q0, q1, qP, va_K.moved (u := U) (U := U.calling g mk a) (Vm.Alike.refl U.vm) qK, qD⟩, va_recv hK hPc (ci := 0) (q0 := 0) rfl rfl, fun U hU hW => ⟨rfl, by rw [hU], by rw [hU]; exact hPc, va_K.moved hW.alike hK, hDc.weaken (fun _ _ _ _ => trivial)⟩⟩ rfl rfl hl.1 rfl (lv_room (Nat.le_of_ble_eq_true rfl)) dX8_cast_25 ⟨Nat.le_of_ble_eq_true rfl, Nat.le_of_ble_eq_true rfl⟩) hS (fun q _ h => hFc q h) hFc (fun r_25 u t H1 locs ht hvm hw hB hz1 hk1 hS => ?_)
      obtain ⟨z_25, re1_25⟩ := u
      obtain ⟨rfl, p0_25⟩ : r_25 = L6 z_25 ∧ (z_25 = cutX v (if (0 : Int) = 1 then 9223372036854775807 else 2147483647)) := hw
      obtain ⟨hP1, hK1, hD1⟩ := hB
      rw [ht] at hP1
      obtain ⟨hP, hD⟩ := va_join (wr := []) (w1 := [(am, .inr (0, [.int (I3 ((0 : Int))), .int (I3 mn), .ref as_, .ref av, .ref aw, .int (I3 sm), .int (I3 wd), .int (I3 lp), .int (I3 mp), .int (I3 re1_25)])), (as_, .inl (dA 0, 60, .inl (iA SG))), (av, .inl (dA 1, 960, .inr (.inl (lA VL)))), (aw, .inl (dA 1, 1024, .inr (.inl (lA wf))))]) hP hD [0, 1, 2, 3] [] rfl rfl (by decide) (by decide) hk1 hFc hP1 hD1
      generalize H1 = H at hP hS ⊢
      have hP : va_P (dC, dI) vwCl [(am, .inr (0, [.int (I3 ((0 : Int))), .int (I3 mn), .ref as_, .ref av, .ref aw, .int (I3 sm), .int (I3 wd), .int (I3 lp), .int (I3 mp), .int (I3 re1_25)])), (as_, .inl (dA 0, 60, .inl (iA SG))), (av, .inl (dA 1, 960, .inr (.inl (lA VL)))), (aw, .inl (dA 1, 1024, .inr (.inl (lA wf))))] H := hP
      have hD : va_D A [(am, .inr (0, [.int (I3 ((0 : Int))), .int (I3 mn), .ref as_, .ref av, .ref aw, .int (I3 sm), .int (I3 wd), .int (I3 lp), .int (I3 mp), .int (I3 re1_25)])), (as_, .inl (dA 0, 60, .inl (iA SG))), (av, .inl (dA 1, 960, .inr (.inl (lA VL)))), (aw, .inl (dA 1, 1024, .inr (.inl (lA wf))))] := hD
      have r25_ := cutX_r (v := v) (M := 2147483647) (by decide)
      have e25 : z_25 = cutX v 2147483647 := p0_25
      have i25 : In3 z_25 := by rw [e25]; constructor <;> omega
      refine ix_l2i hx hb dX8_cast_28 ?_
      refine lv_istore (lv' := [(4, .int (I3 z_25)), (0, .ref am), (1, .int (I3 kind)), (2, .long (L6 v))]) hx hb dX8_cast_29 hl (by decide) rfl (fun ls hl => ?_)
      refine lv_iload_n hx hb dX8_cast_31 rfl (lv_at hl 2 rfl) ?_
      by_cases t_32_0 : kind = 0
      · skip
        refine ix_tabI hx hb 0 t_32_0 (by decide) (by decide) (by decide) (off := 40) rfl (tgt := 72) (by decide) dX8_cast_32 ?_
        refine lv_aload_n hx hb dX8_cast_72 rfl (lv_at hl 1 rfl) ?_
        refine lv_lload_n hx hb dX8_cast_73 rfl (lv_at hl 3 rfl) ?_
        refine lv_iconst (v := I3 (1)) hx hb dX8_cast_74 rfl ?_
        have h_7 : In6 v := by first | assumption | omega | (constructor <;> omega)
        have h_8 : (1 : Int) = 0 ∨ (1 : Int) = 1 := by first | assumption | omega | (constructor <;> omega)
        have hPc := hP.sub (ws' := [(am, .inr (0, [.int (I3 (((0 : Int)))), .int (I3 mn), .ref as_, .ref av, .ref aw, .int (I3 sm), .int (I3 wd), .int (I3 lp), .int (I3 mp), .int (I3 re1_25)])), (as_, .inl (dA 0, 60, .inl (iA SG))), (av, .inl (dA 1, 960, .inr (.inl (lA VL)))), (aw, .inl (dA 1, 1024, .inr (.inl (lA wf))))]) [0, 1, 2, 3] rfl
        have hDc := hD.sub (ws' := [(am, .inr (0, [.int (I3 (((0 : Int)))), .int (I3 mn), .ref as_, .ref av, .ref aw, .int (I3 sm), .int (I3 wd), .int (I3 lp), .int (I3 mp), .int (I3 re1_25)])), (as_, .inl (dA 0, 60, .inl (iA SG))), (av, .inl (dA 1, 960, .inr (.inl (lA VL)))), (aw, .inl (dA 1, 1024, .inr (.inl (lA wf))))]) [0, 1, 2, 3] (by decide) rfl
        have hFc := va_free (wc := [(am, .inr (0, [.int (I3 (((0 : Int)))), .int (I3 mn), .ref as_, .ref av, .ref aw, .int (I3 sm), .int (I3 wd), .int (I3 lp), .int (I3 mp), .int (I3 re1_25)])), (as_, .inl (dA 0, 60, .inl (iA SG))), (av, .inl (dA 1, 960, .inr (.inl (lA VL)))), (aw, .inl (dA 1, 1024, .inr (.inl (lA wf))))]) hD hS hA [0, 1, 2, 3] rfl
        refine va_calll (va_runV (As := [.long (L6 v), .int (I3 1)]) (rest := []) ⟨hx, hb, hml, hown, hts⟩ (metX8_cut l dC dI dA am as_ av aw H.size ((0 : Int)) mn sm wd lp mp re1_25 SG VL wf v 1 h_7 h_8) (cwV 2 hts (lw_V q1199 q1201 qs55 q66 q1202) rfl rfl rfl (by decide +kernel) ⟨Nat.le_of_ble_eq_true rfl, Nat.le_of_ble_eq_true rfl⟩) ⟨fun a U g mk q => by obtain ⟨q0, q1, qP, qK, qD⟩ := q; exact ⟨q0, q1, qP, va_K.moved (u := U) (U := U.calling g mk a) (Vm.Alike.refl U.vm) qK, qD⟩, va_recv hK hPc (ci := 0) (q0 := 0) rfl rfl, fun U hU hW => ⟨rfl, by rw [hU], by rw [hU]; exact hPc, va_K.moved hW.alike hK, hDc.weaken (fun _ _ _ _ => trivial)⟩⟩ rfl rfl hl.1 rfl (lv_room (Nat.le_of_ble_eq_true rfl)) dX8_cast_75 ⟨Nat.le_of_ble_eq_true rfl, Nat.le_of_ble_eq_true rfl⟩) hS (fun q _ h => hFc q h) hFc (fun r_75 u t H1 locs ht hvm hw hB hz1 hk1 hS => ?_)
        obtain ⟨z_75, re1_75⟩ := u
        obtain ⟨rfl, p0_75⟩ : r_75 = L6 z_75 ∧ (z_75 = cutX v (if (1 : Int) = 1 then 9223372036854775807 else 2147483647)) := hw
        obtain ⟨hP1, hK1, hD1⟩ := hB
        rw [ht] at hP1
        obtain ⟨hP, hD⟩ := va_join (wr := []) (w1 := [(am, .inr (0, [.int (I3 (((0 : Int)))), .int (I3 mn), .ref as_, .ref av, .ref aw, .int (I3 sm), .int (I3 wd), .int (I3 lp), .int (I3 mp), .int (I3 re1_75)])), (as_, .inl (dA 0, 60, .inl (iA SG))), (av, .inl (dA 1, 960, .inr (.inl (lA VL)))), (aw, .inl (dA 1, 1024, .inr (.inl (lA wf))))]) hP hD [0, 1, 2, 3] [] rfl rfl (by decide) (by decide) hk1 hFc hP1 hD1
        generalize H1 = H at hP hS ⊢
        have hP : va_P (dC, dI) vwCl [(am, .inr (0, [.int (I3 (((0 : Int)))), .int (I3 mn), .ref as_, .ref av, .ref aw, .int (I3 sm), .int (I3 wd), .int (I3 lp), .int (I3 mp), .int (I3 re1_75)])), (as_, .inl (dA 0, 60, .inl (iA SG))), (av, .inl (dA 1, 960, .inr (.inl (lA VL)))), (aw, .inl (dA 1, 1024, .inr (.inl (lA wf))))] H := hP
        have hD : va_D A [(am, .inr (0, [.int (I3 (((0 : Int)))), .int (I3 mn), .ref as_, .ref av, .ref aw, .int (I3 sm), .int (I3 wd), .int (I3 lp), .int (I3 mp), .int (I3 re1_75)])), (as_, .inl (dA 0, 60, .inl (iA SG))), (av, .inl (dA 1, 960, .inr (.inl (lA VL)))), (aw, .inl (dA 1, 1024, .inr (.inl (lA wf))))] := hD
        have e75 : z_75 = cutX v 9223372036854775807 := p0_75
        have o_9 : Dg wf := by first | assumption | omega | (constructor <;> omega)
        have o_10 : ¬ (0 ≤ kind ∧ kind ≤ 6) → (((0 : Int))) = 1 ∧ z_75 = 0 := by intro q; exfalso; omega
        have o_11 : 0 ≤ kind ∧ kind ≤ 6 → (((0 : Int))) = 0 ∧ caX kind v z_75 := by intro _; refine ⟨rfl, ?_⟩; exact ⟨fun _ => e75, fun q => by exfalso; omega, fun q => by exfalso; omega, fun q => by exfalso; omega, fun q => by exfalso; omega, fun q => by exfalso; omega, fun q => by exfalso; omega⟩
        exact W.lret (v := L6 z_75) hx hb hr (fun t ht hW => ⟨⟨L6 z_75, (z_75, (((0 : Int))), wf, wd, lp, mp, re1_75), rfl, ⟨rfl, ⟨o_9, o_10, o_11⟩⟩, by rw [ht]; exact hP, va_K.moved hW.alike hK, hD⟩, hS.F ht⟩) hS.2.2 dX8_cast_78
      by_cases t_32_1 : kind = 1
      · skip
        refine ix_tabI hx hb 1 t_32_1 (by decide) (by decide) (by decide) (off := 47) rfl (tgt := 79) (by decide) dX8_cast_32 ?_
        refine lv_iload hx hb dX8_cast_79 (lv_at hl 0 rfl) ?_
        refine ix_i2l hx hb (by first | assumption | decide | (constructor <;> omega)) dX8_cast_81 ?_
        have o_12 : Dg wf := by first | assumption | omega | (constructor <;> omega)
        have o_13 : ¬ (0 ≤ kind ∧ kind ≤ 6) → ((0 : Int)) = 1 ∧ z_25 = 0 := by intro q; exfalso; omega
        have o_14 : 0 ≤ kind ∧ kind ≤ 6 → ((0 : Int)) = 0 ∧ caX kind v z_25 := by intro _; refine ⟨rfl, ?_⟩; exact ⟨fun q => by exfalso; omega, fun _ => e25, fun q => by exfalso; omega, fun q => by exfalso; omega, fun q => by exfalso; omega, fun q => by exfalso; omega, fun q => by exfalso; omega⟩
        exact W.lret (v := L6 z_25) hx hb hr (fun t ht hW => ⟨⟨L6 z_25, (z_25, ((0 : Int)), wf, wd, lp, mp, re1_25), rfl, ⟨rfl, ⟨o_12, o_13, o_14⟩⟩, by rw [ht]; exact hP, va_K.moved hW.alike hK, hD⟩, hS.F ht⟩) hS.2.2 dX8_cast_82
      by_cases t_32_2 : kind = 2
      · skip
        refine ix_tabI hx hb 2 t_32_2 (by decide) (by decide) (by decide) (off := 51) rfl (tgt := 83) (by decide) dX8_cast_32 ?_
        refine lv_iload hx hb dX8_cast_83 (lv_at hl 0 rfl) ?_
        refine ix_i2s hx hb dX8_cast_85 ?_
        refine ix_i2l hx hb (by unfold sm16; constructor <;> omega) dX8_cast_86 ?_
        have o_15 : Dg wf := by first | assumption | omega | (constructor <;> omega)
        have o_16 : ¬ (0 ≤ kind ∧ kind ≤ 6) → ((0 : Int)) = 1 ∧ (sm16 z_25) = 0 := by intro q; exfalso; omega
        have o_17 : 0 ≤ kind ∧ kind ≤ 6 → ((0 : Int)) = 0 ∧ caX kind v (sm16 z_25) := by intro _; refine ⟨rfl, ?_⟩; exact ⟨fun q => by exfalso; omega, fun q => by exfalso; omega, fun _ => by rw [e25], fun q => by exfalso; omega, fun q => by exfalso; omega, fun q => by exfalso; omega, fun q => by exfalso; omega⟩
        exact W.lret (v := L6 (sm16 z_25)) hx hb hr (fun t ht hW => ⟨⟨L6 (sm16 z_25), ((sm16 z_25), ((0 : Int)), wf, wd, lp, mp, re1_25), rfl, ⟨rfl, ⟨o_15, o_16, o_17⟩⟩, by rw [ht]; exact hP, va_K.moved hW.alike hK, hD⟩, hS.F ht⟩) hS.2.2 dX8_cast_87
      by_cases t_32_3 : kind = 3
      · skip
        refine ix_tabI hx hb 3 t_32_3 (by decide) (by decide) (by decide) (off := 56) rfl (tgt := 88) (by decide) dX8_cast_32 ?_
        refine lv_iload hx hb dX8_cast_88 (lv_at hl 0 rfl) ?_
        refine ix_i2b hx hb dX8_cast_90 ?_
        refine ix_i2l hx hb (by unfold sm8; constructor <;> omega) dX8_cast_91 ?_
        have o_18 : Dg wf := by first | assumption | omega | (constructor <;> omega)
        have o_19 : ¬ (0 ≤ kind ∧ kind ≤ 6) → ((0 : Int)) = 1 ∧ (sm8 z_25) = 0 := by intro q; exfalso; omega
        have o_20 : 0 ≤ kind ∧ kind ≤ 6 → ((0 : Int)) = 0 ∧ caX kind v (sm8 z_25) := by intro _; refine ⟨rfl, ?_⟩; exact ⟨fun q => by exfalso; omega, fun q => by exfalso; omega, fun q => by exfalso; omega, fun _ => by rw [e25], fun q => by exfalso; omega, fun q => by exfalso; omega, fun q => by exfalso; omega⟩
        exact W.lret (v := L6 (sm8 z_25)) hx hb hr (fun t ht hW => ⟨⟨L6 (sm8 z_25), ((sm8 z_25), ((0 : Int)), wf, wd, lp, mp, re1_25), rfl, ⟨rfl, ⟨o_18, o_19, o_20⟩⟩, by rw [ht]; exact hP, va_K.moved hW.alike hK, hD⟩, hS.F ht⟩) hS.2.2 dX8_cast_92
      by_cases t_32_4 : kind = 4
      · skip
        refine ix_tabI hx hb 4 t_32_4 (by decide) (by decide) (by decide) (off := 61) rfl (tgt := 93) (by decide) dX8_cast_32 ?_
        refine lv_iload hx hb dX8_cast_93 (lv_at hl 0 rfl) ?_
        refine ix_i2c hx hb dX8_cast_95 ?_
        refine ix_i2l hx hb (by first | assumption | decide | (constructor <;> omega)) dX8_cast_96 ?_
        have o_21 : Dg wf := by first | assumption | omega | (constructor <;> omega)
        have o_22 : ¬ (0 ≤ kind ∧ kind ≤ 6) → ((0 : Int)) = 1 ∧ (z_25 % 65536) = 0 := by intro q; exfalso; omega
        have o_23 : 0 ≤ kind ∧ kind ≤ 6 → ((0 : Int)) = 0 ∧ caX kind v (z_25 % 65536) := by intro _; refine ⟨rfl, ?_⟩; exact ⟨fun q => by exfalso; omega, fun q => by exfalso; omega, fun q => by exfalso; omega, fun q => by exfalso; omega, fun _ => by rw [e25], fun q => by exfalso; omega, fun q => by exfalso; omega⟩
        exact W.lret (v := L6 (z_25 % 65536)) hx hb hr (fun t ht hW => ⟨⟨L6 (z_25 % 65536), ((z_25 % 65536), ((0 : Int)), wf, wd, lp, mp, re1_25), rfl, ⟨rfl, ⟨o_21, o_22, o_23⟩⟩, by rw [ht]; exact hP, va_K.moved hW.alike hK, hD⟩, hS.F ht⟩) hS.2.2 dX8_cast_97
      by_cases t_32_5 : kind = 5
      · skip
        refine ix_tabI hx hb 5 t_32_5 (by decide) (by decide) (by decide) (off := 66) rfl (tgt := 98) (by decide) dX8_cast_32 ?_
        refine lv_aload_n hx hb dX8_cast_98 rfl (lv_at hl 1 rfl) ?_
        refine lv_lload_n hx hb dX8_cast_99 rfl (lv_at hl 3 rfl) ?_
        have h_24 : Dg wf := by first | assumption | omega | (constructor <;> omega)
        have h_25 : In6 v := by first | assumption | omega | (constructor <;> omega)
        have hPc := hP.sub (ws' := [(am, .inr (0, [.int (I3 (((0 : Int)))), .int (I3 mn), .ref as_, .ref av, .ref aw, .int (I3 sm), .int (I3 wd), .int (I3 lp), .int (I3 mp), .int (I3 re1_25)])), (as_, .inl (dA 0, 60, .inl (iA SG))), (av, .inl (dA 1, 960, .inr (.inl (lA VL)))), (aw, .inl (dA 1, 1024, .inr (.inl (lA wf))))]) [0, 1, 2, 3] rfl
        have hDc := hD.sub (ws' := [(am, .inr (0, [.int (I3 (((0 : Int)))), .int (I3 mn), .ref as_, .ref av, .ref aw, .int (I3 sm), .int (I3 wd), .int (I3 lp), .int (I3 mp), .int (I3 re1_25)])), (as_, .inl (dA 0, 60, .inl (iA SG))), (av, .inl (dA 1, 960, .inr (.inl (lA VL)))), (aw, .inl (dA 1, 1024, .inr (.inl (lA wf))))]) [0, 1, 2, 3] (by decide) rfl
        have hFc := va_free (wc := [(am, .inr (0, [.int (I3 (((0 : Int)))), .int (I3 mn), .ref as_, .ref av, .ref aw, .int (I3 sm), .int (I3 wd), .int (I3 lp), .int (I3 mp), .int (I3 re1_25)])), (as_, .inl (dA 0, 60, .inl (iA SG))), (av, .inl (dA 1, 960, .inr (.inl (lA VL)))), (aw, .inl (dA 1, 1024, .inr (.inl (lA wf))))]) hD hS hA [0, 1, 2, 3] rfl
        refine va_calll (va_runV (As := [.long (L6 v)]) (rest := []) ⟨hx, hb, hml, hown, hts⟩ (metX8_floatBits l dC dI dA am as_ av aw H.size ((0 : Int)) mn sm wd lp mp re1_25 SG VL wf v h_24 h_25) (cwV 1 hts (lw_V q1204 q1206 qs56 q66 q1207) rfl rfl rfl (by decide +kernel) ⟨Nat.le_of_ble_eq_true rfl, Nat.le_of_ble_eq_true rfl⟩) ⟨fun a U g mk q => by obtain ⟨q0, q1, qP, qK, qD⟩ := q; exact ⟨q0, q1, qP, va_K.moved (u := U) (U := U.calling g mk a) (Vm.Alike.refl U.vm) qK, qD⟩, va_recv hK hPc (ci := 0) (q0 := 0) rfl rfl, fun U hU hW => ⟨rfl, by rw [hU], by rw [hU]; exact hPc, va_K.moved hW.alike hK, hDc.weaken (fun _ _ _ _ => trivial)⟩⟩ rfl rfl hl.1 rfl (lv_room (Nat.le_of_ble_eq_true rfl)) dX8_cast_100 ⟨Nat.le_of_ble_eq_true rfl, Nat.le_of_ble_eq_true rfl⟩) hS (fun q _ h => hFc q h) hFc (fun r_100 u t H1 locs ht hvm hw hB hz1 hk1 hS => ?_)
        obtain ⟨z_100, W1_100, wd1_100, lp1_100, mp1_100⟩ := u
        obtain ⟨rfl, p0_100, p1_100⟩ : r_100 = L6 z_100 ∧ (Dg W1_100) ∧ (fbX v z_100) := hw
        obtain ⟨hP1, hK1, hD1⟩ := hB
        rw [ht] at hP1
        obtain ⟨hP, hD⟩ := va_join (wr := []) (w1 := [(am, .inr (0, [.int (I3 (((0 : Int)))), .int (I3 mn), .ref as_, .ref av, .ref aw, .int (I3 sm), .int (I3 wd1_100), .int (I3 lp1_100), .int (I3 mp1_100), .int (I3 re1_25)])), (as_, .inl (dA 0, 60, .inl (iA SG))), (av, .inl (dA 1, 960, .inr (.inl (lA VL)))), (aw, .inl (dA 1, 1024, .inr (.inl (lA W1_100))))]) hP hD [0, 1, 2, 3] [] rfl rfl (by decide) (by decide) hk1 hFc hP1 hD1
        generalize H1 = H at hP hS ⊢
        have hP : va_P (dC, dI) vwCl [(am, .inr (0, [.int (I3 (((0 : Int)))), .int (I3 mn), .ref as_, .ref av, .ref aw, .int (I3 sm), .int (I3 wd1_100), .int (I3 lp1_100), .int (I3 mp1_100), .int (I3 re1_25)])), (as_, .inl (dA 0, 60, .inl (iA SG))), (av, .inl (dA 1, 960, .inr (.inl (lA VL)))), (aw, .inl (dA 1, 1024, .inr (.inl (lA W1_100))))] H := hP
        have hD : va_D A [(am, .inr (0, [.int (I3 (((0 : Int)))), .int (I3 mn), .ref as_, .ref av, .ref aw, .int (I3 sm), .int (I3 wd1_100), .int (I3 lp1_100), .int (I3 mp1_100), .int (I3 re1_25)])), (as_, .inl (dA 0, 60, .inl (iA SG))), (av, .inl (dA 1, 960, .inr (.inl (lA VL)))), (aw, .inl (dA 1, 1024, .inr (.inl (lA W1_100))))] := hD
        have o_26 : Dg W1_100 := by first | assumption | omega | (constructor <;> omega)
        have o_27 : ¬ (0 ≤ kind ∧ kind ≤ 6) → (((0 : Int))) = 1 ∧ z_100 = 0 := by intro q; exfalso; omega
        have o_28 : 0 ≤ kind ∧ kind ≤ 6 → (((0 : Int))) = 0 ∧ caX kind v z_100 := by intro _; refine ⟨rfl, ?_⟩; exact ⟨fun q => by exfalso; omega, fun q => by exfalso; omega, fun q => by exfalso; omega, fun q => by exfalso; omega, fun q => by exfalso; omega, fun _ => p1_100, fun q => by exfalso; omega⟩
        exact W.lret (v := L6 z_100) hx hb hr (fun t ht hW => ⟨⟨L6 z_100, (z_100, (((0 : Int))), W1_100, wd1_100, lp1_100, mp1_100, re1_25), rfl, ⟨rfl, ⟨o_26, o_27, o_28⟩⟩, by rw [ht]; exact hP, va_K.moved hW.alike hK, hD⟩, hS.F ht⟩) hS.2.2 dX8_cast_103
      refine ix_tabO hx hb (by first | assumption | decide | (constructor <;> omega)) (by omega) (tgt := 104) (by decide) dX8_cast_32 ?_
      refine lv_aload_n hx hb dX8_cast_104 rfl (lv_at hl 1 rfl) ?_
      refine lv_lload_n hx hb dX8_cast_105 rfl (lv_at hl 3 rfl) ?_
      refine ix_l2i hx hb dX8_cast_106 ?_
      refine ix_ci (y := sm3 v) (by exact I3_sm v) ?_
      have h_29 : Dg wf := by first | assumption | omega | (constructor <;> omega)
      have h_30 : In3 (sm3 v) := by exact sm3_in v
      have hPc := hP.sub (ws' := [(am, .inr (0, [.int (I3 (((0 : Int)))), .int (I3 mn), .ref as_, .ref av, .ref aw, .int (I3 sm), .int (I3 wd), .int (I3 lp), .int (I3 mp), .int (I3 re1_25)])), (as_, .inl (dA 0, 60, .inl (iA SG))), (av, .inl (dA 1, 960, .inr (.inl (lA VL)))), (aw, .inl (dA 1, 1024, .inr (.inl (lA wf))))]) [0, 1, 2, 3] rfl
      have hDc := hD.sub (ws' := [(am, .inr (0, [.int (I3 (((0 : Int)))), .int (I3 mn), .ref as_, .ref av, .ref aw, .int (I3 sm), .int (I3 wd), .int (I3 lp), .int (I3 mp), .int (I3 re1_25)])), (as_, .inl (dA 0, 60, .inl (iA SG))), (av, .inl (dA 1, 960, .inr (.inl (lA VL)))), (aw, .inl (dA 1, 1024, .inr (.inl (lA wf))))]) [0, 1, 2, 3] (by decide) rfl
      have hFc := va_free (wc := [(am, .inr (0, [.int (I3 (((0 : Int)))), .int (I3 mn), .ref as_, .ref av, .ref aw, .int (I3 sm), .int (I3 wd), .int (I3 lp), .int (I3 mp), .int (I3 re1_25)])), (as_, .inl (dA 0, 60, .inl (iA SG))), (av, .inl (dA 1, 960, .inr (.inl (lA VL)))), (aw, .inl (dA 1, 1024, .inr (.inl (lA wf))))]) hD hS hA [0, 1, 2, 3] rfl
      refine va_calll (va_runV (As := [.int (I3 (sm3 v))]) (rest := []) ⟨hx, hb, hml, hown, hts⟩ (metX8_fromFloat l dC dI dA am as_ av aw H.size ((0 : Int)) mn sm wd lp mp re1_25 SG VL wf (sm3 v) h_29 h_30) (cwV 1 hts (lw_V q1210 q1212 qs57 q66 q1213) rfl rfl rfl (by decide +kernel) ⟨Nat.le_of_ble_eq_true rfl, Nat.le_of_ble_eq_true rfl⟩) ⟨fun a U g mk q => by obtain ⟨q0, q1, qP, qK, qD⟩ := q; exact ⟨q0, q1, qP, va_K.moved (u := U) (U := U.calling g mk a) (Vm.Alike.refl U.vm) qK, qD⟩, va_recv hK hPc (ci := 0) (q0 := 0) rfl rfl, fun U hU hW => ⟨rfl, by rw [hU], by rw [hU]; exact hPc, va_K.moved hW.alike hK, hDc.weaken (fun _ _ _ _ => trivial)⟩⟩ rfl rfl hl.1 rfl (lv_room (Nat.le_of_ble_eq_true rfl)) dX8_cast_107 ⟨Nat.le_of_ble_eq_true rfl, Nat.le_of_ble_eq_true rfl⟩) hS (fun q _ h => hFc q h) hFc (fun r_107 u t H1 locs ht hvm hw hB hz1 hk1 hS => ?_)
      obtain ⟨z_107, W1_107, wd1_107, lp1_107, mp1_107⟩ := u
      obtain ⟨rfl, p0_107, p1_107⟩ : r_107 = L6 z_107 ∧ (Dg W1_107) ∧ (ffX (sm3 v) z_107) := hw
      obtain ⟨hP1, hK1, hD1⟩ := hB
      rw [ht] at hP1
      obtain ⟨hP, hD⟩ := va_join (wr := []) (w1 := [(am, .inr (0, [.int (I3 (((0 : Int)))), .int (I3 mn), .ref as_, .ref av, .ref aw, .int (I3 sm), .int (I3 wd1_107), .int (I3 lp1_107), .int (I3 mp1_107), .int (I3 re1_25)])), (as_, .inl (dA 0, 60, .inl (iA SG))), (av, .inl (dA 1, 960, .inr (.inl (lA VL)))), (aw, .inl (dA 1, 1024, .inr (.inl (lA W1_107))))]) hP hD [0, 1, 2, 3] [] rfl rfl (by decide) (by decide) hk1 hFc hP1 hD1
      generalize H1 = H at hP hS ⊢
      have hP : va_P (dC, dI) vwCl [(am, .inr (0, [.int (I3 (((0 : Int)))), .int (I3 mn), .ref as_, .ref av, .ref aw, .int (I3 sm), .int (I3 wd1_107), .int (I3 lp1_107), .int (I3 mp1_107), .int (I3 re1_25)])), (as_, .inl (dA 0, 60, .inl (iA SG))), (av, .inl (dA 1, 960, .inr (.inl (lA VL)))), (aw, .inl (dA 1, 1024, .inr (.inl (lA W1_107))))] H := hP
      have hD : va_D A [(am, .inr (0, [.int (I3 (((0 : Int)))), .int (I3 mn), .ref as_, .ref av, .ref aw, .int (I3 sm), .int (I3 wd1_107), .int (I3 lp1_107), .int (I3 mp1_107), .int (I3 re1_25)])), (as_, .inl (dA 0, 60, .inl (iA SG))), (av, .inl (dA 1, 960, .inr (.inl (lA VL)))), (aw, .inl (dA 1, 1024, .inr (.inl (lA W1_107))))] := hD
      have o_31 : Dg W1_107 := by first | assumption | omega | (constructor <;> omega)
      have o_32 : ¬ (0 ≤ kind ∧ kind ≤ 6) → (((0 : Int))) = 1 ∧ z_107 = 0 := by intro q; exfalso; omega
      have o_33 : 0 ≤ kind ∧ kind ≤ 6 → (((0 : Int))) = 0 ∧ caX kind v z_107 := by intro _; refine ⟨rfl, ?_⟩; exact ⟨fun q => by exfalso; omega, fun q => by exfalso; omega, fun q => by exfalso; omega, fun q => by exfalso; omega, fun q => by exfalso; omega, fun q => by exfalso; omega, fun _ => p1_107⟩
      exact W.lret (v := L6 z_107) hx hb hr (fun t ht hW => ⟨⟨L6 z_107, (z_107, (((0 : Int))), W1_107, wd1_107, lp1_107, mp1_107, re1_25), rfl, ⟨rfl, ⟨o_31, o_32, o_33⟩⟩, by rw [ht]; exact hP, va_K.moved hW.alike hK, hD⟩, hS.F ht⟩) hS.2.2 dX8_cast_110
    · skip
      refine lv_aload_n hx hb dX8_cast_10 rfl (lv_at hl 0 rfl) ?_
      refine lv_iconst (v := I3 (1)) hx hb dX8_cast_11 rfl ?_
      have h_34 : In3 (1 : Int) := by first | assumption | omega | (constructor <;> omega)
      have hPc := hP.sub (ws' := [(am, .inr (0, [.int (I3 th), .int (I3 mn), .ref as_, .ref av, .ref aw, .int (I3 sm), .int (I3 wd), .int (I3 lp), .int (I3 mp), .int (I3 re)])), (as_, .inl (dA 0, 60, .inl (iA SG))), (av, .inl (dA 1, 960, .inr (.inl (lA VL)))), (aw, .inl (dA 1, 1024, .inr (.inl (lA wf))))]) [0, 1, 2, 3] rfl
      have hDc := hD.sub (ws' := [(am, .inr (0, [.int (I3 th), .int (I3 mn), .ref as_, .ref av, .ref aw, .int (I3 sm), .int (I3 wd), .int (I3 lp), .int (I3 mp), .int (I3 re)])), (as_, .inl (dA 0, 60, .inl (iA SG))), (av, .inl (dA 1, 960, .inr (.inl (lA VL)))), (aw, .inl (dA 1, 1024, .inr (.inl (lA wf))))]) [0, 1, 2, 3] (by decide) rfl
      have hFc := va_free (wc := [(am, .inr (0, [.int (I3 th), .int (I3 mn), .ref as_, .ref av, .ref aw, .int (I3 sm), .int (I3 wd), .int (I3 lp), .int (I3 mp), .int (I3 re)])), (as_, .inl (dA 0, 60, .inl (iA SG))), (av, .inl (dA 1, 960, .inr (.inl (lA VL)))), (aw, .inl (dA 1, 1024, .inr (.inl (lA wf))))]) hD hS hA [0, 1, 2, 3] rfl
      refine va_calli (va_runV (As := [.int (I3 1)]) (rest := []) ⟨hx, hb, hml, hown, hts⟩ (metX8_fails l dC dI dA am as_ av aw s.heap.size th mn sm wd lp mp re SG VL wf 1 h_34) (cwV 1 hts (lw_V q1016 q1018 qs34 q66 q1019) rfl rfl rfl (by decide +kernel) ⟨Nat.le_of_ble_eq_true rfl, Nat.le_of_ble_eq_true rfl⟩) ⟨fun a U g mk q => by obtain ⟨q0, q1, qP, qK, qD⟩ := q; exact ⟨q0, q1, qP, va_K.moved (u := U) (U := U.calling g mk a) (Vm.Alike.refl U.vm) qK, qD⟩, va_recv hK hPc (ci := 0) (q0 := 0) rfl rfl, fun U hU hW => ⟨rfl, by rw [hU], by rw [hU]; exact hPc, va_K.moved hW.alike hK, hDc.weaken (fun _ _ _ _ => trivial)⟩⟩ rfl rfl hl.1 rfl (lv_room (Nat.le_of_ble_eq_true rfl)) dX8_cast_12 ⟨Nat.le_of_ble_eq_true rfl, Nat.le_of_ble_eq_true rfl⟩) hS (fun q _ h => hFc q h) hFc (fun r_12 u t H1 locs ht hvm hw hB hz1 hk1 hS => ?_)
      obtain ⟨z_12, th1_12⟩ := u
      obtain ⟨rfl, p0_12, p1_12⟩ : r_12 = I3 z_12 ∧ (z_12 = 0) ∧ (th1_12 = (1 : Int)) := hw
      obtain ⟨hP1, hK1, hD1⟩ := hB
      rw [ht] at hP1
      obtain ⟨hP, hD⟩ := va_join (wr := []) (w1 := [(am, .inr (0, [.int (I3 th1_12), .int (I3 mn), .ref as_, .ref av, .ref aw, .int (I3 sm), .int (I3 wd), .int (I3 lp), .int (I3 mp), .int (I3 re)])), (as_, .inl (dA 0, 60, .inl (iA SG))), (av, .inl (dA 1, 960, .inr (.inl (lA VL)))), (aw, .inl (dA 1, 1024, .inr (.inl (lA wf))))]) hP hD [0, 1, 2, 3] [] rfl rfl (by decide) (by decide) hk1 hFc hP1 hD1
      generalize H1 = H at hP hS ⊢
      have hP : va_P (dC, dI) vwCl [(am, .inr (0, [.int (I3 th1_12), .int (I3 mn), .ref as_, .ref av, .ref aw, .int (I3 sm), .int (I3 wd), .int (I3 lp), .int (I3 mp), .int (I3 re)])), (as_, .inl (dA 0, 60, .inl (iA SG))), (av, .inl (dA 1, 960, .inr (.inl (lA VL)))), (aw, .inl (dA 1, 1024, .inr (.inl (lA wf))))] H := hP
      have hD : va_D A [(am, .inr (0, [.int (I3 th1_12), .int (I3 mn), .ref as_, .ref av, .ref aw, .int (I3 sm), .int (I3 wd), .int (I3 lp), .int (I3 mp), .int (I3 re)])), (as_, .inl (dA 0, 60, .inl (iA SG))), (av, .inl (dA 1, 960, .inr (.inl (lA VL)))), (aw, .inl (dA 1, 1024, .inr (.inl (lA wf))))] := hD
      refine ix_i2l hx hb (by rw [p0_12]; decide) dX8_cast_15 ?_
      have o_35 : Dg wf := by first | assumption | omega | (constructor <;> omega)
      have o_36 : ¬ (0 ≤ kind ∧ kind ≤ 6) → th1_12 = 1 ∧ z_12 = 0 := by intro _; exact ⟨p1_12, p0_12⟩
      have o_37 : 0 ≤ kind ∧ kind ≤ 6 → th1_12 = 0 ∧ caX kind v z_12 := by intro q; exfalso; omega
      exact W.lret (v := L6 z_12) hx hb hr (fun t ht hW => ⟨⟨L6 z_12, (z_12, th1_12, wf, wd, lp, mp, re), rfl, ⟨rfl, ⟨o_35, o_36, o_37⟩⟩, by rw [ht]; exact hP, va_K.moved hW.alike hK, hD⟩, hS.F ht⟩) hS.2.2 dX8_cast_16
