/-! the model: wrap -/
set_option maxRecDepth 100000
abbrev BmetX8_wrap (dC : Nat → ClassId) (dI : Nat → Nat → Nat) (dA : Nat → ClassId) (A : Nat → Prop) (am : Nat) (as_ : Nat) (av : Nat) (aw : Nat) (th : Int) (mn : Int) (sm : Int) (wd : Int) (lp : Int) (mp : Int) (re : Int) (SG : Int → Int) (VL : Int → Int) (wf : Int → Int) (a : Int) (n_ : Int) (sg : Int) : Int × Int × (Int → Int) → State → Prop := fun u t => (fun (u : Int × Int × (Int → Int)) => (fun (z : Int) (th1 : Int) (W1 : Int → Int) => va_P (dC, dI) vwCl [(am, .inr (0, [.int (I3 th1), .int (I3 mn), .ref as_, .ref av, .ref aw, .int (I3 sm), .int (I3 wd), .int (I3 lp), .int (I3 mp), .int (I3 re)])), (as_, .inl (dA 0, 60, .inl (iA SG))), (av, .inl (dA 1, 960, .inr (.inl (lA VL)))), (aw, .inl (dA 1, 1024, .inr (.inl (lA W1))))] t.heap ∧ va_K (dC, dI) vwCl (tyA dA) t ∧ va_D A [(am, .inr (0, [.int (I3 th1), .int (I3 mn), .ref as_, .ref av, .ref aw, .int (I3 sm), .int (I3 wd), .int (I3 lp), .int (I3 mp), .int (I3 re)])), (as_, .inl (dA 0, 60, .inl (iA SG))), (av, .inl (dA 1, 960, .inr (.inl (lA VL)))), (aw, .inl (dA 1, 1024, .inr (.inl (lA W1))))]) u.1 u.2.1 u.2.2) u
abbrev QmetX8_wrap (dC : Nat → ClassId) (dI : Nat → Nat → Nat) (dA : Nat → ClassId) (A : Nat → Prop) (am : Nat) (as_ : Nat) (av : Nat) (aw : Nat) (th : Int) (mn : Int) (sm : Int) (wd : Int) (lp : Int) (mp : Int) (re : Int) (SG : Int → Int) (VL : Int → Int) (wf : Int → Int) (a : Int) (n_ : Int) (sg : Int) := va_Ql (fun (rt_ : Int64) => fun (u : Int × Int × (Int → Int)) => (fun (z : Int) (th1 : Int) (W1 : Int → Int) => rt_ = L6 z ∧ (Dg W1) ∧ (z = if (0 ≤ a ∧ a < mn) ∧ 1 ≤ n_ ∧ n_ ≤ 64 then wrS (whS SG VL a) n_ sg else 0) ∧ (th1 = if 0 ≤ a ∧ a < mn then (if 1 ≤ n_ ∧ n_ ≤ 64 then 0 else 2) else 1)) u.1 u.2.1 u.2.2) (BmetX8_wrap dC dI dA A am as_ av aw th mn sm wd lp mp re SG VL wf a n_ sg) A
set_option maxHeartbeats 1000000 in
set_option maxRecDepth 100000 in
/-- wrap -/
theorem metX8_wrap (l : Launch) (dC : Nat → ClassId) (dI : Nat → Nat → Nat) (dA : Nat → ClassId) (am : Nat) (as_ : Nat) (av : Nat) (aw : Nat) (sz : Nat) (th : Int) (mn : Int) (sm : Int) (wd : Int) (lp : Int) (mp : Int) (re : Int) (SG : Int → Int) (VL : Int → Int) (wf : Int → Int) (a : Int) (n_ : Int) (sg : Int) (hW : Dg wf) (hI : MI mn SG VL) (ha : In3 a) (hn : In3 n_) (hsg : sg = 0 ∨ sg = 1) : Met l yX8_wrap (ws_ yX8_wrap cX8_wrap 8 (some .long)) ({ frames := 3, cells := 0, slots := 0, locals := 120 }) (va_Pc [.ref am, .int (I3 a), .int (I3 n_), .int (I3 sg)] (fun U => U.heap.size = sz ∧ va_P (dC, dI) vwCl [(am, .inr (0, [.int (I3 th), .int (I3 mn), .ref as_, .ref av, .ref aw, .int (I3 sm), .int (I3 wd), .int (I3 lp), .int (I3 mp), .int (I3 re)])), (as_, .inl (dA 0, 60, .inl (iA SG))), (av, .inl (dA 1, 960, .inr (.inl (lA VL)))), (aw, .inl (dA 1, 1024, .inr (.inl (lA wf))))] U.heap ∧ va_K (dC, dI) vwCl (tyA dA) U ∧ va_D (fun _ => True) [(am, .inr (0, [.int (I3 th), .int (I3 mn), .ref as_, .ref av, .ref aw, .int (I3 sm), .int (I3 wd), .int (I3 lp), .int (I3 mp), .int (I3 re)])), (as_, .inl (dA 0, 60, .inl (iA SG))), (av, .inl (dA 1, 960, .inr (.inl (lA VL)))), (aw, .inl (dA 1, 1024, .inr (.inl (lA wf))))])) (QmetX8_wrap dC dI dA (va_A [(am, .inr (0, [.int (I3 th), .int (I3 mn), .ref as_, .ref av, .ref aw, .int (I3 sm), .int (I3 wd), .int (I3 lp), .int (I3 mp), .int (I3 re)])), (as_, .inl (dA 0, 60, .inl (iA SG))), (av, .inl (dA 1, 960, .inr (.inl (lA VL)))), (aw, .inl (dA 1, 1024, .inr (.inl (lA wf))))] sz) am as_ av aw th mn sm wd lp mp re SG VL wf a n_ sg) 0 0 (va_A [(am, .inr (0, [.int (I3 th), .int (I3 mn), .ref as_, .ref av, .ref aw, .int (I3 sm), .int (I3 wd), .int (I3 lp), .int (I3 mp), .int (I3 re)])), (as_, .inl (dA 0, 60, .inl (iA SG))), (av, .inl (dA 1, 960, .inr (.inl (lA VL)))), (aw, .inl (dA 1, 1024, .inr (.inl (lA wf))))] sz) := by
  refine Met.ofW (cc := cX8_wrap) (maxL := 8) (ret := (some .long)) (by decide) rfl ?_
  intro p e s m args below meth c s₁ B hml hv
  obtain ⟨rfl, hsz, hP, hK, hD0⟩ := hv
  have hx := B.exec
  have hb := B.bytes
  have hr := B.returns
  have hts := atoms_spec (ws := (ws_ yX8_wrap cX8_wrap 8 (some .long))) B.pre
  have hts : ∀ w ∈ lw_all, w.before _ s = true := fun w h => hts w (List.mem_cons_of_mem _ h)
  have hown : s.vm.findClass RX8 = some m.cls := findClass_of_methodNamed B.named
  have hlocks := B.notSynchronized
  subst hsz
  have hD := hD0.self (sz := s.heap.size)
  generalize hAe : va_A [(am, .inr (0, [.int (I3 th), .int (I3 mn), .ref as_, .ref av, .ref aw, .int (I3 sm), .int (I3 wd), .int (I3 lp), .int (I3 mp), .int (I3 re)])), (as_, .inl (dA 0, 60, .inl (iA SG))), (av, .inl (dA 1, 960, .inr (.inl (lA VL)))), (aw, .inl (dA 1, 1024, .inr (.inl (lA wf))))] s.heap.size = A at hD ⊢
  have hA : ∀ q : Nat, s.heap.size ≤ q → A q := fun q h => by rw [← hAe]; exact Or.inr h
  have hS : va_S A s.heap s.heap [] := va_S.rf
  have hP : va_P (dC, dI) vwCl [(am, .inr (0, [.int (I3 th), .int (I3 mn), .ref as_, .ref av, .ref aw, .int (I3 sm), .int (I3 wd), .int (I3 lp), .int (I3 mp), .int (I3 re)])), (as_, .inl (dA 0, 60, .inl (iA SG))), (av, .inl (dA 1, 960, .inr (.inl (lA VL)))), (aw, .inl (dA 1, 1024, .inr (.inl (lA wf))))] s.heap := hP
  have hl := lv_entry ([.ref am, .int (I3 a), .int (I3 n_), .int (I3 sg)]) (n := 8) (Nat.le_of_ble_eq_true rfl)
  rw [lg_entry_eq]
  generalize (lg_sl ([.ref am, .int (I3 a), .int (I3 n_), .int (I3 sg)]) ++ List.replicate (8 - (lg_sl ([.ref am, .int (I3 a), .int (I3 n_), .int (I3 sg)])).length) Slot.unset).toArray = ls at hl ⊢
  have hl : lv_has ls 8 [(0, .ref am), (1, .int (I3 a)), (2, .int (I3 n_)), (3, .int (I3 sg))] := hl
  have cut_97 : ∀ (v : Int) (W5 : Int → Int), ((0 ≤ a ∧ a < mn) ∧ 1 ≤ n_ ∧ n_ ≤ 64) → (v = sm6 (whS SG VL a)) → (Dg W5) → ∀ (H : Heap) (locs : List Loc), va_P (dC, dI) vwCl [(am, .inr (0, [.int (I3 0), .int (I3 mn), .ref as_, .ref av, .ref aw, .int (I3 sm), .int (I3 wd), .int (I3 lp), .int (I3 mp), .int (I3 re)])), (as_, .inl (dA 0, 60, .inl (iA SG))), (av, .inl (dA 1, 960, .inr (.inl (lA VL)))), (aw, .inl (dA 1, 1024, .inr (.inl (lA W5))))] H → va_D A [(am, .inr (0, [.int (I3 0), .int (I3 mn), .ref as_, .ref av, .ref aw, .int (I3 sm), .int (I3 wd), .int (I3 lp), .int (I3 mp), .int (I3 re)])), (as_, .inl (dA 0, 60, .inl (iA SG))), (av, .inl (dA 1, 960, .inr (.inl (lA VL)))), (aw, .inl (dA 1, 1024, .inr (.inl (lA W5))))] → va_S A s.heap H locs → ∀ (ls : Array Slot), lv_has ls 8 [(0, .ref am), (1, .int (I3 a)), (2, .int (I3 n_)), (3, .int (I3 sg))] → W p l e (headSpec (ws_ yX8_wrap cX8_wrap 8 (some .long)) ({ frames := 3, cells := 0, slots := 0, locals := 120 })).room s m ([.ref am, .int (I3 a), .int (I3 n_), .int (I3 sg)] : List Value).toArray below meth c H locs 0 0 (MQ below (QmetX8_wrap dC dI dA A am as_ av aw th mn sm wd lp mp re SG VL wf a n_ sg) ([.ref am, .int (I3 a), .int (I3 n_), .int (I3 sg)] : List Value).toArray s 0 0 A) (F0 m 97 ls [.long (L6 v)]) := by
    intro v W5 hg hv hW5 H locs hP hD hS ls hl
    obtain ⟨hmn, hV, hAll⟩ := id hI
    refine lv_lstore (lv' := [(4, .long (L6 v)), (0, .ref am), (1, .int (I3 a)), (2, .int (I3 n_)), (3, .int (I3 sg))]) hx hb dX8_wrap_97 hl (by decide) rfl (fun ls hl => ?_)
    refine lv_iload_n hx hb dX8_wrap_99 rfl (lv_at hl 3 rfl) ?_
    refine lv_bipush (v := I3 (64)) hx hb dX8_wrap_100 (by decide) ?_
    refine ix_icmp_ne (tgt := 108) hx hb (by first | assumption | decide | (constructor <;> omega)) (by first | assumption | decide | (constructor <;> omega)) dX8_wrap_102 (by decide) (fun c_102 => ?_) (fun c_102 => ?_)
    · skip
      refine lv_lload hx hb dX8_wrap_108 (lv_at hl 0 rfl) ?_
      refine lv_lconst (v := L6 1) hx hb dX8_wrap_110 (by decide) ?_
      refine lv_iload_n hx hb dX8_wrap_111 rfl (lv_at hl 3 rfl) ?_
      refine ix_lshl hx hb (by first | decide | omega) dX8_wrap_112 ?_
      refine lv_lconst (v := L6 1) hx hb dX8_wrap_113 (by decide) ?_
      refine ix_lsub hx hb dX8_wrap_114 ?_
      refine ix_land hx hb dX8_wrap_115 ?_
      refine ix_tl (y := whS SG VL a % 2 ^ n_.toNat) (by rw [hv, Int.one_mul, zand6_m (by omega)]; exact sm6_mod _ (by omega)) ?_
      have hp1 := ppos n_.toNat
      have hm1 := Int.emod_nonneg (whS SG VL a) (Int.ne_of_gt hp1)
      have hm2 := Int.emod_lt_of_pos (whS SG VL a) hp1
      have hm3 : (2 : Int) ^ n_.toNat ≤ 9223372036854775808 := p63 (by omega)
      have i_l : In6 (whS SG VL a % 2 ^ n_.toNat) := ⟨by omega, by omega⟩
      have hb1 := Int.emod_nonneg (whS SG VL a % 2 ^ n_.toNat / 2 ^ (n_ - 1).toNat) (show (2 : Int) ≠ 0 by decide)
      have hb2 := Int.emod_lt_of_pos (whS SG VL a % 2 ^ n_.toNat / 2 ^ (n_ - 1).toNat) (show (0 : Int) < 2 by decide)
      refine lv_lstore (lv' := [(6, .long (L6 (whS SG VL a % 2 ^ n_.toNat))), (4, .long (L6 v)), (0, .ref am), (1, .int (I3 a)), (2, .int (I3 n_)), (3, .int (I3 sg))]) hx hb dX8_wrap_116 hl (by decide) rfl (fun ls hl => ?_)
      refine lv_iload_n hx hb dX8_wrap_118 rfl (lv_at hl 5 rfl) ?_
      refine ix_if_eq (tgt := 144) hx hb (by first | assumption | decide | (constructor <;> omega)) dX8_wrap_119 (by decide) (fun c_119 => ?_) (fun c_119 => ?_)
      · skip
        refine lv_lload hx hb dX8_wrap_144 (lv_at hl 0 rfl) ?_
        have o_1 : Dg W5 := by first | assumption | omega | (constructor <;> omega)
        have o_2 : (whS SG VL a % 2 ^ n_.toNat) = if (0 ≤ a ∧ a < mn) ∧ 1 ≤ n_ ∧ n_ ≤ 64 then wrS (whS SG VL a) n_ sg else 0 := by rw [if_pos hg]; unfold wrS; rw [if_neg (by omega), if_neg (by omega)]
        have o_3 : (0 : Int) = if 0 ≤ a ∧ a < mn then (if 1 ≤ n_ ∧ n_ ≤ 64 then 0 else 2) else 1 := by rw [if_pos hg.1, if_pos hg.2]
        exact W.lret (v := L6 (whS SG VL a % 2 ^ n_.toNat)) hx hb hr (fun t ht hW => ⟨⟨L6 (whS SG VL a % 2 ^ n_.toNat), ((whS SG VL a % 2 ^ n_.toNat), 0, W5), rfl, ⟨rfl, ⟨o_1, o_2, o_3⟩⟩, by rw [ht]; exact hP, va_K.moved hW.alike hK, hD⟩, hS.F ht⟩) hS.2.2 dX8_wrap_146
      · skip
        refine lv_lload hx hb dX8_wrap_122 (lv_at hl 0 rfl) ?_
        refine lv_iload_n hx hb dX8_wrap_124 rfl (lv_at hl 4 rfl) ?_
        refine lv_iconst (v := I3 (1)) hx hb dX8_wrap_125 rfl ?_
        refine ix_isub hx hb dX8_wrap_126 ?_
        refine ix_lshr hx hb (by first | assumption | (constructor <;> omega)) (by first | decide | omega) dX8_wrap_127 ?_
        refine lv_lconst (v := L6 1) hx hb dX8_wrap_128 (by decide) ?_
        refine ix_landm hx hb 1 (by decide) (by decide) dX8_wrap_129 ?_
        refine ix_tl (y := ((whS SG VL a % 2 ^ n_.toNat) / 2 ^ (n_ - 1 : Int).toNat) % 2) rfl ?_
        refine lv_lconst (v := L6 1) hx hb dX8_wrap_130 (by decide) ?_
        refine ix_lcmp_ne (tgt := 144) hx hb (by constructor <;> omega) (by first | assumption | decide | (constructor <;> omega)) dX8_wrap_131 dX8_wrap_132 (by decide) (fun c_131 => ?_) (fun c_131 => ?_)
        · skip
          refine lv_lload hx hb dX8_wrap_144 (lv_at hl 0 rfl) ?_
          have o_4 : Dg W5 := by first | assumption | omega | (constructor <;> omega)
          have o_5 : (whS SG VL a % 2 ^ n_.toNat) = if (0 ≤ a ∧ a < mn) ∧ 1 ≤ n_ ∧ n_ ≤ 64 then wrS (whS SG VL a) n_ sg else 0 := by rw [if_pos hg]; unfold wrS; rw [if_neg (by omega), if_neg (by omega)]
          have o_6 : (0 : Int) = if 0 ≤ a ∧ a < mn then (if 1 ≤ n_ ∧ n_ ≤ 64 then 0 else 2) else 1 := by rw [if_pos hg.1, if_pos hg.2]
          exact W.lret (v := L6 (whS SG VL a % 2 ^ n_.toNat)) hx hb hr (fun t ht hW => ⟨⟨L6 (whS SG VL a % 2 ^ n_.toNat), ((whS SG VL a % 2 ^ n_.toNat), 0, W5), rfl, ⟨rfl, ⟨o_4, o_5, o_6⟩⟩, by rw [ht]; exact hP, va_K.moved hW.alike hK, hD⟩, hS.F ht⟩) hS.2.2 dX8_wrap_146
        · skip
          refine lv_lload hx hb dX8_wrap_135 (lv_at hl 0 rfl) ?_
          refine lv_lconst (v := L6 1) hx hb dX8_wrap_137 (by decide) ?_
          refine lv_iload_n hx hb dX8_wrap_138 rfl (lv_at hl 4 rfl) ?_
          refine ix_lshl hx hb (by first | decide | omega) dX8_wrap_139 ?_
          refine ix_lsub hx hb dX8_wrap_140 ?_
          refine lv_goto (tgt := 146) hx hb dX8_wrap_141 (by decide) ?_
          have o_7 : Dg W5 := by first | assumption | omega | (constructor <;> omega)
          have o_8 : ((whS SG VL a % 2 ^ n_.toNat) - (1 * 2 ^ (n_ : Int).toNat)) = if (0 ≤ a ∧ a < mn) ∧ 1 ≤ n_ ∧ n_ ≤ 64 then wrS (whS SG VL a) n_ sg else 0 := by rw [if_pos hg]; unfold wrS; rw [if_neg (by omega), if_pos (by omega), Int.one_mul]
          have o_9 : (0 : Int) = if 0 ≤ a ∧ a < mn then (if 1 ≤ n_ ∧ n_ ≤ 64 then 0 else 2) else 1 := by rw [if_pos hg.1, if_pos hg.2]
          exact W.lret (v := L6 ((whS SG VL a % 2 ^ n_.toNat) - (1 * 2 ^ (n_ : Int).toNat))) hx hb hr (fun t ht hW => ⟨⟨L6 ((whS SG VL a % 2 ^ n_.toNat) - (1 * 2 ^ (n_ : Int).toNat)), (((whS SG VL a % 2 ^ n_.toNat) - (1 * 2 ^ (n_ : Int).toNat)), 0, W5), rfl, ⟨rfl, ⟨o_7, o_8, o_9⟩⟩, by rw [ht]; exact hP, va_K.moved hW.alike hK, hD⟩, hS.F ht⟩) hS.2.2 dX8_wrap_146
    · skip
      refine lv_lload hx hb dX8_wrap_105 (lv_at hl 0 rfl) ?_
      have o_10 : Dg W5 := by first | assumption | omega | (constructor <;> omega)
      have o_11 : v = if (0 ≤ a ∧ a < mn) ∧ 1 ≤ n_ ∧ n_ ≤ 64 then wrS (whS SG VL a) n_ sg else 0 := by rw [if_pos hg]; unfold wrS; rw [if_pos (by omega)]; exact hv
      have o_12 : (0 : Int) = if 0 ≤ a ∧ a < mn then (if 1 ≤ n_ ∧ n_ ≤ 64 then 0 else 2) else 1 := by rw [if_pos hg.1, if_pos hg.2]
      exact W.lret (v := L6 v) hx hb hr (fun t ht hW => ⟨⟨L6 v, (v, 0, W5), rfl, ⟨rfl, ⟨o_10, o_11, o_12⟩⟩, by rw [ht]; exact hP, va_K.moved hW.alike hK, hD⟩, hS.F ht⟩) hS.2.2 dX8_wrap_107
  obtain ⟨hmn, hV, hAll⟩ := id hI
  refine lv_aload_n hx hb dX8_wrap_0 rfl (lv_at hl 0 rfl) ?_
  refine lv_iload_n hx hb dX8_wrap_1 rfl (lv_at hl 1 rfl) ?_
  have h_13 : In3 a := by first | assumption | omega | (constructor <;> omega)
  have h_14 : In3 mn := by first | assumption | omega | (constructor <;> omega)
  have hPc := hP.sub (ws' := [(am, .inr (0, [.int (I3 th), .int (I3 mn), .ref as_, .ref av, .ref aw, .int (I3 sm), .int (I3 wd), .int (I3 lp), .int (I3 mp), .int (I3 re)])), (as_, .inl (dA 0, 60, .inl (iA SG))), (av, .inl (dA 1, 960, .inr (.inl (lA VL)))), (aw, .inl (dA 1, 1024, .inr (.inl (lA wf))))]) [0, 1, 2, 3] rfl
  have hDc := hD.sub (ws' := [(am, .inr (0, [.int (I3 th), .int (I3 mn), .ref as_, .ref av, .ref aw, .int (I3 sm), .int (I3 wd), .int (I3 lp), .int (I3 mp), .int (I3 re)])), (as_, .inl (dA 0, 60, .inl (iA SG))), (av, .inl (dA 1, 960, .inr (.inl (lA VL)))), (aw, .inl (dA 1, 1024, .inr (.inl (lA wf))))]) [0, 1, 2, 3] (by decide) rfl
  have hFc := va_free (wc := [(am, .inr (0, [.int (I3 th), .int (I3 mn), .ref as_, .ref av, .ref aw, .int (I3 sm), .int (I3 wd), .int (I3 lp), .int (I3 mp), .int (I3 re)])), (as_, .inl (dA 0, 60, .inl (iA SG))), (av, .inl (dA 1, 960, .inr (.inl (lA VL)))), (aw, .inl (dA 1, 1024, .inr (.inl (lA wf))))]) hD hS hA [0, 1, 2, 3] rfl
  refine va_calli (va_runV (As := [.int (I3 a)]) (rest := []) ⟨hx, hb, hml, hown, hts⟩ (metX8_isNumber l dC dI dA am as_ av aw s.heap.size th mn sm wd lp mp re SG VL wf a h_13 h_14) (cwV 1 hts (lw_V q1050 q1052 qs35 q66 q1053) rfl rfl rfl (by decide +kernel) ⟨Nat.le_of_ble_eq_true rfl, Nat.le_of_ble_eq_true rfl⟩) ⟨fun a U g mk q => by obtain ⟨q0, q1, qP, qK, qD⟩ := q; exact ⟨q0, q1, qP, va_K.moved (u := U) (U := U.calling g mk a) (Vm.Alike.refl U.vm) qK, qD⟩, va_recv hK hPc (ci := 0) (q0 := 0) rfl rfl, fun U hU hW => ⟨rfl, by rw [hU], by rw [hU]; exact hPc, va_K.moved hW.alike hK, hDc.weaken (fun _ _ _ _ => trivial)⟩⟩ rfl rfl hl.1 rfl (lv_room (Nat.le_of_ble_eq_true rfl)) dX8_wrap_2 ⟨Nat.le_of_ble_eq_true rfl, Nat.le_of_ble_eq_true rfl⟩) hS (fun q _ h => hFc q h) hFc (fun r_2 u t H1 locs ht hvm hw hB hz1 hk1 hS => ?_)
  obtain ⟨z_2, rfl⟩ : ∃ z, z = u := ⟨_, rfl⟩
  obtain ⟨rfl, p0_2⟩ : r_2 = I3 z_2 ∧ (z_2 = if 0 ≤ a ∧ a < mn then 1 else 0) := hw
  obtain ⟨hP1, hK1, hD1⟩ := hB
  rw [ht] at hP1
  obtain ⟨hP, hD⟩ := va_join (wr := []) (w1 := [(am, .inr (0, [.int (I3 th), .int (I3 mn), .ref as_, .ref av, .ref aw, .int (I3 sm), .int (I3 wd), .int (I3 lp), .int (I3 mp), .int (I3 re)])), (as_, .inl (dA 0, 60, .inl (iA SG))), (av, .inl (dA 1, 960, .inr (.inl (lA VL)))), (aw, .inl (dA 1, 1024, .inr (.inl (lA wf))))]) hP hD [0, 1, 2, 3] [] rfl rfl (by decide) (by decide) hk1 hFc hP1 hD1
  generalize H1 = H at hP hS ⊢
  have hP : va_P (dC, dI) vwCl [(am, .inr (0, [.int (I3 th), .int (I3 mn), .ref as_, .ref av, .ref aw, .int (I3 sm), .int (I3 wd), .int (I3 lp), .int (I3 mp), .int (I3 re)])), (as_, .inl (dA 0, 60, .inl (iA SG))), (av, .inl (dA 1, 960, .inr (.inl (lA VL)))), (aw, .inl (dA 1, 1024, .inr (.inl (lA wf))))] H := hP
  have hD : va_D A [(am, .inr (0, [.int (I3 th), .int (I3 mn), .ref as_, .ref av, .ref aw, .int (I3 sm), .int (I3 wd), .int (I3 lp), .int (I3 mp), .int (I3 re)])), (as_, .inl (dA 0, 60, .inl (iA SG))), (av, .inl (dA 1, 960, .inr (.inl (lA VL)))), (aw, .inl (dA 1, 1024, .inr (.inl (lA wf))))] := hD
  have y_2 := b01 p0_2
  refine ix_if_ne (tgt := 15) hx hb (by first | assumption | decide | (constructor <;> omega)) dX8_wrap_5 (by decide) (fun c_5 => ?_) (fun c_5 => ?_)
  · skip
    refine lv_iload_n hx hb dX8_wrap_15 rfl (lv_at hl 2 rfl) ?_
    refine lv_iconst (v := I3 (1)) hx hb dX8_wrap_16 rfl ?_
    refine ix_icmp_lt (tgt := 26) hx hb (by first | assumption | decide | (constructor <;> omega)) (by first | assumption | decide | (constructor <;> omega)) dX8_wrap_17 (by decide) (fun c_17 => ?_) (fun c_17 => ?_)
    · skip
      refine lv_aload_n hx hb dX8_wrap_26 rfl (lv_at hl 0 rfl) ?_
      refine lv_iconst (v := I3 (2)) hx hb dX8_wrap_27 rfl ?_
      have h_15 : In3 (2 : Int) := by first | assumption | omega | (constructor <;> omega)
      have hPc := hP.sub (ws' := [(am, .inr (0, [.int (I3 th), .int (I3 mn), .ref as_, .ref av, .ref aw, .int (I3 sm), .int (I3 wd), .int (I3 lp), .int (I3 mp), .int (I3 re)])), (as_, .inl (dA 0, 60, .inl (iA SG))), (av, .inl (dA 1, 960, .inr (.inl (lA VL)))), (aw, .inl (dA 1, 1024, .inr (.inl (lA wf))))]) [0, 1, 2, 3] rfl
      have hDc := hD.sub (ws' := [(am, .inr (0, [.int (I3 th), .int (I3 mn), .ref as_, .ref av, .ref aw, .int (I3 sm), .int (I3 wd), .int (I3 lp), .int (I3 mp), .int (I3 re)])), (as_, .inl (dA 0, 60, .inl (iA SG))), (av, .inl (dA 1, 960, .inr (.inl (lA VL)))), (aw, .inl (dA 1, 1024, .inr (.inl (lA wf))))]) [0, 1, 2, 3] (by decide) rfl
      have hFc := va_free (wc := [(am, .inr (0, [.int (I3 th), .int (I3 mn), .ref as_, .ref av, .ref aw, .int (I3 sm), .int (I3 wd), .int (I3 lp), .int (I3 mp), .int (I3 re)])), (as_, .inl (dA 0, 60, .inl (iA SG))), (av, .inl (dA 1, 960, .inr (.inl (lA VL)))), (aw, .inl (dA 1, 1024, .inr (.inl (lA wf))))]) hD hS hA [0, 1, 2, 3] rfl
      refine va_calli (va_runV (As := [.int (I3 2)]) (rest := []) ⟨hx, hb, hml, hown, hts⟩ (metX8_fails l dC dI dA am as_ av aw H.size th mn sm wd lp mp re SG VL wf 2 h_15) (cwV 1 hts (lw_V q1016 q1018 qs34 q66 q1019) rfl rfl rfl (by decide +kernel) ⟨Nat.le_of_ble_eq_true rfl, Nat.le_of_ble_eq_true rfl⟩) ⟨fun a U g mk q => by obtain ⟨q0, q1, qP, qK, qD⟩ := q; exact ⟨q0, q1, qP, va_K.moved (u := U) (U := U.calling g mk a) (Vm.Alike.refl U.vm) qK, qD⟩, va_recv hK hPc (ci := 0) (q0 := 0) rfl rfl, fun U hU hW => ⟨rfl, by rw [hU], by rw [hU]; exact hPc, va_K.moved hW.alike hK, hDc.weaken (fun _ _ _ _ => trivial)⟩⟩ rfl rfl hl.1 rfl (lv_room (Nat.le_of_ble_eq_true rfl)) dX8_wrap_28 ⟨Nat.le_of_ble_eq_true rfl, Nat.le_of_ble_eq_true rfl⟩) hS (fun q _ h => hFc q h) hFc (fun r_28 u t H1 locs ht hvm hw hB hz1 hk1 hS => ?_)
      obtain ⟨z_28, th1_28⟩ := u
      obtain ⟨rfl, p0_28, p1_28⟩ : r_28 = I3 z_28 ∧ (z_28 = 0) ∧ (th1_28 = (2 : Int)) := hw
      obtain ⟨hP1, hK1, hD1⟩ := hB
      rw [ht] at hP1
      obtain ⟨hP, hD⟩ := va_join (wr := []) (w1 := [(am, .inr (0, [.int (I3 th1_28), .int (I3 mn), .ref as_, .ref av, .ref aw, .int (I3 sm), .int (I3 wd), .int (I3 lp), .int (I3 mp), .int (I3 re)])), (as_, .inl (dA 0, 60, .inl (iA SG))), (av, .inl (dA 1, 960, .inr (.inl (lA VL)))), (aw, .inl (dA 1, 1024, .inr (.inl (lA wf))))]) hP hD [0, 1, 2, 3] [] rfl rfl (by decide) (by decide) hk1 hFc hP1 hD1
      generalize H1 = H at hP hS ⊢
      have hP : va_P (dC, dI) vwCl [(am, .inr (0, [.int (I3 th1_28), .int (I3 mn), .ref as_, .ref av, .ref aw, .int (I3 sm), .int (I3 wd), .int (I3 lp), .int (I3 mp), .int (I3 re)])), (as_, .inl (dA 0, 60, .inl (iA SG))), (av, .inl (dA 1, 960, .inr (.inl (lA VL)))), (aw, .inl (dA 1, 1024, .inr (.inl (lA wf))))] H := hP
      have hD : va_D A [(am, .inr (0, [.int (I3 th1_28), .int (I3 mn), .ref as_, .ref av, .ref aw, .int (I3 sm), .int (I3 wd), .int (I3 lp), .int (I3 mp), .int (I3 re)])), (as_, .inl (dA 0, 60, .inl (iA SG))), (av, .inl (dA 1, 960, .inr (.inl (lA VL)))), (aw, .inl (dA 1, 1024, .inr (.inl (lA wf))))] := hD
      refine ix_i2l hx hb (by first | assumption | decide | (constructor <;> omega)) dX8_wrap_31 ?_
      have o_16 : Dg wf := by first | assumption | omega | (constructor <;> omega)
      have o_17 : z_28 = if (0 ≤ a ∧ a < mn) ∧ 1 ≤ n_ ∧ n_ ≤ 64 then wrS (whS SG VL a) n_ sg else 0 := by rw [if_neg (by omega)]; exact p0_28
      have o_18 : th1_28 = if 0 ≤ a ∧ a < mn then (if 1 ≤ n_ ∧ n_ ≤ 64 then 0 else 2) else 1 := by rw [if_pos (by omega), if_neg (by omega)]; exact p1_28
      exact W.lret (v := L6 z_28) hx hb hr (fun t ht hW => ⟨⟨L6 z_28, (z_28, th1_28, wf), rfl, ⟨rfl, ⟨o_16, o_17, o_18⟩⟩, by rw [ht]; exact hP, va_K.moved hW.alike hK, hD⟩, hS.F ht⟩) hS.2.2 dX8_wrap_32
    · skip
      refine lv_iload_n hx hb dX8_wrap_20 rfl (lv_at hl 2 rfl) ?_
      refine lv_bipush (v := I3 (64)) hx hb dX8_wrap_21 (by decide) ?_
      refine ix_icmp_le (tgt := 33) hx hb (by first | assumption | decide | (constructor <;> omega)) (by first | assumption | decide | (constructor <;> omega)) dX8_wrap_23 (by decide) (fun c_23 => ?_) (fun c_23 => ?_)
      · skip
        refine lv_aload_n hx hb dX8_wrap_33 rfl (lv_at hl 0 rfl) ?_
        refine lv_iconst (v := I3 (0)) hx hb dX8_wrap_34 rfl ?_
        refine va_put (D := (dC, dI)) (ci := 0) (v := .int (I3 0)) (ty := .int) (C := RX8) (T := TX8) (N := 10) hx hb hts in_X8 tyX8 tyX8_ok nmX8 hown hK hP hD hS 0 rfl rfl 0 (by decide) (hts _ q913) (fun _ h9 => h9) rfl (by decide +kernel) rfl rfl (Nat.le_of_ble_eq_true rfl) dX8_wrap_35 (fun H locs hP hD hS => ?_)
        have hP : va_P (dC, dI) vwCl [(am, .inr (0, [.int (I3 0), .int (I3 mn), .ref as_, .ref av, .ref aw, .int (I3 sm), .int (I3 wd), .int (I3 lp), .int (I3 mp), .int (I3 re)])), (as_, .inl (dA 0, 60, .inl (iA SG))), (av, .inl (dA 1, 960, .inr (.inl (lA VL)))), (aw, .inl (dA 1, 1024, .inr (.inl (lA wf))))] H := hP
        have hD : va_D A [(am, .inr (0, [.int (I3 0), .int (I3 mn), .ref as_, .ref av, .ref aw, .int (I3 sm), .int (I3 wd), .int (I3 lp), .int (I3 mp), .int (I3 re)])), (as_, .inl (dA 0, 60, .inl (iA SG))), (av, .inl (dA 1, 960, .inr (.inl (lA VL)))), (aw, .inl (dA 1, 1024, .inr (.inl (lA wf))))] := hD
        refine lv_aload_n hx hb dX8_wrap_38 rfl (lv_at hl 0 rfl) ?_
        refine lv_iload_n hx hb dX8_wrap_39 rfl (lv_at hl 1 rfl) ?_
        refine lv_iconst (v := I3 (2)) hx hb dX8_wrap_40 rfl ?_
        have h_19 : 0 ≤ a ∧ a < 60 := by first | assumption | omega | (constructor <;> omega)
        have h_20 : 0 ≤ (2 : Int) ∧ (2 : Int) < 16 := by decide
        have h_21 : Dg wf := by first | assumption | omega | (constructor <;> omega)
        have h_22 : Dg VL := by first | assumption | omega | (constructor <;> omega)
        have hPc := hP.sub (ws' := [(am, .inr (0, [.int (I3 ((0 : Int))), .int (I3 mn), .ref as_, .ref av, .ref aw, .int (I3 sm), .int (I3 wd), .int (I3 lp), .int (I3 mp), .int (I3 re)])), (as_, .inl (dA 0, 60, .inl (iA SG))), (av, .inl (dA 1, 960, .inr (.inl (lA VL)))), (aw, .inl (dA 1, 1024, .inr (.inl (lA wf))))]) [0, 1, 2, 3] rfl
        have hDc := hD.sub (ws' := [(am, .inr (0, [.int (I3 ((0 : Int))), .int (I3 mn), .ref as_, .ref av, .ref aw, .int (I3 sm), .int (I3 wd), .int (I3 lp), .int (I3 mp), .int (I3 re)])), (as_, .inl (dA 0, 60, .inl (iA SG))), (av, .inl (dA 1, 960, .inr (.inl (lA VL)))), (aw, .inl (dA 1, 1024, .inr (.inl (lA wf))))]) [0, 1, 2, 3] (by decide) rfl
        have hFc := va_free (wc := [(am, .inr (0, [.int (I3 ((0 : Int))), .int (I3 mn), .ref as_, .ref av, .ref aw, .int (I3 sm), .int (I3 wd), .int (I3 lp), .int (I3 mp), .int (I3 re)])), (as_, .inl (dA 0, 60, .inl (iA SG))), (av, .inl (dA 1, 960, .inr (.inl (lA VL)))), (aw, .inl (dA 1, 1024, .inr (.inl (lA wf))))]) hD hS hA [0, 1, 2, 3] rfl
        refine va_callv (va_runV (As := [.int (I3 a), .int (I3 2)]) (rest := []) ⟨hx, hb, hml, hown, hts⟩ (metX8_loadP l dC dI dA am as_ av aw H.size 0 mn sm wd lp mp re SG VL wf a 2 h_19 h_20 h_21 h_22) (cwV 2 hts (lw_V q1066 q1068 qs39 q66 q1069) rfl rfl rfl (by decide +kernel) ⟨Nat.le_of_ble_eq_true rfl, Nat.le_of_ble_eq_true rfl⟩) ⟨fun a U g mk q => by obtain ⟨q0, q1, qP, qK, qD⟩ := q; exact ⟨q0, q1, qP, va_K.moved (u := U) (U := U.calling g mk a) (Vm.Alike.refl U.vm) qK, qD⟩, va_recv hK hPc (ci := 0) (q0 := 0) rfl rfl, fun U hU hW => ⟨rfl, by rw [hU], by rw [hU]; exact hPc, va_K.moved hW.alike hK, hDc.weaken (fun _ _ _ _ => trivial)⟩⟩ rfl rfl hl.1 rfl (lv_room (Nat.le_of_ble_eq_true rfl)) dX8_wrap_41 ⟨Nat.le_of_ble_eq_true rfl, Nat.le_of_ble_eq_true rfl⟩) hS (fun q _ h => hFc q h) hFc (fun u t H1 locs ht hvm hw hB hz1 hk1 hS => ?_)
        obtain ⟨W1_41, rfl⟩ : ∃ z, z = u := ⟨_, rfl⟩
        obtain ⟨p0_41, p1_41, p2_41⟩ : (Dg W1_41) ∧ (Fr wf W1_41 (2 : Int)) ∧ (rv W1_41 (2 : Int) = pv VL a) := hw
        obtain ⟨hP1, hK1, hD1⟩ := hB
        rw [ht] at hP1
        obtain ⟨hP, hD⟩ := va_join (wr := []) (w1 := [(am, .inr (0, [.int (I3 ((0 : Int))), .int (I3 mn), .ref as_, .ref av, .ref aw, .int (I3 sm), .int (I3 wd), .int (I3 lp), .int (I3 mp), .int (I3 re)])), (as_, .inl (dA 0, 60, .inl (iA SG))), (av, .inl (dA 1, 960, .inr (.inl (lA VL)))), (aw, .inl (dA 1, 1024, .inr (.inl (lA W1_41))))]) hP hD [0, 1, 2, 3] [] rfl rfl (by decide) (by decide) hk1 hFc hP1 hD1
        generalize H1 = H at hP hS ⊢
        have hP : va_P (dC, dI) vwCl [(am, .inr (0, [.int (I3 ((0 : Int))), .int (I3 mn), .ref as_, .ref av, .ref aw, .int (I3 sm), .int (I3 wd), .int (I3 lp), .int (I3 mp), .int (I3 re)])), (as_, .inl (dA 0, 60, .inl (iA SG))), (av, .inl (dA 1, 960, .inr (.inl (lA VL)))), (aw, .inl (dA 1, 1024, .inr (.inl (lA W1_41))))] H := hP
        have hD : va_D A [(am, .inr (0, [.int (I3 ((0 : Int))), .int (I3 mn), .ref as_, .ref av, .ref aw, .int (I3 sm), .int (I3 wd), .int (I3 lp), .int (I3 mp), .int (I3 re)])), (as_, .inl (dA 0, 60, .inl (iA SG))), (av, .inl (dA 1, 960, .inr (.inl (lA VL)))), (aw, .inl (dA 1, 1024, .inr (.inl (lA W1_41))))] := hD
        refine lv_aload_n hx hb dX8_wrap_44 rfl (lv_at hl 0 rfl) ?_
        refine lv_iload_n hx hb dX8_wrap_45 rfl (lv_at hl 1 rfl) ?_
        refine lv_iconst (v := I3 (3)) hx hb dX8_wrap_46 rfl ?_
        have h_23 : 0 ≤ a ∧ a < 60 := by first | assumption | omega | (constructor <;> omega)
        have h_24 : 0 ≤ (3 : Int) ∧ (3 : Int) < 16 := by decide
        have h_25 : Dg W1_41 := by first | assumption | omega | (constructor <;> omega)
        have h_26 : Dg VL := by first | assumption | omega | (constructor <;> omega)
        have hPc := hP.sub (ws' := [(am, .inr (0, [.int (I3 (((0 : Int)))), .int (I3 mn), .ref as_, .ref av, .ref aw, .int (I3 sm), .int (I3 wd), .int (I3 lp), .int (I3 mp), .int (I3 re)])), (as_, .inl (dA 0, 60, .inl (iA SG))), (av, .inl (dA 1, 960, .inr (.inl (lA VL)))), (aw, .inl (dA 1, 1024, .inr (.inl (lA W1_41))))]) [0, 1, 2, 3] rfl
        have hDc := hD.sub (ws' := [(am, .inr (0, [.int (I3 (((0 : Int)))), .int (I3 mn), .ref as_, .ref av, .ref aw, .int (I3 sm), .int (I3 wd), .int (I3 lp), .int (I3 mp), .int (I3 re)])), (as_, .inl (dA 0, 60, .inl (iA SG))), (av, .inl (dA 1, 960, .inr (.inl (lA VL)))), (aw, .inl (dA 1, 1024, .inr (.inl (lA W1_41))))]) [0, 1, 2, 3] (by decide) rfl
        have hFc := va_free (wc := [(am, .inr (0, [.int (I3 (((0 : Int)))), .int (I3 mn), .ref as_, .ref av, .ref aw, .int (I3 sm), .int (I3 wd), .int (I3 lp), .int (I3 mp), .int (I3 re)])), (as_, .inl (dA 0, 60, .inl (iA SG))), (av, .inl (dA 1, 960, .inr (.inl (lA VL)))), (aw, .inl (dA 1, 1024, .inr (.inl (lA W1_41))))]) hD hS hA [0, 1, 2, 3] rfl
        refine va_callv (va_runV (As := [.int (I3 a), .int (I3 3)]) (rest := []) ⟨hx, hb, hml, hown, hts⟩ (metX8_loadQ l dC dI dA am as_ av aw H.size ((0 : Int)) mn sm wd lp mp re SG VL W1_41 a 3 h_23 h_24 h_25 h_26) (cwV 2 hts (lw_V q1070 q1072 qs40 q66 q1073) rfl rfl rfl (by decide +kernel) ⟨Nat.le_of_ble_eq_true rfl, Nat.le_of_ble_eq_true rfl⟩) ⟨fun a U g mk q => by obtain ⟨q0, q1, qP, qK, qD⟩ := q; exact ⟨q0, q1, qP, va_K.moved (u := U) (U := U.calling g mk a) (Vm.Alike.refl U.vm) qK, qD⟩, va_recv hK hPc (ci := 0) (q0 := 0) rfl rfl, fun U hU hW => ⟨rfl, by rw [hU], by rw [hU]; exact hPc, va_K.moved hW.alike hK, hDc.weaken (fun _ _ _ _ => trivial)⟩⟩ rfl rfl hl.1 rfl (lv_room (Nat.le_of_ble_eq_true rfl)) dX8_wrap_47 ⟨Nat.le_of_ble_eq_true rfl, Nat.le_of_ble_eq_true rfl⟩) hS (fun q _ h => hFc q h) hFc (fun u t H1 locs ht hvm hw hB hz1 hk1 hS => ?_)
        obtain ⟨W1_47, rfl⟩ : ∃ z, z = u := ⟨_, rfl⟩
        obtain ⟨p0_47, p1_47, p2_47⟩ : (Dg W1_47) ∧ (Fr W1_41 W1_47 (3 : Int)) ∧ (rv W1_47 (3 : Int) = qv VL a) := hw
        obtain ⟨hP1, hK1, hD1⟩ := hB
        rw [ht] at hP1
        obtain ⟨hP, hD⟩ := va_join (wr := []) (w1 := [(am, .inr (0, [.int (I3 (((0 : Int)))), .int (I3 mn), .ref as_, .ref av, .ref aw, .int (I3 sm), .int (I3 wd), .int (I3 lp), .int (I3 mp), .int (I3 re)])), (as_, .inl (dA 0, 60, .inl (iA SG))), (av, .inl (dA 1, 960, .inr (.inl (lA VL)))), (aw, .inl (dA 1, 1024, .inr (.inl (lA W1_47))))]) hP hD [0, 1, 2, 3] [] rfl rfl (by decide) (by decide) hk1 hFc hP1 hD1
        generalize H1 = H at hP hS ⊢
        have hP : va_P (dC, dI) vwCl [(am, .inr (0, [.int (I3 (((0 : Int)))), .int (I3 mn), .ref as_, .ref av, .ref aw, .int (I3 sm), .int (I3 wd), .int (I3 lp), .int (I3 mp), .int (I3 re)])), (as_, .inl (dA 0, 60, .inl (iA SG))), (av, .inl (dA 1, 960, .inr (.inl (lA VL)))), (aw, .inl (dA 1, 1024, .inr (.inl (lA W1_47))))] H := hP
        have hD : va_D A [(am, .inr (0, [.int (I3 (((0 : Int)))), .int (I3 mn), .ref as_, .ref av, .ref aw, .int (I3 sm), .int (I3 wd), .int (I3 lp), .int (I3 mp), .int (I3 re)])), (as_, .inl (dA 0, 60, .inl (iA SG))), (av, .inl (dA 1, 960, .inr (.inl (lA VL)))), (aw, .inl (dA 1, 1024, .inr (.inl (lA W1_47))))] := hD
        refine lv_aload_n hx hb dX8_wrap_50 rfl (lv_at hl 0 rfl) ?_
        refine lv_iconst (v := I3 (2)) hx hb dX8_wrap_51 rfl ?_
        refine lv_iconst (v := I3 (3)) hx hb dX8_wrap_52 rfl ?_
        refine lv_iconst (v := I3 (4)) hx hb dX8_wrap_53 rfl ?_
        refine lv_iconst (v := I3 (5)) hx hb dX8_wrap_54 rfl ?_
        have h_27 : 0 ≤ (2 : Int) ∧ (2 : Int) < 16 := by decide
        have h_28 : 0 ≤ (3 : Int) ∧ (3 : Int) < 16 := by decide
        have h_29 : 0 ≤ (4 : Int) ∧ (4 : Int) < 16 := by decide
        have h_30 : 0 ≤ (5 : Int) ∧ (5 : Int) < 16 := by decide
        have h_31 : (2 : Int) ≠ (4 : Int) := by decide
        have h_32 : (2 : Int) ≠ (5 : Int) := by decide
        have h_33 : (3 : Int) ≠ (4 : Int) := by decide
        have h_34 : (3 : Int) ≠ (5 : Int) := by decide
        have h_35 : (4 : Int) ≠ (5 : Int) := by decide
        have h_36 : rv W1_47 (3 : Int) ≠ 0 := by rw [p2_47]; exact (hAll a (by omega) (by omega)).2.2.1
        have h_37 : 2 * rv W1_47 (3 : Int) ≤ BN := by rw [p2_47]; have := qv_lt hV a; have := B8_2; omega
        have h_38 : Dg W1_47 := by first | assumption | omega | (constructor <;> omega)
        have hPc := hP.sub (ws' := [(am, .inr (0, [.int (I3 ((((0 : Int))))), .int (I3 mn), .ref as_, .ref av, .ref aw, .int (I3 sm), .int (I3 wd), .int (I3 lp), .int (I3 mp), .int (I3 re)])), (as_, .inl (dA 0, 60, .inl (iA SG))), (av, .inl (dA 1, 960, .inr (.inl (lA VL)))), (aw, .inl (dA 1, 1024, .inr (.inl (lA W1_47))))]) [0, 1, 2, 3] rfl
        have hDc := hD.sub (ws' := [(am, .inr (0, [.int (I3 ((((0 : Int))))), .int (I3 mn), .ref as_, .ref av, .ref aw, .int (I3 sm), .int (I3 wd), .int (I3 lp), .int (I3 mp), .int (I3 re)])), (as_, .inl (dA 0, 60, .inl (iA SG))), (av, .inl (dA 1, 960, .inr (.inl (lA VL)))), (aw, .inl (dA 1, 1024, .inr (.inl (lA W1_47))))]) [0, 1, 2, 3] (by decide) rfl
        have hFc := va_free (wc := [(am, .inr (0, [.int (I3 ((((0 : Int))))), .int (I3 mn), .ref as_, .ref av, .ref aw, .int (I3 sm), .int (I3 wd), .int (I3 lp), .int (I3 mp), .int (I3 re)])), (as_, .inl (dA 0, 60, .inl (iA SG))), (av, .inl (dA 1, 960, .inr (.inl (lA VL)))), (aw, .inl (dA 1, 1024, .inr (.inl (lA W1_47))))]) hD hS hA [0, 1, 2, 3] rfl
        refine va_callv (va_runV (As := [.int (I3 2), .int (I3 3), .int (I3 4), .int (I3 5)]) (rest := []) ⟨hx, hb, hml, hown, hts⟩ (metX8_divide l dC dI dA am as_ av aw H.size (((0 : Int))) mn sm wd lp mp re SG VL W1_47 2 3 4 5 h_27 h_28 h_29 h_30 h_31 h_32 h_33 h_34 h_35 h_36 h_37 h_38) (cwV 4 hts (lw_V q1004 q1006 qs31 q66 q1007) rfl rfl rfl (by decide +kernel) ⟨Nat.le_of_ble_eq_true rfl, Nat.le_of_ble_eq_true rfl⟩) ⟨fun a U g mk q => by obtain ⟨q0, q1, qP, qK, qD⟩ := q; exact ⟨q0, q1, qP, va_K.moved (u := U) (U := U.calling g mk a) (Vm.Alike.refl U.vm) qK, qD⟩, va_recv hK hPc (ci := 0) (q0 := 0) rfl rfl, fun U hU hW => ⟨rfl, by rw [hU], by rw [hU]; exact hPc, va_K.moved hW.alike hK, hDc.weaken (fun _ _ _ _ => trivial)⟩⟩ rfl rfl hl.1 rfl (lv_room (Nat.le_of_ble_eq_true rfl)) dX8_wrap_55 ⟨Nat.le_of_ble_eq_true rfl, Nat.le_of_ble_eq_true rfl⟩) hS (fun q _ h => hFc q h) hFc (fun u t H1 locs ht hvm hw hB hz1 hk1 hS => ?_)
        obtain ⟨W1_55, rfl⟩ : ∃ z, z = u := ⟨_, rfl⟩
        obtain ⟨p0_55, p1_55, p2_55, p3_55⟩ : (Dg W1_55) ∧ (Fr2 W1_47 W1_55 (4 : Int) (5 : Int)) ∧ (rv W1_55 (4 : Int) = rv W1_47 (2 : Int) / rv W1_47 (3 : Int)) ∧ (rv W1_55 (5 : Int) = rv W1_47 (2 : Int) % rv W1_47 (3 : Int)) := hw
        obtain ⟨hP1, hK1, hD1⟩ := hB
        rw [ht] at hP1
        obtain ⟨hP, hD⟩ := va_join (wr := []) (w1 := [(am, .inr (0, [.int (I3 ((((0 : Int))))), .int (I3 mn), .ref as_, .ref av, .ref aw, .int (I3 sm), .int (I3 wd), .int (I3 lp), .int (I3 mp), .int (I3 re)])), (as_, .inl (dA 0, 60, .inl (iA SG))), (av, .inl (dA 1, 960, .inr (.inl (lA VL)))), (aw, .inl (dA 1, 1024, .inr (.inl (lA W1_55))))]) hP hD [0, 1, 2, 3] [] rfl rfl (by decide) (by decide) hk1 hFc hP1 hD1
        generalize H1 = H at hP hS ⊢
        have hP : va_P (dC, dI) vwCl [(am, .inr (0, [.int (I3 ((((0 : Int))))), .int (I3 mn), .ref as_, .ref av, .ref aw, .int (I3 sm), .int (I3 wd), .int (I3 lp), .int (I3 mp), .int (I3 re)])), (as_, .inl (dA 0, 60, .inl (iA SG))), (av, .inl (dA 1, 960, .inr (.inl (lA VL)))), (aw, .inl (dA 1, 1024, .inr (.inl (lA W1_55))))] H := hP
        have hD : va_D A [(am, .inr (0, [.int (I3 ((((0 : Int))))), .int (I3 mn), .ref as_, .ref av, .ref aw, .int (I3 sm), .int (I3 wd), .int (I3 lp), .int (I3 mp), .int (I3 re)])), (as_, .inl (dA 0, 60, .inl (iA SG))), (av, .inl (dA 1, 960, .inr (.inl (lA VL)))), (aw, .inl (dA 1, 1024, .inr (.inl (lA W1_55))))] := hD
        have sa := (hAll a (by omega) (by omega)).1
        have i_s : In3 (SG a) := ⟨by omega, by omega⟩
        have e4 : rv W1_55 4 = pv VL a / qv VL a := by rw [p2_55, Fr_rv p1_47 (by decide), p2_41, p2_47]
        have g256 := p0_55 256
        have g257 := p0_55 257
        refine lv_aload_n hx hb dX8_wrap_58 rfl (lv_at hl 0 rfl) ?_
        refine va_get (D := (dC, dI)) (ci := 0) (v := .ref aw) (C := RX8) (T := TX8) (N := 10) hx hb hts in_X8 hown hK hP 0 rfl rfl 4 (by decide) (hts _ q917) (fun _ h9 => h9) rfl dX8_wrap_59 ?_
        refine lv_sipush (v := I3 (256)) hx hb dX8_wrap_62 (by decide) ?_
        refine ix_lald hx hb hK hP 3 1 rfl rfl (Nat.le_of_ble_eq_true rfl) (by omega) dX8_wrap_65 ?_
        refine lv_aload_n hx hb dX8_wrap_66 rfl (lv_at hl 0 rfl) ?_
        refine va_get (D := (dC, dI)) (ci := 0) (v := .ref aw) (C := RX8) (T := TX8) (N := 10) hx hb hts in_X8 hown hK hP 0 rfl rfl 4 (by decide) (hts _ q917) (fun _ h9 => h9) rfl dX8_wrap_67 ?_
        refine lv_sipush (v := I3 (257)) hx hb dX8_wrap_70 (by decide) ?_
        refine ix_lald hx hb hK hP 3 1 rfl rfl (Nat.le_of_ble_eq_true rfl) (by omega) dX8_wrap_73 ?_
        refine lv_bipush (v := I3 (32)) hx hb dX8_wrap_74 (by decide) ?_
        refine ix_lshl hx hb (by first | decide | omega) dX8_wrap_76 ?_
        refine ix_tl (y := (W1_55 257) * 4294967296) rfl ?_
        refine ix_lor hx hb dX8_wrap_77 ?_
        refine ix_tl (y := sm6 ((pv VL a / qv VL a : Nat) : Int)) (by rw [zor6_w g256 g257, ← e4]; exact lo64 p0_55 4) ?_
        refine lv_lstore (lv' := [(4, .long (L6 (sm6 ((pv VL a / qv VL a : Nat) : Int)))), (0, .ref am), (1, .int (I3 a)), (2, .int (I3 n_)), (3, .int (I3 sg))]) hx hb dX8_wrap_78 hl (by decide) rfl (fun ls hl => ?_)
        refine lv_aload_n hx hb dX8_wrap_80 rfl (lv_at hl 1 rfl) ?_
        refine va_get (D := (dC, dI)) (ci := 0) (v := .ref as_) (C := RX8) (T := TX8) (N := 10) hx hb hts in_X8 hown hK hP 0 rfl rfl 2 (by decide) (hts _ q915) (fun _ h9 => h9) rfl dX8_wrap_81 ?_
        refine lv_iload_n hx hb dX8_wrap_84 rfl (lv_at hl 2 rfl) ?_
        refine ix_iald hx hb hK hP 1 0 rfl rfl (Nat.le_of_ble_eq_true rfl) (by omega) dX8_wrap_85 ?_
        refine ix_if_ge (tgt := 95) hx hb (by first | assumption | decide | (constructor <;> omega)) dX8_wrap_86 (by decide) (fun c_86 => ?_) (fun c_86 => ?_)
        · skip
          refine lv_lload hx hb dX8_wrap_95 (lv_at hl 0 rfl) ?_
          have e_39 : (0 ≤ a ∧ a < mn) ∧ 1 ≤ n_ ∧ n_ ≤ 64 := by first | assumption | omega | (constructor <;> omega)
          have e_40 : (sm6 ((pv VL a / qv VL a : Nat) : Int)) = sm6 (whS SG VL a) := by unfold whS; rw [if_neg (by omega)]
          have e_41 : Dg W1_55 := by first | assumption | omega | (constructor <;> omega)
          exact cut_97 (sm6 ((pv VL a / qv VL a : Nat) : Int)) W1_55 e_39 e_40 e_41 _ _ hP hD hS ls (lv_sub hl [1, 2, 3, 4] rfl)
        · skip
          refine lv_lload hx hb dX8_wrap_89 (lv_at hl 0 rfl) ?_
          refine ix_lneg hx hb dX8_wrap_91 ?_
          refine ix_cl (y := sm6 (-((pv VL a / qv VL a : Nat) : Int))) (by exact sm6_neg _) ?_
          refine lv_goto (tgt := 97) hx hb dX8_wrap_92 (by decide) ?_
          have e_42 : (0 ≤ a ∧ a < mn) ∧ 1 ≤ n_ ∧ n_ ≤ 64 := by first | assumption | omega | (constructor <;> omega)
          have e_43 : (sm6 (-((pv VL a / qv VL a : Nat) : Int))) = sm6 (whS SG VL a) := by unfold whS; rw [if_pos (by omega)]
          have e_44 : Dg W1_55 := by first | assumption | omega | (constructor <;> omega)
          exact cut_97 (sm6 (-((pv VL a / qv VL a : Nat) : Int))) W1_55 e_42 e_43 e_44 _ _ hP hD hS ls (lv_sub hl [1, 2, 3, 4] rfl)
      · skip
        refine lv_aload_n hx hb dX8_wrap_26 rfl (lv_at hl 0 rfl) ?_
        refine lv_iconst (v := I3 (2)) hx hb dX8_wrap_27 rfl ?_
        have h_45 : In3 (2 : Int) := by first | assumption | omega | (constructor <;> omega)
        have hPc := hP.sub (ws' := [(am, .inr (0, [.int (I3 th), .int (I3 mn), .ref as_, .ref av, .ref aw, .int (I3 sm), .int (I3 wd), .int (I3 lp), .int (I3 mp), .int (I3 re)])), (as_, .inl (dA 0, 60, .inl (iA SG))), (av, .inl (dA 1, 960, .inr (.inl (lA VL)))), (aw, .inl (dA 1, 1024, .inr (.inl (lA wf))))]) [0, 1, 2, 3] rfl
        have hDc := hD.sub (ws' := [(am, .inr (0, [.int (I3 th), .int (I3 mn), .ref as_, .ref av, .ref aw, .int (I3 sm), .int (I3 wd), .int (I3 lp), .int (I3 mp), .int (I3 re)])), (as_, .inl (dA 0, 60, .inl (iA SG))), (av, .inl (dA 1, 960, .inr (.inl (lA VL)))), (aw, .inl (dA 1, 1024, .inr (.inl (lA wf))))]) [0, 1, 2, 3] (by decide) rfl
        have hFc := va_free (wc := [(am, .inr (0, [.int (I3 th), .int (I3 mn), .ref as_, .ref av, .ref aw, .int (I3 sm), .int (I3 wd), .int (I3 lp), .int (I3 mp), .int (I3 re)])), (as_, .inl (dA 0, 60, .inl (iA SG))), (av, .inl (dA 1, 960, .inr (.inl (lA VL)))), (aw, .inl (dA 1, 1024, .inr (.inl (lA wf))))]) hD hS hA [0, 1, 2, 3] rfl
        refine va_calli (va_runV (As := [.int (I3 2)]) (rest := []) ⟨hx, hb, hml, hown, hts⟩ (metX8_fails l dC dI dA am as_ av aw H.size th mn sm wd lp mp re SG VL wf 2 h_45) (cwV 1 hts (lw_V q1016 q1018 qs34 q66 q1019) rfl rfl rfl (by decide +kernel) ⟨Nat.le_of_ble_eq_true rfl, Nat.le_of_ble_eq_true rfl⟩) ⟨fun a U g mk q => by obtain ⟨q0, q1, qP, qK, qD⟩ := q; exact ⟨q0, q1, qP, va_K.moved (u := U) (U := U.calling g mk a) (Vm.Alike.refl U.vm) qK, qD⟩, va_recv hK hPc (ci := 0) (q0 := 0) rfl rfl, fun U hU hW => ⟨rfl, by rw [hU], by rw [hU]; exact hPc, va_K.moved hW.alike hK, hDc.weaken (fun _ _ _ _ => trivial)⟩⟩ rfl rfl hl.1 rfl (lv_room (Nat.le_of_ble_eq_true rfl)) dX8_wrap_28 ⟨Nat.le_of_ble_eq_true rfl, Nat.le_of_ble_eq_true rfl⟩) hS (fun q _ h => hFc q h) hFc (fun r_28 u t H1 locs ht hvm hw hB hz1 hk1 hS => ?_)
        obtain ⟨z_28, th1_28⟩ := u
        obtain ⟨rfl, p0_28, p1_28⟩ : r_28 = I3 z_28 ∧ (z_28 = 0) ∧ (th1_28 = (2 : Int)) := hw
        obtain ⟨hP1, hK1, hD1⟩ := hB
        rw [ht] at hP1
        obtain ⟨hP, hD⟩ := va_join (wr := []) (w1 := [(am, .inr (0, [.int (I3 th1_28), .int (I3 mn), .ref as_, .ref av, .ref aw, .int (I3 sm), .int (I3 wd), .int (I3 lp), .int (I3 mp), .int (I3 re)])), (as_, .inl (dA 0, 60, .inl (iA SG))), (av, .inl (dA 1, 960, .inr (.inl (lA VL)))), (aw, .inl (dA 1, 1024, .inr (.inl (lA wf))))]) hP hD [0, 1, 2, 3] [] rfl rfl (by decide) (by decide) hk1 hFc hP1 hD1
        generalize H1 = H at hP hS ⊢
        have hP : va_P (dC, dI) vwCl [(am, .inr (0, [.int (I3 th1_28), .int (I3 mn), .ref as_, .ref av, .ref aw, .int (I3 sm), .int (I3 wd), .int (I3 lp), .int (I3 mp), .int (I3 re)])), (as_, .inl (dA 0, 60, .inl (iA SG))), (av, .inl (dA 1, 960, .inr (.inl (lA VL)))), (aw, .inl (dA 1, 1024, .inr (.inl (lA wf))))] H := hP
        have hD : va_D A [(am, .inr (0, [.int (I3 th1_28), .int (I3 mn), .ref as_, .ref av, .ref aw, .int (I3 sm), .int (I3 wd), .int (I3 lp), .int (I3 mp), .int (I3 re)])), (as_, .inl (dA 0, 60, .inl (iA SG))), (av, .inl (dA 1, 960, .inr (.inl (lA VL)))), (aw, .inl (dA 1, 1024, .inr (.inl (lA wf))))] := hD
        refine ix_i2l hx hb (by first | assumption | decide | (constructor <;> omega)) dX8_wrap_31 ?_
        have o_46 : Dg wf := by first | assumption | omega | (constructor <;> omega)
        have o_47 : z_28 = if (0 ≤ a ∧ a < mn) ∧ 1 ≤ n_ ∧ n_ ≤ 64 then wrS (whS SG VL a) n_ sg else 0 := by rw [if_neg (by omega)]; exact p0_28
        have o_48 : th1_28 = if 0 ≤ a ∧ a < mn then (if 1 ≤ n_ ∧ n_ ≤ 64 then 0 else 2) else 1 := by rw [if_pos (by omega), if_neg (by omega)]; exact p1_28
        exact W.lret (v := L6 z_28) hx hb hr (fun t ht hW => ⟨⟨L6 z_28, (z_28, th1_28, wf), rfl, ⟨rfl, ⟨o_46, o_47, o_48⟩⟩, by rw [ht]; exact hP, va_K.moved hW.alike hK, hD⟩, hS.F ht⟩) hS.2.2 dX8_wrap_32
  · skip
    refine lv_aload_n hx hb dX8_wrap_8 rfl (lv_at hl 0 rfl) ?_
    refine lv_iconst (v := I3 (1)) hx hb dX8_wrap_9 rfl ?_
    have h_49 : In3 (1 : Int) := by first | assumption | omega | (constructor <;> omega)
    have hPc := hP.sub (ws' := [(am, .inr (0, [.int (I3 th), .int (I3 mn), .ref as_, .ref av, .ref aw, .int (I3 sm), .int (I3 wd), .int (I3 lp), .int (I3 mp), .int (I3 re)])), (as_, .inl (dA 0, 60, .inl (iA SG))), (av, .inl (dA 1, 960, .inr (.inl (lA VL)))), (aw, .inl (dA 1, 1024, .inr (.inl (lA wf))))]) [0, 1, 2, 3] rfl
    have hDc := hD.sub (ws' := [(am, .inr (0, [.int (I3 th), .int (I3 mn), .ref as_, .ref av, .ref aw, .int (I3 sm), .int (I3 wd), .int (I3 lp), .int (I3 mp), .int (I3 re)])), (as_, .inl (dA 0, 60, .inl (iA SG))), (av, .inl (dA 1, 960, .inr (.inl (lA VL)))), (aw, .inl (dA 1, 1024, .inr (.inl (lA wf))))]) [0, 1, 2, 3] (by decide) rfl
    have hFc := va_free (wc := [(am, .inr (0, [.int (I3 th), .int (I3 mn), .ref as_, .ref av, .ref aw, .int (I3 sm), .int (I3 wd), .int (I3 lp), .int (I3 mp), .int (I3 re)])), (as_, .inl (dA 0, 60, .inl (iA SG))), (av, .inl (dA 1, 960, .inr (.inl (lA VL)))), (aw, .inl (dA 1, 1024, .inr (.inl (lA wf))))]) hD hS hA [0, 1, 2, 3] rfl
    refine va_calli (va_runV (As := [.int (I3 1)]) (rest := []) ⟨hx, hb, hml, hown, hts⟩ (metX8_fails l dC dI dA am as_ av aw H.size th mn sm wd lp mp re SG VL wf 1 h_49) (cwV 1 hts (lw_V q1016 q1018 qs34 q66 q1019) rfl rfl rfl (by decide +kernel) ⟨Nat.le_of_ble_eq_true rfl, Nat.le_of_ble_eq_true rfl⟩) ⟨fun a U g mk q => by obtain ⟨q0, q1, qP, qK, qD⟩ := q; exact ⟨q0, q1, qP, va_K.moved (u := U) (U := U.calling g mk a) (Vm.Alike.refl U.vm) qK, qD⟩, va_recv hK hPc (ci := 0) (q0 := 0) rfl rfl, fun U hU hW => ⟨rfl, by rw [hU], by rw [hU]; exact hPc, va_K.moved hW.alike hK, hDc.weaken (fun _ _ _ _ => trivial)⟩⟩ rfl rfl hl.1 rfl (lv_room (Nat.le_of_ble_eq_true rfl)) dX8_wrap_10 ⟨Nat.le_of_ble_eq_true rfl, Nat.le_of_ble_eq_true rfl⟩) hS (fun q _ h => hFc q h) hFc (fun r_10 u t H1 locs ht hvm hw hB hz1 hk1 hS => ?_)
    obtain ⟨z_10, th1_10⟩ := u
    obtain ⟨rfl, p0_10, p1_10⟩ : r_10 = I3 z_10 ∧ (z_10 = 0) ∧ (th1_10 = (1 : Int)) := hw
    obtain ⟨hP1, hK1, hD1⟩ := hB
    rw [ht] at hP1
    obtain ⟨hP, hD⟩ := va_join (wr := []) (w1 := [(am, .inr (0, [.int (I3 th1_10), .int (I3 mn), .ref as_, .ref av, .ref aw, .int (I3 sm), .int (I3 wd), .int (I3 lp), .int (I3 mp), .int (I3 re)])), (as_, .inl (dA 0, 60, .inl (iA SG))), (av, .inl (dA 1, 960, .inr (.inl (lA VL)))), (aw, .inl (dA 1, 1024, .inr (.inl (lA wf))))]) hP hD [0, 1, 2, 3] [] rfl rfl (by decide) (by decide) hk1 hFc hP1 hD1
    generalize H1 = H at hP hS ⊢
    have hP : va_P (dC, dI) vwCl [(am, .inr (0, [.int (I3 th1_10), .int (I3 mn), .ref as_, .ref av, .ref aw, .int (I3 sm), .int (I3 wd), .int (I3 lp), .int (I3 mp), .int (I3 re)])), (as_, .inl (dA 0, 60, .inl (iA SG))), (av, .inl (dA 1, 960, .inr (.inl (lA VL)))), (aw, .inl (dA 1, 1024, .inr (.inl (lA wf))))] H := hP
    have hD : va_D A [(am, .inr (0, [.int (I3 th1_10), .int (I3 mn), .ref as_, .ref av, .ref aw, .int (I3 sm), .int (I3 wd), .int (I3 lp), .int (I3 mp), .int (I3 re)])), (as_, .inl (dA 0, 60, .inl (iA SG))), (av, .inl (dA 1, 960, .inr (.inl (lA VL)))), (aw, .inl (dA 1, 1024, .inr (.inl (lA wf))))] := hD
    refine ix_i2l hx hb (by first | assumption | decide | (constructor <;> omega)) dX8_wrap_13 ?_
    have o_50 : Dg wf := by first | assumption | omega | (constructor <;> omega)
    have o_51 : z_10 = if (0 ≤ a ∧ a < mn) ∧ 1 ≤ n_ ∧ n_ ≤ 64 then wrS (whS SG VL a) n_ sg else 0 := by rw [if_neg (by omega)]; exact p0_10
    have o_52 : th1_10 = if 0 ≤ a ∧ a < mn then (if 1 ≤ n_ ∧ n_ ≤ 64 then 0 else 2) else 1 := by rw [if_neg (by omega)]; exact p1_10
    exact W.lret (v := L6 z_10) hx hb hr (fun t ht hW => ⟨⟨L6 z_10, (z_10, th1_10, wf), rfl, ⟨rfl, ⟨o_50, o_51, o_52⟩⟩, by rw [ht]; exact hP, va_K.moved hW.alike hK, hD⟩, hS.F ht⟩) hS.2.2 dX8_wrap_14
