/-! the model: whole and small numbers -/
set_option maxRecDepth 100000
abbrev BmetX8_isWhole (dC : Nat → ClassId) (dI : Nat → Nat → Nat) (dA : Nat → ClassId) (A : Nat → Prop) (am : Nat) (as_ : Nat) (av : Nat) (aw : Nat) (th : Int) (mn : Int) (sm : Int) (wd : Int) (lp : Int) (mp : Int) (re : Int) (SG : Int → Int) (VL : Int → Int) (wf : Int → Int) (a : Int) : Int → State → Prop := fun u t => (fun (u : Int) => (fun (z : Int) => va_P (dC, dI) vwCl [(am, .inr (0, [.int (I3 th), .int (I3 mn), .ref as_, .ref av, .ref aw, .int (I3 sm), .int (I3 wd), .int (I3 lp), .int (I3 mp), .int (I3 re)])), (as_, .inl (dA 0, 60, .inl (iA SG))), (av, .inl (dA 1, 960, .inr (.inl (lA VL)))), (aw, .inl (dA 1, 1024, .inr (.inl (lA wf))))] t.heap ∧ va_K (dC, dI) vwCl (tyA dA) t ∧ va_D A [(am, .inr (0, [.int (I3 th), .int (I3 mn), .ref as_, .ref av, .ref aw, .int (I3 sm), .int (I3 wd), .int (I3 lp), .int (I3 mp), .int (I3 re)])), (as_, .inl (dA 0, 60, .inl (iA SG))), (av, .inl (dA 1, 960, .inr (.inl (lA VL)))), (aw, .inl (dA 1, 1024, .inr (.inl (lA wf))))]) u) u
abbrev QmetX8_isWhole (dC : Nat → ClassId) (dI : Nat → Nat → Nat) (dA : Nat → ClassId) (A : Nat → Prop) (am : Nat) (as_ : Nat) (av : Nat) (aw : Nat) (th : Int) (mn : Int) (sm : Int) (wd : Int) (lp : Int) (mp : Int) (re : Int) (SG : Int → Int) (VL : Int → Int) (wf : Int → Int) (a : Int) := va_Qi (fun (rt_ : Int32) => fun (u : Int) => (fun (z : Int) => rt_ = I3 z ∧ (z = if qv VL a = 1 then 1 else 0)) u) (BmetX8_isWhole dC dI dA A am as_ av aw th mn sm wd lp mp re SG VL wf a) A
set_option maxHeartbeats 1000000 in
set_option maxRecDepth 100000 in
theorem metX8_isWhole (l : Launch) (dC : Nat → ClassId) (dI : Nat → Nat → Nat) (dA : Nat → ClassId) (am : Nat) (as_ : Nat) (av : Nat) (aw : Nat) (sz : Nat) (th : Int) (mn : Int) (sm : Int) (wd : Int) (lp : Int) (mp : Int) (re : Int) (SG : Int → Int) (VL : Int → Int) (wf : Int → Int) (a : Int) (hV : Dg VL) (ha : 0 ≤ a ∧ a < 60) : Met l yX8_isWhole (ws_ yX8_isWhole cX8_isWhole 4 (some .boolean)) ({ frames := 1, cells := 0, slots := 0, locals := 40 }) (va_Pc [.ref am, .int (I3 a)] (fun U => U.heap.size = sz ∧ va_P (dC, dI) vwCl [(am, .inr (0, [.int (I3 th), .int (I3 mn), .ref as_, .ref av, .ref aw, .int (I3 sm), .int (I3 wd), .int (I3 lp), .int (I3 mp), .int (I3 re)])), (as_, .inl (dA 0, 60, .inl (iA SG))), (av, .inl (dA 1, 960, .inr (.inl (lA VL)))), (aw, .inl (dA 1, 1024, .inr (.inl (lA wf))))] U.heap ∧ va_K (dC, dI) vwCl (tyA dA) U ∧ va_D (fun _ => True) [(am, .inr (0, [.int (I3 th), .int (I3 mn), .ref as_, .ref av, .ref aw, .int (I3 sm), .int (I3 wd), .int (I3 lp), .int (I3 mp), .int (I3 re)])), (as_, .inl (dA 0, 60, .inl (iA SG))), (av, .inl (dA 1, 960, .inr (.inl (lA VL)))), (aw, .inl (dA 1, 1024, .inr (.inl (lA wf))))])) (QmetX8_isWhole dC dI dA (va_A [(am, .inr (0, [.int (I3 th), .int (I3 mn), .ref as_, .ref av, .ref aw, .int (I3 sm), .int (I3 wd), .int (I3 lp), .int (I3 mp), .int (I3 re)])), (as_, .inl (dA 0, 60, .inl (iA SG))), (av, .inl (dA 1, 960, .inr (.inl (lA VL)))), (aw, .inl (dA 1, 1024, .inr (.inl (lA wf))))] sz) am as_ av aw th mn sm wd lp mp re SG VL wf a) 0 0 (va_A [(am, .inr (0, [.int (I3 th), .int (I3 mn), .ref as_, .ref av, .ref aw, .int (I3 sm), .int (I3 wd), .int (I3 lp), .int (I3 mp), .int (I3 re)])), (as_, .inl (dA 0, 60, .inl (iA SG))), (av, .inl (dA 1, 960, .inr (.inl (lA VL)))), (aw, .inl (dA 1, 1024, .inr (.inl (lA wf))))] sz) := by
  refine Met.ofW (cc := cX8_isWhole) (maxL := 4) (ret := (some .boolean)) (by decide) rfl ?_
  intro p e s m args below meth c s₁ B hml hv
  obtain ⟨rfl, hsz, hP, hK, hD0⟩ := hv
  have hx := B.exec
  have hb := B.bytes
  have hr := B.returns
  have hts := atoms_spec (ws := (ws_ yX8_isWhole cX8_isWhole 4 (some .boolean))) B.pre
  have hts : ∀ w ∈ lw_all, w.before _ s = true := fun w h => hts w (List.mem_cons_of_mem _ h)
  have hown : s.vm.findClass RX8 = some m.cls := findClass_of_methodNamed B.named
  have hlocks := B.notSynchronized
  subst hsz
  have hD := hD0.self (sz := s.heap.size)
  generalize hAe : va_A [(am, .inr (0, [.int (I3 th), .int (I3 mn), .ref as_, .ref av, .ref aw, .int (I3 sm), .int (I3 wd), .int (I3 lp), .int (I3 mp), .int (I3 re)])), (as_, .inl (dA 0, 60, .inl (iA SG))), (av, .inl (dA 1, 960, .inr (.inl (lA VL)))), (aw, .inl (dA 1, 1024, .inr (.inl (lA wf))))] s.heap.size = A at hD ⊢
  have hA : ∀ q : Nat, s.heap.size ≤ q → A q := fun q h => by rw [← hAe]; exact Or.inr h
  have hS : va_S A s.heap s.heap [] := va_S.rf
  have hP : va_P (dC, dI) vwCl [(am, .inr (0, [.int (I3 th), .int (I3 mn), .ref as_, .ref av, .ref aw, .int (I3 sm), .int (I3 wd), .int (I3 lp), .int (I3 mp), .int (I3 re)])), (as_, .inl (dA 0, 60, .inl (iA SG))), (av, .inl (dA 1, 960, .inr (.inl (lA VL)))), (aw, .inl (dA 1, 1024, .inr (.inl (lA wf))))] s.heap := hP
  have hl := lv_entry ([.ref am, .int (I3 a)]) (n := 4) (Nat.le_of_ble_eq_true rfl)
  rw [lg_entry_eq]
  generalize (lg_sl ([.ref am, .int (I3 a)]) ++ List.replicate (4 - (lg_sl ([.ref am, .int (I3 a)])).length) Slot.unset).toArray = ls at hl ⊢
  have hl : lv_has ls 4 [(0, .ref am), (1, .int (I3 a))] := hl
  have cut_26 : ∀ (fuel_26 : Nat), ∀ (b_ : Int) (k : Int), (9 ≤ k ∧ k ≤ 16) → ((b_ = 1 ∧ VL (16 * a + 8) = 1 ∧ ∀ j : Int, 9 ≤ j → j < k → VL (16 * a + j) = 0) ∨ (b_ = 0 ∧ ¬ qv VL a = 1)) → ((16 - k).toNat < fuel_26) → ∀ (H : Heap) (locs : List Loc), va_P (dC, dI) vwCl [(am, .inr (0, [.int (I3 th), .int (I3 mn), .ref as_, .ref av, .ref aw, .int (I3 sm), .int (I3 wd), .int (I3 lp), .int (I3 mp), .int (I3 re)])), (as_, .inl (dA 0, 60, .inl (iA SG))), (av, .inl (dA 1, 960, .inr (.inl (lA VL)))), (aw, .inl (dA 1, 1024, .inr (.inl (lA wf))))] H → va_D A [(am, .inr (0, [.int (I3 th), .int (I3 mn), .ref as_, .ref av, .ref aw, .int (I3 sm), .int (I3 wd), .int (I3 lp), .int (I3 mp), .int (I3 re)])), (as_, .inl (dA 0, 60, .inl (iA SG))), (av, .inl (dA 1, 960, .inr (.inl (lA VL)))), (aw, .inl (dA 1, 1024, .inr (.inl (lA wf))))] → va_S A s.heap H locs → ∀ (ls : Array Slot), lv_has ls 4 [(0, .ref am), (1, .int (I3 a)), (2, .int (I3 b_)), (3, .int (I3 k))] → W p l e (headSpec (ws_ yX8_isWhole cX8_isWhole 4 (some .boolean)) ({ frames := 1, cells := 0, slots := 0, locals := 40 })).room s m ([.ref am, .int (I3 a)] : List Value).toArray below meth c H locs 0 0 (MQ below (QmetX8_isWhole dC dI dA A am as_ av aw th mn sm wd lp mp re SG VL wf a) ([.ref am, .int (I3 a)] : List Value).toArray s 0 0 A) (F0 m 26 ls []) := by
    intro fuel_26
    induction fuel_26 with
    | zero =>
      intro b_ k hk hbb hm
      exact absurd hm (Nat.not_lt_zero _)
    | succ fuel_26 ih_26 =>
      intro b_ k hk hbb hm_26 H locs hP hD hS ls hl
      refine lv_iload_n hx hb dX8_isWhole_26 rfl (lv_at hl 3 rfl) ?_
      refine lv_bipush (v := I3 (16)) hx hb dX8_isWhole_27 (by decide) ?_
      refine ix_icmp_ge (tgt := 64) hx hb (by first | decide | assumption | (constructor <;> omega)) (by first | decide | assumption | (constructor <;> omega)) dX8_isWhole_29 (by decide) (fun c_29 => ?_) (fun c_29 => ?_)
      · skip
        refine lv_iload_n hx hb dX8_isWhole_64 rfl (lv_at hl 2 rfl) ?_
        have o_1 : b_ = if qv VL a = 1 then 1 else 0 := by rcases hbb with ⟨h1, h2, h3⟩ | ⟨h1, h2⟩; rw [if_pos (qv_1 hV h2 (fun j j1 j2 => h3 j j1 (by omega)))]; exact h1; rw [if_neg h2]; exact h1
        exact W.zret (v := I3 b_) hx hb hr (nar_z (by omega)) (fun t ht hW => ⟨⟨I3 b_, b_, rfl, ⟨rfl, o_1⟩, by rw [ht]; exact hP, va_K.moved hW.alike hK, hD⟩, hS.F ht⟩) hS.2.2 dX8_isWhole_65
      · skip
        refine lv_iload_n hx hb dX8_isWhole_32 rfl (lv_at hl 2 rfl) ?_
        refine ix_if_eq (tgt := 56) hx hb (by first | decide | assumption | (constructor <;> omega)) dX8_isWhole_33 (by decide) (fun c_33 => ?_) (fun c_33 => ?_)
        · skip
          refine lv_iconst (v := I3 (0)) hx hb dX8_isWhole_56 rfl ?_
          refine lv_istore_n (lv' := [(2, .int (I3 0)), (0, .ref am), (1, .int (I3 a)), (3, .int (I3 k))]) hx hb dX8_isWhole_57 rfl hl (by decide) rfl (fun ls hl => ?_)
          refine lv_iinc (v := I3 (k + 1)) (lv' := [(3, .int (I3 (k + 1))), (2, .int (I3 0)), (0, .ref am), (1, .int (I3 a))]) hx hb dX8_isWhole_58 hl (k := 3) rfl (I3_add _ _) (by decide) rfl (fun ls hl => ?_)
          refine lv_goto (tgt := 26) hx hb dX8_isWhole_61 (by decide) ?_
          have e_2 : 9 ≤ (k + 1) ∧ (k + 1) ≤ 16 := by first | assumption | omega | (constructor <;> omega)
          have e_3 : ((0 : Int) = 1 ∧ VL (16 * a + 8) = 1 ∧ ∀ j : Int, 9 ≤ j → j < (k + 1) → VL (16 * a + j) = 0) ∨ ((0 : Int) = 0 ∧ ¬ qv VL a = 1) := by rcases hbb with ⟨h1, h2, h3⟩ | ⟨h1, h2⟩; omega; exact Or.inr ⟨rfl, h2⟩
          have e_4 : (16 - (k + 1)).toNat < fuel_26 := by omega
          exact ih_26 0 (k + 1) e_2 e_3 e_4 _ _ hP hD hS ls (lv_sub hl [2, 3, 1, 0] rfl)
        · skip
          refine lv_aload_n hx hb dX8_isWhole_36 rfl (lv_at hl 0 rfl) ?_
          refine va_get (D := (dC, dI)) (ci := 0) (v := .ref av) (C := RX8) (T := TX8) (N := 10) hx hb hts in_X8 hown hK hP 0 rfl rfl 3 (by decide) (hts _ q916) (fun _ h9 => h9) rfl dX8_isWhole_37 ?_
          refine lv_bipush (v := I3 (16)) hx hb dX8_isWhole_40 (by decide) ?_
          refine lv_iload_n hx hb dX8_isWhole_42 rfl (lv_at hl 1 rfl) ?_
          refine ix_imul hx hb dX8_isWhole_43 ?_
          refine lv_iload_n hx hb dX8_isWhole_44 rfl (lv_at hl 3 rfl) ?_
          refine ix_iadd hx hb dX8_isWhole_45 ?_
          refine ix_lald hx hb hK hP 2 1 rfl rfl (Nat.le_of_ble_eq_true rfl) (by omega) dX8_isWhole_46 ?_
          have g_46 := hV ((16 * a) + k)
          refine lv_lconst (v := L6 0) hx hb dX8_isWhole_47 (by decide) ?_
          refine ix_lcmp_ne (tgt := 56) hx hb (by first | decide | assumption | (constructor <;> omega)) (by first | decide | assumption | (constructor <;> omega)) dX8_isWhole_48 dX8_isWhole_49 (by decide) (fun c_48 => ?_) (fun c_48 => ?_)
          · skip
            refine lv_iconst (v := I3 (0)) hx hb dX8_isWhole_56 rfl ?_
            refine lv_istore_n (lv' := [(2, .int (I3 0)), (0, .ref am), (1, .int (I3 a)), (3, .int (I3 k))]) hx hb dX8_isWhole_57 rfl hl (by decide) rfl (fun ls hl => ?_)
            refine lv_iinc (v := I3 (k + 1)) (lv' := [(3, .int (I3 (k + 1))), (2, .int (I3 0)), (0, .ref am), (1, .int (I3 a))]) hx hb dX8_isWhole_58 hl (k := 3) rfl (I3_add _ _) (by decide) rfl (fun ls hl => ?_)
            refine lv_goto (tgt := 26) hx hb dX8_isWhole_61 (by decide) ?_
            have e_5 : 9 ≤ (k + 1) ∧ (k + 1) ≤ 16 := by first | assumption | omega | (constructor <;> omega)
            have e_6 : ((0 : Int) = 1 ∧ VL (16 * a + 8) = 1 ∧ ∀ j : Int, 9 ≤ j → j < (k + 1) → VL (16 * a + j) = 0) ∨ ((0 : Int) = 0 ∧ ¬ qv VL a = 1) := by exact Or.inr ⟨rfl, fun q => c_48 ((qv_1' hV q).2 k (by omega) (by omega))⟩
            have e_7 : (16 - (k + 1)).toNat < fuel_26 := by omega
            exact ih_26 0 (k + 1) e_5 e_6 e_7 _ _ hP hD hS ls (lv_sub hl [2, 3, 1, 0] rfl)
          · skip
            refine lv_iconst (v := I3 (1)) hx hb dX8_isWhole_52 rfl ?_
            refine lv_goto (tgt := 57) hx hb dX8_isWhole_53 (by decide) ?_
            refine lv_istore_n (lv' := [(2, .int (I3 1)), (0, .ref am), (1, .int (I3 a)), (3, .int (I3 k))]) hx hb dX8_isWhole_57 rfl hl (by decide) rfl (fun ls hl => ?_)
            refine lv_iinc (v := I3 (k + 1)) (lv' := [(3, .int (I3 (k + 1))), (2, .int (I3 1)), (0, .ref am), (1, .int (I3 a))]) hx hb dX8_isWhole_58 hl (k := 3) rfl (I3_add _ _) (by decide) rfl (fun ls hl => ?_)
            refine lv_goto (tgt := 26) hx hb dX8_isWhole_61 (by decide) ?_
            have e_8 : 9 ≤ (k + 1) ∧ (k + 1) ≤ 16 := by first | assumption | omega | (constructor <;> omega)
            have e_9 : ((1 : Int) = 1 ∧ VL (16 * a + 8) = 1 ∧ ∀ j : Int, 9 ≤ j → j < (k + 1) → VL (16 * a + j) = 0) ∨ ((1 : Int) = 0 ∧ ¬ qv VL a = 1) := by rcases hbb with ⟨h1, h2, h3⟩ | ⟨h1, h2⟩; exact Or.inl ⟨rfl, h2, fun j j1 j2 => by by_cases q : j = k; rw [q]; exact c_48; exact h3 j j1 (by omega)⟩; omega
            have e_10 : (16 - (k + 1)).toNat < fuel_26 := by omega
            exact ih_26 1 (k + 1) e_8 e_9 e_10 _ _ hP hD hS ls (lv_sub hl [2, 3, 1, 0] rfl)
  refine lv_aload_n hx hb dX8_isWhole_0 rfl (lv_at hl 0 rfl) ?_
  refine va_get (D := (dC, dI)) (ci := 0) (v := .ref av) (C := RX8) (T := TX8) (N := 10) hx hb hts in_X8 hown hK hP 0 rfl rfl 3 (by decide) (hts _ q916) (fun _ h9 => h9) rfl dX8_isWhole_1 ?_
  refine lv_bipush (v := I3 (16)) hx hb dX8_isWhole_4 (by decide) ?_
  refine lv_iload_n hx hb dX8_isWhole_6 rfl (lv_at hl 1 rfl) ?_
  refine ix_imul hx hb dX8_isWhole_7 ?_
  refine lv_bipush (v := I3 (8)) hx hb dX8_isWhole_8 (by decide) ?_
  refine ix_iadd hx hb dX8_isWhole_10 ?_
  refine ix_lald hx hb hK hP 2 1 rfl rfl (Nat.le_of_ble_eq_true rfl) (by omega) dX8_isWhole_11 ?_
  have g_11 := hV ((16 * a) + 8)
  refine lv_lconst (v := L6 1) hx hb dX8_isWhole_12 (by decide) ?_
  refine ix_lcmp_ne (tgt := 21) hx hb (by first | decide | assumption | (constructor <;> omega)) (by first | decide | assumption | (constructor <;> omega)) dX8_isWhole_13 dX8_isWhole_14 (by decide) (fun c_13 => ?_) (fun c_13 => ?_)
  · skip
    refine lv_iconst (v := I3 (0)) hx hb dX8_isWhole_21 rfl ?_
    refine lv_istore_n (lv' := [(2, .int (I3 0)), (0, .ref am), (1, .int (I3 a))]) hx hb dX8_isWhole_22 rfl hl (by decide) rfl (fun ls hl => ?_)
    refine lv_bipush (v := I3 (9)) hx hb dX8_isWhole_23 (by decide) ?_
    refine lv_istore_n (lv' := [(3, .int (I3 9)), (2, .int (I3 0)), (0, .ref am), (1, .int (I3 a))]) hx hb dX8_isWhole_25 rfl hl (by decide) rfl (fun ls hl => ?_)
    have e_11 : 9 ≤ (9 : Int) ∧ (9 : Int) ≤ 16 := by first | assumption | omega | (constructor <;> omega)
    have e_12 : ((0 : Int) = 1 ∧ VL (16 * a + 8) = 1 ∧ ∀ j : Int, 9 ≤ j → j < (9 : Int) → VL (16 * a + j) = 0) ∨ ((0 : Int) = 0 ∧ ¬ qv VL a = 1) := by exact Or.inr ⟨rfl, fun q => c_13 (qv_1' hV q).1⟩
    exact cut_26 ((16 - (9 : Int)).toNat + 1) 0 9 e_11 e_12 (Nat.lt_succ_self _) _ _ hP hD hS ls (lv_sub hl [2, 3, 1, 0] rfl)
  · skip
    refine lv_iconst (v := I3 (1)) hx hb dX8_isWhole_17 rfl ?_
    refine lv_goto (tgt := 22) hx hb dX8_isWhole_18 (by decide) ?_
    refine lv_istore_n (lv' := [(2, .int (I3 1)), (0, .ref am), (1, .int (I3 a))]) hx hb dX8_isWhole_22 rfl hl (by decide) rfl (fun ls hl => ?_)
    refine lv_bipush (v := I3 (9)) hx hb dX8_isWhole_23 (by decide) ?_
    refine lv_istore_n (lv' := [(3, .int (I3 9)), (2, .int (I3 1)), (0, .ref am), (1, .int (I3 a))]) hx hb dX8_isWhole_25 rfl hl (by decide) rfl (fun ls hl => ?_)
    have e_13 : 9 ≤ (9 : Int) ∧ (9 : Int) ≤ 16 := by first | assumption | omega | (constructor <;> omega)
    have e_14 : ((1 : Int) = 1 ∧ VL (16 * a + 8) = 1 ∧ ∀ j : Int, 9 ≤ j → j < (9 : Int) → VL (16 * a + j) = 0) ∨ ((1 : Int) = 0 ∧ ¬ qv VL a = 1) := by exact Or.inl ⟨rfl, c_13, fun j j1 j2 => by omega⟩
    exact cut_26 ((16 - (9 : Int)).toNat + 1) 1 9 e_13 e_14 (Nat.lt_succ_self _) _ _ hP hD hS ls (lv_sub hl [2, 3, 1, 0] rfl)
abbrev BmetX8_isSmall (dC : Nat → ClassId) (dI : Nat → Nat → Nat) (dA : Nat → ClassId) (A : Nat → Prop) (am : Nat) (as_ : Nat) (av : Nat) (aw : Nat) (th : Int) (mn : Int) (sm : Int) (wd : Int) (lp : Int) (mp : Int) (re : Int) (SG : Int → Int) (VL : Int → Int) (wf : Int → Int) (a : Int) (mo : Int) : Int × Int → State → Prop := fun u t => (fun (u : Int × Int) => (fun (z : Int) (sm1 : Int) => va_P (dC, dI) vwCl [(am, .inr (0, [.int (I3 th), .int (I3 mn), .ref as_, .ref av, .ref aw, .int (I3 sm1), .int (I3 wd), .int (I3 lp), .int (I3 mp), .int (I3 re)])), (as_, .inl (dA 0, 60, .inl (iA SG))), (av, .inl (dA 1, 960, .inr (.inl (lA VL)))), (aw, .inl (dA 1, 1024, .inr (.inl (lA wf))))] t.heap ∧ va_K (dC, dI) vwCl (tyA dA) t ∧ va_D A [(am, .inr (0, [.int (I3 th), .int (I3 mn), .ref as_, .ref av, .ref aw, .int (I3 sm1), .int (I3 wd), .int (I3 lp), .int (I3 mp), .int (I3 re)])), (as_, .inl (dA 0, 60, .inl (iA SG))), (av, .inl (dA 1, 960, .inr (.inl (lA VL)))), (aw, .inl (dA 1, 1024, .inr (.inl (lA wf))))]) u.1 u.2) u
abbrev QmetX8_isSmall (dC : Nat → ClassId) (dI : Nat → Nat → Nat) (dA : Nat → ClassId) (A : Nat → Prop) (am : Nat) (as_ : Nat) (av : Nat) (aw : Nat) (th : Int) (mn : Int) (sm : Int) (wd : Int) (lp : Int) (mp : Int) (re : Int) (SG : Int → Int) (VL : Int → Int) (wf : Int → Int) (a : Int) (mo : Int) := va_Qi (fun (rt_ : Int32) => fun (u : Int × Int) => (fun (z : Int) (sm1 : Int) => rt_ = I3 z ∧ (z = if qv VL a = 1 ∧ ((pv VL a : Nat) : Int) ≤ mo then 1 else 0) ∧ (sm1 = if qv VL a = 1 ∧ ((pv VL a : Nat) : Int) ≤ mo then SG a * ((pv VL a : Nat) : Int) else 0)) u.1 u.2) (BmetX8_isSmall dC dI dA A am as_ av aw th mn sm wd lp mp re SG VL wf a mo) A
set_option maxHeartbeats 1000000 in
set_option maxRecDepth 100000 in
theorem metX8_isSmall (l : Launch) (dC : Nat → ClassId) (dI : Nat → Nat → Nat) (dA : Nat → ClassId) (am : Nat) (as_ : Nat) (av : Nat) (aw : Nat) (sz : Nat) (th : Int) (mn : Int) (sm : Int) (wd : Int) (lp : Int) (mp : Int) (re : Int) (SG : Int → Int) (VL : Int → Int) (wf : Int → Int) (a : Int) (mo : Int) (hV : Dg VL) (ha : 0 ≤ a ∧ a < 60) (hmo : 0 ≤ mo ∧ mo < 2147483648) : Met l yX8_isSmall (ws_ yX8_isSmall cX8_isSmall 5 (some .boolean)) ({ frames := 2, cells := 0, slots := 0, locals := 80 }) (va_Pc [.ref am, .int (I3 a), .int (I3 mo)] (fun U => U.heap.size = sz ∧ va_P (dC, dI) vwCl [(am, .inr (0, [.int (I3 th), .int (I3 mn), .ref as_, .ref av, .ref aw, .int (I3 sm), .int (I3 wd), .int (I3 lp), .int (I3 mp), .int (I3 re)])), (as_, .inl (dA 0, 60, .inl (iA SG))), (av, .inl (dA 1, 960, .inr (.inl (lA VL)))), (aw, .inl (dA 1, 1024, .inr (.inl (lA wf))))] U.heap ∧ va_K (dC, dI) vwCl (tyA dA) U ∧ va_D (fun _ => True) [(am, .inr (0, [.int (I3 th), .int (I3 mn), .ref as_, .ref av, .ref aw, .int (I3 sm), .int (I3 wd), .int (I3 lp), .int (I3 mp), .int (I3 re)])), (as_, .inl (dA 0, 60, .inl (iA SG))), (av, .inl (dA 1, 960, .inr (.inl (lA VL)))), (aw, .inl (dA 1, 1024, .inr (.inl (lA wf))))])) (QmetX8_isSmall dC dI dA (va_A [(am, .inr (0, [.int (I3 th), .int (I3 mn), .ref as_, .ref av, .ref aw, .int (I3 sm), .int (I3 wd), .int (I3 lp), .int (I3 mp), .int (I3 re)])), (as_, .inl (dA 0, 60, .inl (iA SG))), (av, .inl (dA 1, 960, .inr (.inl (lA VL)))), (aw, .inl (dA 1, 1024, .inr (.inl (lA wf))))] sz) am as_ av aw th mn sm wd lp mp re SG VL wf a mo) 0 0 (va_A [(am, .inr (0, [.int (I3 th), .int (I3 mn), .ref as_, .ref av, .ref aw, .int (I3 sm), .int (I3 wd), .int (I3 lp), .int (I3 mp), .int (I3 re)])), (as_, .inl (dA 0, 60, .inl (iA SG))), (av, .inl (dA 1, 960, .inr (.inl (lA VL)))), (aw, .inl (dA 1, 1024, .inr (.inl (lA wf))))] sz) := by
  refine Met.ofW (cc := cX8_isSmall) (maxL := 5) (ret := (some .boolean)) (by decide) rfl ?_
  intro p e s m args below meth c s₁ B hml hv
  obtain ⟨rfl, hsz, hP, hK, hD0⟩ := hv
  have hx := B.exec
  have hb := B.bytes
  have hr := B.returns
  have hts := atoms_spec (ws := (ws_ yX8_isSmall cX8_isSmall 5 (some .boolean))) B.pre
  have hts : ∀ w ∈ lw_all, w.before _ s = true := fun w h => hts w (List.mem_cons_of_mem _ h)
  have hown : s.vm.findClass RX8 = some m.cls := findClass_of_methodNamed B.named
  have hlocks := B.notSynchronized
  subst hsz
  have hD := hD0.self (sz := s.heap.size)
  generalize hAe : va_A [(am, .inr (0, [.int (I3 th), .int (I3 mn), .ref as_, .ref av, .ref aw, .int (I3 sm), .int (I3 wd), .int (I3 lp), .int (I3 mp), .int (I3 re)])), (as_, .inl (dA 0, 60, .inl (iA SG))), (av, .inl (dA 1, 960, .inr (.inl (lA VL)))), (aw, .inl (dA 1, 1024, .inr (.inl (lA wf))))] s.heap.size = A at hD ⊢
  have hA : ∀ q : Nat, s.heap.size ≤ q → A q := fun q h => by rw [← hAe]; exact Or.inr h
  have hS : va_S A s.heap s.heap [] := va_S.rf
  have hP : va_P (dC, dI) vwCl [(am, .inr (0, [.int (I3 th), .int (I3 mn), .ref as_, .ref av, .ref aw, .int (I3 sm), .int (I3 wd), .int (I3 lp), .int (I3 mp), .int (I3 re)])), (as_, .inl (dA 0, 60, .inl (iA SG))), (av, .inl (dA 1, 960, .inr (.inl (lA VL)))), (aw, .inl (dA 1, 1024, .inr (.inl (lA wf))))] s.heap := hP
  have hl := lv_entry ([.ref am, .int (I3 a), .int (I3 mo)]) (n := 5) (Nat.le_of_ble_eq_true rfl)
  rw [lg_entry_eq]
  generalize (lg_sl ([.ref am, .int (I3 a), .int (I3 mo)]) ++ List.replicate (5 - (lg_sl ([.ref am, .int (I3 a), .int (I3 mo)])).length) Slot.unset).toArray = ls at hl ⊢
  have hl : lv_has ls 5 [(0, .ref am), (1, .int (I3 a)), (2, .int (I3 mo))] := hl
  have cut_32 : ∀ (fuel_32 : Nat), ∀ (b_ : Int) (k : Int), (1 ≤ k ∧ k ≤ 8) → ((b_ = 1 ∧ qv VL a = 1 ∧ VL (16 * a) ≤ mo ∧ ∀ j : Int, 1 ≤ j → j < k → VL (16 * a + j) = 0) ∨ (b_ = 0 ∧ ¬ (qv VL a = 1 ∧ ((pv VL a : Nat) : Int) ≤ mo))) → ((8 - k).toNat < fuel_32) → ∀ (H : Heap) (locs : List Loc), va_P (dC, dI) vwCl [(am, .inr (0, [.int (I3 th), .int (I3 mn), .ref as_, .ref av, .ref aw, .int (I3 sm), .int (I3 wd), .int (I3 lp), .int (I3 mp), .int (I3 re)])), (as_, .inl (dA 0, 60, .inl (iA SG))), (av, .inl (dA 1, 960, .inr (.inl (lA VL)))), (aw, .inl (dA 1, 1024, .inr (.inl (lA wf))))] H → va_D A [(am, .inr (0, [.int (I3 th), .int (I3 mn), .ref as_, .ref av, .ref aw, .int (I3 sm), .int (I3 wd), .int (I3 lp), .int (I3 mp), .int (I3 re)])), (as_, .inl (dA 0, 60, .inl (iA SG))), (av, .inl (dA 1, 960, .inr (.inl (lA VL)))), (aw, .inl (dA 1, 1024, .inr (.inl (lA wf))))] → va_S A s.heap H locs → ∀ (ls : Array Slot), lv_has ls 5 [(0, .ref am), (1, .int (I3 a)), (2, .int (I3 mo)), (3, .int (I3 b_)), (4, .int (I3 k))] → W p l e (headSpec (ws_ yX8_isSmall cX8_isSmall 5 (some .boolean)) ({ frames := 2, cells := 0, slots := 0, locals := 80 })).room s m ([.ref am, .int (I3 a), .int (I3 mo)] : List Value).toArray below meth c H locs 0 0 (MQ below (QmetX8_isSmall dC dI dA A am as_ av aw th mn sm wd lp mp re SG VL wf a mo) ([.ref am, .int (I3 a), .int (I3 mo)] : List Value).toArray s 0 0 A) (F0 m 32 ls []) := by
    intro fuel_32
    induction fuel_32 with
    | zero =>
      intro b_ k hk hbb hm
      exact absurd hm (Nat.not_lt_zero _)
    | succ fuel_32 ih_32 =>
      intro b_ k hk hbb hm_32 H locs hP hD hS ls hl
      have hp_ := pv_s hV (a := a) (M := mo) (by omega)
      refine lv_iload hx hb dX8_isSmall_32 (lv_at hl 4 rfl) ?_
      refine lv_bipush (v := I3 (8)) hx hb dX8_isSmall_34 (by decide) ?_
      refine ix_icmp_ge (tgt := 72) hx hb (by first | decide | assumption | (constructor <;> omega)) (by first | decide | assumption | (constructor <;> omega)) dX8_isSmall_36 (by decide) (fun c_36 => ?_) (fun c_36 => ?_)
      · skip
        refine lv_aload_n hx hb dX8_isSmall_72 rfl (lv_at hl 0 rfl) ?_
        refine lv_iload_n hx hb dX8_isSmall_73 rfl (lv_at hl 3 rfl) ?_
        refine ix_if_eq (tgt := 97) hx hb (by first | decide | assumption | (constructor <;> omega)) dX8_isSmall_74 (by decide) (fun c_74 => ?_) (fun c_74 => ?_)
        · skip
          refine lv_iconst (v := I3 (0)) hx hb dX8_isSmall_97 rfl ?_
          refine va_put (D := (dC, dI)) (ci := 0) (v := .int (I3 0)) (ty := .int) (C := RX8) (T := TX8) (N := 10) hx hb hts in_X8 tyX8 tyX8_ok nmX8 hown hK hP hD hS 0 rfl rfl 5 (by decide) (hts _ q918) (fun _ h9 => h9) rfl (by decide +kernel) rfl rfl (Nat.le_of_ble_eq_true rfl) dX8_isSmall_98 (fun H locs hP hD hS => ?_)
          have hP : va_P (dC, dI) vwCl [(am, .inr (0, [.int (I3 th), .int (I3 mn), .ref as_, .ref av, .ref aw, .int (I3 0), .int (I3 wd), .int (I3 lp), .int (I3 mp), .int (I3 re)])), (as_, .inl (dA 0, 60, .inl (iA SG))), (av, .inl (dA 1, 960, .inr (.inl (lA VL)))), (aw, .inl (dA 1, 1024, .inr (.inl (lA wf))))] H := hP
          have hD : va_D A [(am, .inr (0, [.int (I3 th), .int (I3 mn), .ref as_, .ref av, .ref aw, .int (I3 0), .int (I3 wd), .int (I3 lp), .int (I3 mp), .int (I3 re)])), (as_, .inl (dA 0, 60, .inl (iA SG))), (av, .inl (dA 1, 960, .inr (.inl (lA VL)))), (aw, .inl (dA 1, 1024, .inr (.inl (lA wf))))] := hD
          refine lv_iload_n hx hb dX8_isSmall_101 rfl (lv_at hl 3 rfl) ?_
          have hbz := hbb
          have o_1 : b_ = if qv VL a = 1 ∧ ((pv VL a : Nat) : Int) ≤ mo then 1 else 0 := by rcases hbb with ⟨h1, h2, h3, h4⟩ | ⟨h1, h2⟩; rw [if_pos ⟨h2, hp_.1.mpr ⟨h3, fun j j1 j2 => h4 j j1 (by omega)⟩⟩]; exact h1; rw [if_neg h2]; exact h1
          have o_2 : (0 : Int) = if qv VL a = 1 ∧ ((pv VL a : Nat) : Int) ≤ mo then SG a * ((pv VL a : Nat) : Int) else 0 := by rcases hbb with ⟨h1, h2, h3, h4⟩ | ⟨h1, h2⟩; (first | omega | (rw [if_pos ⟨h2, hp_.1.mpr ⟨h3, fun j j1 j2 => h4 j j1 (by omega)⟩⟩, hp_.2 (fun j j1 j2 => h4 j j1 (by omega))])); (first | omega | (rw [if_neg h2]; done))
          exact W.zret (v := I3 b_) hx hb hr (nar_z (by omega)) (fun t ht hW => ⟨⟨I3 b_, (b_, 0), rfl, ⟨rfl, ⟨o_1, o_2⟩⟩, by rw [ht]; exact hP, va_K.moved hW.alike hK, hD⟩, hS.F ht⟩) hS.2.2 dX8_isSmall_102
        · skip
          refine lv_aload_n hx hb dX8_isSmall_77 rfl (lv_at hl 0 rfl) ?_
          refine va_get (D := (dC, dI)) (ci := 0) (v := .ref as_) (C := RX8) (T := TX8) (N := 10) hx hb hts in_X8 hown hK hP 0 rfl rfl 2 (by decide) (hts _ q915) (fun _ h9 => h9) rfl dX8_isSmall_78 ?_
          refine lv_iload_n hx hb dX8_isSmall_81 rfl (lv_at hl 1 rfl) ?_
          refine ix_iald hx hb hK hP 1 0 rfl rfl (Nat.le_of_ble_eq_true rfl) (by omega) dX8_isSmall_82 ?_
          refine lv_aload_n hx hb dX8_isSmall_83 rfl (lv_at hl 0 rfl) ?_
          refine va_get (D := (dC, dI)) (ci := 0) (v := .ref av) (C := RX8) (T := TX8) (N := 10) hx hb hts in_X8 hown hK hP 0 rfl rfl 3 (by decide) (hts _ q916) (fun _ h9 => h9) rfl dX8_isSmall_84 ?_
          refine lv_bipush (v := I3 (16)) hx hb dX8_isSmall_87 (by decide) ?_
          refine lv_iload_n hx hb dX8_isSmall_89 rfl (lv_at hl 1 rfl) ?_
          refine ix_imul hx hb dX8_isSmall_90 ?_
          refine ix_lald hx hb hK hP 2 1 rfl rfl (Nat.le_of_ble_eq_true rfl) (by omega) dX8_isSmall_91 ?_
          have g_91 := hV (16 * a)
          refine ix_l2i hx hb dX8_isSmall_92 ?_
          refine ix_imul hx hb dX8_isSmall_93 ?_
          refine lv_goto (tgt := 98) hx hb dX8_isSmall_94 (by decide) ?_
          refine va_put (D := (dC, dI)) (ci := 0) (v := .int (I3 ((SG a) * (VL (16 * a))))) (ty := .int) (C := RX8) (T := TX8) (N := 10) hx hb hts in_X8 tyX8 tyX8_ok nmX8 hown hK hP hD hS 0 rfl rfl 5 (by decide) (hts _ q918) (fun _ h9 => h9) rfl (by decide +kernel) rfl rfl (Nat.le_of_ble_eq_true rfl) dX8_isSmall_98 (fun H locs hP hD hS => ?_)
          have hP : va_P (dC, dI) vwCl [(am, .inr (0, [.int (I3 th), .int (I3 mn), .ref as_, .ref av, .ref aw, .int (I3 ((SG a) * (VL (16 * a)))), .int (I3 wd), .int (I3 lp), .int (I3 mp), .int (I3 re)])), (as_, .inl (dA 0, 60, .inl (iA SG))), (av, .inl (dA 1, 960, .inr (.inl (lA VL)))), (aw, .inl (dA 1, 1024, .inr (.inl (lA wf))))] H := hP
          have hD : va_D A [(am, .inr (0, [.int (I3 th), .int (I3 mn), .ref as_, .ref av, .ref aw, .int (I3 ((SG a) * (VL (16 * a)))), .int (I3 wd), .int (I3 lp), .int (I3 mp), .int (I3 re)])), (as_, .inl (dA 0, 60, .inl (iA SG))), (av, .inl (dA 1, 960, .inr (.inl (lA VL)))), (aw, .inl (dA 1, 1024, .inr (.inl (lA wf))))] := hD
          refine lv_iload_n hx hb dX8_isSmall_101 rfl (lv_at hl 3 rfl) ?_
          have hbz := hbb
          have o_3 : b_ = if qv VL a = 1 ∧ ((pv VL a : Nat) : Int) ≤ mo then 1 else 0 := by rcases hbb with ⟨h1, h2, h3, h4⟩ | ⟨h1, h2⟩; rw [if_pos ⟨h2, hp_.1.mpr ⟨h3, fun j j1 j2 => h4 j j1 (by omega)⟩⟩]; exact h1; rw [if_neg h2]; exact h1
          have o_4 : ((SG a) * (VL (16 * a))) = if qv VL a = 1 ∧ ((pv VL a : Nat) : Int) ≤ mo then SG a * ((pv VL a : Nat) : Int) else 0 := by rcases hbb with ⟨h1, h2, h3, h4⟩ | ⟨h1, h2⟩; (first | omega | (rw [if_pos ⟨h2, hp_.1.mpr ⟨h3, fun j j1 j2 => h4 j j1 (by omega)⟩⟩, hp_.2 (fun j j1 j2 => h4 j j1 (by omega))])); (first | omega | (rw [if_neg h2]; done))
          exact W.zret (v := I3 b_) hx hb hr (nar_z (by omega)) (fun t ht hW => ⟨⟨I3 b_, (b_, ((SG a) * (VL (16 * a)))), rfl, ⟨rfl, ⟨o_3, o_4⟩⟩, by rw [ht]; exact hP, va_K.moved hW.alike hK, hD⟩, hS.F ht⟩) hS.2.2 dX8_isSmall_102
      · skip
        refine lv_iload_n hx hb dX8_isSmall_39 rfl (lv_at hl 3 rfl) ?_
        refine ix_if_eq (tgt := 64) hx hb (by first | decide | assumption | (constructor <;> omega)) dX8_isSmall_40 (by decide) (fun c_40 => ?_) (fun c_40 => ?_)
        · skip
          refine lv_iconst (v := I3 (0)) hx hb dX8_isSmall_64 rfl ?_
          refine lv_istore_n (lv' := [(3, .int (I3 0)), (0, .ref am), (1, .int (I3 a)), (2, .int (I3 mo)), (4, .int (I3 k))]) hx hb dX8_isSmall_65 rfl hl (by decide) rfl (fun ls hl => ?_)
          refine lv_iinc (v := I3 (k + 1)) (lv' := [(4, .int (I3 (k + 1))), (3, .int (I3 0)), (0, .ref am), (1, .int (I3 a)), (2, .int (I3 mo))]) hx hb dX8_isSmall_66 hl (k := 4) rfl (I3_add _ _) (by decide) rfl (fun ls hl => ?_)
          refine lv_goto (tgt := 32) hx hb dX8_isSmall_69 (by decide) ?_
          have hp_ := pv_s hV (a := a) (M := mo) (by omega)
          have e_5 : 1 ≤ (k + 1) ∧ (k + 1) ≤ 8 := by first | assumption | omega | (constructor <;> omega)
          have e_6 : ((0 : Int) = 1 ∧ qv VL a = 1 ∧ VL (16 * a) ≤ mo ∧ ∀ j : Int, 1 ≤ j → j < (k + 1) → VL (16 * a + j) = 0) ∨ ((0 : Int) = 0 ∧ ¬ (qv VL a = 1 ∧ ((pv VL a : Nat) : Int) ≤ mo)) := by rcases hbb with ⟨h1, h2, h3, h4⟩ | ⟨h1, h2⟩; omega; exact Or.inr ⟨rfl, h2⟩
          have e_7 : (8 - (k + 1)).toNat < fuel_32 := by omega
          exact ih_32 0 (k + 1) e_5 e_6 e_7 _ _ hP hD hS ls (lv_sub hl [2, 3, 4, 1, 0] rfl)
        · skip
          refine lv_aload_n hx hb dX8_isSmall_43 rfl (lv_at hl 0 rfl) ?_
          refine va_get (D := (dC, dI)) (ci := 0) (v := .ref av) (C := RX8) (T := TX8) (N := 10) hx hb hts in_X8 hown hK hP 0 rfl rfl 3 (by decide) (hts _ q916) (fun _ h9 => h9) rfl dX8_isSmall_44 ?_
          refine lv_bipush (v := I3 (16)) hx hb dX8_isSmall_47 (by decide) ?_
          refine lv_iload_n hx hb dX8_isSmall_49 rfl (lv_at hl 1 rfl) ?_
          refine ix_imul hx hb dX8_isSmall_50 ?_
          refine lv_iload hx hb dX8_isSmall_51 (lv_at hl 4 rfl) ?_
          refine ix_iadd hx hb dX8_isSmall_53 ?_
          refine ix_lald hx hb hK hP 2 1 rfl rfl (Nat.le_of_ble_eq_true rfl) (by omega) dX8_isSmall_54 ?_
          have g_54 := hV ((16 * a) + k)
          refine lv_lconst (v := L6 0) hx hb dX8_isSmall_55 (by decide) ?_
          refine ix_lcmp_ne (tgt := 64) hx hb (by first | decide | assumption | (constructor <;> omega)) (by first | decide | assumption | (constructor <;> omega)) dX8_isSmall_56 dX8_isSmall_57 (by decide) (fun c_56 => ?_) (fun c_56 => ?_)
          · skip
            refine lv_iconst (v := I3 (0)) hx hb dX8_isSmall_64 rfl ?_
            refine lv_istore_n (lv' := [(3, .int (I3 0)), (0, .ref am), (1, .int (I3 a)), (2, .int (I3 mo)), (4, .int (I3 k))]) hx hb dX8_isSmall_65 rfl hl (by decide) rfl (fun ls hl => ?_)
            refine lv_iinc (v := I3 (k + 1)) (lv' := [(4, .int (I3 (k + 1))), (3, .int (I3 0)), (0, .ref am), (1, .int (I3 a)), (2, .int (I3 mo))]) hx hb dX8_isSmall_66 hl (k := 4) rfl (I3_add _ _) (by decide) rfl (fun ls hl => ?_)
            refine lv_goto (tgt := 32) hx hb dX8_isSmall_69 (by decide) ?_
            have hp_ := pv_s hV (a := a) (M := mo) (by omega)
            have e_8 : 1 ≤ (k + 1) ∧ (k + 1) ≤ 8 := by first | assumption | omega | (constructor <;> omega)
            have e_9 : ((0 : Int) = 1 ∧ qv VL a = 1 ∧ VL (16 * a) ≤ mo ∧ ∀ j : Int, 1 ≤ j → j < (k + 1) → VL (16 * a + j) = 0) ∨ ((0 : Int) = 0 ∧ ¬ (qv VL a = 1 ∧ ((pv VL a : Nat) : Int) ≤ mo)) := by exact Or.inr ⟨rfl, fun q => c_56 ((hp_.1.mp q.2).2 k (by omega) (by omega))⟩
            have e_10 : (8 - (k + 1)).toNat < fuel_32 := by omega
            exact ih_32 0 (k + 1) e_8 e_9 e_10 _ _ hP hD hS ls (lv_sub hl [2, 3, 4, 1, 0] rfl)
          · skip
            refine lv_iconst (v := I3 (1)) hx hb dX8_isSmall_60 rfl ?_
            refine lv_goto (tgt := 65) hx hb dX8_isSmall_61 (by decide) ?_
            refine lv_istore_n (lv' := [(3, .int (I3 1)), (0, .ref am), (1, .int (I3 a)), (2, .int (I3 mo)), (4, .int (I3 k))]) hx hb dX8_isSmall_65 rfl hl (by decide) rfl (fun ls hl => ?_)
            refine lv_iinc (v := I3 (k + 1)) (lv' := [(4, .int (I3 (k + 1))), (3, .int (I3 1)), (0, .ref am), (1, .int (I3 a)), (2, .int (I3 mo))]) hx hb dX8_isSmall_66 hl (k := 4) rfl (I3_add _ _) (by decide) rfl (fun ls hl => ?_)
            refine lv_goto (tgt := 32) hx hb dX8_isSmall_69 (by decide) ?_
            have hp_ := pv_s hV (a := a) (M := mo) (by omega)
            have e_11 : 1 ≤ (k + 1) ∧ (k + 1) ≤ 8 := by first | assumption | omega | (constructor <;> omega)
            have e_12 : ((1 : Int) = 1 ∧ qv VL a = 1 ∧ VL (16 * a) ≤ mo ∧ ∀ j : Int, 1 ≤ j → j < (k + 1) → VL (16 * a + j) = 0) ∨ ((1 : Int) = 0 ∧ ¬ (qv VL a = 1 ∧ ((pv VL a : Nat) : Int) ≤ mo)) := by rcases hbb with ⟨h1, h2, h3, h4⟩ | ⟨h1, h2⟩; exact Or.inl ⟨rfl, h2, h3, fun j j1 j2 => by by_cases q : j = k; rw [q]; exact c_56; exact h4 j j1 (by omega)⟩; omega
            have e_13 : (8 - (k + 1)).toNat < fuel_32 := by omega
            exact ih_32 1 (k + 1) e_11 e_12 e_13 _ _ hP hD hS ls (lv_sub hl [2, 3, 4, 1, 0] rfl)
  refine lv_aload_n hx hb dX8_isSmall_0 rfl (lv_at hl 0 rfl) ?_
  refine lv_iload_n hx hb dX8_isSmall_1 rfl (lv_at hl 1 rfl) ?_
  have h_14 : Dg VL := by first | assumption | omega | (constructor <;> omega)
  have h_15 : 0 ≤ a ∧ a < 60 := by first | assumption | omega | (constructor <;> omega)
  have hPc := hP.sub (ws' := [(am, .inr (0, [.int (I3 th), .int (I3 mn), .ref as_, .ref av, .ref aw, .int (I3 sm), .int (I3 wd), .int (I3 lp), .int (I3 mp), .int (I3 re)])), (as_, .inl (dA 0, 60, .inl (iA SG))), (av, .inl (dA 1, 960, .inr (.inl (lA VL)))), (aw, .inl (dA 1, 1024, .inr (.inl (lA wf))))]) [0, 1, 2, 3] rfl
  have hDc := hD.sub (ws' := [(am, .inr (0, [.int (I3 th), .int (I3 mn), .ref as_, .ref av, .ref aw, .int (I3 sm), .int (I3 wd), .int (I3 lp), .int (I3 mp), .int (I3 re)])), (as_, .inl (dA 0, 60, .inl (iA SG))), (av, .inl (dA 1, 960, .inr (.inl (lA VL)))), (aw, .inl (dA 1, 1024, .inr (.inl (lA wf))))]) [0, 1, 2, 3] (by decide) rfl
  have hFc := va_free (wc := [(am, .inr (0, [.int (I3 th), .int (I3 mn), .ref as_, .ref av, .ref aw, .int (I3 sm), .int (I3 wd), .int (I3 lp), .int (I3 mp), .int (I3 re)])), (as_, .inl (dA 0, 60, .inl (iA SG))), (av, .inl (dA 1, 960, .inr (.inl (lA VL)))), (aw, .inl (dA 1, 1024, .inr (.inl (lA wf))))]) hD hS hA [0, 1, 2, 3] rfl
  refine va_calli (va_runV (As := [.int (I3 a)]) (rest := []) ⟨hx, hb, hml, hown, hts⟩ (metX8_isWhole l dC dI dA am as_ av aw s.heap.size th mn sm wd lp mp re SG VL wf a h_14 h_15) (cwV 1 hts (lw_V q1054 q1056 qs36 q66 q1057) rfl rfl rfl (by decide +kernel) ⟨Nat.le_of_ble_eq_true rfl, Nat.le_of_ble_eq_true rfl⟩) ⟨fun a U g mk q => by obtain ⟨q0, q1, qP, qK, qD⟩ := q; exact ⟨q0, q1, qP, va_K.moved (u := U) (U := U.calling g mk a) (Vm.Alike.refl U.vm) qK, qD⟩, va_recv hK hPc (ci := 0) (q0 := 0) rfl rfl, fun U hU hW => ⟨rfl, by rw [hU], by rw [hU]; exact hPc, va_K.moved hW.alike hK, hDc.weaken (fun _ _ _ _ => trivial)⟩⟩ rfl rfl hl.1 rfl (lv_room (Nat.le_of_ble_eq_true rfl)) dX8_isSmall_2 ⟨Nat.le_of_ble_eq_true rfl, Nat.le_of_ble_eq_true rfl⟩) hS (fun q _ h => hFc q h) hFc (fun r_2 u t H1 locs ht hvm hw hB hz1 hk1 hS => ?_)
  obtain ⟨z_2, rfl⟩ : ∃ z, z = u := ⟨_, rfl⟩
  obtain ⟨rfl, p0_2⟩ : r_2 = I3 z_2 ∧ (z_2 = if qv VL a = 1 then 1 else 0) := hw
  obtain ⟨hP1, hK1, hD1⟩ := hB
  rw [ht] at hP1
  obtain ⟨hP, hD⟩ := va_join (wr := []) (w1 := [(am, .inr (0, [.int (I3 th), .int (I3 mn), .ref as_, .ref av, .ref aw, .int (I3 sm), .int (I3 wd), .int (I3 lp), .int (I3 mp), .int (I3 re)])), (as_, .inl (dA 0, 60, .inl (iA SG))), (av, .inl (dA 1, 960, .inr (.inl (lA VL)))), (aw, .inl (dA 1, 1024, .inr (.inl (lA wf))))]) hP hD [0, 1, 2, 3] [] rfl rfl (by decide) (by decide) hk1 hFc hP1 hD1
  generalize H1 = H at hP hS ⊢
  have hP : va_P (dC, dI) vwCl [(am, .inr (0, [.int (I3 th), .int (I3 mn), .ref as_, .ref av, .ref aw, .int (I3 sm), .int (I3 wd), .int (I3 lp), .int (I3 mp), .int (I3 re)])), (as_, .inl (dA 0, 60, .inl (iA SG))), (av, .inl (dA 1, 960, .inr (.inl (lA VL)))), (aw, .inl (dA 1, 1024, .inr (.inl (lA wf))))] H := hP
  have hD : va_D A [(am, .inr (0, [.int (I3 th), .int (I3 mn), .ref as_, .ref av, .ref aw, .int (I3 sm), .int (I3 wd), .int (I3 lp), .int (I3 mp), .int (I3 re)])), (as_, .inl (dA 0, 60, .inl (iA SG))), (av, .inl (dA 1, 960, .inr (.inl (lA VL)))), (aw, .inl (dA 1, 1024, .inr (.inl (lA wf))))] := hD
  have y_2 := b01 p0_2
  refine ix_if_eq (tgt := 27) hx hb (by first | decide | assumption | (constructor <;> omega)) dX8_isSmall_5 (by decide) (fun c_5 => ?_) (fun c_5 => ?_)
  · skip
    refine lv_iconst (v := I3 (0)) hx hb dX8_isSmall_27 rfl ?_
    refine lv_istore_n (lv' := [(3, .int (I3 0)), (0, .ref am), (1, .int (I3 a)), (2, .int (I3 mo))]) hx hb dX8_isSmall_28 rfl hl (by decide) rfl (fun ls hl => ?_)
    refine lv_iconst (v := I3 (1)) hx hb dX8_isSmall_29 rfl ?_
    refine lv_istore (lv' := [(4, .int (I3 1)), (3, .int (I3 0)), (0, .ref am), (1, .int (I3 a)), (2, .int (I3 mo))]) hx hb dX8_isSmall_30 hl (by decide) rfl (fun ls hl => ?_)
    have hp_ := pv_s hV (a := a) (M := mo) (by omega)
    have e_16 : 1 ≤ (1 : Int) ∧ (1 : Int) ≤ 8 := by first | assumption | omega | (constructor <;> omega)
    have e_17 : ((0 : Int) = 1 ∧ qv VL a = 1 ∧ VL (16 * a) ≤ mo ∧ ∀ j : Int, 1 ≤ j → j < (1 : Int) → VL (16 * a + j) = 0) ∨ ((0 : Int) = 0 ∧ ¬ (qv VL a = 1 ∧ ((pv VL a : Nat) : Int) ≤ mo)) := by first | (refine Or.inl ⟨rfl, by omega, by assumption, fun j j1 j2 => by omega⟩; done) | (refine Or.inr ⟨rfl, fun q => ?_⟩; have q2 := (hp_.1.mp q.2).1; omega)
    exact cut_32 ((8 - (1 : Int)).toNat + 1) 0 1 e_16 e_17 (Nat.lt_succ_self _) _ _ hP hD hS ls (lv_sub hl [2, 3, 4, 1, 0] rfl)
  · skip
    refine lv_aload_n hx hb dX8_isSmall_8 rfl (lv_at hl 0 rfl) ?_
    refine va_get (D := (dC, dI)) (ci := 0) (v := .ref av) (C := RX8) (T := TX8) (N := 10) hx hb hts in_X8 hown hK hP 0 rfl rfl 3 (by decide) (hts _ q916) (fun _ h9 => h9) rfl dX8_isSmall_9 ?_
    refine lv_bipush (v := I3 (16)) hx hb dX8_isSmall_12 (by decide) ?_
    refine lv_iload_n hx hb dX8_isSmall_14 rfl (lv_at hl 1 rfl) ?_
    refine ix_imul hx hb dX8_isSmall_15 ?_
    refine ix_lald hx hb hK hP 2 1 rfl rfl (Nat.le_of_ble_eq_true rfl) (by omega) dX8_isSmall_16 ?_
    have g_16 := hV (16 * a)
    refine lv_iload_n hx hb dX8_isSmall_17 rfl (lv_at hl 2 rfl) ?_
    refine ix_i2l hx hb (by first | decide | assumption | (constructor <;> omega)) dX8_isSmall_18 ?_
    refine ix_lcmp_gt (tgt := 27) hx hb (by first | decide | assumption | (constructor <;> omega)) (by first | decide | assumption | (constructor <;> omega)) dX8_isSmall_19 dX8_isSmall_20 (by decide) (fun c_19 => ?_) (fun c_19 => ?_)
    · skip
      refine lv_iconst (v := I3 (0)) hx hb dX8_isSmall_27 rfl ?_
      refine lv_istore_n (lv' := [(3, .int (I3 0)), (0, .ref am), (1, .int (I3 a)), (2, .int (I3 mo))]) hx hb dX8_isSmall_28 rfl hl (by decide) rfl (fun ls hl => ?_)
      refine lv_iconst (v := I3 (1)) hx hb dX8_isSmall_29 rfl ?_
      refine lv_istore (lv' := [(4, .int (I3 1)), (3, .int (I3 0)), (0, .ref am), (1, .int (I3 a)), (2, .int (I3 mo))]) hx hb dX8_isSmall_30 hl (by decide) rfl (fun ls hl => ?_)
      have hp_ := pv_s hV (a := a) (M := mo) (by omega)
      have e_18 : 1 ≤ (1 : Int) ∧ (1 : Int) ≤ 8 := by first | assumption | omega | (constructor <;> omega)
      have e_19 : ((0 : Int) = 1 ∧ qv VL a = 1 ∧ VL (16 * a) ≤ mo ∧ ∀ j : Int, 1 ≤ j → j < (1 : Int) → VL (16 * a + j) = 0) ∨ ((0 : Int) = 0 ∧ ¬ (qv VL a = 1 ∧ ((pv VL a : Nat) : Int) ≤ mo)) := by first | (refine Or.inl ⟨rfl, by omega, by assumption, fun j j1 j2 => by omega⟩; done) | (refine Or.inr ⟨rfl, fun q => ?_⟩; have q2 := (hp_.1.mp q.2).1; omega)
      exact cut_32 ((8 - (1 : Int)).toNat + 1) 0 1 e_18 e_19 (Nat.lt_succ_self _) _ _ hP hD hS ls (lv_sub hl [2, 3, 4, 1, 0] rfl)
    · skip
      refine lv_iconst (v := I3 (1)) hx hb dX8_isSmall_23 rfl ?_
      refine lv_goto (tgt := 28) hx hb dX8_isSmall_24 (by decide) ?_
      refine lv_istore_n (lv' := [(3, .int (I3 1)), (0, .ref am), (1, .int (I3 a)), (2, .int (I3 mo))]) hx hb dX8_isSmall_28 rfl hl (by decide) rfl (fun ls hl => ?_)
      refine lv_iconst (v := I3 (1)) hx hb dX8_isSmall_29 rfl ?_
      refine lv_istore (lv' := [(4, .int (I3 1)), (3, .int (I3 1)), (0, .ref am), (1, .int (I3 a)), (2, .int (I3 mo))]) hx hb dX8_isSmall_30 hl (by decide) rfl (fun ls hl => ?_)
      have hp_ := pv_s hV (a := a) (M := mo) (by omega)
      have e_20 : 1 ≤ (1 : Int) ∧ (1 : Int) ≤ 8 := by first | assumption | omega | (constructor <;> omega)
      have e_21 : ((1 : Int) = 1 ∧ qv VL a = 1 ∧ VL (16 * a) ≤ mo ∧ ∀ j : Int, 1 ≤ j → j < (1 : Int) → VL (16 * a + j) = 0) ∨ ((1 : Int) = 0 ∧ ¬ (qv VL a = 1 ∧ ((pv VL a : Nat) : Int) ≤ mo)) := by first | (refine Or.inl ⟨rfl, by omega, by assumption, fun j j1 j2 => by omega⟩; done) | (refine Or.inr ⟨rfl, fun q => ?_⟩; have q2 := (hp_.1.mp q.2).1; omega)
      exact cut_32 ((8 - (1 : Int)).toNat + 1) 1 1 e_20 e_21 (Nat.lt_succ_self _) _ _ hP hD hS ls (lv_sub hl [2, 3, 4, 1, 0] rfl)
