/-! the model: rows, third part -/
set_option maxRecDepth 100000
abbrev BmetX8_length (dC : Nat → ClassId) (dI : Nat → Nat → Nat) (dA : Nat → ClassId) (A : Nat → Prop) (am : Nat) (as_ : Nat) (av : Nat) (aw : Nat) (th : Int) (mn : Int) (sm : Int) (wd : Int) (lp : Int) (mp : Int) (re : Int) (SG : Int → Int) (VL : Int → Int) (wf : Int → Int) (r : Int) : Int → State → Prop := fun u t => (fun (u : Int) => (fun (z : Int) => va_P (dC, dI) vwCl [(am, .inr (0, [.int (I3 th), .int (I3 mn), .ref as_, .ref av, .ref aw, .int (I3 sm), .int (I3 wd), .int (I3 lp), .int (I3 mp), .int (I3 re)])), (as_, .inl (dA 0, 60, .inl (iA SG))), (av, .inl (dA 1, 960, .inr (.inl (lA VL)))), (aw, .inl (dA 1, 1024, .inr (.inl (lA wf))))] t.heap ∧ va_K (dC, dI) vwCl (tyA dA) t ∧ va_D A [(am, .inr (0, [.int (I3 th), .int (I3 mn), .ref as_, .ref av, .ref aw, .int (I3 sm), .int (I3 wd), .int (I3 lp), .int (I3 mp), .int (I3 re)])), (as_, .inl (dA 0, 60, .inl (iA SG))), (av, .inl (dA 1, 960, .inr (.inl (lA VL)))), (aw, .inl (dA 1, 1024, .inr (.inl (lA wf))))]) u) u
abbrev QmetX8_length (dC : Nat → ClassId) (dI : Nat → Nat → Nat) (dA : Nat → ClassId) (A : Nat → Prop) (am : Nat) (as_ : Nat) (av : Nat) (aw : Nat) (th : Int) (mn : Int) (sm : Int) (wd : Int) (lp : Int) (mp : Int) (re : Int) (SG : Int → Int) (VL : Int → Int) (wf : Int → Int) (r : Int) := va_Qi (fun (rt_ : Int32) => fun (u : Int) => (fun (z : Int) => rt_ = I3 z ∧ (z = ((bl (rv wf r) : Nat) : Int))) u) (BmetX8_length dC dI dA A am as_ av aw th mn sm wd lp mp re SG VL wf r) A
set_option maxHeartbeats 1000000 in
set_option maxRecDepth 100000 in
/-- how many bits -/
theorem metX8_length (l : Launch) (dC : Nat → ClassId) (dI : Nat → Nat → Nat) (dA : Nat → ClassId) (am : Nat) (as_ : Nat) (av : Nat) (aw : Nat) (sz : Nat) (th : Int) (mn : Int) (sm : Int) (wd : Int) (lp : Int) (mp : Int) (re : Int) (SG : Int → Int) (VL : Int → Int) (wf : Int → Int) (r : Int) (hr : 0 ≤ r ∧ r < 16) (hW : Dg wf) : Met l yX8_length (ws_ yX8_length cX8_length 4 (some .int)) ({ frames := 1, cells := 0, slots := 0, locals := 40 }) (va_Pc [.ref am, .int (I3 r)] (fun U => U.heap.size = sz ∧ va_P (dC, dI) vwCl [(am, .inr (0, [.int (I3 th), .int (I3 mn), .ref as_, .ref av, .ref aw, .int (I3 sm), .int (I3 wd), .int (I3 lp), .int (I3 mp), .int (I3 re)])), (as_, .inl (dA 0, 60, .inl (iA SG))), (av, .inl (dA 1, 960, .inr (.inl (lA VL)))), (aw, .inl (dA 1, 1024, .inr (.inl (lA wf))))] U.heap ∧ va_K (dC, dI) vwCl (tyA dA) U ∧ va_D (fun _ => True) [(am, .inr (0, [.int (I3 th), .int (I3 mn), .ref as_, .ref av, .ref aw, .int (I3 sm), .int (I3 wd), .int (I3 lp), .int (I3 mp), .int (I3 re)])), (as_, .inl (dA 0, 60, .inl (iA SG))), (av, .inl (dA 1, 960, .inr (.inl (lA VL)))), (aw, .inl (dA 1, 1024, .inr (.inl (lA wf))))])) (QmetX8_length dC dI dA (va_A [(am, .inr (0, [.int (I3 th), .int (I3 mn), .ref as_, .ref av, .ref aw, .int (I3 sm), .int (I3 wd), .int (I3 lp), .int (I3 mp), .int (I3 re)])), (as_, .inl (dA 0, 60, .inl (iA SG))), (av, .inl (dA 1, 960, .inr (.inl (lA VL)))), (aw, .inl (dA 1, 1024, .inr (.inl (lA wf))))] sz) am as_ av aw th mn sm wd lp mp re SG VL wf r) 0 0 (va_A [(am, .inr (0, [.int (I3 th), .int (I3 mn), .ref as_, .ref av, .ref aw, .int (I3 sm), .int (I3 wd), .int (I3 lp), .int (I3 mp), .int (I3 re)])), (as_, .inl (dA 0, 60, .inl (iA SG))), (av, .inl (dA 1, 960, .inr (.inl (lA VL)))), (aw, .inl (dA 1, 1024, .inr (.inl (lA wf))))] sz) := by
  refine Met.ofW (cc := cX8_length) (maxL := 4) (ret := (some .int)) (by decide) rfl ?_
  intro p e s m args below meth c s₁ B hml hv
  obtain ⟨rfl, hsz, hP, hK, hD0⟩ := hv
  have hx := B.exec
  have hb := B.bytes
  have hr := B.returns
  have hts := atoms_spec (ws := (ws_ yX8_length cX8_length 4 (some .int))) B.pre
  have hts : ∀ w ∈ lw_all, w.before _ s = true := fun w h => hts w (List.mem_cons_of_mem _ h)
  have hown : s.vm.findClass RX8 = some m.cls := findClass_of_methodNamed B.named
  have hlocks := B.notSynchronized
  subst hsz
  have hD := hD0.self (sz := s.heap.size)
  generalize hAe : va_A [(am, .inr (0, [.int (I3 th), .int (I3 mn), .ref as_, .ref av, .ref aw, .int (I3 sm), .int (I3 wd), .int (I3 lp), .int (I3 mp), .int (I3 re)])), (as_, .inl (dA 0, 60, .inl (iA SG))), (av, .inl (dA 1, 960, .inr (.inl (lA VL)))), (aw, .inl (dA 1, 1024, .inr (.inl (lA wf))))] s.heap.size = A at hD ⊢
  have hA : ∀ q : Nat, s.heap.size ≤ q → A q := fun q h => by rw [← hAe]; exact Or.inr h
  have hS : va_S A s.heap s.heap [] := va_S.rf
  have hP : va_P (dC, dI) vwCl [(am, .inr (0, [.int (I3 th), .int (I3 mn), .ref as_, .ref av, .ref aw, .int (I3 sm), .int (I3 wd), .int (I3 lp), .int (I3 mp), .int (I3 re)])), (as_, .inl (dA 0, 60, .inl (iA SG))), (av, .inl (dA 1, 960, .inr (.inl (lA VL)))), (aw, .inl (dA 1, 1024, .inr (.inl (lA wf))))] s.heap := hP
  have hl := lv_entry ([.ref am, .int (I3 r)]) (n := 4) (Nat.le_of_ble_eq_true rfl)
  rw [lg_entry_eq]
  generalize (lg_sl ([.ref am, .int (I3 r)]) ++ List.replicate (4 - (lg_sl ([.ref am, .int (I3 r)])).length) Slot.unset).toArray = ls at hl ⊢
  have hl : lv_has ls 4 [(0, .ref am), (1, .int (I3 r))] := hl
  have cut_3 : ∀ (fuel_3 : Nat), ∀ (k : Int), (-1 ≤ k ∧ k < 64) → (∀ j : Int, k < j → j < 64 → wf (64 * r + j) = 0) → ((k + 1).toNat < fuel_3) → ∀ (H : Heap) (locs : List Loc), va_P (dC, dI) vwCl [(am, .inr (0, [.int (I3 th), .int (I3 mn), .ref as_, .ref av, .ref aw, .int (I3 sm), .int (I3 wd), .int (I3 lp), .int (I3 mp), .int (I3 re)])), (as_, .inl (dA 0, 60, .inl (iA SG))), (av, .inl (dA 1, 960, .inr (.inl (lA VL)))), (aw, .inl (dA 1, 1024, .inr (.inl (lA wf))))] H → va_D A [(am, .inr (0, [.int (I3 th), .int (I3 mn), .ref as_, .ref av, .ref aw, .int (I3 sm), .int (I3 wd), .int (I3 lp), .int (I3 mp), .int (I3 re)])), (as_, .inl (dA 0, 60, .inl (iA SG))), (av, .inl (dA 1, 960, .inr (.inl (lA VL)))), (aw, .inl (dA 1, 1024, .inr (.inl (lA wf))))] → va_S A s.heap H locs → ∀ (ls : Array Slot), lv_has ls 4 [(0, .ref am), (1, .int (I3 r)), (2, .int (I3 k))] → W p l e (headSpec (ws_ yX8_length cX8_length 4 (some .int)) ({ frames := 1, cells := 0, slots := 0, locals := 40 })).room s m ([.ref am, .int (I3 r)] : List Value).toArray below meth c H locs 0 0 (MQ below (QmetX8_length dC dI dA A am as_ av aw th mn sm wd lp mp re SG VL wf r) ([.ref am, .int (I3 r)] : List Value).toArray s 0 0 A) (F0 m 3 ls []) := by
    intro fuel_3
    induction fuel_3 with
    | zero =>
      intro k hk hz hm
      exact absurd hm (Nat.not_lt_zero _)
    | succ fuel_3 ih_3 =>
      intro k hk hz hm_3 H locs hP hD hS ls hl
      have cut_26 : ∀ (fuel_26 : Nat), ∀ (n : Int), (0 ≤ k) → (1 ≤ n ∧ n ≤ 32) → (¬ wf (64 * r + k) = 0) → (wf (64 * r + k) < 2 ^ n.toNat) → (n.toNat < fuel_26) → ∀ (H : Heap) (locs : List Loc), va_P (dC, dI) vwCl [(am, .inr (0, [.int (I3 th), .int (I3 mn), .ref as_, .ref av, .ref aw, .int (I3 sm), .int (I3 wd), .int (I3 lp), .int (I3 mp), .int (I3 re)])), (as_, .inl (dA 0, 60, .inl (iA SG))), (av, .inl (dA 1, 960, .inr (.inl (lA VL)))), (aw, .inl (dA 1, 1024, .inr (.inl (lA wf))))] H → va_D A [(am, .inr (0, [.int (I3 th), .int (I3 mn), .ref as_, .ref av, .ref aw, .int (I3 sm), .int (I3 wd), .int (I3 lp), .int (I3 mp), .int (I3 re)])), (as_, .inl (dA 0, 60, .inl (iA SG))), (av, .inl (dA 1, 960, .inr (.inl (lA VL)))), (aw, .inl (dA 1, 1024, .inr (.inl (lA wf))))] → va_S A s.heap H locs → ∀ (ls : Array Slot), lv_has ls 4 [(0, .ref am), (1, .int (I3 r)), (2, .int (I3 k)), (3, .int (I3 n))] → W p l e (headSpec (ws_ yX8_length cX8_length 4 (some .int)) ({ frames := 1, cells := 0, slots := 0, locals := 40 })).room s m ([.ref am, .int (I3 r)] : List Value).toArray below meth c H locs 0 0 (MQ below (QmetX8_length dC dI dA A am as_ av aw th mn sm wd lp mp re SG VL wf r) ([.ref am, .int (I3 r)] : List Value).toArray s 0 0 A) (F0 m 26 ls []) := by
        intro fuel_26
        induction fuel_26 with
        | zero =>
          intro n hk0 hn hnz hlt hm
          exact absurd hm (Nat.not_lt_zero _)
        | succ fuel_26 ih_26 =>
          intro n hk0 hn hnz hlt hm_26 H locs hP hD hS ls hl
          refine lv_aload_n hx hb dX8_length_26 rfl (lv_at hl 0 rfl) ?_
          refine va_get (D := (dC, dI)) (ci := 0) (v := .ref aw) (C := RX8) (T := TX8) (N := 10) hx hb hts in_X8 hown hK hP 0 rfl rfl 4 (by decide) (hts _ q917) (fun _ h9 => h9) rfl dX8_length_27 ?_
          refine lv_bipush (v := I3 (64)) hx hb dX8_length_30 (by decide) ?_
          refine lv_iload_n hx hb dX8_length_32 rfl (lv_at hl 1 rfl) ?_
          refine ix_imul hx hb dX8_length_33 ?_
          refine lv_iload_n hx hb dX8_length_34 rfl (lv_at hl 2 rfl) ?_
          refine ix_iadd hx hb dX8_length_35 ?_
          refine ix_lald hx hb hK hP 3 1 rfl rfl (Nat.le_of_ble_eq_true rfl) (by omega) dX8_length_36 ?_
          have g_36 := hW ((64 * r) + k)
          refine lv_iload_n hx hb dX8_length_37 rfl (lv_at hl 3 rfl) ?_
          refine lv_iconst (v := I3 (1)) hx hb dX8_length_38 rfl ?_
          refine ix_isub hx hb dX8_length_39 ?_
          refine ix_lshr hx hb (by first | assumption | (constructor <;> omega)) (by first | decide | omega) dX8_length_40 ?_
          refine lv_lconst (v := L6 1) hx hb dX8_length_41 (by decide) ?_
          refine ix_landm hx hb 1 (by decide) (by decide) dX8_length_42 ?_
          refine ix_tl (y := ((wf ((64 * r) + k)) / 2 ^ (n - 1 : Int).toNat) % 2) rfl ?_
          refine lv_lconst (v := L6 0) hx hb dX8_length_43 (by decide) ?_
          refine ix_lcmp_ne (tgt := 54) hx hb (by have q := Int.emod_nonneg (wf (64 * r + k) / 2 ^ (n - 1).toNat) (show (2 : Int) ≠ 0 by decide); have q2 := Int.emod_lt_of_pos (wf (64 * r + k) / 2 ^ (n - 1).toNat) (show (0 : Int) < 2 by decide); constructor <;> omega) (by first | decide | assumption | (constructor <;> omega)) dX8_length_44 dX8_length_45 (by decide) (fun c_44 => ?_) (fun c_44 => ?_)
          · skip
            refine lv_bipush (v := I3 (32)) hx hb dX8_length_54 (by decide) ?_
            refine lv_iload_n hx hb dX8_length_56 rfl (lv_at hl 2 rfl) ?_
            refine ix_imul hx hb dX8_length_57 ?_
            refine lv_iload_n hx hb dX8_length_58 rfl (lv_at hl 3 rfl) ?_
            refine ix_iadd hx hb dX8_length_59 ?_
            have o_1 : ((32 * k) + n) = ((bl (rv wf r) : Nat) : Int) := by exact len_end hW (by omega) hz hn (len_step' hn.1 (hW _).1 c_44) hlt
            exact W.iret (v := I3 ((32 * k) + n)) hx hb hr (fun t ht hW => ⟨⟨I3 ((32 * k) + n), ((32 * k) + n), rfl, ⟨rfl, o_1⟩, by rw [ht]; exact hP, va_K.moved hW.alike hK, hD⟩, hS.F ht⟩) hS.2.2 dX8_length_60
          · skip
            refine lv_iinc (v := I3 (n - 1)) (lv' := [(3, .int (I3 (n - 1))), (0, .ref am), (1, .int (I3 r)), (2, .int (I3 k))]) hx hb dX8_length_48 hl (k := 3) rfl ((I3_add _ _).trans (congrArg I3 (by omega))) (by decide) rfl (fun ls hl => ?_)
            refine lv_goto (tgt := 26) hx hb dX8_length_51 (by decide) ?_
            have e_2 : 0 ≤ k := by first | assumption | omega | (constructor <;> omega)
            have e_3 : 1 ≤ (n - 1) ∧ (n - 1) ≤ 32 := by have q0 := len_step hn.1 ⟨(hW _).1, hlt⟩ c_44; by_cases q : n = 1; rw [q] at q0; have q1 := (hW (64 * r + k)).1; have q2 : (2 : Int) ^ ((1 : Int) - 1).toNat = 1 := rfl; omega; omega
            have e_4 : ¬ wf (64 * r + k) = 0 := by first | assumption | omega | (constructor <;> omega)
            have e_5 : wf (64 * r + k) < 2 ^ (n - 1).toNat := by exact len_step hn.1 ⟨(hW _).1, hlt⟩ c_44
            have e_6 : (n - 1).toNat < fuel_26 := by omega
            exact ih_26 (n - 1) e_2 e_3 e_4 e_5 e_6 _ _ hP hD hS ls (lv_sub hl [1, 2, 3, 0] rfl)
      refine lv_iload_n hx hb dX8_length_3 rfl (lv_at hl 2 rfl) ?_
      refine ix_if_lt (tgt := 67) hx hb (by first | decide | assumption | (constructor <;> omega)) dX8_length_4 (by decide) (fun c_4 => ?_) (fun c_4 => ?_)
      · skip
        refine lv_iconst (v := I3 (0)) hx hb dX8_length_67 rfl ?_
        have o_7 : (0 : Int) = ((bl (rv wf r) : Nat) : Int) := by exact bl_z (fun j h1 h2 => hz j (by omega) h2)
        exact W.iret (v := I3 0) hx hb hr (fun t ht hW => ⟨⟨I3 0, 0, rfl, ⟨rfl, o_7⟩, by rw [ht]; exact hP, va_K.moved hW.alike hK, hD⟩, hS.F ht⟩) hS.2.2 dX8_length_68
      · skip
        refine lv_aload_n hx hb dX8_length_7 rfl (lv_at hl 0 rfl) ?_
        refine va_get (D := (dC, dI)) (ci := 0) (v := .ref aw) (C := RX8) (T := TX8) (N := 10) hx hb hts in_X8 hown hK hP 0 rfl rfl 4 (by decide) (hts _ q917) (fun _ h9 => h9) rfl dX8_length_8 ?_
        refine lv_bipush (v := I3 (64)) hx hb dX8_length_11 (by decide) ?_
        refine lv_iload_n hx hb dX8_length_13 rfl (lv_at hl 1 rfl) ?_
        refine ix_imul hx hb dX8_length_14 ?_
        refine lv_iload_n hx hb dX8_length_15 rfl (lv_at hl 2 rfl) ?_
        refine ix_iadd hx hb dX8_length_16 ?_
        refine ix_lald hx hb hK hP 3 1 rfl rfl (Nat.le_of_ble_eq_true rfl) (by omega) dX8_length_17 ?_
        have g_17 := hW ((64 * r) + k)
        refine lv_lconst (v := L6 0) hx hb dX8_length_18 (by decide) ?_
        refine ix_lcmp_eq (tgt := 61) hx hb (by first | decide | assumption | (constructor <;> omega)) (by first | decide | assumption | (constructor <;> omega)) dX8_length_19 dX8_length_20 (by decide) (fun c_19 => ?_) (fun c_19 => ?_)
        · skip
          refine lv_iinc (v := I3 (k - 1)) (lv' := [(2, .int (I3 (k - 1))), (0, .ref am), (1, .int (I3 r))]) hx hb dX8_length_61 hl (k := 2) rfl ((I3_add _ _).trans (congrArg I3 (by omega))) (by decide) rfl (fun ls hl => ?_)
          refine lv_goto (tgt := 3) hx hb dX8_length_64 (by decide) ?_
          have e_8 : -1 ≤ (k - 1) ∧ (k - 1) < 64 := by first | assumption | omega | (constructor <;> omega)
          have e_9 : ∀ j : Int, (k - 1) < j → j < 64 → wf (64 * r + j) = 0 := by intro i h1 h2; by_cases q : i = k; rw [q]; exact c_19; exact hz i (by omega) h2
          have e_10 : ((k - 1) + 1).toNat < fuel_3 := by omega
          exact ih_3 (k - 1) e_8 e_9 e_10 _ _ hP hD hS ls (lv_sub hl [1, 2, 0] rfl)
        · skip
          refine lv_bipush (v := I3 (32)) hx hb dX8_length_23 (by decide) ?_
          refine lv_istore_n (lv' := [(3, .int (I3 32)), (0, .ref am), (1, .int (I3 r)), (2, .int (I3 k))]) hx hb dX8_length_25 rfl hl (by decide) rfl (fun ls hl => ?_)
          have e_11 : 0 ≤ k := by first | assumption | omega | (constructor <;> omega)
          have e_12 : 1 ≤ (32 : Int) ∧ (32 : Int) ≤ 32 := by first | assumption | omega | (constructor <;> omega)
          have e_13 : ¬ wf (64 * r + k) = 0 := by first | assumption | omega | (constructor <;> omega)
          have e_14 : wf (64 * r + k) < 2 ^ (32 : Int).toNat := by have q := (hW (64 * r + k)).2; exact q
          exact cut_26 ((32 : Int).toNat + 1) 32 e_11 e_12 e_13 e_14 (Nat.lt_succ_self _) _ _ hP hD hS ls (lv_sub hl [1, 2, 3, 0] rfl)
  refine lv_bipush (v := I3 (63)) hx hb dX8_length_0 (by decide) ?_
  refine lv_istore_n (lv' := [(2, .int (I3 63)), (0, .ref am), (1, .int (I3 r))]) hx hb dX8_length_2 rfl hl (by decide) rfl (fun ls hl => ?_)
  have e_15 : -1 ≤ (63 : Int) ∧ (63 : Int) < 64 := by first | assumption | omega | (constructor <;> omega)
  have e_16 : ∀ j : Int, (63 : Int) < j → j < 64 → wf (64 * r + j) = 0 := by intro i h1 h2; omega
  exact cut_3 (((63 : Int) + 1).toNat + 1) 63 e_15 e_16 (Nat.lt_succ_self _) _ _ hP hD hS ls (lv_sub hl [1, 2, 0] rfl)
abbrev BmetX8_times (dC : Nat → ClassId) (dI : Nat → Nat → Nat) (dA : Nat → ClassId) (A : Nat → Prop) (am : Nat) (as_ : Nat) (av : Nat) (aw : Nat) (th : Int) (mn : Int) (sm : Int) (wd : Int) (lp : Int) (mp : Int) (re : Int) (SG : Int → Int) (VL : Int → Int) (wf : Int → Int) (a : Int) (b : Int) (cc_ : Int) : (Int → Int) → State → Prop := fun u t => (fun (u : (Int → Int)) => (fun (W1 : Int → Int) => va_P (dC, dI) vwCl [(am, .inr (0, [.int (I3 th), .int (I3 mn), .ref as_, .ref av, .ref aw, .int (I3 sm), .int (I3 wd), .int (I3 lp), .int (I3 mp), .int (I3 re)])), (as_, .inl (dA 0, 60, .inl (iA SG))), (av, .inl (dA 1, 960, .inr (.inl (lA VL)))), (aw, .inl (dA 1, 1024, .inr (.inl (lA W1))))] t.heap ∧ va_K (dC, dI) vwCl (tyA dA) t ∧ va_D A [(am, .inr (0, [.int (I3 th), .int (I3 mn), .ref as_, .ref av, .ref aw, .int (I3 sm), .int (I3 wd), .int (I3 lp), .int (I3 mp), .int (I3 re)])), (as_, .inl (dA 0, 60, .inl (iA SG))), (av, .inl (dA 1, 960, .inr (.inl (lA VL)))), (aw, .inl (dA 1, 1024, .inr (.inl (lA W1))))]) u) u
abbrev QmetX8_times (dC : Nat → ClassId) (dI : Nat → Nat → Nat) (dA : Nat → ClassId) (A : Nat → Prop) (am : Nat) (as_ : Nat) (av : Nat) (aw : Nat) (th : Int) (mn : Int) (sm : Int) (wd : Int) (lp : Int) (mp : Int) (re : Int) (SG : Int → Int) (VL : Int → Int) (wf : Int → Int) (a : Int) (b : Int) (cc_ : Int) := va_Qv (fun (u : (Int → Int)) => (fun (W1 : Int → Int) => (Dg W1) ∧ (Fr wf W1 cc_) ∧ (rv W1 cc_ = rv wf a * rv wf b % BN)) u) (BmetX8_times dC dI dA A am as_ av aw th mn sm wd lp mp re SG VL wf a b cc_) A
set_option maxHeartbeats 1000000 in
set_option maxRecDepth 100000 in
/-- row c becomes a times b -/
theorem metX8_times (l : Launch) (dC : Nat → ClassId) (dI : Nat → Nat → Nat) (dA : Nat → ClassId) (am : Nat) (as_ : Nat) (av : Nat) (aw : Nat) (sz : Nat) (th : Int) (mn : Int) (sm : Int) (wd : Int) (lp : Int) (mp : Int) (re : Int) (SG : Int → Int) (VL : Int → Int) (wf : Int → Int) (a : Int) (b : Int) (cc_ : Int) (ha : 0 ≤ a ∧ a < 16) (hb_ : 0 ≤ b ∧ b < 16) (hc_ : 0 ≤ cc_ ∧ cc_ < 16) (hac : a ≠ cc_) (hbc : b ≠ cc_) (hW : Dg wf) : Met l yX8_times (ws_ yX8_times cX8_times 14 none) ({ frames := 2, cells := 0, slots := 0, locals := 80 }) (va_Pc [.ref am, .int (I3 a), .int (I3 b), .int (I3 cc_)] (fun U => U.heap.size = sz ∧ va_P (dC, dI) vwCl [(am, .inr (0, [.int (I3 th), .int (I3 mn), .ref as_, .ref av, .ref aw, .int (I3 sm), .int (I3 wd), .int (I3 lp), .int (I3 mp), .int (I3 re)])), (as_, .inl (dA 0, 60, .inl (iA SG))), (av, .inl (dA 1, 960, .inr (.inl (lA VL)))), (aw, .inl (dA 1, 1024, .inr (.inl (lA wf))))] U.heap ∧ va_K (dC, dI) vwCl (tyA dA) U ∧ va_D (fun _ => True) [(am, .inr (0, [.int (I3 th), .int (I3 mn), .ref as_, .ref av, .ref aw, .int (I3 sm), .int (I3 wd), .int (I3 lp), .int (I3 mp), .int (I3 re)])), (as_, .inl (dA 0, 60, .inl (iA SG))), (av, .inl (dA 1, 960, .inr (.inl (lA VL)))), (aw, .inl (dA 1, 1024, .inr (.inl (lA wf))))])) (QmetX8_times dC dI dA (va_A [(am, .inr (0, [.int (I3 th), .int (I3 mn), .ref as_, .ref av, .ref aw, .int (I3 sm), .int (I3 wd), .int (I3 lp), .int (I3 mp), .int (I3 re)])), (as_, .inl (dA 0, 60, .inl (iA SG))), (av, .inl (dA 1, 960, .inr (.inl (lA VL)))), (aw, .inl (dA 1, 1024, .inr (.inl (lA wf))))] sz) am as_ av aw th mn sm wd lp mp re SG VL wf a b cc_) 0 0 (va_A [(am, .inr (0, [.int (I3 th), .int (I3 mn), .ref as_, .ref av, .ref aw, .int (I3 sm), .int (I3 wd), .int (I3 lp), .int (I3 mp), .int (I3 re)])), (as_, .inl (dA 0, 60, .inl (iA SG))), (av, .inl (dA 1, 960, .inr (.inl (lA VL)))), (aw, .inl (dA 1, 1024, .inr (.inl (lA wf))))] sz) := by
  refine Met.ofW (cc := cX8_times) (maxL := 14) (ret := none) (by decide) rfl ?_
  intro p e s m args below meth c s₁ B hml hv
  obtain ⟨rfl, hsz, hP, hK, hD0⟩ := hv
  have hx := B.exec
  have hb := B.bytes
  have hr := B.returns
  have hts := atoms_spec (ws := (ws_ yX8_times cX8_times 14 none)) B.pre
  have hts : ∀ w ∈ lw_all, w.before _ s = true := fun w h => hts w (List.mem_cons_of_mem _ h)
  have hown : s.vm.findClass RX8 = some m.cls := findClass_of_methodNamed B.named
  have hlocks := B.notSynchronized
  subst hsz
  have hD := hD0.self (sz := s.heap.size)
  generalize hAe : va_A [(am, .inr (0, [.int (I3 th), .int (I3 mn), .ref as_, .ref av, .ref aw, .int (I3 sm), .int (I3 wd), .int (I3 lp), .int (I3 mp), .int (I3 re)])), (as_, .inl (dA 0, 60, .inl (iA SG))), (av, .inl (dA 1, 960, .inr (.inl (lA VL)))), (aw, .inl (dA 1, 1024, .inr (.inl (lA wf))))] s.heap.size = A at hD ⊢
  have hA : ∀ q : Nat, s.heap.size ≤ q → A q := fun q h => by rw [← hAe]; exact Or.inr h
  have hS : va_S A s.heap s.heap [] := va_S.rf
  have hP : va_P (dC, dI) vwCl [(am, .inr (0, [.int (I3 th), .int (I3 mn), .ref as_, .ref av, .ref aw, .int (I3 sm), .int (I3 wd), .int (I3 lp), .int (I3 mp), .int (I3 re)])), (as_, .inl (dA 0, 60, .inl (iA SG))), (av, .inl (dA 1, 960, .inr (.inl (lA VL)))), (aw, .inl (dA 1, 1024, .inr (.inl (lA wf))))] s.heap := hP
  have hl := lv_entry ([.ref am, .int (I3 a), .int (I3 b), .int (I3 cc_)]) (n := 14) (Nat.le_of_ble_eq_true rfl)
  rw [lg_entry_eq]
  generalize (lg_sl ([.ref am, .int (I3 a), .int (I3 b), .int (I3 cc_)]) ++ List.replicate (14 - (lg_sl ([.ref am, .int (I3 a), .int (I3 b), .int (I3 cc_)])).length) Slot.unset).toArray = ls at hl ⊢
  have hl : lv_has ls 14 [(0, .ref am), (1, .int (I3 a)), (2, .int (I3 b)), (3, .int (I3 cc_))] := hl
  have cut_8 : ∀ (fuel_8 : Nat), ∀ (i : Int) (W1 : Int → Int), (0 ≤ i ∧ i ≤ 64) → (Dg W1) → (Fr wf W1 cc_) → (vz W1 (64 * cc_) 64 = vi wf (64 * a) i * vz wf (64 * b) 64 % (BN : Int)) → ((64 - i).toNat < fuel_8) → ∀ (H : Heap) (locs : List Loc), va_P (dC, dI) vwCl [(am, .inr (0, [.int (I3 th), .int (I3 mn), .ref as_, .ref av, .ref aw, .int (I3 sm), .int (I3 wd), .int (I3 lp), .int (I3 mp), .int (I3 re)])), (as_, .inl (dA 0, 60, .inl (iA SG))), (av, .inl (dA 1, 960, .inr (.inl (lA VL)))), (aw, .inl (dA 1, 1024, .inr (.inl (lA W1))))] H → va_D A [(am, .inr (0, [.int (I3 th), .int (I3 mn), .ref as_, .ref av, .ref aw, .int (I3 sm), .int (I3 wd), .int (I3 lp), .int (I3 mp), .int (I3 re)])), (as_, .inl (dA 0, 60, .inl (iA SG))), (av, .inl (dA 1, 960, .inr (.inl (lA VL)))), (aw, .inl (dA 1, 1024, .inr (.inl (lA W1))))] → va_S A s.heap H locs → ∀ (ls : Array Slot), lv_has ls 14 [(0, .ref am), (1, .int (I3 a)), (2, .int (I3 b)), (3, .int (I3 cc_)), (4, .int (I3 i))] → W p l e (headSpec (ws_ yX8_times cX8_times 14 none) ({ frames := 2, cells := 0, slots := 0, locals := 80 })).room s m ([.ref am, .int (I3 a), .int (I3 b), .int (I3 cc_)] : List Value).toArray below meth c H locs 0 0 (MQ below (QmetX8_times dC dI dA A am as_ av aw th mn sm wd lp mp re SG VL wf a b cc_) ([.ref am, .int (I3 a), .int (I3 b), .int (I3 cc_)] : List Value).toArray s 0 0 A) (F0 m 8 ls []) := by
    intro fuel_8
    induction fuel_8 with
    | zero =>
      intro i W1 hi hW1 hF hO hm
      exact absurd hm (Nat.not_lt_zero _)
    | succ fuel_8 ih_8 =>
      intro i W1 hi hW1 hF hO hm_8 H locs hP hD hS ls hl
      have cut_35 : ∀ (fuel_35 : Nat), ∀ (j : Int) (cr : Int) (W2 : Int → Int) (x : Int), (i < 64) → (x = wf (64 * a + i)) → (0 ≤ j) → (i + j ≤ 64) → (0 ≤ cr ∧ cr < 4294967296) → (x = 0 → j = 0 ∧ cr = 0) → (Dg W2) → (Fr wf W2 cc_) → (∀ t : Int, i + j ≤ t → t < 64 → W2 (64 * cc_ + t) = W1 (64 * cc_ + t)) → (vi W2 (64 * cc_) (i + j) + cr * pz (i + j) = vi W1 (64 * cc_) (i + j) + x * pz i * vi wf (64 * b) j) → ((64 - j).toNat < fuel_35) → ∀ (H : Heap) (locs : List Loc), va_P (dC, dI) vwCl [(am, .inr (0, [.int (I3 th), .int (I3 mn), .ref as_, .ref av, .ref aw, .int (I3 sm), .int (I3 wd), .int (I3 lp), .int (I3 mp), .int (I3 re)])), (as_, .inl (dA 0, 60, .inl (iA SG))), (av, .inl (dA 1, 960, .inr (.inl (lA VL)))), (aw, .inl (dA 1, 1024, .inr (.inl (lA W2))))] H → va_D A [(am, .inr (0, [.int (I3 th), .int (I3 mn), .ref as_, .ref av, .ref aw, .int (I3 sm), .int (I3 wd), .int (I3 lp), .int (I3 mp), .int (I3 re)])), (as_, .inl (dA 0, 60, .inl (iA SG))), (av, .inl (dA 1, 960, .inr (.inl (lA VL)))), (aw, .inl (dA 1, 1024, .inr (.inl (lA W2))))] → va_S A s.heap H locs → ∀ (ls : Array Slot), lv_has ls 14 [(0, .ref am), (1, .int (I3 a)), (2, .int (I3 b)), (3, .int (I3 cc_)), (4, .int (I3 i)), (5, .long (L6 cr)), (7, .long (L6 x)), (9, .int (I3 j))] → W p l e (headSpec (ws_ yX8_times cX8_times 14 none) ({ frames := 2, cells := 0, slots := 0, locals := 80 })).room s m ([.ref am, .int (I3 a), .int (I3 b), .int (I3 cc_)] : List Value).toArray below meth c H locs 0 0 (MQ below (QmetX8_times dC dI dA A am as_ av aw th mn sm wd lp mp re SG VL wf a b cc_) ([.ref am, .int (I3 a), .int (I3 b), .int (I3 cc_)] : List Value).toArray s 0 0 A) (F0 m 35 ls []) := by
        intro fuel_35
        induction fuel_35 with
        | zero =>
          intro j cr W2 x hi64 hxw hj hij hc hx0 hW2 hF2 h_s hI hm
          exact absurd hm (Nat.not_lt_zero _)
        | succ fuel_35 ih_35 =>
          intro j cr W2 x hi64 hxw hj hij hc hx0 hW2 hF2 h_s hI hm_35 H locs hP hD hS ls hl
          refine lv_iload hx hb dX8_times_35 (lv_at hl 4 rfl) ?_
          refine lv_iload hx hb dX8_times_37 (lv_at hl 7 rfl) ?_
          refine ix_iadd hx hb dX8_times_39 ?_
          refine lv_bipush (v := I3 (64)) hx hb dX8_times_40 (by decide) ?_
          refine ix_icmp_ge (tgt := 136) hx hb (by first | decide | assumption | (constructor <;> omega)) (by first | decide | assumption | (constructor <;> omega)) dX8_times_42 (by decide) (fun c_42 => ?_) (fun c_42 => ?_)
          · skip
            refine lv_iinc (v := I3 (i + 1)) (lv' := [(4, .int (I3 (i + 1))), (0, .ref am), (1, .int (I3 a)), (2, .int (I3 b)), (3, .int (I3 cc_)), (5, .long (L6 cr)), (7, .long (L6 x)), (9, .int (I3 j))]) hx hb dX8_times_136 hl (k := 4) rfl (I3_add _ _) (by decide) rfl (fun ls hl => ?_)
            refine lv_goto (tgt := 8) hx hb dX8_times_139 (by decide) ?_
            have e_1 : 0 ≤ (i + 1) ∧ (i + 1) ≤ 64 := by first | assumption | omega | (constructor <;> omega)
            have e_2 : Dg W2 := by first | assumption | omega | (constructor <;> omega)
            have e_3 : Fr wf W2 cc_ := by first | assumption | omega | (constructor <;> omega)
            have e_4 : vz W2 (64 * cc_) 64 = vi wf (64 * a) (i + 1) * vz wf (64 * b) 64 % (BN : Int) := by exact tm_out hW2 hi.1 hj hij hxw (by first | exact Or.inl (by assumption) | exact Or.inr (by assumption)) hx0 h_s hI hO
            have e_5 : (64 - (i + 1)).toNat < fuel_8 := by omega
            exact ih_8 (i + 1) W2 e_1 e_2 e_3 e_4 e_5 _ _ hP hD hS ls (lv_sub hl [1, 2, 3, 4, 0] rfl)
          · skip
            have hwa := hW (64 * a + i)
            have hxb : 0 ≤ x ∧ x < 4294967296 := by omega
            refine lv_lload hx hb dX8_times_45 (lv_at hl 6 rfl) ?_
            refine lv_lconst (v := L6 0) hx hb dX8_times_47 (by decide) ?_
            refine ix_lcmp_eq (tgt := 136) hx hb (by first | decide | assumption | (constructor <;> omega)) (by first | decide | assumption | (constructor <;> omega)) dX8_times_48 dX8_times_49 (by decide) (fun c_48 => ?_) (fun c_48 => ?_)
            · skip
              refine lv_iinc (v := I3 (i + 1)) (lv' := [(4, .int (I3 (i + 1))), (0, .ref am), (1, .int (I3 a)), (2, .int (I3 b)), (3, .int (I3 cc_)), (5, .long (L6 cr)), (7, .long (L6 x)), (9, .int (I3 j))]) hx hb dX8_times_136 hl (k := 4) rfl (I3_add _ _) (by decide) rfl (fun ls hl => ?_)
              refine lv_goto (tgt := 8) hx hb dX8_times_139 (by decide) ?_
              have e_6 : 0 ≤ (i + 1) ∧ (i + 1) ≤ 64 := by first | assumption | omega | (constructor <;> omega)
              have e_7 : Dg W2 := by first | assumption | omega | (constructor <;> omega)
              have e_8 : Fr wf W2 cc_ := by first | assumption | omega | (constructor <;> omega)
              have e_9 : vz W2 (64 * cc_) 64 = vi wf (64 * a) (i + 1) * vz wf (64 * b) 64 % (BN : Int) := by exact tm_out hW2 hi.1 hj hij hxw (by first | exact Or.inl (by assumption) | exact Or.inr (by assumption)) hx0 h_s hI hO
              have e_10 : (64 - (i + 1)).toNat < fuel_8 := by omega
              exact ih_8 (i + 1) W2 e_6 e_7 e_8 e_9 e_10 _ _ hP hD hS ls (lv_sub hl [1, 2, 3, 4, 0] rfl)
            · skip
              refine lv_aload_n hx hb dX8_times_52 rfl (lv_at hl 0 rfl) ?_
              refine va_get (D := (dC, dI)) (ci := 0) (v := .ref aw) (C := RX8) (T := TX8) (N := 10) hx hb hts in_X8 hown hK hP 0 rfl rfl 4 (by decide) (hts _ q917) (fun _ h9 => h9) rfl dX8_times_53 ?_
              refine lv_bipush (v := I3 (64)) hx hb dX8_times_56 (by decide) ?_
              refine lv_iload_n hx hb dX8_times_58 rfl (lv_at hl 3 rfl) ?_
              refine ix_imul hx hb dX8_times_59 ?_
              refine lv_iload hx hb dX8_times_60 (lv_at hl 4 rfl) ?_
              refine ix_iadd hx hb dX8_times_62 ?_
              refine lv_iload hx hb dX8_times_63 (lv_at hl 7 rfl) ?_
              refine ix_iadd hx hb dX8_times_65 ?_
              refine ix_lald hx hb hK hP 3 1 rfl rfl (Nat.le_of_ble_eq_true rfl) (by omega) dX8_times_66 ?_
              have g_66 := hW2 (((64 * cc_) + i) + j)
              refine lv_lload hx hb dX8_times_67 (lv_at hl 6 rfl) ?_
              refine lv_aload_n hx hb dX8_times_69 rfl (lv_at hl 0 rfl) ?_
              refine va_get (D := (dC, dI)) (ci := 0) (v := .ref aw) (C := RX8) (T := TX8) (N := 10) hx hb hts in_X8 hown hK hP 0 rfl rfl 4 (by decide) (hts _ q917) (fun _ h9 => h9) rfl dX8_times_70 ?_
              refine lv_bipush (v := I3 (64)) hx hb dX8_times_73 (by decide) ?_
              refine lv_iload_n hx hb dX8_times_75 rfl (lv_at hl 2 rfl) ?_
              refine ix_imul hx hb dX8_times_76 ?_
              refine lv_iload hx hb dX8_times_77 (lv_at hl 7 rfl) ?_
              refine ix_iadd hx hb dX8_times_79 ?_
              refine ix_lald hx hb hK hP 3 1 rfl rfl (Nat.le_of_ble_eq_true rfl) (by omega) dX8_times_80 ?_
              have g_80 := hW2 ((64 * b) + j)
              refine ix_lmul hx hb dX8_times_81 ?_
              refine ix_ladd hx hb dX8_times_82 ?_
              refine ix_nl (fun v ev => ?_)
              refine lv_lstore (lv' := [(10, .long (L6 v)), (0, .ref am), (1, .int (I3 a)), (2, .int (I3 b)), (3, .int (I3 cc_)), (4, .int (I3 i)), (5, .long (L6 cr)), (7, .long (L6 x)), (9, .int (I3 j))]) hx hb dX8_times_83 hl (by decide) rfl (fun ls hl => ?_)
              have hm := mul_bd hxb (hW2 (64 * b + j))
              have hv0 : 0 ≤ v ∧ v < 18446744073709551616 := by omega
              refine lv_lload hx hb dX8_times_85 (lv_at hl 0 rfl) ?_
              refine lv_ldc2 hx hb hown (hts _ q963) dX8_times_87 ?_
              refine ix_vl (x := (4294967295)) (by decide) ?_
              refine ix_landm hx hb 32 (by decide) (by decide) dX8_times_90 ?_
              refine ix_tl (y := v % 4294967296) rfl ?_
              refine lv_lload hx hb dX8_times_91 (lv_at hl 6 rfl) ?_
              refine ix_ladd hx hb dX8_times_93 ?_
              refine ix_nl (fun lw elw => ?_)
              refine lv_lstore (lv' := [(12, .long (L6 lw)), (10, .long (L6 v)), (0, .ref am), (1, .int (I3 a)), (2, .int (I3 b)), (3, .int (I3 cc_)), (4, .int (I3 i)), (5, .long (L6 cr)), (7, .long (L6 x)), (9, .int (I3 j))]) hx hb dX8_times_94 hl (by decide) rfl (fun ls hl => ?_)
              refine lv_aload_n hx hb dX8_times_96 rfl (lv_at hl 2 rfl) ?_
              refine va_get (D := (dC, dI)) (ci := 0) (v := .ref aw) (C := RX8) (T := TX8) (N := 10) hx hb hts in_X8 hown hK hP 0 rfl rfl 4 (by decide) (hts _ q917) (fun _ h9 => h9) rfl dX8_times_97 ?_
              refine lv_bipush (v := I3 (64)) hx hb dX8_times_100 (by decide) ?_
              refine lv_iload_n hx hb dX8_times_102 rfl (lv_at hl 5 rfl) ?_
              refine ix_imul hx hb dX8_times_103 ?_
              refine lv_iload hx hb dX8_times_104 (lv_at hl 6 rfl) ?_
              refine ix_iadd hx hb dX8_times_106 ?_
              refine lv_iload hx hb dX8_times_107 (lv_at hl 9 rfl) ?_
              refine ix_iadd hx hb dX8_times_109 ?_
              refine lv_lload hx hb dX8_times_110 (lv_at hl 0 rfl) ?_
              refine lv_ldc2 hx hb hown (hts _ q963) dX8_times_112 ?_
              refine ix_vl (x := (4294967295)) (by decide) ?_
              refine ix_landm hx hb 32 (by decide) (by decide) dX8_times_115 ?_
              refine ix_tl (y := lw % 4294967296) rfl ?_
              refine ix_last hx hb hK hP hD hS 3 1 rfl rfl (Nat.le_of_ble_eq_true rfl) (by omega) dX8_times_116 (fun H locs hP hD hS => ?_)
              have hP : va_P (dC, dI) vwCl [(am, .inr (0, [.int (I3 th), .int (I3 mn), .ref as_, .ref av, .ref aw, .int (I3 sm), .int (I3 wd), .int (I3 lp), .int (I3 mp), .int (I3 re)])), (as_, .inl (dA 0, 60, .inl (iA SG))), (av, .inl (dA 1, 960, .inr (.inl (lA VL)))), (aw, .inl (dA 1, 1024, .inr (.inl (lA (uZ W2 (((64 * cc_) + i) + j) (lw % 4294967296))))))] H := hP
              have hD : va_D A [(am, .inr (0, [.int (I3 th), .int (I3 mn), .ref as_, .ref av, .ref aw, .int (I3 sm), .int (I3 wd), .int (I3 lp), .int (I3 mp), .int (I3 re)])), (as_, .inl (dA 0, 60, .inl (iA SG))), (av, .inl (dA 1, 960, .inr (.inl (lA VL)))), (aw, .inl (dA 1, 1024, .inr (.inl (lA (uZ W2 (((64 * cc_) + i) + j) (lw % 4294967296))))))] := hD
              refine lv_lload hx hb dX8_times_117 (lv_at hl 1 rfl) ?_
              refine lv_bipush (v := I3 (32)) hx hb dX8_times_119 (by decide) ?_
              refine ix_lushr hx hb (by first | decide | omega) dX8_times_121 ?_
              refine ix_tl (y := v % 18446744073709551616 / 4294967296) rfl ?_
              refine lv_lload hx hb dX8_times_122 (lv_at hl 0 rfl) ?_
              refine lv_bipush (v := I3 (32)) hx hb dX8_times_124 (by decide) ?_
              refine ix_lushr hx hb (by first | decide | omega) dX8_times_126 ?_
              refine ix_tl (y := lw % 18446744073709551616 / 4294967296) rfl ?_
              refine ix_ladd hx hb dX8_times_127 ?_
              refine lv_lstore (lv' := [(5, .long (L6 ((v % 18446744073709551616 / 4294967296) + (lw % 18446744073709551616 / 4294967296)))), (12, .long (L6 lw)), (10, .long (L6 v)), (0, .ref am), (1, .int (I3 a)), (2, .int (I3 b)), (3, .int (I3 cc_)), (4, .int (I3 i)), (7, .long (L6 x)), (9, .int (I3 j))]) hx hb dX8_times_128 hl (by decide) rfl (fun ls hl => ?_)
              refine lv_iinc (v := I3 (j + 1)) (lv' := [(9, .int (I3 (j + 1))), (5, .long (L6 ((v % 18446744073709551616 / 4294967296) + (lw % 18446744073709551616 / 4294967296)))), (12, .long (L6 lw)), (10, .long (L6 v)), (0, .ref am), (1, .int (I3 a)), (2, .int (I3 b)), (3, .int (I3 cc_)), (4, .int (I3 i)), (7, .long (L6 x))]) hx hb dX8_times_130 hl (k := 9) rfl (I3_add _ _) (by decide) rfl (fun ls hl => ?_)
              refine lv_goto (tgt := 35) hx hb dX8_times_133 (by decide) ?_
              have e_11 : i < 64 := by first | assumption | omega | (constructor <;> omega)
              have e_12 : x = wf (64 * a + i) := by exact hxw
              have e_13 : 0 ≤ (j + 1) := by first | assumption | omega | (constructor <;> omega)
              have e_14 : i + (j + 1) ≤ 64 := by first | assumption | omega | (constructor <;> omega)
              have e_15 : 0 ≤ ((v % 18446744073709551616 / 4294967296) + (lw % 18446744073709551616 / 4294967296)) ∧ ((v % 18446744073709551616 / 4294967296) + (lw % 18446744073709551616 / 4294967296)) < 4294967296 := by omega
              have e_16 : x = 0 → (j + 1) = 0 ∧ ((v % 18446744073709551616 / 4294967296) + (lw % 18446744073709551616 / 4294967296)) = 0 := by intro q; exact absurd q c_48
              have e_17 : Dg (uZ W2 (((64 * cc_) + i) + j) (lw % 4294967296)) := by exact Dg_uZ hW2 (by omega) (by omega)
              have e_18 : Fr wf (uZ W2 (((64 * cc_) + i) + j) (lw % 4294967296)) cc_ := by exact Fr_uZ hF2 (by omega)
              have e_19 : ∀ t : Int, i + (j + 1) ≤ t → t < 64 → (uZ W2 (((64 * cc_) + i) + j) (lw % 4294967296)) (64 * cc_ + t) = W1 (64 * cc_ + t) := by intro t h1 h2; rw [uZ_n (by omega)]; exact h_s t (by omega) h2
              have e_20 : vi (uZ W2 (((64 * cc_) + i) + j) (lw % 4294967296)) (64 * cc_) (i + (j + 1)) + ((v % 18446744073709551616 / 4294967296) + (lw % 18446744073709551616 / 4294967296)) * pz (i + (j + 1)) = vi W1 (64 * cc_) (i + (j + 1)) + x * pz i * vi wf (64 * b) (j + 1) := by exact tm_step hi.1 hj (by have q := h_s (i + j) (by omega) (by omega); rwa [← Int.add_assoc] at q) (hF2 _ (by omega)) ev elw hv0 hc hI
              have e_21 : (64 - (j + 1)).toNat < fuel_35 := by omega
              exact ih_35 (j + 1) ((v % 18446744073709551616 / 4294967296) + (lw % 18446744073709551616 / 4294967296)) (uZ W2 (((64 * cc_) + i) + j) (lw % 4294967296)) x e_11 e_12 e_13 e_14 e_15 e_16 e_17 e_18 e_19 e_20 e_21 _ _ hP hD hS ls (lv_sub hl [4, 5, 6, 7, 8, 1, 9, 0] rfl)
      refine lv_iload hx hb dX8_times_8 (lv_at hl 4 rfl) ?_
      refine lv_bipush (v := I3 (64)) hx hb dX8_times_10 (by decide) ?_
      refine ix_icmp_ge (tgt := 142) hx hb (by first | decide | assumption | (constructor <;> omega)) (by first | decide | assumption | (constructor <;> omega)) dX8_times_12 (by decide) (fun c_12 => ?_) (fun c_12 => ?_)
      · skip
        have o_22 : Dg W1 := by first | assumption | omega | (constructor <;> omega)
        have o_23 : Fr wf W1 cc_ := by first | assumption | omega | (constructor <;> omega)
        have o_24 : rv W1 cc_ = rv wf a * rv wf b % BN := by exact tm_end hW hW1 (by omega) hO
        exact W.vret hx hb hr (fun t ht hW => ⟨⟨W1, rfl, ⟨o_22, o_23, o_24⟩, by rw [ht]; exact hP, va_K.moved hW.alike hK, hD⟩, hS.F ht⟩) hS.2.2 dX8_times_142
      · skip
        refine lv_lconst (v := L6 0) hx hb dX8_times_15 (by decide) ?_
        refine lv_lstore (lv' := [(5, .long (L6 0)), (0, .ref am), (1, .int (I3 a)), (2, .int (I3 b)), (3, .int (I3 cc_)), (4, .int (I3 i))]) hx hb dX8_times_16 hl (by decide) rfl (fun ls hl => ?_)
        refine lv_aload_n hx hb dX8_times_18 rfl (lv_at hl 1 rfl) ?_
        refine va_get (D := (dC, dI)) (ci := 0) (v := .ref aw) (C := RX8) (T := TX8) (N := 10) hx hb hts in_X8 hown hK hP 0 rfl rfl 4 (by decide) (hts _ q917) (fun _ h9 => h9) rfl dX8_times_19 ?_
        refine lv_bipush (v := I3 (64)) hx hb dX8_times_22 (by decide) ?_
        refine lv_iload_n hx hb dX8_times_24 rfl (lv_at hl 2 rfl) ?_
        refine ix_imul hx hb dX8_times_25 ?_
        refine lv_iload hx hb dX8_times_26 (lv_at hl 5 rfl) ?_
        refine ix_iadd hx hb dX8_times_28 ?_
        refine ix_lald hx hb hK hP 3 1 rfl rfl (Nat.le_of_ble_eq_true rfl) (by omega) dX8_times_29 ?_
        have g_29 := hW1 ((64 * a) + i)
        refine lv_lstore (lv' := [(7, .long (L6 (W1 ((64 * a) + i)))), (5, .long (L6 0)), (0, .ref am), (1, .int (I3 a)), (2, .int (I3 b)), (3, .int (I3 cc_)), (4, .int (I3 i))]) hx hb dX8_times_30 hl (by decide) rfl (fun ls hl => ?_)
        refine lv_iconst (v := I3 (0)) hx hb dX8_times_32 rfl ?_
        refine lv_istore (lv' := [(9, .int (I3 0)), (7, .long (L6 (W1 ((64 * a) + i)))), (5, .long (L6 0)), (0, .ref am), (1, .int (I3 a)), (2, .int (I3 b)), (3, .int (I3 cc_)), (4, .int (I3 i))]) hx hb dX8_times_33 hl (by decide) rfl (fun ls hl => ?_)
        have e_25 : i < 64 := by first | assumption | omega | (constructor <;> omega)
        have e_26 : (W1 ((64 * a) + i)) = wf (64 * a + i) := by exact hF _ (by omega)
        have e_27 : 0 ≤ (0 : Int) := by first | assumption | omega | (constructor <;> omega)
        have e_28 : i + (0 : Int) ≤ 64 := by first | assumption | omega | (constructor <;> omega)
        have e_29 : 0 ≤ (0 : Int) ∧ (0 : Int) < 4294967296 := by first | assumption | omega | (constructor <;> omega)
        have e_30 : (W1 ((64 * a) + i)) = 0 → (0 : Int) = 0 ∧ (0 : Int) = 0 := by first | assumption | omega | (constructor <;> omega)
        have e_31 : Dg W1 := by first | assumption | omega | (constructor <;> omega)
        have e_32 : Fr wf W1 cc_ := by first | assumption | omega | (constructor <;> omega)
        have e_33 : ∀ t : Int, i + (0 : Int) ≤ t → t < 64 → W1 (64 * cc_ + t) = W1 (64 * cc_ + t) := by intro t h1 h2; rfl
        have e_34 : vi W1 (64 * cc_) (i + (0 : Int)) + (0 : Int) * pz (i + (0 : Int)) = vi W1 (64 * cc_) (i + (0 : Int)) + (W1 ((64 * a) + i)) * pz i * vi wf (64 * b) (0 : Int) := by simp [vi, vz]
        exact cut_35 ((64 - (0 : Int)).toNat + 1) 0 0 W1 (W1 ((64 * a) + i)) e_25 e_26 e_27 e_28 e_29 e_30 e_31 e_32 e_33 e_34 (Nat.lt_succ_self _) _ _ hP hD hS ls (lv_sub hl [3, 4, 5, 6, 7, 2, 1, 0] rfl)
  refine lv_aload_n hx hb dX8_times_0 rfl (lv_at hl 0 rfl) ?_
  refine lv_iload_n hx hb dX8_times_1 rfl (lv_at hl 3 rfl) ?_
  have h_35 : 0 ≤ cc_ ∧ cc_ < 16 := by first | assumption | omega | (constructor <;> omega)
  have h_36 : Dg wf := by first | assumption | omega | (constructor <;> omega)
  have hPc := hP.sub (ws' := [(am, .inr (0, [.int (I3 th), .int (I3 mn), .ref as_, .ref av, .ref aw, .int (I3 sm), .int (I3 wd), .int (I3 lp), .int (I3 mp), .int (I3 re)])), (as_, .inl (dA 0, 60, .inl (iA SG))), (av, .inl (dA 1, 960, .inr (.inl (lA VL)))), (aw, .inl (dA 1, 1024, .inr (.inl (lA wf))))]) [0, 1, 2, 3] rfl
  have hDc := hD.sub (ws' := [(am, .inr (0, [.int (I3 th), .int (I3 mn), .ref as_, .ref av, .ref aw, .int (I3 sm), .int (I3 wd), .int (I3 lp), .int (I3 mp), .int (I3 re)])), (as_, .inl (dA 0, 60, .inl (iA SG))), (av, .inl (dA 1, 960, .inr (.inl (lA VL)))), (aw, .inl (dA 1, 1024, .inr (.inl (lA wf))))]) [0, 1, 2, 3] (by decide) rfl
  have hFc := va_free (wc := [(am, .inr (0, [.int (I3 th), .int (I3 mn), .ref as_, .ref av, .ref aw, .int (I3 sm), .int (I3 wd), .int (I3 lp), .int (I3 mp), .int (I3 re)])), (as_, .inl (dA 0, 60, .inl (iA SG))), (av, .inl (dA 1, 960, .inr (.inl (lA VL)))), (aw, .inl (dA 1, 1024, .inr (.inl (lA wf))))]) hD hS hA [0, 1, 2, 3] rfl
  refine va_callv (va_runV (As := [.int (I3 cc_)]) (rest := []) ⟨hx, hb, hml, hown, hts⟩ (metX8_zero l dC dI dA am as_ av aw s.heap.size th mn sm wd lp mp re SG VL wf cc_ h_35 h_36) (cwV 1 hts (lw_V q959 q961 qs20 q66 q962) rfl rfl rfl (by decide +kernel) ⟨Nat.le_of_ble_eq_true rfl, Nat.le_of_ble_eq_true rfl⟩) ⟨fun a U g mk q => by obtain ⟨q0, q1, qP, qK, qD⟩ := q; exact ⟨q0, q1, qP, va_K.moved (u := U) (U := U.calling g mk a) (Vm.Alike.refl U.vm) qK, qD⟩, va_recv hK hPc (ci := 0) (q0 := 0) rfl rfl, fun U hU hW => ⟨rfl, by rw [hU], by rw [hU]; exact hPc, va_K.moved hW.alike hK, hDc.weaken (fun _ _ _ _ => trivial)⟩⟩ rfl rfl hl.1 rfl (lv_room (Nat.le_of_ble_eq_true rfl)) dX8_times_2 ⟨Nat.le_of_ble_eq_true rfl, Nat.le_of_ble_eq_true rfl⟩) hS (fun q _ h => hFc q h) hFc (fun u t H1 locs ht hvm hw hB hz1 hk1 hS => ?_)
  obtain ⟨W1_2, rfl⟩ : ∃ z, z = u := ⟨_, rfl⟩
  obtain ⟨p0_2, p1_2, p2_2⟩ : (Dg W1_2) ∧ (Fr wf W1_2 cc_) ∧ (∀ i : Int, 64 * cc_ ≤ i → i < 64 * cc_ + 64 → W1_2 i = 0) := hw
  obtain ⟨hP1, hK1, hD1⟩ := hB
  rw [ht] at hP1
  obtain ⟨hP, hD⟩ := va_join (wr := []) (w1 := [(am, .inr (0, [.int (I3 th), .int (I3 mn), .ref as_, .ref av, .ref aw, .int (I3 sm), .int (I3 wd), .int (I3 lp), .int (I3 mp), .int (I3 re)])), (as_, .inl (dA 0, 60, .inl (iA SG))), (av, .inl (dA 1, 960, .inr (.inl (lA VL)))), (aw, .inl (dA 1, 1024, .inr (.inl (lA W1_2))))]) hP hD [0, 1, 2, 3] [] rfl rfl (by decide) (by decide) hk1 hFc hP1 hD1
  generalize H1 = H at hP hS ⊢
  have hP : va_P (dC, dI) vwCl [(am, .inr (0, [.int (I3 th), .int (I3 mn), .ref as_, .ref av, .ref aw, .int (I3 sm), .int (I3 wd), .int (I3 lp), .int (I3 mp), .int (I3 re)])), (as_, .inl (dA 0, 60, .inl (iA SG))), (av, .inl (dA 1, 960, .inr (.inl (lA VL)))), (aw, .inl (dA 1, 1024, .inr (.inl (lA W1_2))))] H := hP
  have hD : va_D A [(am, .inr (0, [.int (I3 th), .int (I3 mn), .ref as_, .ref av, .ref aw, .int (I3 sm), .int (I3 wd), .int (I3 lp), .int (I3 mp), .int (I3 re)])), (as_, .inl (dA 0, 60, .inl (iA SG))), (av, .inl (dA 1, 960, .inr (.inl (lA VL)))), (aw, .inl (dA 1, 1024, .inr (.inl (lA W1_2))))] := hD
  refine lv_iconst (v := I3 (0)) hx hb dX8_times_5 rfl ?_
  refine lv_istore (lv' := [(4, .int (I3 0)), (0, .ref am), (1, .int (I3 a)), (2, .int (I3 b)), (3, .int (I3 cc_))]) hx hb dX8_times_6 hl (by decide) rfl (fun ls hl => ?_)
  have e_37 : 0 ≤ (0 : Int) ∧ (0 : Int) ≤ 64 := by first | assumption | omega | (constructor <;> omega)
  have e_38 : Dg W1_2 := by first | assumption | omega | (constructor <;> omega)
  have e_39 : Fr wf W1_2 cc_ := by first | assumption | omega | (constructor <;> omega)
  have e_40 : vz W1_2 (64 * cc_) 64 = vi wf (64 * a) (0 : Int) * vz wf (64 * b) 64 % (BN : Int) := by exact tm_0 p2_2
  exact cut_8 ((64 - (0 : Int)).toNat + 1) 0 W1_2 e_37 e_38 e_39 e_40 (Nat.lt_succ_self _) _ _ hP hD hS ls (lv_sub hl [1, 2, 3, 4, 0] rfl)
