/-! the model: rows, second part -/
set_option maxRecDepth 100000
abbrev BmetX8_isEven (dC : Nat → ClassId) (dI : Nat → Nat → Nat) (dA : Nat → ClassId) (A : Nat → Prop) (am : Nat) (as_ : Nat) (av : Nat) (aw : Nat) (th : Int) (mn : Int) (sm : Int) (wd : Int) (lp : Int) (mp : Int) (re : Int) (SG : Int → Int) (VL : Int → Int) (wf : Int → Int) (r : Int) : Int → State → Prop := fun u t => (fun (u : Int) => (fun (z : Int) => va_P (dC, dI) vwCl [(am, .inr (0, [.int (I3 th), .int (I3 mn), .ref as_, .ref av, .ref aw, .int (I3 sm), .int (I3 wd), .int (I3 lp), .int (I3 mp), .int (I3 re)])), (as_, .inl (dA 0, 60, .inl (iA SG))), (av, .inl (dA 1, 960, .inr (.inl (lA VL)))), (aw, .inl (dA 1, 1024, .inr (.inl (lA wf))))] t.heap ∧ va_K (dC, dI) vwCl (tyA dA) t ∧ va_D A [(am, .inr (0, [.int (I3 th), .int (I3 mn), .ref as_, .ref av, .ref aw, .int (I3 sm), .int (I3 wd), .int (I3 lp), .int (I3 mp), .int (I3 re)])), (as_, .inl (dA 0, 60, .inl (iA SG))), (av, .inl (dA 1, 960, .inr (.inl (lA VL)))), (aw, .inl (dA 1, 1024, .inr (.inl (lA wf))))]) u) u
abbrev QmetX8_isEven (dC : Nat → ClassId) (dI : Nat → Nat → Nat) (dA : Nat → ClassId) (A : Nat → Prop) (am : Nat) (as_ : Nat) (av : Nat) (aw : Nat) (th : Int) (mn : Int) (sm : Int) (wd : Int) (lp : Int) (mp : Int) (re : Int) (SG : Int → Int) (VL : Int → Int) (wf : Int → Int) (r : Int) := va_Qi (fun (rt_ : Int32) => fun (u : Int) => (fun (z : Int) => rt_ = I3 z ∧ (z = if rv wf r % 2 = 0 then 1 else 0)) u) (BmetX8_isEven dC dI dA A am as_ av aw th mn sm wd lp mp re SG VL wf r) A
set_option maxHeartbeats 1000000 in
set_option maxRecDepth 100000 in
/-- is row r even -/
theorem metX8_isEven (l : Launch) (dC : Nat → ClassId) (dI : Nat → Nat → Nat) (dA : Nat → ClassId) (am : Nat) (as_ : Nat) (av : Nat) (aw : Nat) (sz : Nat) (th : Int) (mn : Int) (sm : Int) (wd : Int) (lp : Int) (mp : Int) (re : Int) (SG : Int → Int) (VL : Int → Int) (wf : Int → Int) (r : Int) (hr : 0 ≤ r ∧ r < 16) (hW : Dg wf) : Met l yX8_isEven (ws_ yX8_isEven cX8_isEven 2 (some .boolean)) ({ frames := 1, cells := 0, slots := 0, locals := 40 }) (va_Pc [.ref am, .int (I3 r)] (fun U => U.heap.size = sz ∧ va_P (dC, dI) vwCl [(am, .inr (0, [.int (I3 th), .int (I3 mn), .ref as_, .ref av, .ref aw, .int (I3 sm), .int (I3 wd), .int (I3 lp), .int (I3 mp), .int (I3 re)])), (as_, .inl (dA 0, 60, .inl (iA SG))), (av, .inl (dA 1, 960, .inr (.inl (lA VL)))), (aw, .inl (dA 1, 1024, .inr (.inl (lA wf))))] U.heap ∧ va_K (dC, dI) vwCl (tyA dA) U ∧ va_D (fun _ => True) [(am, .inr (0, [.int (I3 th), .int (I3 mn), .ref as_, .ref av, .ref aw, .int (I3 sm), .int (I3 wd), .int (I3 lp), .int (I3 mp), .int (I3 re)])), (as_, .inl (dA 0, 60, .inl (iA SG))), (av, .inl (dA 1, 960, .inr (.inl (lA VL)))), (aw, .inl (dA 1, 1024, .inr (.inl (lA wf))))])) (QmetX8_isEven dC dI dA (va_A [(am, .inr (0, [.int (I3 th), .int (I3 mn), .ref as_, .ref av, .ref aw, .int (I3 sm), .int (I3 wd), .int (I3 lp), .int (I3 mp), .int (I3 re)])), (as_, .inl (dA 0, 60, .inl (iA SG))), (av, .inl (dA 1, 960, .inr (.inl (lA VL)))), (aw, .inl (dA 1, 1024, .inr (.inl (lA wf))))] sz) am as_ av aw th mn sm wd lp mp re SG VL wf r) 0 0 (va_A [(am, .inr (0, [.int (I3 th), .int (I3 mn), .ref as_, .ref av, .ref aw, .int (I3 sm), .int (I3 wd), .int (I3 lp), .int (I3 mp), .int (I3 re)])), (as_, .inl (dA 0, 60, .inl (iA SG))), (av, .inl (dA 1, 960, .inr (.inl (lA VL)))), (aw, .inl (dA 1, 1024, .inr (.inl (lA wf))))] sz) := by
  refine Met.ofW (cc := cX8_isEven) (maxL := 2) (ret := (some .boolean)) (by decide) rfl ?_
  intro p e s m args below meth c s₁ B hml hv
  obtain ⟨rfl, hsz, hP, hK, hD0⟩ := hv
  have hx := B.exec
  have hb := B.bytes
  have hr := B.returns
  have hts := atoms_spec (ws := (ws_ yX8_isEven cX8_isEven 2 (some .boolean))) B.pre
  have hts : ∀ w ∈ lw_all, w.before _ s = true := fun w h => hts w (List.mem_cons_of_mem _ h)
  have hown : s.vm.findClass RX8 = some m.cls := findClass_of_methodNamed B.named
  have hlocks := B.notSynchronized
  subst hsz
  have hD := hD0.self (sz := s.heap.size)
  generalize hAe : va_A [(am, .inr (0, [.int (I3 th), .int (I3 mn), .ref as_, .ref av, .ref aw, .int (I3 sm), .int (I3 wd), .int (I3 lp), .int (I3 mp), .int (I3 re)])), (as_, .inl (dA 0, 60, .inl (iA SG))), (av, .inl (dA 1, 960, .inr (.inl (lA VL)))), (aw, .inl (dA 1, 1024, .inr (.inl (lA wf))))] s.heap.size = A at hD ⊢
  have hA : ∀ q : Nat, s.heap.size ≤ q → A q := fun q h => by rw [← hAe]; exact Or.inr h
  have hS : va_S A s.heap s.heap [] := va_S.rf
  have hP : va_P (dC, dI) vwCl [(am, .inr (0, [.int (I3 th), .int (I3 mn), .ref as_, .ref av, .ref aw, .int (I3 sm), .int (I3 wd), .int (I3 lp), .int (I3 mp), .int (I3 re)])), (as_, .inl (dA 0, 60, .inl (iA SG))), (av, .inl (dA 1, 960, .inr (.inl (lA VL)))), (aw, .inl (dA 1, 1024, .inr (.inl (lA wf))))] s.heap := hP
  have hl := lv_entry ([.ref am, .int (I3 r)]) (n := 2) (Nat.le_of_ble_eq_true rfl)
  rw [lg_entry_eq]
  generalize (lg_sl ([.ref am, .int (I3 r)]) ++ List.replicate (2 - (lg_sl ([.ref am, .int (I3 r)])).length) Slot.unset).toArray = ls at hl ⊢
  have hl : lv_has ls 2 [(0, .ref am), (1, .int (I3 r))] := hl
  refine lv_aload_n hx hb dX8_isEven_0 rfl (lv_at hl 0 rfl) ?_
  refine va_get (D := (dC, dI)) (ci := 0) (v := .ref aw) (C := RX8) (T := TX8) (N := 10) hx hb hts in_X8 hown hK hP 0 rfl rfl 4 (by decide) (hts _ q917) (fun _ h9 => h9) rfl dX8_isEven_1 ?_
  refine lv_bipush (v := I3 (64)) hx hb dX8_isEven_4 (by decide) ?_
  refine lv_iload_n hx hb dX8_isEven_6 rfl (lv_at hl 1 rfl) ?_
  refine ix_imul hx hb dX8_isEven_7 ?_
  refine ix_lald hx hb hK hP 3 1 rfl rfl (Nat.le_of_ble_eq_true rfl) (by omega) dX8_isEven_8 ?_
  have g_8 := hW (64 * r)
  refine lv_lconst (v := L6 1) hx hb dX8_isEven_9 (by decide) ?_
  refine ix_landm hx hb 1 (by decide) (by decide) dX8_isEven_10 ?_
  refine ix_tl (y := (wf (64 * r)) % 2) rfl ?_
  refine lv_lconst (v := L6 0) hx hb dX8_isEven_11 (by decide) ?_
  refine ix_lcmp_ne (tgt := 20) hx hb (by first | decide | assumption | (constructor <;> omega)) (by first | decide | assumption | (constructor <;> omega)) dX8_isEven_12 dX8_isEven_13 (by decide) (fun c_12 => ?_) (fun c_12 => ?_)
  · skip
    refine lv_iconst (v := I3 (0)) hx hb dX8_isEven_20 rfl ?_
    have q := ev_z hW r
    have o_1 : (0 : Int) = if rv wf r % 2 = 0 then 1 else 0 := by rw [if_neg (by omega)]
    exact W.zret (v := I3 0) hx hb hr rfl (fun t ht hW => ⟨⟨I3 0, 0, rfl, ⟨rfl, o_1⟩, by rw [ht]; exact hP, va_K.moved hW.alike hK, hD⟩, hS.F ht⟩) hS.2.2 dX8_isEven_21
  · skip
    refine lv_iconst (v := I3 (1)) hx hb dX8_isEven_16 rfl ?_
    refine lv_goto (tgt := 21) hx hb dX8_isEven_17 (by decide) ?_
    have q := ev_z hW r
    have o_2 : (1 : Int) = if rv wf r % 2 = 0 then 1 else 0 := by rw [if_pos (by omega)]
    exact W.zret (v := I3 1) hx hb hr rfl (fun t ht hW => ⟨⟨I3 1, 1, rfl, ⟨rfl, o_2⟩, by rw [ht]; exact hP, va_K.moved hW.alike hK, hD⟩, hS.F ht⟩) hS.2.2 dX8_isEven_21
abbrev BmetX8_swap (dC : Nat → ClassId) (dI : Nat → Nat → Nat) (dA : Nat → ClassId) (A : Nat → Prop) (am : Nat) (as_ : Nat) (av : Nat) (aw : Nat) (th : Int) (mn : Int) (sm : Int) (wd : Int) (lp : Int) (mp : Int) (re : Int) (SG : Int → Int) (VL : Int → Int) (wf : Int → Int) (a : Int) (b : Int) : (Int → Int) → State → Prop := fun u t => (fun (u : (Int → Int)) => (fun (W1 : Int → Int) => va_P (dC, dI) vwCl [(am, .inr (0, [.int (I3 th), .int (I3 mn), .ref as_, .ref av, .ref aw, .int (I3 sm), .int (I3 wd), .int (I3 lp), .int (I3 mp), .int (I3 re)])), (as_, .inl (dA 0, 60, .inl (iA SG))), (av, .inl (dA 1, 960, .inr (.inl (lA VL)))), (aw, .inl (dA 1, 1024, .inr (.inl (lA W1))))] t.heap ∧ va_K (dC, dI) vwCl (tyA dA) t ∧ va_D A [(am, .inr (0, [.int (I3 th), .int (I3 mn), .ref as_, .ref av, .ref aw, .int (I3 sm), .int (I3 wd), .int (I3 lp), .int (I3 mp), .int (I3 re)])), (as_, .inl (dA 0, 60, .inl (iA SG))), (av, .inl (dA 1, 960, .inr (.inl (lA VL)))), (aw, .inl (dA 1, 1024, .inr (.inl (lA W1))))]) u) u
abbrev QmetX8_swap (dC : Nat → ClassId) (dI : Nat → Nat → Nat) (dA : Nat → ClassId) (A : Nat → Prop) (am : Nat) (as_ : Nat) (av : Nat) (aw : Nat) (th : Int) (mn : Int) (sm : Int) (wd : Int) (lp : Int) (mp : Int) (re : Int) (SG : Int → Int) (VL : Int → Int) (wf : Int → Int) (a : Int) (b : Int) := va_Qv (fun (u : (Int → Int)) => (fun (W1 : Int → Int) => (Dg W1) ∧ (∀ i : Int, ¬ (64 * a ≤ i ∧ i < 64 * a + 64) → ¬ (64 * b ≤ i ∧ i < 64 * b + 64) → W1 i = wf i) ∧ (rv W1 a = rv wf b) ∧ (rv W1 b = rv wf a)) u) (BmetX8_swap dC dI dA A am as_ av aw th mn sm wd lp mp re SG VL wf a b) A
set_option maxHeartbeats 1000000 in
set_option maxRecDepth 100000 in
/-- rows change places -/
theorem metX8_swap (l : Launch) (dC : Nat → ClassId) (dI : Nat → Nat → Nat) (dA : Nat → ClassId) (am : Nat) (as_ : Nat) (av : Nat) (aw : Nat) (sz : Nat) (th : Int) (mn : Int) (sm : Int) (wd : Int) (lp : Int) (mp : Int) (re : Int) (SG : Int → Int) (VL : Int → Int) (wf : Int → Int) (a : Int) (b : Int) (ha : 0 ≤ a ∧ a < 16) (hb_ : 0 ≤ b ∧ b < 16) (hab : a ≠ b) (hW : Dg wf) : Met l yX8_swap (ws_ yX8_swap cX8_swap 6 none) ({ frames := 1, cells := 0, slots := 0, locals := 40 }) (va_Pc [.ref am, .int (I3 a), .int (I3 b)] (fun U => U.heap.size = sz ∧ va_P (dC, dI) vwCl [(am, .inr (0, [.int (I3 th), .int (I3 mn), .ref as_, .ref av, .ref aw, .int (I3 sm), .int (I3 wd), .int (I3 lp), .int (I3 mp), .int (I3 re)])), (as_, .inl (dA 0, 60, .inl (iA SG))), (av, .inl (dA 1, 960, .inr (.inl (lA VL)))), (aw, .inl (dA 1, 1024, .inr (.inl (lA wf))))] U.heap ∧ va_K (dC, dI) vwCl (tyA dA) U ∧ va_D (fun _ => True) [(am, .inr (0, [.int (I3 th), .int (I3 mn), .ref as_, .ref av, .ref aw, .int (I3 sm), .int (I3 wd), .int (I3 lp), .int (I3 mp), .int (I3 re)])), (as_, .inl (dA 0, 60, .inl (iA SG))), (av, .inl (dA 1, 960, .inr (.inl (lA VL)))), (aw, .inl (dA 1, 1024, .inr (.inl (lA wf))))])) (QmetX8_swap dC dI dA (va_A [(am, .inr (0, [.int (I3 th), .int (I3 mn), .ref as_, .ref av, .ref aw, .int (I3 sm), .int (I3 wd), .int (I3 lp), .int (I3 mp), .int (I3 re)])), (as_, .inl (dA 0, 60, .inl (iA SG))), (av, .inl (dA 1, 960, .inr (.inl (lA VL)))), (aw, .inl (dA 1, 1024, .inr (.inl (lA wf))))] sz) am as_ av aw th mn sm wd lp mp re SG VL wf a b) 0 0 (va_A [(am, .inr (0, [.int (I3 th), .int (I3 mn), .ref as_, .ref av, .ref aw, .int (I3 sm), .int (I3 wd), .int (I3 lp), .int (I3 mp), .int (I3 re)])), (as_, .inl (dA 0, 60, .inl (iA SG))), (av, .inl (dA 1, 960, .inr (.inl (lA VL)))), (aw, .inl (dA 1, 1024, .inr (.inl (lA wf))))] sz) := by
  refine Met.ofW (cc := cX8_swap) (maxL := 6) (ret := none) (by decide) rfl ?_
  intro p e s m args below meth c s₁ B hml hv
  obtain ⟨rfl, hsz, hP, hK, hD0⟩ := hv
  have hx := B.exec
  have hb := B.bytes
  have hr := B.returns
  have hts := atoms_spec (ws := (ws_ yX8_swap cX8_swap 6 none)) B.pre
  have hts : ∀ w ∈ lw_all, w.before _ s = true := fun w h => hts w (List.mem_cons_of_mem _ h)
  have hown : s.vm.findClass RX8 = some m.cls := findClass_of_methodNamed B.named
  have hlocks := B.notSynchronized
  subst hsz
  have hD := hD0.self (sz := s.heap.size)
  generalize hAe : va_A [(am, .inr (0, [.int (I3 th), .int (I3 mn), .ref as_, .ref av, .ref aw, .int (I3 sm), .int (I3 wd), .int (I3 lp), .int (I3 mp), .int (I3 re)])), (as_, .inl (dA 0, 60, .inl (iA SG))), (av, .inl (dA 1, 960, .inr (.inl (lA VL)))), (aw, .inl (dA 1, 1024, .inr (.inl (lA wf))))] s.heap.size = A at hD ⊢
  have hA : ∀ q : Nat, s.heap.size ≤ q → A q := fun q h => by rw [← hAe]; exact Or.inr h
  have hS : va_S A s.heap s.heap [] := va_S.rf
  have hP : va_P (dC, dI) vwCl [(am, .inr (0, [.int (I3 th), .int (I3 mn), .ref as_, .ref av, .ref aw, .int (I3 sm), .int (I3 wd), .int (I3 lp), .int (I3 mp), .int (I3 re)])), (as_, .inl (dA 0, 60, .inl (iA SG))), (av, .inl (dA 1, 960, .inr (.inl (lA VL)))), (aw, .inl (dA 1, 1024, .inr (.inl (lA wf))))] s.heap := hP
  have hl := lv_entry ([.ref am, .int (I3 a), .int (I3 b)]) (n := 6) (Nat.le_of_ble_eq_true rfl)
  rw [lg_entry_eq]
  generalize (lg_sl ([.ref am, .int (I3 a), .int (I3 b)]) ++ List.replicate (6 - (lg_sl ([.ref am, .int (I3 a), .int (I3 b)])).length) Slot.unset).toArray = ls at hl ⊢
  have hl : lv_has ls 6 [(0, .ref am), (1, .int (I3 a)), (2, .int (I3 b))] := hl
  have cut_2 : ∀ (fuel_2 : Nat), ∀ (k : Int) (W1 : Int → Int), (0 ≤ k ∧ k ≤ 64) → (Dg W1) → (∀ i : Int, ¬ (64 * a ≤ i ∧ i < 64 * a + 64) → ¬ (64 * b ≤ i ∧ i < 64 * b + 64) → W1 i = wf i) → (∀ j : Int, 0 ≤ j → j < k → W1 (64 * a + j) = wf (64 * b + j)) → (∀ j : Int, 0 ≤ j → j < k → W1 (64 * b + j) = wf (64 * a + j)) → (∀ j : Int, k ≤ j → j < 64 → W1 (64 * a + j) = wf (64 * a + j)) → (∀ j : Int, k ≤ j → j < 64 → W1 (64 * b + j) = wf (64 * b + j)) → ((64 - k).toNat < fuel_2) → ∀ (H : Heap) (locs : List Loc), va_P (dC, dI) vwCl [(am, .inr (0, [.int (I3 th), .int (I3 mn), .ref as_, .ref av, .ref aw, .int (I3 sm), .int (I3 wd), .int (I3 lp), .int (I3 mp), .int (I3 re)])), (as_, .inl (dA 0, 60, .inl (iA SG))), (av, .inl (dA 1, 960, .inr (.inl (lA VL)))), (aw, .inl (dA 1, 1024, .inr (.inl (lA W1))))] H → va_D A [(am, .inr (0, [.int (I3 th), .int (I3 mn), .ref as_, .ref av, .ref aw, .int (I3 sm), .int (I3 wd), .int (I3 lp), .int (I3 mp), .int (I3 re)])), (as_, .inl (dA 0, 60, .inl (iA SG))), (av, .inl (dA 1, 960, .inr (.inl (lA VL)))), (aw, .inl (dA 1, 1024, .inr (.inl (lA W1))))] → va_S A s.heap H locs → ∀ (ls : Array Slot), lv_has ls 6 [(0, .ref am), (1, .int (I3 a)), (2, .int (I3 b)), (3, .int (I3 k))] → W p l e (headSpec (ws_ yX8_swap cX8_swap 6 none) ({ frames := 1, cells := 0, slots := 0, locals := 40 })).room s m ([.ref am, .int (I3 a), .int (I3 b)] : List Value).toArray below meth c H locs 0 0 (MQ below (QmetX8_swap dC dI dA A am as_ av aw th mn sm wd lp mp re SG VL wf a b) ([.ref am, .int (I3 a), .int (I3 b)] : List Value).toArray s 0 0 A) (F0 m 2 ls []) := by
    intro fuel_2
    induction fuel_2 with
    | zero =>
      intro k W1 hk hW1 hF h1 h2 h3 h4 hm
      exact absurd hm (Nat.not_lt_zero _)
    | succ fuel_2 ih_2 =>
      intro k W1 hk hW1 hF h1 h2 h3 h4 hm_2 H locs hP hD hS ls hl
      refine lv_iload_n hx hb dX8_swap_2 rfl (lv_at hl 3 rfl) ?_
      refine lv_bipush (v := I3 (64)) hx hb dX8_swap_3 (by decide) ?_
      refine ix_icmp_ge (tgt := 62) hx hb (by first | decide | assumption | (constructor <;> omega)) (by first | decide | assumption | (constructor <;> omega)) dX8_swap_5 (by decide) (fun c_5 => ?_) (fun c_5 => ?_)
      · skip
        have o_1 : Dg W1 := by first | assumption | omega | (constructor <;> omega)
        have o_2 : ∀ i : Int, ¬ (64 * a ≤ i ∧ i < 64 * a + 64) → ¬ (64 * b ≤ i ∧ i < 64 * b + 64) → W1 i = wf i := by first | assumption | omega | (constructor <;> omega)
        have o_3 : rv W1 a = rv wf b := by exact copy_rv (fun j q1 q2 => h1 j q1 (by omega))
        have o_4 : rv W1 b = rv wf a := by exact copy_rv (fun j q1 q2 => h2 j q1 (by omega))
        exact W.vret hx hb hr (fun t ht hW => ⟨⟨W1, rfl, ⟨o_1, o_2, o_3, o_4⟩, by rw [ht]; exact hP, va_K.moved hW.alike hK, hD⟩, hS.F ht⟩) hS.2.2 dX8_swap_62
      · skip
        refine lv_aload_n hx hb dX8_swap_8 rfl (lv_at hl 0 rfl) ?_
        refine va_get (D := (dC, dI)) (ci := 0) (v := .ref aw) (C := RX8) (T := TX8) (N := 10) hx hb hts in_X8 hown hK hP 0 rfl rfl 4 (by decide) (hts _ q917) (fun _ h9 => h9) rfl dX8_swap_9 ?_
        refine lv_bipush (v := I3 (64)) hx hb dX8_swap_12 (by decide) ?_
        refine lv_iload_n hx hb dX8_swap_14 rfl (lv_at hl 1 rfl) ?_
        refine ix_imul hx hb dX8_swap_15 ?_
        refine lv_iload_n hx hb dX8_swap_16 rfl (lv_at hl 3 rfl) ?_
        refine ix_iadd hx hb dX8_swap_17 ?_
        refine ix_lald hx hb hK hP 3 1 rfl rfl (Nat.le_of_ble_eq_true rfl) (by omega) dX8_swap_18 ?_
        have g_18 := hW1 ((64 * a) + k)
        refine lv_lstore (lv' := [(4, .long (L6 (W1 ((64 * a) + k)))), (0, .ref am), (1, .int (I3 a)), (2, .int (I3 b)), (3, .int (I3 k))]) hx hb dX8_swap_19 hl (by decide) rfl (fun ls hl => ?_)
        refine lv_aload_n hx hb dX8_swap_21 rfl (lv_at hl 1 rfl) ?_
        refine va_get (D := (dC, dI)) (ci := 0) (v := .ref aw) (C := RX8) (T := TX8) (N := 10) hx hb hts in_X8 hown hK hP 0 rfl rfl 4 (by decide) (hts _ q917) (fun _ h9 => h9) rfl dX8_swap_22 ?_
        refine lv_bipush (v := I3 (64)) hx hb dX8_swap_25 (by decide) ?_
        refine lv_iload_n hx hb dX8_swap_27 rfl (lv_at hl 2 rfl) ?_
        refine ix_imul hx hb dX8_swap_28 ?_
        refine lv_iload_n hx hb dX8_swap_29 rfl (lv_at hl 4 rfl) ?_
        refine ix_iadd hx hb dX8_swap_30 ?_
        refine lv_aload_n hx hb dX8_swap_31 rfl (lv_at hl 1 rfl) ?_
        refine va_get (D := (dC, dI)) (ci := 0) (v := .ref aw) (C := RX8) (T := TX8) (N := 10) hx hb hts in_X8 hown hK hP 0 rfl rfl 4 (by decide) (hts _ q917) (fun _ h9 => h9) rfl dX8_swap_32 ?_
        refine lv_bipush (v := I3 (64)) hx hb dX8_swap_35 (by decide) ?_
        refine lv_iload_n hx hb dX8_swap_37 rfl (lv_at hl 3 rfl) ?_
        refine ix_imul hx hb dX8_swap_38 ?_
        refine lv_iload_n hx hb dX8_swap_39 rfl (lv_at hl 4 rfl) ?_
        refine ix_iadd hx hb dX8_swap_40 ?_
        refine ix_lald hx hb hK hP 3 1 rfl rfl (Nat.le_of_ble_eq_true rfl) (by omega) dX8_swap_41 ?_
        have g_41 := hW1 ((64 * b) + k)
        refine ix_last hx hb hK hP hD hS 3 1 rfl rfl (Nat.le_of_ble_eq_true rfl) (by omega) dX8_swap_42 (fun H locs hP hD hS => ?_)
        have hP : va_P (dC, dI) vwCl [(am, .inr (0, [.int (I3 th), .int (I3 mn), .ref as_, .ref av, .ref aw, .int (I3 sm), .int (I3 wd), .int (I3 lp), .int (I3 mp), .int (I3 re)])), (as_, .inl (dA 0, 60, .inl (iA SG))), (av, .inl (dA 1, 960, .inr (.inl (lA VL)))), (aw, .inl (dA 1, 1024, .inr (.inl (lA (uZ W1 ((64 * a) + k) (W1 ((64 * b) + k)))))))] H := hP
        have hD : va_D A [(am, .inr (0, [.int (I3 th), .int (I3 mn), .ref as_, .ref av, .ref aw, .int (I3 sm), .int (I3 wd), .int (I3 lp), .int (I3 mp), .int (I3 re)])), (as_, .inl (dA 0, 60, .inl (iA SG))), (av, .inl (dA 1, 960, .inr (.inl (lA VL)))), (aw, .inl (dA 1, 1024, .inr (.inl (lA (uZ W1 ((64 * a) + k) (W1 ((64 * b) + k)))))))] := hD
        refine lv_aload_n hx hb dX8_swap_43 rfl (lv_at hl 1 rfl) ?_
        refine va_get (D := (dC, dI)) (ci := 0) (v := .ref aw) (C := RX8) (T := TX8) (N := 10) hx hb hts in_X8 hown hK hP 0 rfl rfl 4 (by decide) (hts _ q917) (fun _ h9 => h9) rfl dX8_swap_44 ?_
        refine lv_bipush (v := I3 (64)) hx hb dX8_swap_47 (by decide) ?_
        refine lv_iload_n hx hb dX8_swap_49 rfl (lv_at hl 3 rfl) ?_
        refine ix_imul hx hb dX8_swap_50 ?_
        refine lv_iload_n hx hb dX8_swap_51 rfl (lv_at hl 4 rfl) ?_
        refine ix_iadd hx hb dX8_swap_52 ?_
        refine lv_lload hx hb dX8_swap_53 (lv_at hl 0 rfl) ?_
        refine ix_last hx hb hK hP hD hS 3 1 rfl rfl (Nat.le_of_ble_eq_true rfl) (by omega) dX8_swap_55 (fun H locs hP hD hS => ?_)
        have hP : va_P (dC, dI) vwCl [(am, .inr (0, [.int (I3 th), .int (I3 mn), .ref as_, .ref av, .ref aw, .int (I3 sm), .int (I3 wd), .int (I3 lp), .int (I3 mp), .int (I3 re)])), (as_, .inl (dA 0, 60, .inl (iA SG))), (av, .inl (dA 1, 960, .inr (.inl (lA VL)))), (aw, .inl (dA 1, 1024, .inr (.inl (lA (uZ (uZ W1 ((64 * a) + k) (W1 ((64 * b) + k))) ((64 * b) + k) (W1 ((64 * a) + k)))))))] H := hP
        have hD : va_D A [(am, .inr (0, [.int (I3 th), .int (I3 mn), .ref as_, .ref av, .ref aw, .int (I3 sm), .int (I3 wd), .int (I3 lp), .int (I3 mp), .int (I3 re)])), (as_, .inl (dA 0, 60, .inl (iA SG))), (av, .inl (dA 1, 960, .inr (.inl (lA VL)))), (aw, .inl (dA 1, 1024, .inr (.inl (lA (uZ (uZ W1 ((64 * a) + k) (W1 ((64 * b) + k))) ((64 * b) + k) (W1 ((64 * a) + k)))))))] := hD
        refine lv_iinc (v := I3 (k + 1)) (lv' := [(3, .int (I3 (k + 1))), (4, .long (L6 (W1 ((64 * a) + k)))), (0, .ref am), (1, .int (I3 a)), (2, .int (I3 b))]) hx hb dX8_swap_56 hl (k := 4) rfl (I3_add _ _) (by decide) rfl (fun ls hl => ?_)
        refine lv_goto (tgt := 2) hx hb dX8_swap_59 (by decide) ?_
        have e_5 : 0 ≤ (k + 1) ∧ (k + 1) ≤ 64 := by first | assumption | omega | (constructor <;> omega)
        have e_6 : Dg (uZ (uZ W1 ((64 * a) + k) (W1 ((64 * b) + k))) ((64 * b) + k) (W1 ((64 * a) + k))) := by exact Dg_uZ (Dg_uZ hW1 (by omega) (by omega)) (by omega) (by omega)
        have e_7 : ∀ i : Int, ¬ (64 * a ≤ i ∧ i < 64 * a + 64) → ¬ (64 * b ≤ i ∧ i < 64 * b + 64) → (uZ (uZ W1 ((64 * a) + k) (W1 ((64 * b) + k))) ((64 * b) + k) (W1 ((64 * a) + k))) i = wf i := by intro i q1 q2; rw [uZ_n (by omega), uZ_n (by omega)]; exact hF i q1 q2
        have e_8 : ∀ j : Int, 0 ≤ j → j < (k + 1) → (uZ (uZ W1 ((64 * a) + k) (W1 ((64 * b) + k))) ((64 * b) + k) (W1 ((64 * a) + k))) (64 * a + j) = wf (64 * b + j) := by intro j q1 q2; rw [uZ_n (by omega)]; by_cases q : j = k; rw [q, uZ_s]; exact h4 k (by omega) (by omega); rw [uZ_n (by omega)]; exact h1 j q1 (by omega)
        have e_9 : ∀ j : Int, 0 ≤ j → j < (k + 1) → (uZ (uZ W1 ((64 * a) + k) (W1 ((64 * b) + k))) ((64 * b) + k) (W1 ((64 * a) + k))) (64 * b + j) = wf (64 * a + j) := by intro j q1 q2; by_cases q : j = k; rw [q, uZ_s]; exact h3 k (by omega) (by omega); rw [uZ_n (by omega), uZ_n (by omega)]; exact h2 j q1 (by omega)
        have e_10 : ∀ j : Int, (k + 1) ≤ j → j < 64 → (uZ (uZ W1 ((64 * a) + k) (W1 ((64 * b) + k))) ((64 * b) + k) (W1 ((64 * a) + k))) (64 * a + j) = wf (64 * a + j) := by intro j q1 q2; rw [uZ_n (by omega), uZ_n (by omega)]; exact h3 j (by omega) q2
        have e_11 : ∀ j : Int, (k + 1) ≤ j → j < 64 → (uZ (uZ W1 ((64 * a) + k) (W1 ((64 * b) + k))) ((64 * b) + k) (W1 ((64 * a) + k))) (64 * b + j) = wf (64 * b + j) := by intro j q1 q2; rw [uZ_n (by omega), uZ_n (by omega)]; exact h4 j (by omega) q2
        have e_12 : (64 - (k + 1)).toNat < fuel_2 := by omega
        exact ih_2 (k + 1) (uZ (uZ W1 ((64 * a) + k) (W1 ((64 * b) + k))) ((64 * b) + k) (W1 ((64 * a) + k))) e_5 e_6 e_7 e_8 e_9 e_10 e_11 e_12 _ _ hP hD hS ls (lv_sub hl [2, 3, 4, 0] rfl)
  refine lv_iconst (v := I3 (0)) hx hb dX8_swap_0 rfl ?_
  refine lv_istore_n (lv' := [(3, .int (I3 0)), (0, .ref am), (1, .int (I3 a)), (2, .int (I3 b))]) hx hb dX8_swap_1 rfl hl (by decide) rfl (fun ls hl => ?_)
  have e_13 : 0 ≤ (0 : Int) ∧ (0 : Int) ≤ 64 := by first | assumption | omega | (constructor <;> omega)
  have e_14 : Dg wf := by first | assumption | omega | (constructor <;> omega)
  have e_15 : ∀ i : Int, ¬ (64 * a ≤ i ∧ i < 64 * a + 64) → ¬ (64 * b ≤ i ∧ i < 64 * b + 64) → wf i = wf i := by intro i q1 q2; rfl
  have e_16 : ∀ j : Int, 0 ≤ j → j < (0 : Int) → wf (64 * a + j) = wf (64 * b + j) := by intro i q1 q2; omega
  have e_17 : ∀ j : Int, 0 ≤ j → j < (0 : Int) → wf (64 * b + j) = wf (64 * a + j) := by intro i q1 q2; omega
  have e_18 : ∀ j : Int, (0 : Int) ≤ j → j < 64 → wf (64 * a + j) = wf (64 * a + j) := by intro i q1 q2; rfl
  have e_19 : ∀ j : Int, (0 : Int) ≤ j → j < 64 → wf (64 * b + j) = wf (64 * b + j) := by intro i q1 q2; rfl
  exact cut_2 ((64 - (0 : Int)).toNat + 1) 0 wf e_13 e_14 e_15 e_16 e_17 e_18 e_19 (Nat.lt_succ_self _) _ _ hP hD hS ls (lv_sub hl [1, 2, 3, 0] rfl)
abbrev BmetX8_bit (dC : Nat → ClassId) (dI : Nat → Nat → Nat) (dA : Nat → ClassId) (A : Nat → Prop) (am : Nat) (as_ : Nat) (av : Nat) (aw : Nat) (th : Int) (mn : Int) (sm : Int) (wd : Int) (lp : Int) (mp : Int) (re : Int) (SG : Int → Int) (VL : Int → Int) (wf : Int → Int) (r : Int) (i : Int) : Int → State → Prop := fun u t => (fun (u : Int) => (fun (z : Int) => va_P (dC, dI) vwCl [(am, .inr (0, [.int (I3 th), .int (I3 mn), .ref as_, .ref av, .ref aw, .int (I3 sm), .int (I3 wd), .int (I3 lp), .int (I3 mp), .int (I3 re)])), (as_, .inl (dA 0, 60, .inl (iA SG))), (av, .inl (dA 1, 960, .inr (.inl (lA VL)))), (aw, .inl (dA 1, 1024, .inr (.inl (lA wf))))] t.heap ∧ va_K (dC, dI) vwCl (tyA dA) t ∧ va_D A [(am, .inr (0, [.int (I3 th), .int (I3 mn), .ref as_, .ref av, .ref aw, .int (I3 sm), .int (I3 wd), .int (I3 lp), .int (I3 mp), .int (I3 re)])), (as_, .inl (dA 0, 60, .inl (iA SG))), (av, .inl (dA 1, 960, .inr (.inl (lA VL)))), (aw, .inl (dA 1, 1024, .inr (.inl (lA wf))))]) u) u
abbrev QmetX8_bit (dC : Nat → ClassId) (dI : Nat → Nat → Nat) (dA : Nat → ClassId) (A : Nat → Prop) (am : Nat) (as_ : Nat) (av : Nat) (aw : Nat) (th : Int) (mn : Int) (sm : Int) (wd : Int) (lp : Int) (mp : Int) (re : Int) (SG : Int → Int) (VL : Int → Int) (wf : Int → Int) (r : Int) (i : Int) := va_Ql (fun (rt_ : Int64) => fun (u : Int) => (fun (z : Int) => rt_ = L6 z ∧ (z = ((rv wf r / 2 ^ i.toNat % 2 : Nat) : Int))) u) (BmetX8_bit dC dI dA A am as_ av aw th mn sm wd lp mp re SG VL wf r i) A
set_option maxHeartbeats 1000000 in
set_option maxRecDepth 100000 in
/-- bit i of row r -/
theorem metX8_bit (l : Launch) (dC : Nat → ClassId) (dI : Nat → Nat → Nat) (dA : Nat → ClassId) (am : Nat) (as_ : Nat) (av : Nat) (aw : Nat) (sz : Nat) (th : Int) (mn : Int) (sm : Int) (wd : Int) (lp : Int) (mp : Int) (re : Int) (SG : Int → Int) (VL : Int → Int) (wf : Int → Int) (r : Int) (i : Int) (hr : 0 ≤ r ∧ r < 16) (hi : 0 ≤ i ∧ i < 2048) (hW : Dg wf) : Met l yX8_bit (ws_ yX8_bit cX8_bit 3 (some .long)) ({ frames := 1, cells := 0, slots := 0, locals := 40 }) (va_Pc [.ref am, .int (I3 r), .int (I3 i)] (fun U => U.heap.size = sz ∧ va_P (dC, dI) vwCl [(am, .inr (0, [.int (I3 th), .int (I3 mn), .ref as_, .ref av, .ref aw, .int (I3 sm), .int (I3 wd), .int (I3 lp), .int (I3 mp), .int (I3 re)])), (as_, .inl (dA 0, 60, .inl (iA SG))), (av, .inl (dA 1, 960, .inr (.inl (lA VL)))), (aw, .inl (dA 1, 1024, .inr (.inl (lA wf))))] U.heap ∧ va_K (dC, dI) vwCl (tyA dA) U ∧ va_D (fun _ => True) [(am, .inr (0, [.int (I3 th), .int (I3 mn), .ref as_, .ref av, .ref aw, .int (I3 sm), .int (I3 wd), .int (I3 lp), .int (I3 mp), .int (I3 re)])), (as_, .inl (dA 0, 60, .inl (iA SG))), (av, .inl (dA 1, 960, .inr (.inl (lA VL)))), (aw, .inl (dA 1, 1024, .inr (.inl (lA wf))))])) (QmetX8_bit dC dI dA (va_A [(am, .inr (0, [.int (I3 th), .int (I3 mn), .ref as_, .ref av, .ref aw, .int (I3 sm), .int (I3 wd), .int (I3 lp), .int (I3 mp), .int (I3 re)])), (as_, .inl (dA 0, 60, .inl (iA SG))), (av, .inl (dA 1, 960, .inr (.inl (lA VL)))), (aw, .inl (dA 1, 1024, .inr (.inl (lA wf))))] sz) am as_ av aw th mn sm wd lp mp re SG VL wf r i) 0 0 (va_A [(am, .inr (0, [.int (I3 th), .int (I3 mn), .ref as_, .ref av, .ref aw, .int (I3 sm), .int (I3 wd), .int (I3 lp), .int (I3 mp), .int (I3 re)])), (as_, .inl (dA 0, 60, .inl (iA SG))), (av, .inl (dA 1, 960, .inr (.inl (lA VL)))), (aw, .inl (dA 1, 1024, .inr (.inl (lA wf))))] sz) := by
  refine Met.ofW (cc := cX8_bit) (maxL := 3) (ret := (some .long)) (by decide) rfl ?_
  intro p e s m args below meth c s₁ B hml hv
  obtain ⟨rfl, hsz, hP, hK, hD0⟩ := hv
  have hx := B.exec
  have hb := B.bytes
  have hr := B.returns
  have hts := atoms_spec (ws := (ws_ yX8_bit cX8_bit 3 (some .long))) B.pre
  have hts : ∀ w ∈ lw_all, w.before _ s = true := fun w h => hts w (List.mem_cons_of_mem _ h)
  have hown : s.vm.findClass RX8 = some m.cls := findClass_of_methodNamed B.named
  have hlocks := B.notSynchronized
  subst hsz
  have hD := hD0.self (sz := s.heap.size)
  generalize hAe : va_A [(am, .inr (0, [.int (I3 th), .int (I3 mn), .ref as_, .ref av, .ref aw, .int (I3 sm), .int (I3 wd), .int (I3 lp), .int (I3 mp), .int (I3 re)])), (as_, .inl (dA 0, 60, .inl (iA SG))), (av, .inl (dA 1, 960, .inr (.inl (lA VL)))), (aw, .inl (dA 1, 1024, .inr (.inl (lA wf))))] s.heap.size = A at hD ⊢
  have hA : ∀ q : Nat, s.heap.size ≤ q → A q := fun q h => by rw [← hAe]; exact Or.inr h
  have hS : va_S A s.heap s.heap [] := va_S.rf
  have hP : va_P (dC, dI) vwCl [(am, .inr (0, [.int (I3 th), .int (I3 mn), .ref as_, .ref av, .ref aw, .int (I3 sm), .int (I3 wd), .int (I3 lp), .int (I3 mp), .int (I3 re)])), (as_, .inl (dA 0, 60, .inl (iA SG))), (av, .inl (dA 1, 960, .inr (.inl (lA VL)))), (aw, .inl (dA 1, 1024, .inr (.inl (lA wf))))] s.heap := hP
  have hl := lv_entry ([.ref am, .int (I3 r), .int (I3 i)]) (n := 3) (Nat.le_of_ble_eq_true rfl)
  rw [lg_entry_eq]
  generalize (lg_sl ([.ref am, .int (I3 r), .int (I3 i)]) ++ List.replicate (3 - (lg_sl ([.ref am, .int (I3 r), .int (I3 i)])).length) Slot.unset).toArray = ls at hl ⊢
  have hl : lv_has ls 3 [(0, .ref am), (1, .int (I3 r)), (2, .int (I3 i))] := hl
  refine lv_aload_n hx hb dX8_bit_0 rfl (lv_at hl 0 rfl) ?_
  refine va_get (D := (dC, dI)) (ci := 0) (v := .ref aw) (C := RX8) (T := TX8) (N := 10) hx hb hts in_X8 hown hK hP 0 rfl rfl 4 (by decide) (hts _ q917) (fun _ h9 => h9) rfl dX8_bit_1 ?_
  refine lv_bipush (v := I3 (64)) hx hb dX8_bit_4 (by decide) ?_
  refine lv_iload_n hx hb dX8_bit_6 rfl (lv_at hl 1 rfl) ?_
  refine ix_imul hx hb dX8_bit_7 ?_
  refine lv_iload_n hx hb dX8_bit_8 rfl (lv_at hl 2 rfl) ?_
  refine lv_bipush (v := I3 (32)) hx hb dX8_bit_9 (by decide) ?_
  refine ix_idiv hx hb (by constructor <;> omega) (by first | decide | (constructor <;> omega)) (by first | decide | omega) (by omega) dX8_bit_11 ?_
  refine ix_ti (y := i / 32) (by exact Int.tdiv_eq_ediv_of_nonneg hi.1) ?_
  refine ix_iadd hx hb dX8_bit_12 ?_
  refine ix_lald hx hb hK hP 3 1 rfl rfl (Nat.le_of_ble_eq_true rfl) (by omega) dX8_bit_13 ?_
  have g_13 := hW ((64 * r) + (i / 32))
  refine lv_iload_n hx hb dX8_bit_14 rfl (lv_at hl 2 rfl) ?_
  refine lv_bipush (v := I3 (32)) hx hb dX8_bit_15 (by decide) ?_
  refine ix_irem hx hb (by constructor <;> omega) (by first | decide | (constructor <;> omega)) (by first | decide | omega) (by omega) dX8_bit_17 ?_
  refine ix_ti (y := i % 32) (by exact Int.tmod_eq_emod_of_nonneg hi.1) ?_
  refine ix_lshr hx hb (by first | assumption | (constructor <;> omega)) (by first | decide | omega) dX8_bit_18 ?_
  refine lv_lconst (v := L6 1) hx hb dX8_bit_19 (by decide) ?_
  refine ix_landm hx hb 1 (by decide) (by decide) dX8_bit_20 ?_
  refine ix_tl (y := ((wf ((64 * r) + (i / 32))) / 2 ^ (i % 32 : Int).toNat) % 2) rfl ?_
  have o_1 : (((wf ((64 * r) + (i / 32))) / 2 ^ (i % 32 : Int).toNat) % 2) = ((rv wf r / 2 ^ i.toNat % 2 : Nat) : Int) := by exact bit_rv hW hi
  exact W.lret (v := L6 (((wf ((64 * r) + (i / 32))) / 2 ^ (i % 32 : Int).toNat) % 2)) hx hb hr (fun t ht hW => ⟨⟨L6 (((wf ((64 * r) + (i / 32))) / 2 ^ (i % 32 : Int).toNat) % 2), (((wf ((64 * r) + (i / 32))) / 2 ^ (i % 32 : Int).toNat) % 2), rfl, ⟨rfl, o_1⟩, by rw [ht]; exact hP, va_K.moved hW.alike hK, hD⟩, hS.F ht⟩) hS.2.2 dX8_bit_21
abbrev BmetX8_halve (dC : Nat → ClassId) (dI : Nat → Nat → Nat) (dA : Nat → ClassId) (A : Nat → Prop) (am : Nat) (as_ : Nat) (av : Nat) (aw : Nat) (th : Int) (mn : Int) (sm : Int) (wd : Int) (lp : Int) (mp : Int) (re : Int) (SG : Int → Int) (VL : Int → Int) (wf : Int → Int) (r : Int) : (Int → Int) → State → Prop := fun u t => (fun (u : (Int → Int)) => (fun (W1 : Int → Int) => va_P (dC, dI) vwCl [(am, .inr (0, [.int (I3 th), .int (I3 mn), .ref as_, .ref av, .ref aw, .int (I3 sm), .int (I3 wd), .int (I3 lp), .int (I3 mp), .int (I3 re)])), (as_, .inl (dA 0, 60, .inl (iA SG))), (av, .inl (dA 1, 960, .inr (.inl (lA VL)))), (aw, .inl (dA 1, 1024, .inr (.inl (lA W1))))] t.heap ∧ va_K (dC, dI) vwCl (tyA dA) t ∧ va_D A [(am, .inr (0, [.int (I3 th), .int (I3 mn), .ref as_, .ref av, .ref aw, .int (I3 sm), .int (I3 wd), .int (I3 lp), .int (I3 mp), .int (I3 re)])), (as_, .inl (dA 0, 60, .inl (iA SG))), (av, .inl (dA 1, 960, .inr (.inl (lA VL)))), (aw, .inl (dA 1, 1024, .inr (.inl (lA W1))))]) u) u
abbrev QmetX8_halve (dC : Nat → ClassId) (dI : Nat → Nat → Nat) (dA : Nat → ClassId) (A : Nat → Prop) (am : Nat) (as_ : Nat) (av : Nat) (aw : Nat) (th : Int) (mn : Int) (sm : Int) (wd : Int) (lp : Int) (mp : Int) (re : Int) (SG : Int → Int) (VL : Int → Int) (wf : Int → Int) (r : Int) := va_Qv (fun (u : (Int → Int)) => (fun (W1 : Int → Int) => (Dg W1) ∧ (Fr wf W1 r) ∧ (rv W1 r = rv wf r / 2)) u) (BmetX8_halve dC dI dA A am as_ av aw th mn sm wd lp mp re SG VL wf r) A
set_option maxHeartbeats 1000000 in
set_option maxRecDepth 100000 in
/-- row r halved -/
theorem metX8_halve (l : Launch) (dC : Nat → ClassId) (dI : Nat → Nat → Nat) (dA : Nat → ClassId) (am : Nat) (as_ : Nat) (av : Nat) (aw : Nat) (sz : Nat) (th : Int) (mn : Int) (sm : Int) (wd : Int) (lp : Int) (mp : Int) (re : Int) (SG : Int → Int) (VL : Int → Int) (wf : Int → Int) (r : Int) (hr : 0 ≤ r ∧ r < 16) (hW : Dg wf) : Met l yX8_halve (ws_ yX8_halve cX8_halve 7 none) ({ frames := 1, cells := 0, slots := 0, locals := 40 }) (va_Pc [.ref am, .int (I3 r)] (fun U => U.heap.size = sz ∧ va_P (dC, dI) vwCl [(am, .inr (0, [.int (I3 th), .int (I3 mn), .ref as_, .ref av, .ref aw, .int (I3 sm), .int (I3 wd), .int (I3 lp), .int (I3 mp), .int (I3 re)])), (as_, .inl (dA 0, 60, .inl (iA SG))), (av, .inl (dA 1, 960, .inr (.inl (lA VL)))), (aw, .inl (dA 1, 1024, .inr (.inl (lA wf))))] U.heap ∧ va_K (dC, dI) vwCl (tyA dA) U ∧ va_D (fun _ => True) [(am, .inr (0, [.int (I3 th), .int (I3 mn), .ref as_, .ref av, .ref aw, .int (I3 sm), .int (I3 wd), .int (I3 lp), .int (I3 mp), .int (I3 re)])), (as_, .inl (dA 0, 60, .inl (iA SG))), (av, .inl (dA 1, 960, .inr (.inl (lA VL)))), (aw, .inl (dA 1, 1024, .inr (.inl (lA wf))))])) (QmetX8_halve dC dI dA (va_A [(am, .inr (0, [.int (I3 th), .int (I3 mn), .ref as_, .ref av, .ref aw, .int (I3 sm), .int (I3 wd), .int (I3 lp), .int (I3 mp), .int (I3 re)])), (as_, .inl (dA 0, 60, .inl (iA SG))), (av, .inl (dA 1, 960, .inr (.inl (lA VL)))), (aw, .inl (dA 1, 1024, .inr (.inl (lA wf))))] sz) am as_ av aw th mn sm wd lp mp re SG VL wf r) 0 0 (va_A [(am, .inr (0, [.int (I3 th), .int (I3 mn), .ref as_, .ref av, .ref aw, .int (I3 sm), .int (I3 wd), .int (I3 lp), .int (I3 mp), .int (I3 re)])), (as_, .inl (dA 0, 60, .inl (iA SG))), (av, .inl (dA 1, 960, .inr (.inl (lA VL)))), (aw, .inl (dA 1, 1024, .inr (.inl (lA wf))))] sz) := by
  refine Met.ofW (cc := cX8_halve) (maxL := 7) (ret := none) (by decide) rfl ?_
  intro p e s m args below meth c s₁ B hml hv
  obtain ⟨rfl, hsz, hP, hK, hD0⟩ := hv
  have hx := B.exec
  have hb := B.bytes
  have hr := B.returns
  have hts := atoms_spec (ws := (ws_ yX8_halve cX8_halve 7 none)) B.pre
  have hts : ∀ w ∈ lw_all, w.before _ s = true := fun w h => hts w (List.mem_cons_of_mem _ h)
  have hown : s.vm.findClass RX8 = some m.cls := findClass_of_methodNamed B.named
  have hlocks := B.notSynchronized
  subst hsz
  have hD := hD0.self (sz := s.heap.size)
  generalize hAe : va_A [(am, .inr (0, [.int (I3 th), .int (I3 mn), .ref as_, .ref av, .ref aw, .int (I3 sm), .int (I3 wd), .int (I3 lp), .int (I3 mp), .int (I3 re)])), (as_, .inl (dA 0, 60, .inl (iA SG))), (av, .inl (dA 1, 960, .inr (.inl (lA VL)))), (aw, .inl (dA 1, 1024, .inr (.inl (lA wf))))] s.heap.size = A at hD ⊢
  have hA : ∀ q : Nat, s.heap.size ≤ q → A q := fun q h => by rw [← hAe]; exact Or.inr h
  have hS : va_S A s.heap s.heap [] := va_S.rf
  have hP : va_P (dC, dI) vwCl [(am, .inr (0, [.int (I3 th), .int (I3 mn), .ref as_, .ref av, .ref aw, .int (I3 sm), .int (I3 wd), .int (I3 lp), .int (I3 mp), .int (I3 re)])), (as_, .inl (dA 0, 60, .inl (iA SG))), (av, .inl (dA 1, 960, .inr (.inl (lA VL)))), (aw, .inl (dA 1, 1024, .inr (.inl (lA wf))))] s.heap := hP
  have hl := lv_entry ([.ref am, .int (I3 r)]) (n := 7) (Nat.le_of_ble_eq_true rfl)
  rw [lg_entry_eq]
  generalize (lg_sl ([.ref am, .int (I3 r)]) ++ List.replicate (7 - (lg_sl ([.ref am, .int (I3 r)])).length) Slot.unset).toArray = ls at hl ⊢
  have hl : lv_has ls 7 [(0, .ref am), (1, .int (I3 r))] := hl
  have cut_6 : ∀ (fuel_6 : Nat), ∀ (k : Int) (cr : Int) (W1 : Int → Int), (-1 ≤ k ∧ k < 64) → (0 ≤ cr ∧ cr ≤ 1) → (Dg W1) → (Fr wf W1 r) → (∀ j : Int, 0 ≤ j → j ≤ k → W1 (64 * r + j) = wf (64 * r + j)) → (2 * vz W1 (64 * r + (k + 1)) (63 - k).toNat + cr = vz wf (64 * r + (k + 1)) (63 - k).toNat) → ((k + 1).toNat < fuel_6) → ∀ (H : Heap) (locs : List Loc), va_P (dC, dI) vwCl [(am, .inr (0, [.int (I3 th), .int (I3 mn), .ref as_, .ref av, .ref aw, .int (I3 sm), .int (I3 wd), .int (I3 lp), .int (I3 mp), .int (I3 re)])), (as_, .inl (dA 0, 60, .inl (iA SG))), (av, .inl (dA 1, 960, .inr (.inl (lA VL)))), (aw, .inl (dA 1, 1024, .inr (.inl (lA W1))))] H → va_D A [(am, .inr (0, [.int (I3 th), .int (I3 mn), .ref as_, .ref av, .ref aw, .int (I3 sm), .int (I3 wd), .int (I3 lp), .int (I3 mp), .int (I3 re)])), (as_, .inl (dA 0, 60, .inl (iA SG))), (av, .inl (dA 1, 960, .inr (.inl (lA VL)))), (aw, .inl (dA 1, 1024, .inr (.inl (lA W1))))] → va_S A s.heap H locs → ∀ (ls : Array Slot), lv_has ls 7 [(0, .ref am), (1, .int (I3 r)), (2, .long (L6 cr)), (4, .int (I3 k))] → W p l e (headSpec (ws_ yX8_halve cX8_halve 7 none) ({ frames := 1, cells := 0, slots := 0, locals := 40 })).room s m ([.ref am, .int (I3 r)] : List Value).toArray below meth c H locs 0 0 (MQ below (QmetX8_halve dC dI dA A am as_ av aw th mn sm wd lp mp re SG VL wf r) ([.ref am, .int (I3 r)] : List Value).toArray s 0 0 A) (F0 m 6 ls []) := by
    intro fuel_6
    induction fuel_6 with
    | zero =>
      intro k cr W1 hk hc hW1 hF h_s hI hm
      exact absurd hm (Nat.not_lt_zero _)
    | succ fuel_6 ih_6 =>
      intro k cr W1 hk hc hW1 hF h_s hI hm_6 H locs hP hD hS ls hl
      refine lv_iload hx hb dX8_halve_6 (lv_at hl 3 rfl) ?_
      refine ix_if_lt (tgt := 57) hx hb (by first | decide | assumption | (constructor <;> omega)) dX8_halve_8 (by decide) (fun c_8 => ?_) (fun c_8 => ?_)
      · skip
        have o_1 : Dg W1 := by first | assumption | omega | (constructor <;> omega)
        have o_2 : Fr wf W1 r := by first | assumption | omega | (constructor <;> omega)
        have o_3 : rv W1 r = rv wf r / 2 := by exact halve_end hW hW1 (by omega) hc hI
        exact W.vret hx hb hr (fun t ht hW => ⟨⟨W1, rfl, ⟨o_1, o_2, o_3⟩, by rw [ht]; exact hP, va_K.moved hW.alike hK, hD⟩, hS.F ht⟩) hS.2.2 dX8_halve_57
      · skip
        refine lv_aload_n hx hb dX8_halve_11 rfl (lv_at hl 0 rfl) ?_
        refine va_get (D := (dC, dI)) (ci := 0) (v := .ref aw) (C := RX8) (T := TX8) (N := 10) hx hb hts in_X8 hown hK hP 0 rfl rfl 4 (by decide) (hts _ q917) (fun _ h9 => h9) rfl dX8_halve_12 ?_
        refine lv_bipush (v := I3 (64)) hx hb dX8_halve_15 (by decide) ?_
        refine lv_iload_n hx hb dX8_halve_17 rfl (lv_at hl 1 rfl) ?_
        refine ix_imul hx hb dX8_halve_18 ?_
        refine lv_iload hx hb dX8_halve_19 (lv_at hl 3 rfl) ?_
        refine ix_iadd hx hb dX8_halve_21 ?_
        refine ix_lald hx hb hK hP 3 1 rfl rfl (Nat.le_of_ble_eq_true rfl) (by omega) dX8_halve_22 ?_
        have g_22 := hW1 ((64 * r) + k)
        refine lv_lstore (lv' := [(5, .long (L6 (W1 ((64 * r) + k)))), (0, .ref am), (1, .int (I3 r)), (2, .long (L6 cr)), (4, .int (I3 k))]) hx hb dX8_halve_23 hl (by decide) rfl (fun ls hl => ?_)
        refine lv_aload_n hx hb dX8_halve_25 rfl (lv_at hl 1 rfl) ?_
        refine va_get (D := (dC, dI)) (ci := 0) (v := .ref aw) (C := RX8) (T := TX8) (N := 10) hx hb hts in_X8 hown hK hP 0 rfl rfl 4 (by decide) (hts _ q917) (fun _ h9 => h9) rfl dX8_halve_26 ?_
        refine lv_bipush (v := I3 (64)) hx hb dX8_halve_29 (by decide) ?_
        refine lv_iload_n hx hb dX8_halve_31 rfl (lv_at hl 2 rfl) ?_
        refine ix_imul hx hb dX8_halve_32 ?_
        refine lv_iload hx hb dX8_halve_33 (lv_at hl 4 rfl) ?_
        refine ix_iadd hx hb dX8_halve_35 ?_
        refine lv_lload hx hb dX8_halve_36 (lv_at hl 0 rfl) ?_
        refine lv_iconst (v := I3 (1)) hx hb dX8_halve_38 rfl ?_
        refine ix_lshr hx hb (by first | assumption | (constructor <;> omega)) (by first | decide | omega) dX8_halve_39 ?_
        refine ix_tl (y := (W1 ((64 * r) + k)) / 2) rfl ?_
        refine lv_lload_n hx hb dX8_halve_40 rfl (lv_at hl 3 rfl) ?_
        refine lv_bipush (v := I3 (31)) hx hb dX8_halve_41 (by decide) ?_
        refine ix_lshl hx hb (by first | decide | omega) dX8_halve_43 ?_
        refine ix_tl (y := cr * 2147483648) rfl ?_
        refine ix_lor hx hb dX8_halve_44 ?_
        refine ix_tl (y := W1 ((64 * r) + k) / 2 + cr * 2147483648) (by exact zor6_p (k := 31) rfl (by omega) (by omega) (by omega)) ?_
        refine ix_last hx hb hK hP hD hS 3 1 rfl rfl (Nat.le_of_ble_eq_true rfl) (by omega) dX8_halve_45 (fun H locs hP hD hS => ?_)
        have hP : va_P (dC, dI) vwCl [(am, .inr (0, [.int (I3 th), .int (I3 mn), .ref as_, .ref av, .ref aw, .int (I3 sm), .int (I3 wd), .int (I3 lp), .int (I3 mp), .int (I3 re)])), (as_, .inl (dA 0, 60, .inl (iA SG))), (av, .inl (dA 1, 960, .inr (.inl (lA VL)))), (aw, .inl (dA 1, 1024, .inr (.inl (lA (uZ W1 ((64 * r) + k) (W1 ((64 * r) + k) / 2 + cr * 2147483648))))))] H := hP
        have hD : va_D A [(am, .inr (0, [.int (I3 th), .int (I3 mn), .ref as_, .ref av, .ref aw, .int (I3 sm), .int (I3 wd), .int (I3 lp), .int (I3 mp), .int (I3 re)])), (as_, .inl (dA 0, 60, .inl (iA SG))), (av, .inl (dA 1, 960, .inr (.inl (lA VL)))), (aw, .inl (dA 1, 1024, .inr (.inl (lA (uZ W1 ((64 * r) + k) (W1 ((64 * r) + k) / 2 + cr * 2147483648))))))] := hD
        refine lv_lload hx hb dX8_halve_46 (lv_at hl 0 rfl) ?_
        refine lv_lconst (v := L6 1) hx hb dX8_halve_48 (by decide) ?_
        refine ix_landm hx hb 1 (by decide) (by decide) dX8_halve_49 ?_
        refine ix_tl (y := (W1 ((64 * r) + k)) % 2) rfl ?_
        refine lv_lstore_n (lv' := [(2, .long (L6 ((W1 ((64 * r) + k)) % 2))), (5, .long (L6 (W1 ((64 * r) + k)))), (0, .ref am), (1, .int (I3 r)), (4, .int (I3 k))]) hx hb dX8_halve_50 rfl hl (by decide) rfl (fun ls hl => ?_)
        refine lv_iinc (v := I3 (k - 1)) (lv' := [(4, .int (I3 (k - 1))), (2, .long (L6 ((W1 ((64 * r) + k)) % 2))), (5, .long (L6 (W1 ((64 * r) + k)))), (0, .ref am), (1, .int (I3 r))]) hx hb dX8_halve_51 hl (k := 4) rfl ((I3_add _ _).trans (congrArg I3 (by omega))) (by decide) rfl (fun ls hl => ?_)
        refine lv_goto (tgt := 6) hx hb dX8_halve_54 (by decide) ?_
        have e_4 : -1 ≤ (k - 1) ∧ (k - 1) < 64 := by first | assumption | omega | (constructor <;> omega)
        have e_5 : 0 ≤ ((W1 ((64 * r) + k)) % 2) ∧ ((W1 ((64 * r) + k)) % 2) ≤ 1 := by first | assumption | omega | (constructor <;> omega)
        have e_6 : Dg (uZ W1 ((64 * r) + k) (W1 ((64 * r) + k) / 2 + cr * 2147483648)) := by exact Dg_uZ hW1 (by omega) (by omega)
        have e_7 : Fr wf (uZ W1 ((64 * r) + k) (W1 ((64 * r) + k) / 2 + cr * 2147483648)) r := by exact Fr_uZ hF (by omega)
        have e_8 : ∀ j : Int, 0 ≤ j → j ≤ (k - 1) → (uZ W1 ((64 * r) + k) (W1 ((64 * r) + k) / 2 + cr * 2147483648)) (64 * r + j) = wf (64 * r + j) := by intro j h1 h2; rw [uZ_n (by omega)]; exact h_s j h1 (by omega)
        have e_9 : 2 * vz (uZ W1 ((64 * r) + k) (W1 ((64 * r) + k) / 2 + cr * 2147483648)) (64 * r + ((k - 1) + 1)) (63 - (k - 1)).toNat + ((W1 ((64 * r) + k)) % 2) = vz wf (64 * r + ((k - 1) + 1)) (63 - (k - 1)).toNat := by exact halve_step (by omega) (h_s k (by omega) (by omega)) hI
        have e_10 : ((k - 1) + 1).toNat < fuel_6 := by omega
        exact ih_6 (k - 1) ((W1 ((64 * r) + k)) % 2) (uZ W1 ((64 * r) + k) (W1 ((64 * r) + k) / 2 + cr * 2147483648)) e_4 e_5 e_6 e_7 e_8 e_9 e_10 _ _ hP hD hS ls (lv_sub hl [3, 4, 1, 0] rfl)
  refine lv_lconst (v := L6 0) hx hb dX8_halve_0 (by decide) ?_
  refine lv_lstore_n (lv' := [(2, .long (L6 0)), (0, .ref am), (1, .int (I3 r))]) hx hb dX8_halve_1 rfl hl (by decide) rfl (fun ls hl => ?_)
  refine lv_bipush (v := I3 (63)) hx hb dX8_halve_2 (by decide) ?_
  refine lv_istore (lv' := [(4, .int (I3 63)), (2, .long (L6 0)), (0, .ref am), (1, .int (I3 r))]) hx hb dX8_halve_4 hl (by decide) rfl (fun ls hl => ?_)
  have e_11 : -1 ≤ (63 : Int) ∧ (63 : Int) < 64 := by first | assumption | omega | (constructor <;> omega)
  have e_12 : 0 ≤ (0 : Int) ∧ (0 : Int) ≤ 1 := by first | assumption | omega | (constructor <;> omega)
  have e_13 : Dg wf := by first | assumption | omega | (constructor <;> omega)
  have e_14 : Fr wf wf r := by exact Fr_rf
  have e_15 : ∀ j : Int, 0 ≤ j → j ≤ (63 : Int) → wf (64 * r + j) = wf (64 * r + j) := by intro i h1 h2; rfl
  have e_16 : 2 * vz wf (64 * r + ((63 : Int) + 1)) (63 - (63 : Int)).toNat + (0 : Int) = vz wf (64 * r + ((63 : Int) + 1)) (63 - (63 : Int)).toNat := by rfl
  exact cut_6 (((63 : Int) + 1).toNat + 1) 63 0 wf e_11 e_12 e_13 e_14 e_15 e_16 (Nat.lt_succ_self _) _ _ hP hD hS ls (lv_sub hl [2, 3, 1, 0] rfl)
abbrev BmetX8_up (dC : Nat → ClassId) (dI : Nat → Nat → Nat) (dA : Nat → ClassId) (A : Nat → Prop) (am : Nat) (as_ : Nat) (av : Nat) (aw : Nat) (th : Int) (mn : Int) (sm : Int) (wd : Int) (lp : Int) (mp : Int) (re : Int) (SG : Int → Int) (VL : Int → Int) (wf : Int → Int) (r : Int) (y : Int) : (Int → Int) → State → Prop := fun u t => (fun (u : (Int → Int)) => (fun (W1 : Int → Int) => va_P (dC, dI) vwCl [(am, .inr (0, [.int (I3 th), .int (I3 mn), .ref as_, .ref av, .ref aw, .int (I3 sm), .int (I3 wd), .int (I3 lp), .int (I3 mp), .int (I3 re)])), (as_, .inl (dA 0, 60, .inl (iA SG))), (av, .inl (dA 1, 960, .inr (.inl (lA VL)))), (aw, .inl (dA 1, 1024, .inr (.inl (lA W1))))] t.heap ∧ va_K (dC, dI) vwCl (tyA dA) t ∧ va_D A [(am, .inr (0, [.int (I3 th), .int (I3 mn), .ref as_, .ref av, .ref aw, .int (I3 sm), .int (I3 wd), .int (I3 lp), .int (I3 mp), .int (I3 re)])), (as_, .inl (dA 0, 60, .inl (iA SG))), (av, .inl (dA 1, 960, .inr (.inl (lA VL)))), (aw, .inl (dA 1, 1024, .inr (.inl (lA W1))))]) u) u
abbrev QmetX8_up (dC : Nat → ClassId) (dI : Nat → Nat → Nat) (dA : Nat → ClassId) (A : Nat → Prop) (am : Nat) (as_ : Nat) (av : Nat) (aw : Nat) (th : Int) (mn : Int) (sm : Int) (wd : Int) (lp : Int) (mp : Int) (re : Int) (SG : Int → Int) (VL : Int → Int) (wf : Int → Int) (r : Int) (y : Int) := va_Qv (fun (u : (Int → Int)) => (fun (W1 : Int → Int) => (Dg W1) ∧ (Fr wf W1 r) ∧ (rv W1 r = rv wf r * 2 ^ y.toNat % BN)) u) (BmetX8_up dC dI dA A am as_ av aw th mn sm wd lp mp re SG VL wf r y) A
set_option maxHeartbeats 1000000 in
set_option maxRecDepth 100000 in
/-- row r goes up by y bits -/
theorem metX8_up (l : Launch) (dC : Nat → ClassId) (dI : Nat → Nat → Nat) (dA : Nat → ClassId) (am : Nat) (as_ : Nat) (av : Nat) (aw : Nat) (sz : Nat) (th : Int) (mn : Int) (sm : Int) (wd : Int) (lp : Int) (mp : Int) (re : Int) (SG : Int → Int) (VL : Int → Int) (wf : Int → Int) (r : Int) (y : Int) (hr : 0 ≤ r ∧ r < 16) (hy : 0 ≤ y ∧ y < 2048) (hW : Dg wf) : Met l yX8_up (ws_ yX8_up cX8_up 10 none) ({ frames := 1, cells := 0, slots := 0, locals := 40 }) (va_Pc [.ref am, .int (I3 r), .int (I3 y)] (fun U => U.heap.size = sz ∧ va_P (dC, dI) vwCl [(am, .inr (0, [.int (I3 th), .int (I3 mn), .ref as_, .ref av, .ref aw, .int (I3 sm), .int (I3 wd), .int (I3 lp), .int (I3 mp), .int (I3 re)])), (as_, .inl (dA 0, 60, .inl (iA SG))), (av, .inl (dA 1, 960, .inr (.inl (lA VL)))), (aw, .inl (dA 1, 1024, .inr (.inl (lA wf))))] U.heap ∧ va_K (dC, dI) vwCl (tyA dA) U ∧ va_D (fun _ => True) [(am, .inr (0, [.int (I3 th), .int (I3 mn), .ref as_, .ref av, .ref aw, .int (I3 sm), .int (I3 wd), .int (I3 lp), .int (I3 mp), .int (I3 re)])), (as_, .inl (dA 0, 60, .inl (iA SG))), (av, .inl (dA 1, 960, .inr (.inl (lA VL)))), (aw, .inl (dA 1, 1024, .inr (.inl (lA wf))))])) (QmetX8_up dC dI dA (va_A [(am, .inr (0, [.int (I3 th), .int (I3 mn), .ref as_, .ref av, .ref aw, .int (I3 sm), .int (I3 wd), .int (I3 lp), .int (I3 mp), .int (I3 re)])), (as_, .inl (dA 0, 60, .inl (iA SG))), (av, .inl (dA 1, 960, .inr (.inl (lA VL)))), (aw, .inl (dA 1, 1024, .inr (.inl (lA wf))))] sz) am as_ av aw th mn sm wd lp mp re SG VL wf r y) 0 0 (va_A [(am, .inr (0, [.int (I3 th), .int (I3 mn), .ref as_, .ref av, .ref aw, .int (I3 sm), .int (I3 wd), .int (I3 lp), .int (I3 mp), .int (I3 re)])), (as_, .inl (dA 0, 60, .inl (iA SG))), (av, .inl (dA 1, 960, .inr (.inl (lA VL)))), (aw, .inl (dA 1, 1024, .inr (.inl (lA wf))))] sz) := by
  refine Met.ofW (cc := cX8_up) (maxL := 10) (ret := none) (by decide) rfl ?_
  intro p e s m args below meth c s₁ B hml hv
  obtain ⟨rfl, hsz, hP, hK, hD0⟩ := hv
  have hx := B.exec
  have hb := B.bytes
  have hr := B.returns
  have hts := atoms_spec (ws := (ws_ yX8_up cX8_up 10 none)) B.pre
  have hts : ∀ w ∈ lw_all, w.before _ s = true := fun w h => hts w (List.mem_cons_of_mem _ h)
  have hown : s.vm.findClass RX8 = some m.cls := findClass_of_methodNamed B.named
  have hlocks := B.notSynchronized
  subst hsz
  have hD := hD0.self (sz := s.heap.size)
  generalize hAe : va_A [(am, .inr (0, [.int (I3 th), .int (I3 mn), .ref as_, .ref av, .ref aw, .int (I3 sm), .int (I3 wd), .int (I3 lp), .int (I3 mp), .int (I3 re)])), (as_, .inl (dA 0, 60, .inl (iA SG))), (av, .inl (dA 1, 960, .inr (.inl (lA VL)))), (aw, .inl (dA 1, 1024, .inr (.inl (lA wf))))] s.heap.size = A at hD ⊢
  have hA : ∀ q : Nat, s.heap.size ≤ q → A q := fun q h => by rw [← hAe]; exact Or.inr h
  have hS : va_S A s.heap s.heap [] := va_S.rf
  have hP : va_P (dC, dI) vwCl [(am, .inr (0, [.int (I3 th), .int (I3 mn), .ref as_, .ref av, .ref aw, .int (I3 sm), .int (I3 wd), .int (I3 lp), .int (I3 mp), .int (I3 re)])), (as_, .inl (dA 0, 60, .inl (iA SG))), (av, .inl (dA 1, 960, .inr (.inl (lA VL)))), (aw, .inl (dA 1, 1024, .inr (.inl (lA wf))))] s.heap := hP
  have hl := lv_entry ([.ref am, .int (I3 r), .int (I3 y)]) (n := 10) (Nat.le_of_ble_eq_true rfl)
  rw [lg_entry_eq]
  generalize (lg_sl ([.ref am, .int (I3 r), .int (I3 y)]) ++ List.replicate (10 - (lg_sl ([.ref am, .int (I3 r), .int (I3 y)])).length) Slot.unset).toArray = ls at hl ⊢
  have hl : lv_has ls 10 [(0, .ref am), (1, .int (I3 r)), (2, .int (I3 y))] := hl
  have cut_15 : ∀ (fuel_15 : Nat), ∀ (k : Int) (W1 : Int → Int), (-1 ≤ k ∧ k < 64) → (Dg W1) → (Fr wf W1 r) → (∀ j : Int, 0 ≤ j → j ≤ k → W1 (64 * r + j) = wf (64 * r + j)) → (∀ j : Int, k < j → j < 64 → W1 (64 * r + j) = ud wf (64 * r) (y / 32) (y % 32) j) → ((k + 1).toNat < fuel_15) → ∀ (H : Heap) (locs : List Loc), va_P (dC, dI) vwCl [(am, .inr (0, [.int (I3 th), .int (I3 mn), .ref as_, .ref av, .ref aw, .int (I3 sm), .int (I3 wd), .int (I3 lp), .int (I3 mp), .int (I3 re)])), (as_, .inl (dA 0, 60, .inl (iA SG))), (av, .inl (dA 1, 960, .inr (.inl (lA VL)))), (aw, .inl (dA 1, 1024, .inr (.inl (lA W1))))] H → va_D A [(am, .inr (0, [.int (I3 th), .int (I3 mn), .ref as_, .ref av, .ref aw, .int (I3 sm), .int (I3 wd), .int (I3 lp), .int (I3 mp), .int (I3 re)])), (as_, .inl (dA 0, 60, .inl (iA SG))), (av, .inl (dA 1, 960, .inr (.inl (lA VL)))), (aw, .inl (dA 1, 1024, .inr (.inl (lA W1))))] → va_S A s.heap H locs → ∀ (ls : Array Slot), lv_has ls 10 [(0, .ref am), (1, .int (I3 r)), (2, .int (I3 y)), (3, .int (I3 (y / 32))), (4, .int (I3 (y % 32))), (5, .int (I3 k))] → W p l e (headSpec (ws_ yX8_up cX8_up 10 none) ({ frames := 1, cells := 0, slots := 0, locals := 40 })).room s m ([.ref am, .int (I3 r), .int (I3 y)] : List Value).toArray below meth c H locs 0 0 (MQ below (QmetX8_up dC dI dA A am as_ av aw th mn sm wd lp mp re SG VL wf r y) ([.ref am, .int (I3 r), .int (I3 y)] : List Value).toArray s 0 0 A) (F0 m 15 ls []) := by
    intro fuel_15
    induction fuel_15 with
    | zero =>
      intro k W1 hk hW1 hF h_s hI hm
      exact absurd hm (Nat.not_lt_zero _)
    | succ fuel_15 ih_15 =>
      intro k W1 hk hW1 hF h_s hI hm_15 H locs hP hD hS ls hl
      have cut_45 : ∀ (hi : Int), (0 ≤ k) → (0 ≤ hi ∧ hi < 4294967296) → (hi = if y / 32 ≤ k then wf (64 * r + k - y / 32) else 0) → ∀ (H : Heap) (locs : List Loc), va_P (dC, dI) vwCl [(am, .inr (0, [.int (I3 th), .int (I3 mn), .ref as_, .ref av, .ref aw, .int (I3 sm), .int (I3 wd), .int (I3 lp), .int (I3 mp), .int (I3 re)])), (as_, .inl (dA 0, 60, .inl (iA SG))), (av, .inl (dA 1, 960, .inr (.inl (lA VL)))), (aw, .inl (dA 1, 1024, .inr (.inl (lA W1))))] H → va_D A [(am, .inr (0, [.int (I3 th), .int (I3 mn), .ref as_, .ref av, .ref aw, .int (I3 sm), .int (I3 wd), .int (I3 lp), .int (I3 mp), .int (I3 re)])), (as_, .inl (dA 0, 60, .inl (iA SG))), (av, .inl (dA 1, 960, .inr (.inl (lA VL)))), (aw, .inl (dA 1, 1024, .inr (.inl (lA W1))))] → va_S A s.heap H locs → ∀ (ls : Array Slot), lv_has ls 10 [(0, .ref am), (1, .int (I3 r)), (2, .int (I3 y)), (3, .int (I3 (y / 32))), (4, .int (I3 (y % 32))), (5, .int (I3 k))] → W p l e (headSpec (ws_ yX8_up cX8_up 10 none) ({ frames := 1, cells := 0, slots := 0, locals := 40 })).room s m ([.ref am, .int (I3 r), .int (I3 y)] : List Value).toArray below meth c H locs 0 0 (MQ below (QmetX8_up dC dI dA A am as_ av aw th mn sm wd lp mp re SG VL wf r y) ([.ref am, .int (I3 r), .int (I3 y)] : List Value).toArray s 0 0 A) (F0 m 45 ls [.long (L6 hi)]) := by
        intro hi hk0 rhi ehi H locs hP hD hS ls hl
        have cut_76 : ∀ (lo : Int), (0 ≤ lo ∧ lo < 4294967296) → (lo = if y / 32 + 1 ≤ k then wf (64 * r + k - y / 32 - 1) else 0) → ∀ (H : Heap) (locs : List Loc), va_P (dC, dI) vwCl [(am, .inr (0, [.int (I3 th), .int (I3 mn), .ref as_, .ref av, .ref aw, .int (I3 sm), .int (I3 wd), .int (I3 lp), .int (I3 mp), .int (I3 re)])), (as_, .inl (dA 0, 60, .inl (iA SG))), (av, .inl (dA 1, 960, .inr (.inl (lA VL)))), (aw, .inl (dA 1, 1024, .inr (.inl (lA W1))))] H → va_D A [(am, .inr (0, [.int (I3 th), .int (I3 mn), .ref as_, .ref av, .ref aw, .int (I3 sm), .int (I3 wd), .int (I3 lp), .int (I3 mp), .int (I3 re)])), (as_, .inl (dA 0, 60, .inl (iA SG))), (av, .inl (dA 1, 960, .inr (.inl (lA VL)))), (aw, .inl (dA 1, 1024, .inr (.inl (lA W1))))] → va_S A s.heap H locs → ∀ (ls : Array Slot), lv_has ls 10 [(0, .ref am), (1, .int (I3 r)), (2, .int (I3 y)), (3, .int (I3 (y / 32))), (4, .int (I3 (y % 32))), (5, .int (I3 k)), (6, .long (L6 hi))] → W p l e (headSpec (ws_ yX8_up cX8_up 10 none) ({ frames := 1, cells := 0, slots := 0, locals := 40 })).room s m ([.ref am, .int (I3 r), .int (I3 y)] : List Value).toArray below meth c H locs 0 0 (MQ below (QmetX8_up dC dI dA A am as_ av aw th mn sm wd lp mp re SG VL wf r y) ([.ref am, .int (I3 r), .int (I3 y)] : List Value).toArray s 0 0 A) (F0 m 76 ls [.long (L6 lo)]) := by
          intro lo rlo elo H locs hP hD hS ls hl
          refine lv_lstore (lv' := [(8, .long (L6 lo)), (0, .ref am), (1, .int (I3 r)), (2, .int (I3 y)), (3, .int (I3 (y / 32))), (4, .int (I3 (y % 32))), (5, .int (I3 k)), (6, .long (L6 hi))]) hx hb dX8_up_76 hl (by decide) rfl (fun ls hl => ?_)
          refine lv_aload_n hx hb dX8_up_78 rfl (lv_at hl 1 rfl) ?_
          refine va_get (D := (dC, dI)) (ci := 0) (v := .ref aw) (C := RX8) (T := TX8) (N := 10) hx hb hts in_X8 hown hK hP 0 rfl rfl 4 (by decide) (hts _ q917) (fun _ h9 => h9) rfl dX8_up_79 ?_
          refine lv_bipush (v := I3 (64)) hx hb dX8_up_82 (by decide) ?_
          refine lv_iload_n hx hb dX8_up_84 rfl (lv_at hl 2 rfl) ?_
          refine ix_imul hx hb dX8_up_85 ?_
          refine lv_iload hx hb dX8_up_86 (lv_at hl 6 rfl) ?_
          refine ix_iadd hx hb dX8_up_88 ?_
          refine lv_lload hx hb dX8_up_89 (lv_at hl 7 rfl) ?_
          refine lv_iload hx hb dX8_up_91 (lv_at hl 5 rfl) ?_
          refine ix_lshl hx hb (by first | decide | omega) dX8_up_93 ?_
          refine lv_lload hx hb dX8_up_94 (lv_at hl 0 rfl) ?_
          refine lv_bipush (v := I3 (32)) hx hb dX8_up_96 (by decide) ?_
          refine lv_iload hx hb dX8_up_98 (lv_at hl 5 rfl) ?_
          refine ix_isub hx hb dX8_up_100 ?_
          refine ix_lshr hx hb (by first | assumption | (constructor <;> omega)) (by first | decide | omega) dX8_up_101 ?_
          refine ix_lor hx hb dX8_up_102 ?_
          refine ix_tl (y := hi * 2 ^ (y % 32 : Int).toNat + lo / 2 ^ (32 - y % 32 : Int).toNat) (by exact up_or rhi rlo (by omega)) ?_
          refine lv_ldc2 hx hb hown (hts _ q963) dX8_up_103 ?_
          refine ix_vl (x := (4294967295)) (by decide) ?_
          refine ix_landm hx hb 32 (by decide) (by decide) dX8_up_106 ?_
          refine ix_tl (y := (hi * 2 ^ (y % 32 : Int).toNat + lo / 2 ^ (32 - y % 32 : Int).toNat) % 4294967296) rfl ?_
          refine ix_last hx hb hK hP hD hS 3 1 rfl rfl (Nat.le_of_ble_eq_true rfl) (by omega) dX8_up_107 (fun H locs hP hD hS => ?_)
          have hP : va_P (dC, dI) vwCl [(am, .inr (0, [.int (I3 th), .int (I3 mn), .ref as_, .ref av, .ref aw, .int (I3 sm), .int (I3 wd), .int (I3 lp), .int (I3 mp), .int (I3 re)])), (as_, .inl (dA 0, 60, .inl (iA SG))), (av, .inl (dA 1, 960, .inr (.inl (lA VL)))), (aw, .inl (dA 1, 1024, .inr (.inl (lA (uZ W1 ((64 * r) + k) ((hi * 2 ^ (y % 32 : Int).toNat + lo / 2 ^ (32 - y % 32 : Int).toNat) % 4294967296))))))] H := hP
          have hD : va_D A [(am, .inr (0, [.int (I3 th), .int (I3 mn), .ref as_, .ref av, .ref aw, .int (I3 sm), .int (I3 wd), .int (I3 lp), .int (I3 mp), .int (I3 re)])), (as_, .inl (dA 0, 60, .inl (iA SG))), (av, .inl (dA 1, 960, .inr (.inl (lA VL)))), (aw, .inl (dA 1, 1024, .inr (.inl (lA (uZ W1 ((64 * r) + k) ((hi * 2 ^ (y % 32 : Int).toNat + lo / 2 ^ (32 - y % 32 : Int).toNat) % 4294967296))))))] := hD
          refine lv_iinc (v := I3 (k - 1)) (lv' := [(5, .int (I3 (k - 1))), (8, .long (L6 lo)), (0, .ref am), (1, .int (I3 r)), (2, .int (I3 y)), (3, .int (I3 (y / 32))), (4, .int (I3 (y % 32))), (6, .long (L6 hi))]) hx hb dX8_up_108 hl (k := 6) rfl ((I3_add _ _).trans (congrArg I3 (by omega))) (by decide) rfl (fun ls hl => ?_)
          refine lv_goto (tgt := 15) hx hb dX8_up_111 (by decide) ?_
          have e_1 : -1 ≤ (k - 1) ∧ (k - 1) < 64 := by first | assumption | omega | (constructor <;> omega)
          have e_2 : Dg (uZ W1 ((64 * r) + k) ((hi * 2 ^ (y % 32 : Int).toNat + lo / 2 ^ (32 - y % 32 : Int).toNat) % 4294967296)) := by exact Dg_uZ hW1 (by omega) (by omega)
          have e_3 : Fr wf (uZ W1 ((64 * r) + k) ((hi * 2 ^ (y % 32 : Int).toNat + lo / 2 ^ (32 - y % 32 : Int).toNat) % 4294967296)) r := by exact Fr_uZ hF (by omega)
          have e_4 : ∀ j : Int, 0 ≤ j → j ≤ (k - 1) → (uZ W1 ((64 * r) + k) ((hi * 2 ^ (y % 32 : Int).toNat + lo / 2 ^ (32 - y % 32 : Int).toNat) % 4294967296)) (64 * r + j) = wf (64 * r + j) := by intro j h1 h2; rw [uZ_n (by omega)]; exact h_s j h1 (by omega)
          have e_5 : ∀ j : Int, (k - 1) < j → j < 64 → (uZ W1 ((64 * r) + k) ((hi * 2 ^ (y % 32 : Int).toNat + lo / 2 ^ (32 - y % 32 : Int).toNat) % 4294967296)) (64 * r + j) = ud wf (64 * r) (y / 32) (y % 32) j := by intro j h1 h2; by_cases q : j = k; subst q; rw [uZ_s]; unfold ud; rw [ehi, elo]; rw [uZ_n (by omega)]; exact hI j (by omega) h2
          have e_6 : ((k - 1) + 1).toNat < fuel_15 := by omega
          exact ih_15 (k - 1) (uZ W1 ((64 * r) + k) ((hi * 2 ^ (y % 32 : Int).toNat + lo / 2 ^ (32 - y % 32 : Int).toNat) % 4294967296)) e_1 e_2 e_3 e_4 e_5 e_6 _ _ hP hD hS ls (lv_sub hl [2, 3, 4, 5, 6, 0] rfl)
        refine lv_lstore (lv' := [(6, .long (L6 hi)), (0, .ref am), (1, .int (I3 r)), (2, .int (I3 y)), (3, .int (I3 (y / 32))), (4, .int (I3 (y % 32))), (5, .int (I3 k))]) hx hb dX8_up_45 hl (by decide) rfl (fun ls hl => ?_)
        refine lv_iload hx hb dX8_up_47 (lv_at hl 6 rfl) ?_
        refine lv_iload_n hx hb dX8_up_49 rfl (lv_at hl 4 rfl) ?_
        refine ix_isub hx hb dX8_up_50 ?_
        refine lv_iconst (v := I3 (1)) hx hb dX8_up_51 rfl ?_
        refine ix_isub hx hb dX8_up_52 ?_
        refine ix_if_lt (tgt := 75) hx hb (by first | decide | assumption | (constructor <;> omega)) dX8_up_53 (by decide) (fun c_53 => ?_) (fun c_53 => ?_)
        · skip
          refine lv_lconst (v := L6 0) hx hb dX8_up_75 (by decide) ?_
          have e_7 : 0 ≤ (0 : Int) ∧ (0 : Int) < 4294967296 := by first | assumption | omega | (constructor <;> omega)
          have e_8 : (0 : Int) = if y / 32 + 1 ≤ k then wf (64 * r + k - y / 32 - 1) else 0 := by rw [if_neg (by omega)]
          exact cut_76 0 e_7 e_8 _ _ hP hD hS ls (lv_sub hl [1, 2, 3, 4, 5, 6, 0] rfl)
        · skip
          refine lv_aload_n hx hb dX8_up_56 rfl (lv_at hl 1 rfl) ?_
          refine va_get (D := (dC, dI)) (ci := 0) (v := .ref aw) (C := RX8) (T := TX8) (N := 10) hx hb hts in_X8 hown hK hP 0 rfl rfl 4 (by decide) (hts _ q917) (fun _ h9 => h9) rfl dX8_up_57 ?_
          refine lv_bipush (v := I3 (64)) hx hb dX8_up_60 (by decide) ?_
          refine lv_iload_n hx hb dX8_up_62 rfl (lv_at hl 2 rfl) ?_
          refine ix_imul hx hb dX8_up_63 ?_
          refine lv_iload hx hb dX8_up_64 (lv_at hl 6 rfl) ?_
          refine ix_iadd hx hb dX8_up_66 ?_
          refine lv_iload_n hx hb dX8_up_67 rfl (lv_at hl 4 rfl) ?_
          refine ix_isub hx hb dX8_up_68 ?_
          refine lv_iconst (v := I3 (1)) hx hb dX8_up_69 rfl ?_
          refine ix_isub hx hb dX8_up_70 ?_
          refine ix_lald hx hb hK hP 3 1 rfl rfl (Nat.le_of_ble_eq_true rfl) (by omega) dX8_up_71 ?_
          have g_71 := hW1 ((((64 * r) + k) - (y / 32)) - 1)
          refine lv_goto (tgt := 76) hx hb dX8_up_72 (by decide) ?_
          have e_9 : 0 ≤ (W1 ((((64 * r) + k) - (y / 32)) - 1)) ∧ (W1 ((((64 * r) + k) - (y / 32)) - 1)) < 4294967296 := by first | assumption | omega | (constructor <;> omega)
          have e_10 : (W1 ((((64 * r) + k) - (y / 32)) - 1)) = if y / 32 + 1 ≤ k then wf (64 * r + k - y / 32 - 1) else 0 := by rw [if_pos (by omega)]; have q := h_s (k - y / 32 - 1) (by omega) (by omega); rw [show 64 * r + (k - y / 32 - 1) = 64 * r + k - y / 32 - 1 by omega] at q; exact q
          exact cut_76 (W1 ((((64 * r) + k) - (y / 32)) - 1)) e_9 e_10 _ _ hP hD hS ls (lv_sub hl [1, 2, 3, 4, 5, 6, 0] rfl)
      refine lv_iload hx hb dX8_up_15 (lv_at hl 5 rfl) ?_
      refine ix_if_lt (tgt := 114) hx hb (by first | decide | assumption | (constructor <;> omega)) dX8_up_17 (by decide) (fun c_17 => ?_) (fun c_17 => ?_)
      · skip
        have o_11 : Dg W1 := by first | assumption | omega | (constructor <;> omega)
        have o_12 : Fr wf W1 r := by first | assumption | omega | (constructor <;> omega)
        have o_13 : rv W1 r = rv wf r * 2 ^ y.toNat % BN := by exact up_end hW hW1 hy (fun j h1 h2 => hI j (by omega) h2)
        exact W.vret hx hb hr (fun t ht hW => ⟨⟨W1, rfl, ⟨o_11, o_12, o_13⟩, by rw [ht]; exact hP, va_K.moved hW.alike hK, hD⟩, hS.F ht⟩) hS.2.2 dX8_up_114
      · skip
        refine lv_iload hx hb dX8_up_20 (lv_at hl 5 rfl) ?_
        refine lv_iload_n hx hb dX8_up_22 rfl (lv_at hl 3 rfl) ?_
        refine ix_isub hx hb dX8_up_23 ?_
        refine ix_if_lt (tgt := 44) hx hb (by first | decide | assumption | (constructor <;> omega)) dX8_up_24 (by decide) (fun c_24 => ?_) (fun c_24 => ?_)
        · skip
          refine lv_lconst (v := L6 0) hx hb dX8_up_44 (by decide) ?_
          have e_14 : 0 ≤ k := by first | assumption | omega | (constructor <;> omega)
          have e_15 : 0 ≤ (0 : Int) ∧ (0 : Int) < 4294967296 := by first | assumption | omega | (constructor <;> omega)
          have e_16 : (0 : Int) = if y / 32 ≤ k then wf (64 * r + k - y / 32) else 0 := by rw [if_neg (by omega)]
          exact cut_45 0 e_14 e_15 e_16 _ _ hP hD hS ls (lv_sub hl [0, 1, 2, 3, 4, 5] rfl)
        · skip
          refine lv_aload_n hx hb dX8_up_27 rfl (lv_at hl 0 rfl) ?_
          refine va_get (D := (dC, dI)) (ci := 0) (v := .ref aw) (C := RX8) (T := TX8) (N := 10) hx hb hts in_X8 hown hK hP 0 rfl rfl 4 (by decide) (hts _ q917) (fun _ h9 => h9) rfl dX8_up_28 ?_
          refine lv_bipush (v := I3 (64)) hx hb dX8_up_31 (by decide) ?_
          refine lv_iload_n hx hb dX8_up_33 rfl (lv_at hl 1 rfl) ?_
          refine ix_imul hx hb dX8_up_34 ?_
          refine lv_iload hx hb dX8_up_35 (lv_at hl 5 rfl) ?_
          refine ix_iadd hx hb dX8_up_37 ?_
          refine lv_iload_n hx hb dX8_up_38 rfl (lv_at hl 3 rfl) ?_
          refine ix_isub hx hb dX8_up_39 ?_
          refine ix_lald hx hb hK hP 3 1 rfl rfl (Nat.le_of_ble_eq_true rfl) (by omega) dX8_up_40 ?_
          have g_40 := hW1 (((64 * r) + k) - (y / 32))
          refine lv_goto (tgt := 45) hx hb dX8_up_41 (by decide) ?_
          have e_17 : 0 ≤ k := by first | assumption | omega | (constructor <;> omega)
          have e_18 : 0 ≤ (W1 (((64 * r) + k) - (y / 32))) ∧ (W1 (((64 * r) + k) - (y / 32))) < 4294967296 := by first | assumption | omega | (constructor <;> omega)
          have e_19 : (W1 (((64 * r) + k) - (y / 32))) = if y / 32 ≤ k then wf (64 * r + k - y / 32) else 0 := by rw [if_pos (by omega)]; have q := h_s (k - y / 32) (by omega) (by omega); rw [show 64 * r + (k - y / 32) = 64 * r + k - y / 32 by omega] at q; exact q
          exact cut_45 (W1 (((64 * r) + k) - (y / 32))) e_17 e_18 e_19 _ _ hP hD hS ls (lv_sub hl [0, 1, 2, 3, 4, 5] rfl)
  refine lv_iload_n hx hb dX8_up_0 rfl (lv_at hl 2 rfl) ?_
  refine lv_bipush (v := I3 (32)) hx hb dX8_up_1 (by decide) ?_
  refine ix_idiv hx hb (by constructor <;> omega) (by first | decide | (constructor <;> omega)) (by first | decide | omega) (by omega) dX8_up_3 ?_
  refine ix_ti (y := y / 32) (by exact Int.tdiv_eq_ediv_of_nonneg hy.1) ?_
  refine lv_istore_n (lv' := [(3, .int (I3 (y / 32))), (0, .ref am), (1, .int (I3 r)), (2, .int (I3 y))]) hx hb dX8_up_4 rfl hl (by decide) rfl (fun ls hl => ?_)
  refine lv_iload_n hx hb dX8_up_5 rfl (lv_at hl 3 rfl) ?_
  refine lv_bipush (v := I3 (32)) hx hb dX8_up_6 (by decide) ?_
  refine ix_irem hx hb (by constructor <;> omega) (by first | decide | (constructor <;> omega)) (by first | decide | omega) (by omega) dX8_up_8 ?_
  refine ix_ti (y := y % 32) (by exact Int.tmod_eq_emod_of_nonneg hy.1) ?_
  refine lv_istore (lv' := [(4, .int (I3 (y % 32))), (3, .int (I3 (y / 32))), (0, .ref am), (1, .int (I3 r)), (2, .int (I3 y))]) hx hb dX8_up_9 hl (by decide) rfl (fun ls hl => ?_)
  refine lv_bipush (v := I3 (63)) hx hb dX8_up_11 (by decide) ?_
  refine lv_istore (lv' := [(5, .int (I3 63)), (4, .int (I3 (y % 32))), (3, .int (I3 (y / 32))), (0, .ref am), (1, .int (I3 r)), (2, .int (I3 y))]) hx hb dX8_up_13 hl (by decide) rfl (fun ls hl => ?_)
  have e_20 : -1 ≤ (63 : Int) ∧ (63 : Int) < 64 := by first | assumption | omega | (constructor <;> omega)
  have e_21 : Dg wf := by first | assumption | omega | (constructor <;> omega)
  have e_22 : Fr wf wf r := by exact Fr_rf
  have e_23 : ∀ j : Int, 0 ≤ j → j ≤ (63 : Int) → wf (64 * r + j) = wf (64 * r + j) := by intro i h1 h2; rfl
  have e_24 : ∀ j : Int, (63 : Int) < j → j < 64 → wf (64 * r + j) = ud wf (64 * r) (y / 32) (y % 32) j := by intro i h1 h2; omega
  exact cut_15 (((63 : Int) + 1).toNat + 1) 63 wf e_20 e_21 e_22 e_23 e_24 (Nat.lt_succ_self _) _ _ hP hD hS ls (lv_sub hl [3, 4, 5, 2, 1, 0] rfl)
