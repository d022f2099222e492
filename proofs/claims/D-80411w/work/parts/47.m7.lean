/-! the model: make -/
set_option maxRecDepth 100000
abbrev BmetX8_make (dC : Nat → ClassId) (dI : Nat → Nat → Nat) (dA : Nat → ClassId) (A : Nat → Prop) (am : Nat) (as_ : Nat) (av : Nat) (aw : Nat) (th : Int) (mn : Int) (sm : Int) (wd : Int) (lp : Int) (mp : Int) (re : Int) (SG : Int → Int) (VL : Int → Int) (wf : Int → Int) (sg : Int) (code : Int) : Int × Int × Int × (Int → Int) × (Int → Int) × (Int → Int) → State → Prop := fun u t => (fun (u : Int × Int × Int × (Int → Int) × (Int → Int) × (Int → Int)) => (fun (z : Int) (th1 : Int) (mn1 : Int) (SG1 : Int → Int) (VL1 : Int → Int) (W1 : Int → Int) => va_P (dC, dI) vwCl [(am, .inr (0, [.int (I3 th1), .int (I3 mn1), .ref as_, .ref av, .ref aw, .int (I3 sm), .int (I3 wd), .int (I3 lp), .int (I3 mp), .int (I3 re)])), (as_, .inl (dA 0, 60, .inl (iA SG1))), (av, .inl (dA 1, 960, .inr (.inl (lA VL1)))), (aw, .inl (dA 1, 1024, .inr (.inl (lA W1))))] t.heap ∧ va_K (dC, dI) vwCl (tyA dA) t ∧ va_D A [(am, .inr (0, [.int (I3 th1), .int (I3 mn1), .ref as_, .ref av, .ref aw, .int (I3 sm), .int (I3 wd), .int (I3 lp), .int (I3 mp), .int (I3 re)])), (as_, .inl (dA 0, 60, .inl (iA SG1))), (av, .inl (dA 1, 960, .inr (.inl (lA VL1)))), (aw, .inl (dA 1, 1024, .inr (.inl (lA W1))))]) u.1 u.2.1 u.2.2.1 u.2.2.2.1 u.2.2.2.2.1 u.2.2.2.2.2) u
abbrev QmetX8_make (dC : Nat → ClassId) (dI : Nat → Nat → Nat) (dA : Nat → ClassId) (A : Nat → Prop) (am : Nat) (as_ : Nat) (av : Nat) (aw : Nat) (th : Int) (mn : Int) (sm : Int) (wd : Int) (lp : Int) (mp : Int) (re : Int) (SG : Int → Int) (VL : Int → Int) (wf : Int → Int) (sg : Int) (code : Int) := va_Qi (fun (rt_ : Int32) => fun (u : Int × Int × Int × (Int → Int) × (Int → Int) × (Int → Int)) => (fun (z : Int) (th1 : Int) (mn1 : Int) (SG1 : Int → Int) (VL1 : Int → Int) (W1 : Int → Int) => rt_ = I3 z ∧ (Dg W1) ∧ (Dg VL1) ∧ (0 ≤ mn1 ∧ mn1 ≤ 60) ∧ (Mde mn SG VL sg (rv wf 0) (rv wf 1) code z th1 mn1 SG1 VL1)) u.1 u.2.1 u.2.2.1 u.2.2.2.1 u.2.2.2.2.1 u.2.2.2.2.2) (BmetX8_make dC dI dA A am as_ av aw th mn sm wd lp mp re SG VL wf sg code) A
set_option maxHeartbeats 1000000 in
set_option maxRecDepth 100000 in
/-- rows 0 and 1 with a sign are made a number -/
theorem metX8_make (l : Launch) (dC : Nat → ClassId) (dI : Nat → Nat → Nat) (dA : Nat → ClassId) (am : Nat) (as_ : Nat) (av : Nat) (aw : Nat) (sz : Nat) (th : Int) (mn : Int) (sm : Int) (wd : Int) (lp : Int) (mp : Int) (re : Int) (SG : Int → Int) (VL : Int → Int) (wf : Int → Int) (sg : Int) (code : Int) (hW : Dg wf) (hV : Dg VL) (hmn : 0 ≤ mn ∧ mn ≤ 60) (hsg : In3 sg) (hcode : In3 code) (hQ : rv wf 1 ≠ 0) (hQ2 : 2 * rv wf 1 ≤ BN) : Met l yX8_make (ws_ yX8_make cX8_make 4 (some .int)) ({ frames := 3, cells := 0, slots := 0, locals := 120 }) (va_Pc [.ref am, .int (I3 sg), .int (I3 code)] (fun U => U.heap.size = sz ∧ va_P (dC, dI) vwCl [(am, .inr (0, [.int (I3 th), .int (I3 mn), .ref as_, .ref av, .ref aw, .int (I3 sm), .int (I3 wd), .int (I3 lp), .int (I3 mp), .int (I3 re)])), (as_, .inl (dA 0, 60, .inl (iA SG))), (av, .inl (dA 1, 960, .inr (.inl (lA VL)))), (aw, .inl (dA 1, 1024, .inr (.inl (lA wf))))] U.heap ∧ va_K (dC, dI) vwCl (tyA dA) U ∧ va_D (fun _ => True) [(am, .inr (0, [.int (I3 th), .int (I3 mn), .ref as_, .ref av, .ref aw, .int (I3 sm), .int (I3 wd), .int (I3 lp), .int (I3 mp), .int (I3 re)])), (as_, .inl (dA 0, 60, .inl (iA SG))), (av, .inl (dA 1, 960, .inr (.inl (lA VL)))), (aw, .inl (dA 1, 1024, .inr (.inl (lA wf))))])) (QmetX8_make dC dI dA (va_A [(am, .inr (0, [.int (I3 th), .int (I3 mn), .ref as_, .ref av, .ref aw, .int (I3 sm), .int (I3 wd), .int (I3 lp), .int (I3 mp), .int (I3 re)])), (as_, .inl (dA 0, 60, .inl (iA SG))), (av, .inl (dA 1, 960, .inr (.inl (lA VL)))), (aw, .inl (dA 1, 1024, .inr (.inl (lA wf))))] sz) am as_ av aw th mn sm wd lp mp re SG VL wf sg code) 0 0 (va_A [(am, .inr (0, [.int (I3 th), .int (I3 mn), .ref as_, .ref av, .ref aw, .int (I3 sm), .int (I3 wd), .int (I3 lp), .int (I3 mp), .int (I3 re)])), (as_, .inl (dA 0, 60, .inl (iA SG))), (av, .inl (dA 1, 960, .inr (.inl (lA VL)))), (aw, .inl (dA 1, 1024, .inr (.inl (lA wf))))] sz) := by
  refine Met.ofW (cc := cX8_make) (maxL := 4) (ret := (some .int)) (by decide) rfl ?_
  intro p e s m args below meth c s₁ B hml hv
  obtain ⟨rfl, hsz, hP, hK, hD0⟩ := hv
  have hx := B.exec
  have hb := B.bytes
  have hr := B.returns
  have hts := atoms_spec (ws := (ws_ yX8_make cX8_make 4 (some .int))) B.pre
  have hts : ∀ w ∈ lw_all, w.before _ s = true := fun w h => hts w (List.mem_cons_of_mem _ h)
  have hown : s.vm.findClass RX8 = some m.cls := findClass_of_methodNamed B.named
  have hlocks := B.notSynchronized
  subst hsz
  have hD := hD0.self (sz := s.heap.size)
  generalize hAe : va_A [(am, .inr (0, [.int (I3 th), .int (I3 mn), .ref as_, .ref av, .ref aw, .int (I3 sm), .int (I3 wd), .int (I3 lp), .int (I3 mp), .int (I3 re)])), (as_, .inl (dA 0, 60, .inl (iA SG))), (av, .inl (dA 1, 960, .inr (.inl (lA VL)))), (aw, .inl (dA 1, 1024, .inr (.inl (lA wf))))] s.heap.size = A at hD ⊢
  have hA : ∀ q : Nat, s.heap.size ≤ q → A q := fun q h => by rw [← hAe]; exact Or.inr h
  have hS : va_S A s.heap s.heap [] := va_S.rf
  have hP : va_P (dC, dI) vwCl [(am, .inr (0, [.int (I3 th), .int (I3 mn), .ref as_, .ref av, .ref aw, .int (I3 sm), .int (I3 wd), .int (I3 lp), .int (I3 mp), .int (I3 re)])), (as_, .inl (dA 0, 60, .inl (iA SG))), (av, .inl (dA 1, 960, .inr (.inl (lA VL)))), (aw, .inl (dA 1, 1024, .inr (.inl (lA wf))))] s.heap := hP
  have hl := lv_entry ([.ref am, .int (I3 sg), .int (I3 code)]) (n := 4) (Nat.le_of_ble_eq_true rfl)
  rw [lg_entry_eq]
  generalize (lg_sl ([.ref am, .int (I3 sg), .int (I3 code)]) ++ List.replicate (4 - (lg_sl ([.ref am, .int (I3 sg), .int (I3 code)])).length) Slot.unset).toArray = ls at hl ⊢
  have hl : lv_has ls 4 [(0, .ref am), (1, .int (I3 sg)), (2, .int (I3 code))] := hl
  have cut_130 : ∀ (fuel_130 : Nat), ∀ (k : Int) (W4 : Int → Int) (SG1 : Int → Int) (VL1 : Int → Int), (0 ≤ k ∧ k ≤ 8) → (Dg W4) → (Dg VL1) → (rv W4 0 = mkP (rv wf 0) (rv wf 1)) → (rv W4 1 = mkQ (rv wf 0) (rv wf 1)) → (okN mn (rv wf 0) (rv wf 1)) → (SG1 = uZ SG mn (if rv wf 0 = 0 then 0 else sg)) → (∀ i : Int, ¬ (16 * mn ≤ i ∧ i < 16 * mn + 16) → VL1 i = VL i) → (∀ j : Int, 0 ≤ j → j < k → VL1 (16 * mn + j) = W4 j) → (∀ j : Int, 0 ≤ j → j < k → VL1 (16 * mn + 8 + j) = W4 (64 + j)) → ((8 - k).toNat < fuel_130) → ∀ (H : Heap) (locs : List Loc), va_P (dC, dI) vwCl [(am, .inr (0, [.int (I3 0), .int (I3 mn), .ref as_, .ref av, .ref aw, .int (I3 sm), .int (I3 wd), .int (I3 lp), .int (I3 mp), .int (I3 re)])), (as_, .inl (dA 0, 60, .inl (iA SG1))), (av, .inl (dA 1, 960, .inr (.inl (lA VL1)))), (aw, .inl (dA 1, 1024, .inr (.inl (lA W4))))] H → va_D A [(am, .inr (0, [.int (I3 0), .int (I3 mn), .ref as_, .ref av, .ref aw, .int (I3 sm), .int (I3 wd), .int (I3 lp), .int (I3 mp), .int (I3 re)])), (as_, .inl (dA 0, 60, .inl (iA SG1))), (av, .inl (dA 1, 960, .inr (.inl (lA VL1)))), (aw, .inl (dA 1, 1024, .inr (.inl (lA W4))))] → va_S A s.heap H locs → ∀ (ls : Array Slot), lv_has ls 4 [(0, .ref am), (1, .int (I3 sg)), (2, .int (I3 code)), (3, .int (I3 k))] → W p l e (headSpec (ws_ yX8_make cX8_make 4 (some .int)) ({ frames := 3, cells := 0, slots := 0, locals := 120 })).room s m ([.ref am, .int (I3 sg), .int (I3 code)] : List Value).toArray below meth c H locs 0 0 (MQ below (QmetX8_make dC dI dA A am as_ av aw th mn sm wd lp mp re SG VL wf sg code) ([.ref am, .int (I3 sg), .int (I3 code)] : List Value).toArray s 0 0 A) (F0 m 130 ls []) := by
    intro fuel_130
    induction fuel_130 with
    | zero =>
      intro k W4 SG1 VL1 hk hW4 hV1 e0 e1 hok eS hF h1 h2 hm
      exact absurd hm (Nat.not_lt_zero _)
    | succ fuel_130 ih_130 =>
      intro k W4 SG1 VL1 hk hW4 hV1 e0 e1 hok eS hF h1 h2 hm_130 H locs hP hD hS ls hl
      have hn60 := hok.1
      refine lv_iload_n hx hb dX8_make_130 rfl (lv_at hl 3 rfl) ?_
      refine lv_bipush (v := I3 (8)) hx hb dX8_make_131 (by decide) ?_
      refine ix_icmp_ge (tgt := 188) hx hb (by first | decide | assumption | (constructor <;> omega)) (by first | decide | assumption | (constructor <;> omega)) dX8_make_133 (by decide) (fun c_133 => ?_) (fun c_133 => ?_)
      · skip
        refine lv_aload_n hx hb dX8_make_188 rfl (lv_at hl 0 rfl) ?_
        refine lv_dup hx hb dX8_make_189 rfl ?_
        refine va_get (D := (dC, dI)) (ci := 0) (v := .int (I3 mn)) (C := RX8) (T := TX8) (N := 10) hx hb hts in_X8 hown hK hP 0 rfl rfl 1 (by decide) (hts _ q914) (fun _ h9 => h9) rfl dX8_make_190 ?_
        refine lv_iconst (v := I3 (1)) hx hb dX8_make_193 rfl ?_
        refine ix_iadd hx hb dX8_make_194 ?_
        refine va_put (D := (dC, dI)) (ci := 0) (v := .int (I3 (mn + 1))) (ty := .int) (C := RX8) (T := TX8) (N := 10) hx hb hts in_X8 tyX8 tyX8_ok nmX8 hown hK hP hD hS 0 rfl rfl 1 (by decide) (hts _ q914) (fun _ h9 => h9) rfl (by decide +kernel) rfl rfl (Nat.le_of_ble_eq_true rfl) dX8_make_195 (fun H locs hP hD hS => ?_)
        have hP : va_P (dC, dI) vwCl [(am, .inr (0, [.int (I3 0), .int (I3 (mn + 1)), .ref as_, .ref av, .ref aw, .int (I3 sm), .int (I3 wd), .int (I3 lp), .int (I3 mp), .int (I3 re)])), (as_, .inl (dA 0, 60, .inl (iA SG1))), (av, .inl (dA 1, 960, .inr (.inl (lA VL1)))), (aw, .inl (dA 1, 1024, .inr (.inl (lA W4))))] H := hP
        have hD : va_D A [(am, .inr (0, [.int (I3 0), .int (I3 (mn + 1)), .ref as_, .ref av, .ref aw, .int (I3 sm), .int (I3 wd), .int (I3 lp), .int (I3 mp), .int (I3 re)])), (as_, .inl (dA 0, 60, .inl (iA SG1))), (av, .inl (dA 1, 960, .inr (.inl (lA VL1)))), (aw, .inl (dA 1, 1024, .inr (.inl (lA W4))))] := hD
        refine lv_aload_n hx hb dX8_make_198 rfl (lv_at hl 0 rfl) ?_
        refine va_get (D := (dC, dI)) (ci := 0) (v := .int (I3 (mn + 1))) (C := RX8) (T := TX8) (N := 10) hx hb hts in_X8 hown hK hP 0 rfl rfl 1 (by decide) (hts _ q914) (fun _ h9 => h9) rfl dX8_make_199 ?_
        refine lv_iconst (v := I3 (1)) hx hb dX8_make_202 rfl ?_
        refine ix_isub hx hb dX8_make_203 ?_
        have hk8 : k = 8 := by omega
        obtain ⟨o1, o2, o3⟩ := hok
        have o_1 : Dg W4 := by first | assumption | omega | (constructor <;> omega)
        have o_2 : Dg VL1 := by first | assumption | omega | (constructor <;> omega)
        have o_3 : 0 ≤ (mn + 1) ∧ (mn + 1) ≤ 60 := by first | assumption | omega | (constructor <;> omega)
        have o_4 : Mde mn SG VL sg (rv wf 0) (rv wf 1) code ((mn + 1) - 1) (0 : Int) (mn + 1) SG1 VL1 := by exact Or.inl ⟨⟨o1, o2, o3⟩, by omega, rfl, rfl, eS, (st_rv (o := 16 * mn) (r := 0) hW4 (by rw [e0]; exact o2) (fun j q1 q2 => by rw [h1 j q1 (by omega)]; congr 1; omega)).trans e0, (st_rv (o := 16 * mn + 8) (r := 1) hW4 (by rw [e1]; exact o3) (fun j q1 q2 => by rw [h2 j q1 (by omega)]; congr 1)).trans e1, hF⟩
        exact W.iret (v := I3 ((mn + 1) - 1)) hx hb hr (fun t ht hW => ⟨⟨I3 ((mn + 1) - 1), (((mn + 1) - 1), 0, (mn + 1), SG1, VL1, W4), rfl, ⟨rfl, ⟨o_1, o_2, o_3, o_4⟩⟩, by rw [ht]; exact hP, va_K.moved hW.alike hK, hD⟩, hS.F ht⟩) hS.2.2 dX8_make_204
      · skip
        refine lv_aload_n hx hb dX8_make_136 rfl (lv_at hl 0 rfl) ?_
        refine va_get (D := (dC, dI)) (ci := 0) (v := .ref av) (C := RX8) (T := TX8) (N := 10) hx hb hts in_X8 hown hK hP 0 rfl rfl 3 (by decide) (hts _ q916) (fun _ h9 => h9) rfl dX8_make_137 ?_
        refine lv_bipush (v := I3 (16)) hx hb dX8_make_140 (by decide) ?_
        refine lv_aload_n hx hb dX8_make_142 rfl (lv_at hl 0 rfl) ?_
        refine va_get (D := (dC, dI)) (ci := 0) (v := .int (I3 mn)) (C := RX8) (T := TX8) (N := 10) hx hb hts in_X8 hown hK hP 0 rfl rfl 1 (by decide) (hts _ q914) (fun _ h9 => h9) rfl dX8_make_143 ?_
        refine ix_imul hx hb dX8_make_146 ?_
        refine lv_iload_n hx hb dX8_make_147 rfl (lv_at hl 3 rfl) ?_
        refine ix_iadd hx hb dX8_make_148 ?_
        refine lv_aload_n hx hb dX8_make_149 rfl (lv_at hl 0 rfl) ?_
        refine va_get (D := (dC, dI)) (ci := 0) (v := .ref aw) (C := RX8) (T := TX8) (N := 10) hx hb hts in_X8 hown hK hP 0 rfl rfl 4 (by decide) (hts _ q917) (fun _ h9 => h9) rfl dX8_make_150 ?_
        refine lv_iload_n hx hb dX8_make_153 rfl (lv_at hl 3 rfl) ?_
        refine ix_lald hx hb hK hP 3 1 rfl rfl (Nat.le_of_ble_eq_true rfl) (by omega) dX8_make_154 ?_
        have g_154 := hW4 (k)
        refine ix_last hx hb hK hP hD hS 2 1 rfl rfl (Nat.le_of_ble_eq_true rfl) (by omega) dX8_make_155 (fun H locs hP hD hS => ?_)
        have hP : va_P (dC, dI) vwCl [(am, .inr (0, [.int (I3 0), .int (I3 mn), .ref as_, .ref av, .ref aw, .int (I3 sm), .int (I3 wd), .int (I3 lp), .int (I3 mp), .int (I3 re)])), (as_, .inl (dA 0, 60, .inl (iA SG1))), (av, .inl (dA 1, 960, .inr (.inl (lA (uZ VL1 ((16 * mn) + k) (W4 k)))))), (aw, .inl (dA 1, 1024, .inr (.inl (lA W4))))] H := hP
        have hD : va_D A [(am, .inr (0, [.int (I3 0), .int (I3 mn), .ref as_, .ref av, .ref aw, .int (I3 sm), .int (I3 wd), .int (I3 lp), .int (I3 mp), .int (I3 re)])), (as_, .inl (dA 0, 60, .inl (iA SG1))), (av, .inl (dA 1, 960, .inr (.inl (lA (uZ VL1 ((16 * mn) + k) (W4 k)))))), (aw, .inl (dA 1, 1024, .inr (.inl (lA W4))))] := hD
        refine lv_aload_n hx hb dX8_make_156 rfl (lv_at hl 0 rfl) ?_
        refine va_get (D := (dC, dI)) (ci := 0) (v := .ref av) (C := RX8) (T := TX8) (N := 10) hx hb hts in_X8 hown hK hP 0 rfl rfl 3 (by decide) (hts _ q916) (fun _ h9 => h9) rfl dX8_make_157 ?_
        refine lv_bipush (v := I3 (16)) hx hb dX8_make_160 (by decide) ?_
        refine lv_aload_n hx hb dX8_make_162 rfl (lv_at hl 0 rfl) ?_
        refine va_get (D := (dC, dI)) (ci := 0) (v := .int (I3 mn)) (C := RX8) (T := TX8) (N := 10) hx hb hts in_X8 hown hK hP 0 rfl rfl 1 (by decide) (hts _ q914) (fun _ h9 => h9) rfl dX8_make_163 ?_
        refine ix_imul hx hb dX8_make_166 ?_
        refine lv_bipush (v := I3 (8)) hx hb dX8_make_167 (by decide) ?_
        refine ix_iadd hx hb dX8_make_169 ?_
        refine lv_iload_n hx hb dX8_make_170 rfl (lv_at hl 3 rfl) ?_
        refine ix_iadd hx hb dX8_make_171 ?_
        refine lv_aload_n hx hb dX8_make_172 rfl (lv_at hl 0 rfl) ?_
        refine va_get (D := (dC, dI)) (ci := 0) (v := .ref aw) (C := RX8) (T := TX8) (N := 10) hx hb hts in_X8 hown hK hP 0 rfl rfl 4 (by decide) (hts _ q917) (fun _ h9 => h9) rfl dX8_make_173 ?_
        refine lv_bipush (v := I3 (64)) hx hb dX8_make_176 (by decide) ?_
        refine lv_iload_n hx hb dX8_make_178 rfl (lv_at hl 3 rfl) ?_
        refine ix_iadd hx hb dX8_make_179 ?_
        refine ix_lald hx hb hK hP 3 1 rfl rfl (Nat.le_of_ble_eq_true rfl) (by omega) dX8_make_180 ?_
        have g_180 := hW4 (64 + k)
        refine ix_last hx hb hK hP hD hS 2 1 rfl rfl (Nat.le_of_ble_eq_true rfl) (by omega) dX8_make_181 (fun H locs hP hD hS => ?_)
        have hP : va_P (dC, dI) vwCl [(am, .inr (0, [.int (I3 0), .int (I3 mn), .ref as_, .ref av, .ref aw, .int (I3 sm), .int (I3 wd), .int (I3 lp), .int (I3 mp), .int (I3 re)])), (as_, .inl (dA 0, 60, .inl (iA SG1))), (av, .inl (dA 1, 960, .inr (.inl (lA (uZ (uZ VL1 ((16 * mn) + k) (W4 k)) (((16 * mn) + 8) + k) (W4 (64 + k))))))), (aw, .inl (dA 1, 1024, .inr (.inl (lA W4))))] H := hP
        have hD : va_D A [(am, .inr (0, [.int (I3 0), .int (I3 mn), .ref as_, .ref av, .ref aw, .int (I3 sm), .int (I3 wd), .int (I3 lp), .int (I3 mp), .int (I3 re)])), (as_, .inl (dA 0, 60, .inl (iA SG1))), (av, .inl (dA 1, 960, .inr (.inl (lA (uZ (uZ VL1 ((16 * mn) + k) (W4 k)) (((16 * mn) + 8) + k) (W4 (64 + k))))))), (aw, .inl (dA 1, 1024, .inr (.inl (lA W4))))] := hD
        refine lv_iinc (v := I3 (k + 1)) (lv' := [(3, .int (I3 (k + 1))), (0, .ref am), (1, .int (I3 sg)), (2, .int (I3 code))]) hx hb dX8_make_182 hl (k := 3) rfl (I3_add _ _) (by decide) rfl (fun ls hl => ?_)
        refine lv_goto (tgt := 130) hx hb dX8_make_185 (by decide) ?_
        have e_5 : 0 ≤ (k + 1) ∧ (k + 1) ≤ 8 := by first | assumption | omega | (constructor <;> omega)
        have e_6 : Dg W4 := by first | assumption | omega | (constructor <;> omega)
        have e_7 : Dg (uZ (uZ VL1 ((16 * mn) + k) (W4 k)) (((16 * mn) + 8) + k) (W4 (64 + k))) := by exact Dg_uZ (Dg_uZ hV1 (hW4 _).1 (hW4 _).2) (hW4 _).1 (hW4 _).2
        have e_8 : rv W4 0 = mkP (rv wf 0) (rv wf 1) := by exact e0
        have e_9 : rv W4 1 = mkQ (rv wf 0) (rv wf 1) := by exact e1
        have e_10 : okN mn (rv wf 0) (rv wf 1) := by exact hok
        have e_11 : SG1 = uZ SG mn (if rv wf 0 = 0 then 0 else sg) := by exact eS
        have e_12 : ∀ i : Int, ¬ (16 * mn ≤ i ∧ i < 16 * mn + 16) → (uZ (uZ VL1 ((16 * mn) + k) (W4 k)) (((16 * mn) + 8) + k) (W4 (64 + k))) i = VL i := by intro i q; rw [uZ_n (by omega), uZ_n (by omega)]; exact hF i q
        have e_13 : ∀ j : Int, 0 ≤ j → j < (k + 1) → (uZ (uZ VL1 ((16 * mn) + k) (W4 k)) (((16 * mn) + 8) + k) (W4 (64 + k))) (16 * mn + j) = W4 j := by intro j q1 q2; rw [uZ_n (by omega)]; by_cases q : j = k; rw [q, uZ_s]; rw [uZ_n (by omega)]; exact h1 j q1 (by omega)
        have e_14 : ∀ j : Int, 0 ≤ j → j < (k + 1) → (uZ (uZ VL1 ((16 * mn) + k) (W4 k)) (((16 * mn) + 8) + k) (W4 (64 + k))) (16 * mn + 8 + j) = W4 (64 + j) := by intro j q1 q2; by_cases q : j = k; rw [q, uZ_s]; rw [uZ_n (by omega), uZ_n (by omega)]; exact h2 j q1 (by omega)
        have e_15 : (8 - (k + 1)).toNat < fuel_130 := by omega
        exact ih_130 (k + 1) W4 SG1 (uZ (uZ VL1 ((16 * mn) + k) (W4 k)) (((16 * mn) + 8) + k) (W4 (64 + k))) e_5 e_6 e_7 e_8 e_9 e_10 e_11 e_12 e_13 e_14 e_15 _ _ hP hD hS ls (lv_sub hl [1, 2, 3, 0] rfl)
  have cut_14 : ∀ (W3 : Int → Int), (Dg W3) → (rv W3 0 = rv wf 0) → (rv W3 1 = mkd (rv wf 0) (rv wf 1)) → ∀ (H : Heap) (locs : List Loc), va_P (dC, dI) vwCl [(am, .inr (0, [.int (I3 th), .int (I3 mn), .ref as_, .ref av, .ref aw, .int (I3 sm), .int (I3 wd), .int (I3 lp), .int (I3 mp), .int (I3 re)])), (as_, .inl (dA 0, 60, .inl (iA SG))), (av, .inl (dA 1, 960, .inr (.inl (lA VL)))), (aw, .inl (dA 1, 1024, .inr (.inl (lA W3))))] H → va_D A [(am, .inr (0, [.int (I3 th), .int (I3 mn), .ref as_, .ref av, .ref aw, .int (I3 sm), .int (I3 wd), .int (I3 lp), .int (I3 mp), .int (I3 re)])), (as_, .inl (dA 0, 60, .inl (iA SG))), (av, .inl (dA 1, 960, .inr (.inl (lA VL)))), (aw, .inl (dA 1, 1024, .inr (.inl (lA W3))))] → va_S A s.heap H locs → ∀ (ls : Array Slot), lv_has ls 4 [(0, .ref am), (1, .int (I3 sg)), (2, .int (I3 code))] → W p l e (headSpec (ws_ yX8_make cX8_make 4 (some .int)) ({ frames := 3, cells := 0, slots := 0, locals := 120 })).room s m ([.ref am, .int (I3 sg), .int (I3 code)] : List Value).toArray below meth c H locs 0 0 (MQ below (QmetX8_make dC dI dA A am as_ av aw th mn sm wd lp mp re SG VL wf sg code) ([.ref am, .int (I3 sg), .int (I3 code)] : List Value).toArray s 0 0 A) (F0 m 14 ls []) := by
    intro W3 hW3 f0 f1 H locs hP hD hS ls hl
    refine lv_aload_n hx hb dX8_make_14 rfl (lv_at hl 0 rfl) ?_
    refine lv_iconst (v := I3 (0)) hx hb dX8_make_15 rfl ?_
    refine lv_iconst (v := I3 (1)) hx hb dX8_make_16 rfl ?_
    have h_16 : 0 ≤ (0 : Int) ∧ (0 : Int) < 16 := by first | assumption | omega | (constructor <;> omega)
    have h_17 : 0 ≤ (1 : Int) ∧ (1 : Int) < 16 := by first | assumption | omega | (constructor <;> omega)
    have h_18 : (0 : Int) ≠ 14 ∧ (0 : Int) ≠ 15 := by first | assumption | omega | (constructor <;> omega)
    have h_19 : (1 : Int) ≠ 14 ∧ (1 : Int) ≠ 15 := by first | assumption | omega | (constructor <;> omega)
    have h_20 : Dg W3 := by first | assumption | omega | (constructor <;> omega)
    have hPc := hP.sub (ws' := [(am, .inr (0, [.int (I3 th), .int (I3 mn), .ref as_, .ref av, .ref aw, .int (I3 sm), .int (I3 wd), .int (I3 lp), .int (I3 mp), .int (I3 re)])), (as_, .inl (dA 0, 60, .inl (iA SG))), (av, .inl (dA 1, 960, .inr (.inl (lA VL)))), (aw, .inl (dA 1, 1024, .inr (.inl (lA W3))))]) [0, 1, 2, 3] rfl
    have hDc := hD.sub (ws' := [(am, .inr (0, [.int (I3 th), .int (I3 mn), .ref as_, .ref av, .ref aw, .int (I3 sm), .int (I3 wd), .int (I3 lp), .int (I3 mp), .int (I3 re)])), (as_, .inl (dA 0, 60, .inl (iA SG))), (av, .inl (dA 1, 960, .inr (.inl (lA VL)))), (aw, .inl (dA 1, 1024, .inr (.inl (lA W3))))]) [0, 1, 2, 3] (by decide) rfl
    have hFc := va_free (wc := [(am, .inr (0, [.int (I3 th), .int (I3 mn), .ref as_, .ref av, .ref aw, .int (I3 sm), .int (I3 wd), .int (I3 lp), .int (I3 mp), .int (I3 re)])), (as_, .inl (dA 0, 60, .inl (iA SG))), (av, .inl (dA 1, 960, .inr (.inl (lA VL)))), (aw, .inl (dA 1, 1024, .inr (.inl (lA W3))))]) hD hS hA [0, 1, 2, 3] rfl
    refine va_callv (va_runV (As := [.int (I3 0), .int (I3 1)]) (rest := []) ⟨hx, hb, hml, hown, hts⟩ (metX8_greatest l dC dI dA am as_ av aw H.size th mn sm wd lp mp re SG VL W3 0 1 h_16 h_17 h_18 h_19 h_20) (cwV 2 hts (lw_V q972 q974 qs23 q66 q975) rfl rfl rfl (by decide +kernel) ⟨Nat.le_of_ble_eq_true rfl, Nat.le_of_ble_eq_true rfl⟩) ⟨fun a U g mk q => by obtain ⟨q0, q1, qP, qK, qD⟩ := q; exact ⟨q0, q1, qP, va_K.moved (u := U) (U := U.calling g mk a) (Vm.Alike.refl U.vm) qK, qD⟩, va_recv hK hPc (ci := 0) (q0 := 0) rfl rfl, fun U hU hW => ⟨rfl, by rw [hU], by rw [hU]; exact hPc, va_K.moved hW.alike hK, hDc.weaken (fun _ _ _ _ => trivial)⟩⟩ rfl rfl hl.1 rfl (lv_room (Nat.le_of_ble_eq_true rfl)) dX8_make_17 ⟨Nat.le_of_ble_eq_true rfl, Nat.le_of_ble_eq_true rfl⟩) hS (fun q _ h => hFc q h) hFc (fun u t H1 locs ht hvm hw hB hz1 hk1 hS => ?_)
    obtain ⟨W1_17, rfl⟩ : ∃ z, z = u := ⟨_, rfl⟩
    obtain ⟨p0_17, p1_17, p2_17⟩ : (Dg W1_17) ∧ (Fr2 W3 W1_17 14 15) ∧ (rv W1_17 14 = Nat.gcd (rv W3 (0 : Int)) (rv W3 (1 : Int))) := hw
    obtain ⟨hP1, hK1, hD1⟩ := hB
    rw [ht] at hP1
    obtain ⟨hP, hD⟩ := va_join (wr := []) (w1 := [(am, .inr (0, [.int (I3 th), .int (I3 mn), .ref as_, .ref av, .ref aw, .int (I3 sm), .int (I3 wd), .int (I3 lp), .int (I3 mp), .int (I3 re)])), (as_, .inl (dA 0, 60, .inl (iA SG))), (av, .inl (dA 1, 960, .inr (.inl (lA VL)))), (aw, .inl (dA 1, 1024, .inr (.inl (lA W1_17))))]) hP hD [0, 1, 2, 3] [] rfl rfl (by decide) (by decide) hk1 hFc hP1 hD1
    generalize H1 = H at hP hS ⊢
    have hP : va_P (dC, dI) vwCl [(am, .inr (0, [.int (I3 th), .int (I3 mn), .ref as_, .ref av, .ref aw, .int (I3 sm), .int (I3 wd), .int (I3 lp), .int (I3 mp), .int (I3 re)])), (as_, .inl (dA 0, 60, .inl (iA SG))), (av, .inl (dA 1, 960, .inr (.inl (lA VL)))), (aw, .inl (dA 1, 1024, .inr (.inl (lA W1_17))))] H := hP
    have hD : va_D A [(am, .inr (0, [.int (I3 th), .int (I3 mn), .ref as_, .ref av, .ref aw, .int (I3 sm), .int (I3 wd), .int (I3 lp), .int (I3 mp), .int (I3 re)])), (as_, .inl (dA 0, 60, .inl (iA SG))), (av, .inl (dA 1, 960, .inr (.inl (lA VL)))), (aw, .inl (dA 1, 1024, .inr (.inl (lA W1_17))))] := hD
    obtain ⟨hg0, hgle⟩ := gcd_mkd (p := rv wf 0) hQ
    obtain ⟨hm1, hm2⟩ := mkd_le (p := rv wf 0) hQ
    have eg : rv W1_17 14 = Nat.gcd (rv wf 0) (mkd (rv wf 0) (rv wf 1)) := by rw [p2_17, f0, f1]
    have g0 : rv W1_17 0 = rv wf 0 := (Fr2_rv p1_17 (by decide) (by decide)).trans f0
    have g1 : rv W1_17 1 = mkd (rv wf 0) (rv wf 1) := (Fr2_rv p1_17 (by decide) (by decide)).trans f1
    refine lv_aload_n hx hb dX8_make_20 rfl (lv_at hl 0 rfl) ?_
    refine lv_bipush (v := I3 (14)) hx hb dX8_make_21 (by decide) ?_
    refine lv_bipush (v := I3 (13)) hx hb dX8_make_23 (by decide) ?_
    have h_21 : 0 ≤ (14 : Int) ∧ (14 : Int) < 16 := by first | assumption | omega | (constructor <;> omega)
    have h_22 : 0 ≤ (13 : Int) ∧ (13 : Int) < 16 := by first | assumption | omega | (constructor <;> omega)
    have h_23 : (14 : Int) ≠ (13 : Int) := by first | assumption | omega | (constructor <;> omega)
    have h_24 : Dg W1_17 := by first | assumption | omega | (constructor <;> omega)
    have hPc := hP.sub (ws' := [(am, .inr (0, [.int (I3 th), .int (I3 mn), .ref as_, .ref av, .ref aw, .int (I3 sm), .int (I3 wd), .int (I3 lp), .int (I3 mp), .int (I3 re)])), (as_, .inl (dA 0, 60, .inl (iA SG))), (av, .inl (dA 1, 960, .inr (.inl (lA VL)))), (aw, .inl (dA 1, 1024, .inr (.inl (lA W1_17))))]) [0, 1, 2, 3] rfl
    have hDc := hD.sub (ws' := [(am, .inr (0, [.int (I3 th), .int (I3 mn), .ref as_, .ref av, .ref aw, .int (I3 sm), .int (I3 wd), .int (I3 lp), .int (I3 mp), .int (I3 re)])), (as_, .inl (dA 0, 60, .inl (iA SG))), (av, .inl (dA 1, 960, .inr (.inl (lA VL)))), (aw, .inl (dA 1, 1024, .inr (.inl (lA W1_17))))]) [0, 1, 2, 3] (by decide) rfl
    have hFc := va_free (wc := [(am, .inr (0, [.int (I3 th), .int (I3 mn), .ref as_, .ref av, .ref aw, .int (I3 sm), .int (I3 wd), .int (I3 lp), .int (I3 mp), .int (I3 re)])), (as_, .inl (dA 0, 60, .inl (iA SG))), (av, .inl (dA 1, 960, .inr (.inl (lA VL)))), (aw, .inl (dA 1, 1024, .inr (.inl (lA W1_17))))]) hD hS hA [0, 1, 2, 3] rfl
    refine va_callv (va_runV (As := [.int (I3 14), .int (I3 13)]) (rest := []) ⟨hx, hb, hml, hown, hts⟩ (metX8_copy l dC dI dA am as_ av aw H.size th mn sm wd lp mp re SG VL W1_17 14 13 h_21 h_22 h_23 h_24) (cwV 2 hts (lw_V q976 q978 qs24 q66 q979) rfl rfl rfl (by decide +kernel) ⟨Nat.le_of_ble_eq_true rfl, Nat.le_of_ble_eq_true rfl⟩) ⟨fun a U g mk q => by obtain ⟨q0, q1, qP, qK, qD⟩ := q; exact ⟨q0, q1, qP, va_K.moved (u := U) (U := U.calling g mk a) (Vm.Alike.refl U.vm) qK, qD⟩, va_recv hK hPc (ci := 0) (q0 := 0) rfl rfl, fun U hU hW => ⟨rfl, by rw [hU], by rw [hU]; exact hPc, va_K.moved hW.alike hK, hDc.weaken (fun _ _ _ _ => trivial)⟩⟩ rfl rfl hl.1 rfl (lv_room (Nat.le_of_ble_eq_true rfl)) dX8_make_25 ⟨Nat.le_of_ble_eq_true rfl, Nat.le_of_ble_eq_true rfl⟩) hS (fun q _ h => hFc q h) hFc (fun u t H1 locs ht hvm hw hB hz1 hk1 hS => ?_)
    obtain ⟨W1_25, rfl⟩ : ∃ z, z = u := ⟨_, rfl⟩
    obtain ⟨p0_25, p1_25, p2_25⟩ : (Dg W1_25) ∧ (Fr W1_17 W1_25 (13 : Int)) ∧ (rv W1_25 (13 : Int) = rv W1_17 (14 : Int)) := hw
    obtain ⟨hP1, hK1, hD1⟩ := hB
    rw [ht] at hP1
    obtain ⟨hP, hD⟩ := va_join (wr := []) (w1 := [(am, .inr (0, [.int (I3 th), .int (I3 mn), .ref as_, .ref av, .ref aw, .int (I3 sm), .int (I3 wd), .int (I3 lp), .int (I3 mp), .int (I3 re)])), (as_, .inl (dA 0, 60, .inl (iA SG))), (av, .inl (dA 1, 960, .inr (.inl (lA VL)))), (aw, .inl (dA 1, 1024, .inr (.inl (lA W1_25))))]) hP hD [0, 1, 2, 3] [] rfl rfl (by decide) (by decide) hk1 hFc hP1 hD1
    generalize H1 = H at hP hS ⊢
    have hP : va_P (dC, dI) vwCl [(am, .inr (0, [.int (I3 th), .int (I3 mn), .ref as_, .ref av, .ref aw, .int (I3 sm), .int (I3 wd), .int (I3 lp), .int (I3 mp), .int (I3 re)])), (as_, .inl (dA 0, 60, .inl (iA SG))), (av, .inl (dA 1, 960, .inr (.inl (lA VL)))), (aw, .inl (dA 1, 1024, .inr (.inl (lA W1_25))))] H := hP
    have hD : va_D A [(am, .inr (0, [.int (I3 th), .int (I3 mn), .ref as_, .ref av, .ref aw, .int (I3 sm), .int (I3 wd), .int (I3 lp), .int (I3 mp), .int (I3 re)])), (as_, .inl (dA 0, 60, .inl (iA SG))), (av, .inl (dA 1, 960, .inr (.inl (lA VL)))), (aw, .inl (dA 1, 1024, .inr (.inl (lA W1_25))))] := hD
    have eg2 : rv W1_25 13 = Nat.gcd (rv wf 0) (mkd (rv wf 0) (rv wf 1)) := p2_25.trans eg
    have g2 : rv W1_25 0 = rv wf 0 := (Fr_rv p1_25 (by decide)).trans g0
    have g3 : rv W1_25 1 = mkd (rv wf 0) (rv wf 1) := (Fr_rv p1_25 (by decide)).trans g1
    refine lv_aload_n hx hb dX8_make_28 rfl (lv_at hl 0 rfl) ?_
    refine lv_iconst (v := I3 (0)) hx hb dX8_make_29 rfl ?_
    refine lv_bipush (v := I3 (13)) hx hb dX8_make_30 (by decide) ?_
    refine lv_bipush (v := I3 (12)) hx hb dX8_make_32 (by decide) ?_
    refine lv_bipush (v := I3 (11)) hx hb dX8_make_34 (by decide) ?_
    have h_25 : 0 ≤ (0 : Int) ∧ (0 : Int) < 16 := by first | assumption | omega | (constructor <;> omega)
    have h_26 : 0 ≤ (13 : Int) ∧ (13 : Int) < 16 := by first | assumption | omega | (constructor <;> omega)
    have h_27 : 0 ≤ (12 : Int) ∧ (12 : Int) < 16 := by first | assumption | omega | (constructor <;> omega)
    have h_28 : 0 ≤ (11 : Int) ∧ (11 : Int) < 16 := by first | assumption | omega | (constructor <;> omega)
    have h_29 : (0 : Int) ≠ (12 : Int) := by first | assumption | omega | (constructor <;> omega)
    have h_30 : (0 : Int) ≠ (11 : Int) := by first | assumption | omega | (constructor <;> omega)
    have h_31 : (13 : Int) ≠ (12 : Int) := by first | assumption | omega | (constructor <;> omega)
    have h_32 : (13 : Int) ≠ (11 : Int) := by first | assumption | omega | (constructor <;> omega)
    have h_33 : (12 : Int) ≠ (11 : Int) := by first | assumption | omega | (constructor <;> omega)
    have h_34 : rv W1_25 (13 : Int) ≠ 0 := by rw [eg2]; exact hg0
    have h_35 : 2 * rv W1_25 (13 : Int) ≤ BN := by rw [eg2]; omega
    have h_36 : Dg W1_25 := by first | assumption | omega | (constructor <;> omega)
    have hPc := hP.sub (ws' := [(am, .inr (0, [.int (I3 th), .int (I3 mn), .ref as_, .ref av, .ref aw, .int (I3 sm), .int (I3 wd), .int (I3 lp), .int (I3 mp), .int (I3 re)])), (as_, .inl (dA 0, 60, .inl (iA SG))), (av, .inl (dA 1, 960, .inr (.inl (lA VL)))), (aw, .inl (dA 1, 1024, .inr (.inl (lA W1_25))))]) [0, 1, 2, 3] rfl
    have hDc := hD.sub (ws' := [(am, .inr (0, [.int (I3 th), .int (I3 mn), .ref as_, .ref av, .ref aw, .int (I3 sm), .int (I3 wd), .int (I3 lp), .int (I3 mp), .int (I3 re)])), (as_, .inl (dA 0, 60, .inl (iA SG))), (av, .inl (dA 1, 960, .inr (.inl (lA VL)))), (aw, .inl (dA 1, 1024, .inr (.inl (lA W1_25))))]) [0, 1, 2, 3] (by decide) rfl
    have hFc := va_free (wc := [(am, .inr (0, [.int (I3 th), .int (I3 mn), .ref as_, .ref av, .ref aw, .int (I3 sm), .int (I3 wd), .int (I3 lp), .int (I3 mp), .int (I3 re)])), (as_, .inl (dA 0, 60, .inl (iA SG))), (av, .inl (dA 1, 960, .inr (.inl (lA VL)))), (aw, .inl (dA 1, 1024, .inr (.inl (lA W1_25))))]) hD hS hA [0, 1, 2, 3] rfl
    refine va_callv (va_runV (As := [.int (I3 0), .int (I3 13), .int (I3 12), .int (I3 11)]) (rest := []) ⟨hx, hb, hml, hown, hts⟩ (metX8_divide l dC dI dA am as_ av aw H.size th mn sm wd lp mp re SG VL W1_25 0 13 12 11 h_25 h_26 h_27 h_28 h_29 h_30 h_31 h_32 h_33 h_34 h_35 h_36) (cwV 4 hts (lw_V q1004 q1006 qs31 q66 q1007) rfl rfl rfl (by decide +kernel) ⟨Nat.le_of_ble_eq_true rfl, Nat.le_of_ble_eq_true rfl⟩) ⟨fun a U g mk q => by obtain ⟨q0, q1, qP, qK, qD⟩ := q; exact ⟨q0, q1, qP, va_K.moved (u := U) (U := U.calling g mk a) (Vm.Alike.refl U.vm) qK, qD⟩, va_recv hK hPc (ci := 0) (q0 := 0) rfl rfl, fun U hU hW => ⟨rfl, by rw [hU], by rw [hU]; exact hPc, va_K.moved hW.alike hK, hDc.weaken (fun _ _ _ _ => trivial)⟩⟩ rfl rfl hl.1 rfl (lv_room (Nat.le_of_ble_eq_true rfl)) dX8_make_36 ⟨Nat.le_of_ble_eq_true rfl, Nat.le_of_ble_eq_true rfl⟩) hS (fun q _ h => hFc q h) hFc (fun u t H1 locs ht hvm hw hB hz1 hk1 hS => ?_)
    obtain ⟨W1_36, rfl⟩ : ∃ z, z = u := ⟨_, rfl⟩
    obtain ⟨p0_36, p1_36, p2_36, p3_36⟩ : (Dg W1_36) ∧ (Fr2 W1_25 W1_36 (12 : Int) (11 : Int)) ∧ (rv W1_36 (12 : Int) = rv W1_25 (0 : Int) / rv W1_25 (13 : Int)) ∧ (rv W1_36 (11 : Int) = rv W1_25 (0 : Int) % rv W1_25 (13 : Int)) := hw
    obtain ⟨hP1, hK1, hD1⟩ := hB
    rw [ht] at hP1
    obtain ⟨hP, hD⟩ := va_join (wr := []) (w1 := [(am, .inr (0, [.int (I3 th), .int (I3 mn), .ref as_, .ref av, .ref aw, .int (I3 sm), .int (I3 wd), .int (I3 lp), .int (I3 mp), .int (I3 re)])), (as_, .inl (dA 0, 60, .inl (iA SG))), (av, .inl (dA 1, 960, .inr (.inl (lA VL)))), (aw, .inl (dA 1, 1024, .inr (.inl (lA W1_36))))]) hP hD [0, 1, 2, 3] [] rfl rfl (by decide) (by decide) hk1 hFc hP1 hD1
    generalize H1 = H at hP hS ⊢
    have hP : va_P (dC, dI) vwCl [(am, .inr (0, [.int (I3 th), .int (I3 mn), .ref as_, .ref av, .ref aw, .int (I3 sm), .int (I3 wd), .int (I3 lp), .int (I3 mp), .int (I3 re)])), (as_, .inl (dA 0, 60, .inl (iA SG))), (av, .inl (dA 1, 960, .inr (.inl (lA VL)))), (aw, .inl (dA 1, 1024, .inr (.inl (lA W1_36))))] H := hP
    have hD : va_D A [(am, .inr (0, [.int (I3 th), .int (I3 mn), .ref as_, .ref av, .ref aw, .int (I3 sm), .int (I3 wd), .int (I3 lp), .int (I3 mp), .int (I3 re)])), (as_, .inl (dA 0, 60, .inl (iA SG))), (av, .inl (dA 1, 960, .inr (.inl (lA VL)))), (aw, .inl (dA 1, 1024, .inr (.inl (lA W1_36))))] := hD
    have g4 : rv W1_36 12 = mkP (rv wf 0) (rv wf 1) := by rw [p2_36, g2, eg2]; rfl
    have g5 : rv W1_36 13 = Nat.gcd (rv wf 0) (mkd (rv wf 0) (rv wf 1)) := (Fr2_rv p1_36 (by decide) (by decide)).trans eg2
    have g6 : rv W1_36 1 = mkd (rv wf 0) (rv wf 1) := (Fr2_rv p1_36 (by decide) (by decide)).trans g3
    refine lv_aload_n hx hb dX8_make_39 rfl (lv_at hl 0 rfl) ?_
    refine lv_bipush (v := I3 (12)) hx hb dX8_make_40 (by decide) ?_
    refine lv_iconst (v := I3 (0)) hx hb dX8_make_42 rfl ?_
    have h_37 : 0 ≤ (12 : Int) ∧ (12 : Int) < 16 := by first | assumption | omega | (constructor <;> omega)
    have h_38 : 0 ≤ (0 : Int) ∧ (0 : Int) < 16 := by first | assumption | omega | (constructor <;> omega)
    have h_39 : (12 : Int) ≠ (0 : Int) := by first | assumption | omega | (constructor <;> omega)
    have h_40 : Dg W1_36 := by first | assumption | omega | (constructor <;> omega)
    have hPc := hP.sub (ws' := [(am, .inr (0, [.int (I3 th), .int (I3 mn), .ref as_, .ref av, .ref aw, .int (I3 sm), .int (I3 wd), .int (I3 lp), .int (I3 mp), .int (I3 re)])), (as_, .inl (dA 0, 60, .inl (iA SG))), (av, .inl (dA 1, 960, .inr (.inl (lA VL)))), (aw, .inl (dA 1, 1024, .inr (.inl (lA W1_36))))]) [0, 1, 2, 3] rfl
    have hDc := hD.sub (ws' := [(am, .inr (0, [.int (I3 th), .int (I3 mn), .ref as_, .ref av, .ref aw, .int (I3 sm), .int (I3 wd), .int (I3 lp), .int (I3 mp), .int (I3 re)])), (as_, .inl (dA 0, 60, .inl (iA SG))), (av, .inl (dA 1, 960, .inr (.inl (lA VL)))), (aw, .inl (dA 1, 1024, .inr (.inl (lA W1_36))))]) [0, 1, 2, 3] (by decide) rfl
    have hFc := va_free (wc := [(am, .inr (0, [.int (I3 th), .int (I3 mn), .ref as_, .ref av, .ref aw, .int (I3 sm), .int (I3 wd), .int (I3 lp), .int (I3 mp), .int (I3 re)])), (as_, .inl (dA 0, 60, .inl (iA SG))), (av, .inl (dA 1, 960, .inr (.inl (lA VL)))), (aw, .inl (dA 1, 1024, .inr (.inl (lA W1_36))))]) hD hS hA [0, 1, 2, 3] rfl
    refine va_callv (va_runV (As := [.int (I3 12), .int (I3 0)]) (rest := []) ⟨hx, hb, hml, hown, hts⟩ (metX8_copy l dC dI dA am as_ av aw H.size th mn sm wd lp mp re SG VL W1_36 12 0 h_37 h_38 h_39 h_40) (cwV 2 hts (lw_V q976 q978 qs24 q66 q979) rfl rfl rfl (by decide +kernel) ⟨Nat.le_of_ble_eq_true rfl, Nat.le_of_ble_eq_true rfl⟩) ⟨fun a U g mk q => by obtain ⟨q0, q1, qP, qK, qD⟩ := q; exact ⟨q0, q1, qP, va_K.moved (u := U) (U := U.calling g mk a) (Vm.Alike.refl U.vm) qK, qD⟩, va_recv hK hPc (ci := 0) (q0 := 0) rfl rfl, fun U hU hW => ⟨rfl, by rw [hU], by rw [hU]; exact hPc, va_K.moved hW.alike hK, hDc.weaken (fun _ _ _ _ => trivial)⟩⟩ rfl rfl hl.1 rfl (lv_room (Nat.le_of_ble_eq_true rfl)) dX8_make_43 ⟨Nat.le_of_ble_eq_true rfl, Nat.le_of_ble_eq_true rfl⟩) hS (fun q _ h => hFc q h) hFc (fun u t H1 locs ht hvm hw hB hz1 hk1 hS => ?_)
    obtain ⟨W1_43, rfl⟩ : ∃ z, z = u := ⟨_, rfl⟩
    obtain ⟨p0_43, p1_43, p2_43⟩ : (Dg W1_43) ∧ (Fr W1_36 W1_43 (0 : Int)) ∧ (rv W1_43 (0 : Int) = rv W1_36 (12 : Int)) := hw
    obtain ⟨hP1, hK1, hD1⟩ := hB
    rw [ht] at hP1
    obtain ⟨hP, hD⟩ := va_join (wr := []) (w1 := [(am, .inr (0, [.int (I3 th), .int (I3 mn), .ref as_, .ref av, .ref aw, .int (I3 sm), .int (I3 wd), .int (I3 lp), .int (I3 mp), .int (I3 re)])), (as_, .inl (dA 0, 60, .inl (iA SG))), (av, .inl (dA 1, 960, .inr (.inl (lA VL)))), (aw, .inl (dA 1, 1024, .inr (.inl (lA W1_43))))]) hP hD [0, 1, 2, 3] [] rfl rfl (by decide) (by decide) hk1 hFc hP1 hD1
    generalize H1 = H at hP hS ⊢
    have hP : va_P (dC, dI) vwCl [(am, .inr (0, [.int (I3 th), .int (I3 mn), .ref as_, .ref av, .ref aw, .int (I3 sm), .int (I3 wd), .int (I3 lp), .int (I3 mp), .int (I3 re)])), (as_, .inl (dA 0, 60, .inl (iA SG))), (av, .inl (dA 1, 960, .inr (.inl (lA VL)))), (aw, .inl (dA 1, 1024, .inr (.inl (lA W1_43))))] H := hP
    have hD : va_D A [(am, .inr (0, [.int (I3 th), .int (I3 mn), .ref as_, .ref av, .ref aw, .int (I3 sm), .int (I3 wd), .int (I3 lp), .int (I3 mp), .int (I3 re)])), (as_, .inl (dA 0, 60, .inl (iA SG))), (av, .inl (dA 1, 960, .inr (.inl (lA VL)))), (aw, .inl (dA 1, 1024, .inr (.inl (lA W1_43))))] := hD
    have g7 : rv W1_43 0 = mkP (rv wf 0) (rv wf 1) := p2_43.trans g4
    have g8 : rv W1_43 13 = Nat.gcd (rv wf 0) (mkd (rv wf 0) (rv wf 1)) := (Fr_rv p1_43 (by decide)).trans g5
    have g9 : rv W1_43 1 = mkd (rv wf 0) (rv wf 1) := (Fr_rv p1_43 (by decide)).trans g6
    refine lv_aload_n hx hb dX8_make_46 rfl (lv_at hl 0 rfl) ?_
    refine lv_iconst (v := I3 (1)) hx hb dX8_make_47 rfl ?_
    refine lv_bipush (v := I3 (13)) hx hb dX8_make_48 (by decide) ?_
    refine lv_bipush (v := I3 (12)) hx hb dX8_make_50 (by decide) ?_
    refine lv_bipush (v := I3 (11)) hx hb dX8_make_52 (by decide) ?_
    have h_41 : 0 ≤ (1 : Int) ∧ (1 : Int) < 16 := by first | assumption | omega | (constructor <;> omega)
    have h_42 : 0 ≤ (13 : Int) ∧ (13 : Int) < 16 := by first | assumption | omega | (constructor <;> omega)
    have h_43 : 0 ≤ (12 : Int) ∧ (12 : Int) < 16 := by first | assumption | omega | (constructor <;> omega)
    have h_44 : 0 ≤ (11 : Int) ∧ (11 : Int) < 16 := by first | assumption | omega | (constructor <;> omega)
    have h_45 : (1 : Int) ≠ (12 : Int) := by first | assumption | omega | (constructor <;> omega)
    have h_46 : (1 : Int) ≠ (11 : Int) := by first | assumption | omega | (constructor <;> omega)
    have h_47 : (13 : Int) ≠ (12 : Int) := by first | assumption | omega | (constructor <;> omega)
    have h_48 : (13 : Int) ≠ (11 : Int) := by first | assumption | omega | (constructor <;> omega)
    have h_49 : (12 : Int) ≠ (11 : Int) := by first | assumption | omega | (constructor <;> omega)
    have h_50 : rv W1_43 (13 : Int) ≠ 0 := by rw [g8]; exact hg0
    have h_51 : 2 * rv W1_43 (13 : Int) ≤ BN := by rw [g8]; omega
    have h_52 : Dg W1_43 := by first | assumption | omega | (constructor <;> omega)
    have hPc := hP.sub (ws' := [(am, .inr (0, [.int (I3 th), .int (I3 mn), .ref as_, .ref av, .ref aw, .int (I3 sm), .int (I3 wd), .int (I3 lp), .int (I3 mp), .int (I3 re)])), (as_, .inl (dA 0, 60, .inl (iA SG))), (av, .inl (dA 1, 960, .inr (.inl (lA VL)))), (aw, .inl (dA 1, 1024, .inr (.inl (lA W1_43))))]) [0, 1, 2, 3] rfl
    have hDc := hD.sub (ws' := [(am, .inr (0, [.int (I3 th), .int (I3 mn), .ref as_, .ref av, .ref aw, .int (I3 sm), .int (I3 wd), .int (I3 lp), .int (I3 mp), .int (I3 re)])), (as_, .inl (dA 0, 60, .inl (iA SG))), (av, .inl (dA 1, 960, .inr (.inl (lA VL)))), (aw, .inl (dA 1, 1024, .inr (.inl (lA W1_43))))]) [0, 1, 2, 3] (by decide) rfl
    have hFc := va_free (wc := [(am, .inr (0, [.int (I3 th), .int (I3 mn), .ref as_, .ref av, .ref aw, .int (I3 sm), .int (I3 wd), .int (I3 lp), .int (I3 mp), .int (I3 re)])), (as_, .inl (dA 0, 60, .inl (iA SG))), (av, .inl (dA 1, 960, .inr (.inl (lA VL)))), (aw, .inl (dA 1, 1024, .inr (.inl (lA W1_43))))]) hD hS hA [0, 1, 2, 3] rfl
    refine va_callv (va_runV (As := [.int (I3 1), .int (I3 13), .int (I3 12), .int (I3 11)]) (rest := []) ⟨hx, hb, hml, hown, hts⟩ (metX8_divide l dC dI dA am as_ av aw H.size th mn sm wd lp mp re SG VL W1_43 1 13 12 11 h_41 h_42 h_43 h_44 h_45 h_46 h_47 h_48 h_49 h_50 h_51 h_52) (cwV 4 hts (lw_V q1004 q1006 qs31 q66 q1007) rfl rfl rfl (by decide +kernel) ⟨Nat.le_of_ble_eq_true rfl, Nat.le_of_ble_eq_true rfl⟩) ⟨fun a U g mk q => by obtain ⟨q0, q1, qP, qK, qD⟩ := q; exact ⟨q0, q1, qP, va_K.moved (u := U) (U := U.calling g mk a) (Vm.Alike.refl U.vm) qK, qD⟩, va_recv hK hPc (ci := 0) (q0 := 0) rfl rfl, fun U hU hW => ⟨rfl, by rw [hU], by rw [hU]; exact hPc, va_K.moved hW.alike hK, hDc.weaken (fun _ _ _ _ => trivial)⟩⟩ rfl rfl hl.1 rfl (lv_room (Nat.le_of_ble_eq_true rfl)) dX8_make_54 ⟨Nat.le_of_ble_eq_true rfl, Nat.le_of_ble_eq_true rfl⟩) hS (fun q _ h => hFc q h) hFc (fun u t H1 locs ht hvm hw hB hz1 hk1 hS => ?_)
    obtain ⟨W1_54, rfl⟩ : ∃ z, z = u := ⟨_, rfl⟩
    obtain ⟨p0_54, p1_54, p2_54, p3_54⟩ : (Dg W1_54) ∧ (Fr2 W1_43 W1_54 (12 : Int) (11 : Int)) ∧ (rv W1_54 (12 : Int) = rv W1_43 (1 : Int) / rv W1_43 (13 : Int)) ∧ (rv W1_54 (11 : Int) = rv W1_43 (1 : Int) % rv W1_43 (13 : Int)) := hw
    obtain ⟨hP1, hK1, hD1⟩ := hB
    rw [ht] at hP1
    obtain ⟨hP, hD⟩ := va_join (wr := []) (w1 := [(am, .inr (0, [.int (I3 th), .int (I3 mn), .ref as_, .ref av, .ref aw, .int (I3 sm), .int (I3 wd), .int (I3 lp), .int (I3 mp), .int (I3 re)])), (as_, .inl (dA 0, 60, .inl (iA SG))), (av, .inl (dA 1, 960, .inr (.inl (lA VL)))), (aw, .inl (dA 1, 1024, .inr (.inl (lA W1_54))))]) hP hD [0, 1, 2, 3] [] rfl rfl (by decide) (by decide) hk1 hFc hP1 hD1
    generalize H1 = H at hP hS ⊢
    have hP : va_P (dC, dI) vwCl [(am, .inr (0, [.int (I3 th), .int (I3 mn), .ref as_, .ref av, .ref aw, .int (I3 sm), .int (I3 wd), .int (I3 lp), .int (I3 mp), .int (I3 re)])), (as_, .inl (dA 0, 60, .inl (iA SG))), (av, .inl (dA 1, 960, .inr (.inl (lA VL)))), (aw, .inl (dA 1, 1024, .inr (.inl (lA W1_54))))] H := hP
    have hD : va_D A [(am, .inr (0, [.int (I3 th), .int (I3 mn), .ref as_, .ref av, .ref aw, .int (I3 sm), .int (I3 wd), .int (I3 lp), .int (I3 mp), .int (I3 re)])), (as_, .inl (dA 0, 60, .inl (iA SG))), (av, .inl (dA 1, 960, .inr (.inl (lA VL)))), (aw, .inl (dA 1, 1024, .inr (.inl (lA W1_54))))] := hD
    have g10 : rv W1_54 12 = mkQ (rv wf 0) (rv wf 1) := by rw [p2_54, g9, g8]; rfl
    have g11 : rv W1_54 0 = mkP (rv wf 0) (rv wf 1) := (Fr2_rv p1_54 (by decide) (by decide)).trans g7
    refine lv_aload_n hx hb dX8_make_57 rfl (lv_at hl 0 rfl) ?_
    refine lv_bipush (v := I3 (12)) hx hb dX8_make_58 (by decide) ?_
    refine lv_iconst (v := I3 (1)) hx hb dX8_make_60 rfl ?_
    have h_53 : 0 ≤ (12 : Int) ∧ (12 : Int) < 16 := by first | assumption | omega | (constructor <;> omega)
    have h_54 : 0 ≤ (1 : Int) ∧ (1 : Int) < 16 := by first | assumption | omega | (constructor <;> omega)
    have h_55 : (12 : Int) ≠ (1 : Int) := by first | assumption | omega | (constructor <;> omega)
    have h_56 : Dg W1_54 := by first | assumption | omega | (constructor <;> omega)
    have hPc := hP.sub (ws' := [(am, .inr (0, [.int (I3 th), .int (I3 mn), .ref as_, .ref av, .ref aw, .int (I3 sm), .int (I3 wd), .int (I3 lp), .int (I3 mp), .int (I3 re)])), (as_, .inl (dA 0, 60, .inl (iA SG))), (av, .inl (dA 1, 960, .inr (.inl (lA VL)))), (aw, .inl (dA 1, 1024, .inr (.inl (lA W1_54))))]) [0, 1, 2, 3] rfl
    have hDc := hD.sub (ws' := [(am, .inr (0, [.int (I3 th), .int (I3 mn), .ref as_, .ref av, .ref aw, .int (I3 sm), .int (I3 wd), .int (I3 lp), .int (I3 mp), .int (I3 re)])), (as_, .inl (dA 0, 60, .inl (iA SG))), (av, .inl (dA 1, 960, .inr (.inl (lA VL)))), (aw, .inl (dA 1, 1024, .inr (.inl (lA W1_54))))]) [0, 1, 2, 3] (by decide) rfl
    have hFc := va_free (wc := [(am, .inr (0, [.int (I3 th), .int (I3 mn), .ref as_, .ref av, .ref aw, .int (I3 sm), .int (I3 wd), .int (I3 lp), .int (I3 mp), .int (I3 re)])), (as_, .inl (dA 0, 60, .inl (iA SG))), (av, .inl (dA 1, 960, .inr (.inl (lA VL)))), (aw, .inl (dA 1, 1024, .inr (.inl (lA W1_54))))]) hD hS hA [0, 1, 2, 3] rfl
    refine va_callv (va_runV (As := [.int (I3 12), .int (I3 1)]) (rest := []) ⟨hx, hb, hml, hown, hts⟩ (metX8_copy l dC dI dA am as_ av aw H.size th mn sm wd lp mp re SG VL W1_54 12 1 h_53 h_54 h_55 h_56) (cwV 2 hts (lw_V q976 q978 qs24 q66 q979) rfl rfl rfl (by decide +kernel) ⟨Nat.le_of_ble_eq_true rfl, Nat.le_of_ble_eq_true rfl⟩) ⟨fun a U g mk q => by obtain ⟨q0, q1, qP, qK, qD⟩ := q; exact ⟨q0, q1, qP, va_K.moved (u := U) (U := U.calling g mk a) (Vm.Alike.refl U.vm) qK, qD⟩, va_recv hK hPc (ci := 0) (q0 := 0) rfl rfl, fun U hU hW => ⟨rfl, by rw [hU], by rw [hU]; exact hPc, va_K.moved hW.alike hK, hDc.weaken (fun _ _ _ _ => trivial)⟩⟩ rfl rfl hl.1 rfl (lv_room (Nat.le_of_ble_eq_true rfl)) dX8_make_61 ⟨Nat.le_of_ble_eq_true rfl, Nat.le_of_ble_eq_true rfl⟩) hS (fun q _ h => hFc q h) hFc (fun u t H1 locs ht hvm hw hB hz1 hk1 hS => ?_)
    obtain ⟨W1_61, rfl⟩ : ∃ z, z = u := ⟨_, rfl⟩
    obtain ⟨p0_61, p1_61, p2_61⟩ : (Dg W1_61) ∧ (Fr W1_54 W1_61 (1 : Int)) ∧ (rv W1_61 (1 : Int) = rv W1_54 (12 : Int)) := hw
    obtain ⟨hP1, hK1, hD1⟩ := hB
    rw [ht] at hP1
    obtain ⟨hP, hD⟩ := va_join (wr := []) (w1 := [(am, .inr (0, [.int (I3 th), .int (I3 mn), .ref as_, .ref av, .ref aw, .int (I3 sm), .int (I3 wd), .int (I3 lp), .int (I3 mp), .int (I3 re)])), (as_, .inl (dA 0, 60, .inl (iA SG))), (av, .inl (dA 1, 960, .inr (.inl (lA VL)))), (aw, .inl (dA 1, 1024, .inr (.inl (lA W1_61))))]) hP hD [0, 1, 2, 3] [] rfl rfl (by decide) (by decide) hk1 hFc hP1 hD1
    generalize H1 = H at hP hS ⊢
    have hP : va_P (dC, dI) vwCl [(am, .inr (0, [.int (I3 th), .int (I3 mn), .ref as_, .ref av, .ref aw, .int (I3 sm), .int (I3 wd), .int (I3 lp), .int (I3 mp), .int (I3 re)])), (as_, .inl (dA 0, 60, .inl (iA SG))), (av, .inl (dA 1, 960, .inr (.inl (lA VL)))), (aw, .inl (dA 1, 1024, .inr (.inl (lA W1_61))))] H := hP
    have hD : va_D A [(am, .inr (0, [.int (I3 th), .int (I3 mn), .ref as_, .ref av, .ref aw, .int (I3 sm), .int (I3 wd), .int (I3 lp), .int (I3 mp), .int (I3 re)])), (as_, .inl (dA 0, 60, .inl (iA SG))), (av, .inl (dA 1, 960, .inr (.inl (lA VL)))), (aw, .inl (dA 1, 1024, .inr (.inl (lA W1_61))))] := hD
    have e1 : rv W1_61 1 = mkQ (rv wf 0) (rv wf 1) := p2_61.trans g10
    have e0 : rv W1_61 0 = mkP (rv wf 0) (rv wf 1) := (Fr_rv p1_61 (by decide)).trans g11
    refine lv_aload_n hx hb dX8_make_64 rfl (lv_at hl 0 rfl) ?_
    refine va_get (D := (dC, dI)) (ci := 0) (v := .int (I3 mn)) (C := RX8) (T := TX8) (N := 10) hx hb hts in_X8 hown hK hP 0 rfl rfl 1 (by decide) (hts _ q914) (fun _ h9 => h9) rfl dX8_make_65 ?_
    refine lv_bipush (v := I3 (60)) hx hb dX8_make_68 (by decide) ?_
    refine ix_icmp_eq (tgt := 95) hx hb (by first | decide | assumption | (constructor <;> omega)) (by first | decide | assumption | (constructor <;> omega)) dX8_make_70 (by decide) (fun c_70 => ?_) (fun c_70 => ?_)
    · skip
      refine lv_aload_n hx hb dX8_make_95 rfl (lv_at hl 0 rfl) ?_
      refine lv_iload_n hx hb dX8_make_96 rfl (lv_at hl 2 rfl) ?_
      have h_57 : In3 code := by first | assumption | omega | (constructor <;> omega)
      have hPc := hP.sub (ws' := [(am, .inr (0, [.int (I3 th), .int (I3 mn), .ref as_, .ref av, .ref aw, .int (I3 sm), .int (I3 wd), .int (I3 lp), .int (I3 mp), .int (I3 re)])), (as_, .inl (dA 0, 60, .inl (iA SG))), (av, .inl (dA 1, 960, .inr (.inl (lA VL)))), (aw, .inl (dA 1, 1024, .inr (.inl (lA W1_61))))]) [0, 1, 2, 3] rfl
      have hDc := hD.sub (ws' := [(am, .inr (0, [.int (I3 th), .int (I3 mn), .ref as_, .ref av, .ref aw, .int (I3 sm), .int (I3 wd), .int (I3 lp), .int (I3 mp), .int (I3 re)])), (as_, .inl (dA 0, 60, .inl (iA SG))), (av, .inl (dA 1, 960, .inr (.inl (lA VL)))), (aw, .inl (dA 1, 1024, .inr (.inl (lA W1_61))))]) [0, 1, 2, 3] (by decide) rfl
      have hFc := va_free (wc := [(am, .inr (0, [.int (I3 th), .int (I3 mn), .ref as_, .ref av, .ref aw, .int (I3 sm), .int (I3 wd), .int (I3 lp), .int (I3 mp), .int (I3 re)])), (as_, .inl (dA 0, 60, .inl (iA SG))), (av, .inl (dA 1, 960, .inr (.inl (lA VL)))), (aw, .inl (dA 1, 1024, .inr (.inl (lA W1_61))))]) hD hS hA [0, 1, 2, 3] rfl
      refine va_calli (va_runV (As := [.int (I3 code)]) (rest := []) ⟨hx, hb, hml, hown, hts⟩ (metX8_fails l dC dI dA am as_ av aw H.size th mn sm wd lp mp re SG VL W1_61 code h_57) (cwV 1 hts (lw_V q1016 q1018 qs34 q66 q1019) rfl rfl rfl (by decide +kernel) ⟨Nat.le_of_ble_eq_true rfl, Nat.le_of_ble_eq_true rfl⟩) ⟨fun a U g mk q => by obtain ⟨q0, q1, qP, qK, qD⟩ := q; exact ⟨q0, q1, qP, va_K.moved (u := U) (U := U.calling g mk a) (Vm.Alike.refl U.vm) qK, qD⟩, va_recv hK hPc (ci := 0) (q0 := 0) rfl rfl, fun U hU hW => ⟨rfl, by rw [hU], by rw [hU]; exact hPc, va_K.moved hW.alike hK, hDc.weaken (fun _ _ _ _ => trivial)⟩⟩ rfl rfl hl.1 rfl (lv_room (Nat.le_of_ble_eq_true rfl)) dX8_make_97 ⟨Nat.le_of_ble_eq_true rfl, Nat.le_of_ble_eq_true rfl⟩) hS (fun q _ h => hFc q h) hFc (fun r_97 u t H1 locs ht hvm hw hB hz1 hk1 hS => ?_)
      obtain ⟨z_97, th1_97⟩ := u
      obtain ⟨rfl, p0_97, p1_97⟩ : r_97 = I3 z_97 ∧ (z_97 = 0) ∧ (th1_97 = code) := hw
      obtain ⟨hP1, hK1, hD1⟩ := hB
      rw [ht] at hP1
      obtain ⟨hP, hD⟩ := va_join (wr := []) (w1 := [(am, .inr (0, [.int (I3 th1_97), .int (I3 mn), .ref as_, .ref av, .ref aw, .int (I3 sm), .int (I3 wd), .int (I3 lp), .int (I3 mp), .int (I3 re)])), (as_, .inl (dA 0, 60, .inl (iA SG))), (av, .inl (dA 1, 960, .inr (.inl (lA VL)))), (aw, .inl (dA 1, 1024, .inr (.inl (lA W1_61))))]) hP hD [0, 1, 2, 3] [] rfl rfl (by decide) (by decide) hk1 hFc hP1 hD1
      generalize H1 = H at hP hS ⊢
      have hP : va_P (dC, dI) vwCl [(am, .inr (0, [.int (I3 th1_97), .int (I3 mn), .ref as_, .ref av, .ref aw, .int (I3 sm), .int (I3 wd), .int (I3 lp), .int (I3 mp), .int (I3 re)])), (as_, .inl (dA 0, 60, .inl (iA SG))), (av, .inl (dA 1, 960, .inr (.inl (lA VL)))), (aw, .inl (dA 1, 1024, .inr (.inl (lA W1_61))))] H := hP
      have hD : va_D A [(am, .inr (0, [.int (I3 th1_97), .int (I3 mn), .ref as_, .ref av, .ref aw, .int (I3 sm), .int (I3 wd), .int (I3 lp), .int (I3 mp), .int (I3 re)])), (as_, .inl (dA 0, 60, .inl (iA SG))), (av, .inl (dA 1, 960, .inr (.inl (lA VL)))), (aw, .inl (dA 1, 1024, .inr (.inl (lA W1_61))))] := hD
      have o_58 : Dg W1_61 := by first | assumption | omega | (constructor <;> omega)
      have o_59 : Dg VL := by first | assumption | omega | (constructor <;> omega)
      have o_60 : 0 ≤ mn ∧ mn ≤ 60 := by first | assumption | omega | (constructor <;> omega)
      have o_61 : Mde mn SG VL sg (rv wf 0) (rv wf 1) code z_97 th1_97 mn SG VL := by refine Or.inr ⟨fun ⟨q0, q1, q2⟩ => ?_, by omega, by omega, rfl, rfl, rfl⟩; rw [← e0] at q1; rw [← e1] at q2; omega
      exact W.iret (v := I3 z_97) hx hb hr (fun t ht hW => ⟨⟨I3 z_97, (z_97, th1_97, mn, SG, VL, W1_61), rfl, ⟨rfl, ⟨o_58, o_59, o_60, o_61⟩⟩, by rw [ht]; exact hP, va_K.moved hW.alike hK, hD⟩, hS.F ht⟩) hS.2.2 dX8_make_100
    · skip
      refine lv_aload_n hx hb dX8_make_73 rfl (lv_at hl 0 rfl) ?_
      refine lv_iconst (v := I3 (0)) hx hb dX8_make_74 rfl ?_
      have h_62 : 0 ≤ (0 : Int) ∧ (0 : Int) < 16 := by first | assumption | omega | (constructor <;> omega)
      have h_63 : Dg W1_61 := by first | assumption | omega | (constructor <;> omega)
      have hPc := hP.sub (ws' := [(am, .inr (0, [.int (I3 th), .int (I3 mn), .ref as_, .ref av, .ref aw, .int (I3 sm), .int (I3 wd), .int (I3 lp), .int (I3 mp), .int (I3 re)])), (as_, .inl (dA 0, 60, .inl (iA SG))), (av, .inl (dA 1, 960, .inr (.inl (lA VL)))), (aw, .inl (dA 1, 1024, .inr (.inl (lA W1_61))))]) [0, 1, 2, 3] rfl
      have hDc := hD.sub (ws' := [(am, .inr (0, [.int (I3 th), .int (I3 mn), .ref as_, .ref av, .ref aw, .int (I3 sm), .int (I3 wd), .int (I3 lp), .int (I3 mp), .int (I3 re)])), (as_, .inl (dA 0, 60, .inl (iA SG))), (av, .inl (dA 1, 960, .inr (.inl (lA VL)))), (aw, .inl (dA 1, 1024, .inr (.inl (lA W1_61))))]) [0, 1, 2, 3] (by decide) rfl
      have hFc := va_free (wc := [(am, .inr (0, [.int (I3 th), .int (I3 mn), .ref as_, .ref av, .ref aw, .int (I3 sm), .int (I3 wd), .int (I3 lp), .int (I3 mp), .int (I3 re)])), (as_, .inl (dA 0, 60, .inl (iA SG))), (av, .inl (dA 1, 960, .inr (.inl (lA VL)))), (aw, .inl (dA 1, 1024, .inr (.inl (lA W1_61))))]) hD hS hA [0, 1, 2, 3] rfl
      refine va_calli (va_runV (As := [.int (I3 0)]) (rest := []) ⟨hx, hb, hml, hown, hts⟩ (metX8_length l dC dI dA am as_ av aw H.size th mn sm wd lp mp re SG VL W1_61 0 h_62 h_63) (cwV 1 hts (lw_V q1008 q1010 qs32 q66 q1011) rfl rfl rfl (by decide +kernel) ⟨Nat.le_of_ble_eq_true rfl, Nat.le_of_ble_eq_true rfl⟩) ⟨fun a U g mk q => by obtain ⟨q0, q1, qP, qK, qD⟩ := q; exact ⟨q0, q1, qP, va_K.moved (u := U) (U := U.calling g mk a) (Vm.Alike.refl U.vm) qK, qD⟩, va_recv hK hPc (ci := 0) (q0 := 0) rfl rfl, fun U hU hW => ⟨rfl, by rw [hU], by rw [hU]; exact hPc, va_K.moved hW.alike hK, hDc.weaken (fun _ _ _ _ => trivial)⟩⟩ rfl rfl hl.1 rfl (lv_room (Nat.le_of_ble_eq_true rfl)) dX8_make_75 ⟨Nat.le_of_ble_eq_true rfl, Nat.le_of_ble_eq_true rfl⟩) hS (fun q _ h => hFc q h) hFc (fun r_75 u t H1 locs ht hvm hw hB hz1 hk1 hS => ?_)
      obtain ⟨z_75, rfl⟩ : ∃ z, z = u := ⟨_, rfl⟩
      obtain ⟨rfl, p0_75⟩ : r_75 = I3 z_75 ∧ (z_75 = ((bl (rv W1_61 (0 : Int)) : Nat) : Int)) := hw
      obtain ⟨hP1, hK1, hD1⟩ := hB
      rw [ht] at hP1
      obtain ⟨hP, hD⟩ := va_join (wr := []) (w1 := [(am, .inr (0, [.int (I3 th), .int (I3 mn), .ref as_, .ref av, .ref aw, .int (I3 sm), .int (I3 wd), .int (I3 lp), .int (I3 mp), .int (I3 re)])), (as_, .inl (dA 0, 60, .inl (iA SG))), (av, .inl (dA 1, 960, .inr (.inl (lA VL)))), (aw, .inl (dA 1, 1024, .inr (.inl (lA W1_61))))]) hP hD [0, 1, 2, 3] [] rfl rfl (by decide) (by decide) hk1 hFc hP1 hD1
      generalize H1 = H at hP hS ⊢
      have hP : va_P (dC, dI) vwCl [(am, .inr (0, [.int (I3 th), .int (I3 mn), .ref as_, .ref av, .ref aw, .int (I3 sm), .int (I3 wd), .int (I3 lp), .int (I3 mp), .int (I3 re)])), (as_, .inl (dA 0, 60, .inl (iA SG))), (av, .inl (dA 1, 960, .inr (.inl (lA VL)))), (aw, .inl (dA 1, 1024, .inr (.inl (lA W1_61))))] H := hP
      have hD : va_D A [(am, .inr (0, [.int (I3 th), .int (I3 mn), .ref as_, .ref av, .ref aw, .int (I3 sm), .int (I3 wd), .int (I3 lp), .int (I3 mp), .int (I3 re)])), (as_, .inl (dA 0, 60, .inl (iA SG))), (av, .inl (dA 1, 960, .inr (.inl (lA VL)))), (aw, .inl (dA 1, 1024, .inr (.inl (lA W1_61))))] := hD
      have b75 : bl (rv W1_61 0) ≤ 2048 := bl_le.mpr (rv_lt p0_61 0)
      refine lv_sipush (v := I3 (256)) hx hb dX8_make_78 (by decide) ?_
      refine ix_icmp_gt (tgt := 95) hx hb (by first | decide | assumption | (constructor <;> omega)) (by first | decide | assumption | (constructor <;> omega)) dX8_make_81 (by decide) (fun c_81 => ?_) (fun c_81 => ?_)
      · skip
        refine lv_aload_n hx hb dX8_make_95 rfl (lv_at hl 0 rfl) ?_
        refine lv_iload_n hx hb dX8_make_96 rfl (lv_at hl 2 rfl) ?_
        have h_64 : In3 code := by first | assumption | omega | (constructor <;> omega)
        have hPc := hP.sub (ws' := [(am, .inr (0, [.int (I3 th), .int (I3 mn), .ref as_, .ref av, .ref aw, .int (I3 sm), .int (I3 wd), .int (I3 lp), .int (I3 mp), .int (I3 re)])), (as_, .inl (dA 0, 60, .inl (iA SG))), (av, .inl (dA 1, 960, .inr (.inl (lA VL)))), (aw, .inl (dA 1, 1024, .inr (.inl (lA W1_61))))]) [0, 1, 2, 3] rfl
        have hDc := hD.sub (ws' := [(am, .inr (0, [.int (I3 th), .int (I3 mn), .ref as_, .ref av, .ref aw, .int (I3 sm), .int (I3 wd), .int (I3 lp), .int (I3 mp), .int (I3 re)])), (as_, .inl (dA 0, 60, .inl (iA SG))), (av, .inl (dA 1, 960, .inr (.inl (lA VL)))), (aw, .inl (dA 1, 1024, .inr (.inl (lA W1_61))))]) [0, 1, 2, 3] (by decide) rfl
        have hFc := va_free (wc := [(am, .inr (0, [.int (I3 th), .int (I3 mn), .ref as_, .ref av, .ref aw, .int (I3 sm), .int (I3 wd), .int (I3 lp), .int (I3 mp), .int (I3 re)])), (as_, .inl (dA 0, 60, .inl (iA SG))), (av, .inl (dA 1, 960, .inr (.inl (lA VL)))), (aw, .inl (dA 1, 1024, .inr (.inl (lA W1_61))))]) hD hS hA [0, 1, 2, 3] rfl
        refine va_calli (va_runV (As := [.int (I3 code)]) (rest := []) ⟨hx, hb, hml, hown, hts⟩ (metX8_fails l dC dI dA am as_ av aw H.size th mn sm wd lp mp re SG VL W1_61 code h_64) (cwV 1 hts (lw_V q1016 q1018 qs34 q66 q1019) rfl rfl rfl (by decide +kernel) ⟨Nat.le_of_ble_eq_true rfl, Nat.le_of_ble_eq_true rfl⟩) ⟨fun a U g mk q => by obtain ⟨q0, q1, qP, qK, qD⟩ := q; exact ⟨q0, q1, qP, va_K.moved (u := U) (U := U.calling g mk a) (Vm.Alike.refl U.vm) qK, qD⟩, va_recv hK hPc (ci := 0) (q0 := 0) rfl rfl, fun U hU hW => ⟨rfl, by rw [hU], by rw [hU]; exact hPc, va_K.moved hW.alike hK, hDc.weaken (fun _ _ _ _ => trivial)⟩⟩ rfl rfl hl.1 rfl (lv_room (Nat.le_of_ble_eq_true rfl)) dX8_make_97 ⟨Nat.le_of_ble_eq_true rfl, Nat.le_of_ble_eq_true rfl⟩) hS (fun q _ h => hFc q h) hFc (fun r_97 u t H1 locs ht hvm hw hB hz1 hk1 hS => ?_)
        obtain ⟨z_97, th1_97⟩ := u
        obtain ⟨rfl, p0_97, p1_97⟩ : r_97 = I3 z_97 ∧ (z_97 = 0) ∧ (th1_97 = code) := hw
        obtain ⟨hP1, hK1, hD1⟩ := hB
        rw [ht] at hP1
        obtain ⟨hP, hD⟩ := va_join (wr := []) (w1 := [(am, .inr (0, [.int (I3 th1_97), .int (I3 mn), .ref as_, .ref av, .ref aw, .int (I3 sm), .int (I3 wd), .int (I3 lp), .int (I3 mp), .int (I3 re)])), (as_, .inl (dA 0, 60, .inl (iA SG))), (av, .inl (dA 1, 960, .inr (.inl (lA VL)))), (aw, .inl (dA 1, 1024, .inr (.inl (lA W1_61))))]) hP hD [0, 1, 2, 3] [] rfl rfl (by decide) (by decide) hk1 hFc hP1 hD1
        generalize H1 = H at hP hS ⊢
        have hP : va_P (dC, dI) vwCl [(am, .inr (0, [.int (I3 th1_97), .int (I3 mn), .ref as_, .ref av, .ref aw, .int (I3 sm), .int (I3 wd), .int (I3 lp), .int (I3 mp), .int (I3 re)])), (as_, .inl (dA 0, 60, .inl (iA SG))), (av, .inl (dA 1, 960, .inr (.inl (lA VL)))), (aw, .inl (dA 1, 1024, .inr (.inl (lA W1_61))))] H := hP
        have hD : va_D A [(am, .inr (0, [.int (I3 th1_97), .int (I3 mn), .ref as_, .ref av, .ref aw, .int (I3 sm), .int (I3 wd), .int (I3 lp), .int (I3 mp), .int (I3 re)])), (as_, .inl (dA 0, 60, .inl (iA SG))), (av, .inl (dA 1, 960, .inr (.inl (lA VL)))), (aw, .inl (dA 1, 1024, .inr (.inl (lA W1_61))))] := hD
        have o_65 : Dg W1_61 := by first | assumption | omega | (constructor <;> omega)
        have o_66 : Dg VL := by first | assumption | omega | (constructor <;> omega)
        have o_67 : 0 ≤ mn ∧ mn ≤ 60 := by first | assumption | omega | (constructor <;> omega)
        have o_68 : Mde mn SG VL sg (rv wf 0) (rv wf 1) code z_97 th1_97 mn SG VL := by refine Or.inr ⟨fun ⟨q0, q1, q2⟩ => ?_, by omega, by omega, rfl, rfl, rfl⟩; rw [← e0] at q1; rw [← e1] at q2; omega
        exact W.iret (v := I3 z_97) hx hb hr (fun t ht hW => ⟨⟨I3 z_97, (z_97, th1_97, mn, SG, VL, W1_61), rfl, ⟨rfl, ⟨o_65, o_66, o_67, o_68⟩⟩, by rw [ht]; exact hP, va_K.moved hW.alike hK, hD⟩, hS.F ht⟩) hS.2.2 dX8_make_100
      · skip
        refine lv_aload_n hx hb dX8_make_84 rfl (lv_at hl 0 rfl) ?_
        refine lv_iconst (v := I3 (1)) hx hb dX8_make_85 rfl ?_
        have h_69 : 0 ≤ (1 : Int) ∧ (1 : Int) < 16 := by first | assumption | omega | (constructor <;> omega)
        have h_70 : Dg W1_61 := by first | assumption | omega | (constructor <;> omega)
        have hPc := hP.sub (ws' := [(am, .inr (0, [.int (I3 th), .int (I3 mn), .ref as_, .ref av, .ref aw, .int (I3 sm), .int (I3 wd), .int (I3 lp), .int (I3 mp), .int (I3 re)])), (as_, .inl (dA 0, 60, .inl (iA SG))), (av, .inl (dA 1, 960, .inr (.inl (lA VL)))), (aw, .inl (dA 1, 1024, .inr (.inl (lA W1_61))))]) [0, 1, 2, 3] rfl
        have hDc := hD.sub (ws' := [(am, .inr (0, [.int (I3 th), .int (I3 mn), .ref as_, .ref av, .ref aw, .int (I3 sm), .int (I3 wd), .int (I3 lp), .int (I3 mp), .int (I3 re)])), (as_, .inl (dA 0, 60, .inl (iA SG))), (av, .inl (dA 1, 960, .inr (.inl (lA VL)))), (aw, .inl (dA 1, 1024, .inr (.inl (lA W1_61))))]) [0, 1, 2, 3] (by decide) rfl
        have hFc := va_free (wc := [(am, .inr (0, [.int (I3 th), .int (I3 mn), .ref as_, .ref av, .ref aw, .int (I3 sm), .int (I3 wd), .int (I3 lp), .int (I3 mp), .int (I3 re)])), (as_, .inl (dA 0, 60, .inl (iA SG))), (av, .inl (dA 1, 960, .inr (.inl (lA VL)))), (aw, .inl (dA 1, 1024, .inr (.inl (lA W1_61))))]) hD hS hA [0, 1, 2, 3] rfl
        refine va_calli (va_runV (As := [.int (I3 1)]) (rest := []) ⟨hx, hb, hml, hown, hts⟩ (metX8_length l dC dI dA am as_ av aw H.size th mn sm wd lp mp re SG VL W1_61 1 h_69 h_70) (cwV 1 hts (lw_V q1008 q1010 qs32 q66 q1011) rfl rfl rfl (by decide +kernel) ⟨Nat.le_of_ble_eq_true rfl, Nat.le_of_ble_eq_true rfl⟩) ⟨fun a U g mk q => by obtain ⟨q0, q1, qP, qK, qD⟩ := q; exact ⟨q0, q1, qP, va_K.moved (u := U) (U := U.calling g mk a) (Vm.Alike.refl U.vm) qK, qD⟩, va_recv hK hPc (ci := 0) (q0 := 0) rfl rfl, fun U hU hW => ⟨rfl, by rw [hU], by rw [hU]; exact hPc, va_K.moved hW.alike hK, hDc.weaken (fun _ _ _ _ => trivial)⟩⟩ rfl rfl hl.1 rfl (lv_room (Nat.le_of_ble_eq_true rfl)) dX8_make_86 ⟨Nat.le_of_ble_eq_true rfl, Nat.le_of_ble_eq_true rfl⟩) hS (fun q _ h => hFc q h) hFc (fun r_86 u t H1 locs ht hvm hw hB hz1 hk1 hS => ?_)
        obtain ⟨z_86, rfl⟩ : ∃ z, z = u := ⟨_, rfl⟩
        obtain ⟨rfl, p0_86⟩ : r_86 = I3 z_86 ∧ (z_86 = ((bl (rv W1_61 (1 : Int)) : Nat) : Int)) := hw
        obtain ⟨hP1, hK1, hD1⟩ := hB
        rw [ht] at hP1
        obtain ⟨hP, hD⟩ := va_join (wr := []) (w1 := [(am, .inr (0, [.int (I3 th), .int (I3 mn), .ref as_, .ref av, .ref aw, .int (I3 sm), .int (I3 wd), .int (I3 lp), .int (I3 mp), .int (I3 re)])), (as_, .inl (dA 0, 60, .inl (iA SG))), (av, .inl (dA 1, 960, .inr (.inl (lA VL)))), (aw, .inl (dA 1, 1024, .inr (.inl (lA W1_61))))]) hP hD [0, 1, 2, 3] [] rfl rfl (by decide) (by decide) hk1 hFc hP1 hD1
        generalize H1 = H at hP hS ⊢
        have hP : va_P (dC, dI) vwCl [(am, .inr (0, [.int (I3 th), .int (I3 mn), .ref as_, .ref av, .ref aw, .int (I3 sm), .int (I3 wd), .int (I3 lp), .int (I3 mp), .int (I3 re)])), (as_, .inl (dA 0, 60, .inl (iA SG))), (av, .inl (dA 1, 960, .inr (.inl (lA VL)))), (aw, .inl (dA 1, 1024, .inr (.inl (lA W1_61))))] H := hP
        have hD : va_D A [(am, .inr (0, [.int (I3 th), .int (I3 mn), .ref as_, .ref av, .ref aw, .int (I3 sm), .int (I3 wd), .int (I3 lp), .int (I3 mp), .int (I3 re)])), (as_, .inl (dA 0, 60, .inl (iA SG))), (av, .inl (dA 1, 960, .inr (.inl (lA VL)))), (aw, .inl (dA 1, 1024, .inr (.inl (lA W1_61))))] := hD
        have b86 : bl (rv W1_61 1) ≤ 2048 := bl_le.mpr (rv_lt p0_61 1)
        refine lv_sipush (v := I3 (256)) hx hb dX8_make_89 (by decide) ?_
        refine ix_icmp_le (tgt := 101) hx hb (by first | decide | assumption | (constructor <;> omega)) (by first | decide | assumption | (constructor <;> omega)) dX8_make_92 (by decide) (fun c_92 => ?_) (fun c_92 => ?_)
        · skip
          refine lv_aload_n hx hb dX8_make_101 rfl (lv_at hl 0 rfl) ?_
          refine lv_iconst (v := I3 (0)) hx hb dX8_make_102 rfl ?_
          refine va_put (D := (dC, dI)) (ci := 0) (v := .int (I3 0)) (ty := .int) (C := RX8) (T := TX8) (N := 10) hx hb hts in_X8 tyX8 tyX8_ok nmX8 hown hK hP hD hS 0 rfl rfl 0 (by decide) (hts _ q913) (fun _ h9 => h9) rfl (by decide +kernel) rfl rfl (Nat.le_of_ble_eq_true rfl) dX8_make_103 (fun H locs hP hD hS => ?_)
          have hP : va_P (dC, dI) vwCl [(am, .inr (0, [.int (I3 0), .int (I3 mn), .ref as_, .ref av, .ref aw, .int (I3 sm), .int (I3 wd), .int (I3 lp), .int (I3 mp), .int (I3 re)])), (as_, .inl (dA 0, 60, .inl (iA SG))), (av, .inl (dA 1, 960, .inr (.inl (lA VL)))), (aw, .inl (dA 1, 1024, .inr (.inl (lA W1_61))))] H := hP
          have hD : va_D A [(am, .inr (0, [.int (I3 0), .int (I3 mn), .ref as_, .ref av, .ref aw, .int (I3 sm), .int (I3 wd), .int (I3 lp), .int (I3 mp), .int (I3 re)])), (as_, .inl (dA 0, 60, .inl (iA SG))), (av, .inl (dA 1, 960, .inr (.inl (lA VL)))), (aw, .inl (dA 1, 1024, .inr (.inl (lA W1_61))))] := hD
          refine lv_aload_n hx hb dX8_make_106 rfl (lv_at hl 0 rfl) ?_
          refine va_get (D := (dC, dI)) (ci := 0) (v := .ref as_) (C := RX8) (T := TX8) (N := 10) hx hb hts in_X8 hown hK hP 0 rfl rfl 2 (by decide) (hts _ q915) (fun _ h9 => h9) rfl dX8_make_107 ?_
          refine lv_aload_n hx hb dX8_make_110 rfl (lv_at hl 0 rfl) ?_
          refine va_get (D := (dC, dI)) (ci := 0) (v := .int (I3 mn)) (C := RX8) (T := TX8) (N := 10) hx hb hts in_X8 hown hK hP 0 rfl rfl 1 (by decide) (hts _ q914) (fun _ h9 => h9) rfl dX8_make_111 ?_
          refine lv_aload_n hx hb dX8_make_114 rfl (lv_at hl 0 rfl) ?_
          refine lv_iconst (v := I3 (0)) hx hb dX8_make_115 rfl ?_
          have h_71 : 0 ≤ (0 : Int) ∧ (0 : Int) < 16 := by first | assumption | omega | (constructor <;> omega)
          have h_72 : Dg W1_61 := by first | assumption | omega | (constructor <;> omega)
          have hPc := hP.sub (ws' := [(am, .inr (0, [.int (I3 ((0 : Int))), .int (I3 mn), .ref as_, .ref av, .ref aw, .int (I3 sm), .int (I3 wd), .int (I3 lp), .int (I3 mp), .int (I3 re)])), (as_, .inl (dA 0, 60, .inl (iA SG))), (av, .inl (dA 1, 960, .inr (.inl (lA VL)))), (aw, .inl (dA 1, 1024, .inr (.inl (lA W1_61))))]) [0, 1, 2, 3] rfl
          have hDc := hD.sub (ws' := [(am, .inr (0, [.int (I3 ((0 : Int))), .int (I3 mn), .ref as_, .ref av, .ref aw, .int (I3 sm), .int (I3 wd), .int (I3 lp), .int (I3 mp), .int (I3 re)])), (as_, .inl (dA 0, 60, .inl (iA SG))), (av, .inl (dA 1, 960, .inr (.inl (lA VL)))), (aw, .inl (dA 1, 1024, .inr (.inl (lA W1_61))))]) [0, 1, 2, 3] (by decide) rfl
          have hFc := va_free (wc := [(am, .inr (0, [.int (I3 ((0 : Int))), .int (I3 mn), .ref as_, .ref av, .ref aw, .int (I3 sm), .int (I3 wd), .int (I3 lp), .int (I3 mp), .int (I3 re)])), (as_, .inl (dA 0, 60, .inl (iA SG))), (av, .inl (dA 1, 960, .inr (.inl (lA VL)))), (aw, .inl (dA 1, 1024, .inr (.inl (lA W1_61))))]) hD hS hA [0, 1, 2, 3] rfl
          refine va_calli (va_runV (As := [.int (I3 0)]) (rest := [.int (I3 mn), .ref as_]) ⟨hx, hb, hml, hown, hts⟩ (metX8_isZero l dC dI dA am as_ av aw H.size 0 mn sm wd lp mp re SG VL W1_61 0 h_71 h_72) (cwV 1 hts (lw_V q968 q970 qs22 q66 q971) rfl rfl rfl (by decide +kernel) ⟨Nat.le_of_ble_eq_true rfl, Nat.le_of_ble_eq_true rfl⟩) ⟨fun a U g mk q => by obtain ⟨q0, q1, qP, qK, qD⟩ := q; exact ⟨q0, q1, qP, va_K.moved (u := U) (U := U.calling g mk a) (Vm.Alike.refl U.vm) qK, qD⟩, va_recv hK hPc (ci := 0) (q0 := 0) rfl rfl, fun U hU hW => ⟨rfl, by rw [hU], by rw [hU]; exact hPc, va_K.moved hW.alike hK, hDc.weaken (fun _ _ _ _ => trivial)⟩⟩ rfl rfl hl.1 rfl (lv_room (Nat.le_of_ble_eq_true rfl)) dX8_make_116 ⟨Nat.le_of_ble_eq_true rfl, Nat.le_of_ble_eq_true rfl⟩) hS (fun q _ h => hFc q h) hFc (fun r_116 u t H1 locs ht hvm hw hB hz1 hk1 hS => ?_)
          obtain ⟨z_116, rfl⟩ : ∃ z, z = u := ⟨_, rfl⟩
          obtain ⟨rfl, p0_116⟩ : r_116 = I3 z_116 ∧ (z_116 = if rv W1_61 (0 : Int) = 0 then 1 else 0) := hw
          obtain ⟨hP1, hK1, hD1⟩ := hB
          rw [ht] at hP1
          obtain ⟨hP, hD⟩ := va_join (wr := []) (w1 := [(am, .inr (0, [.int (I3 ((0 : Int))), .int (I3 mn), .ref as_, .ref av, .ref aw, .int (I3 sm), .int (I3 wd), .int (I3 lp), .int (I3 mp), .int (I3 re)])), (as_, .inl (dA 0, 60, .inl (iA SG))), (av, .inl (dA 1, 960, .inr (.inl (lA VL)))), (aw, .inl (dA 1, 1024, .inr (.inl (lA W1_61))))]) hP hD [0, 1, 2, 3] [] rfl rfl (by decide) (by decide) hk1 hFc hP1 hD1
          generalize H1 = H at hP hS ⊢
          have hP : va_P (dC, dI) vwCl [(am, .inr (0, [.int (I3 ((0 : Int))), .int (I3 mn), .ref as_, .ref av, .ref aw, .int (I3 sm), .int (I3 wd), .int (I3 lp), .int (I3 mp), .int (I3 re)])), (as_, .inl (dA 0, 60, .inl (iA SG))), (av, .inl (dA 1, 960, .inr (.inl (lA VL)))), (aw, .inl (dA 1, 1024, .inr (.inl (lA W1_61))))] H := hP
          have hD : va_D A [(am, .inr (0, [.int (I3 ((0 : Int))), .int (I3 mn), .ref as_, .ref av, .ref aw, .int (I3 sm), .int (I3 wd), .int (I3 lp), .int (I3 mp), .int (I3 re)])), (as_, .inl (dA 0, 60, .inl (iA SG))), (av, .inl (dA 1, 960, .inr (.inl (lA VL)))), (aw, .inl (dA 1, 1024, .inr (.inl (lA W1_61))))] := hD
          have y4 := b01 p0_116
          have y5 := mkP_0 (p := rv wf 0) hQ
          refine ix_if_eq (tgt := 126) hx hb (by first | decide | assumption | (constructor <;> omega)) dX8_make_119 (by decide) (fun c_119 => ?_) (fun c_119 => ?_)
          · skip
            refine lv_iload_n hx hb dX8_make_126 rfl (lv_at hl 1 rfl) ?_
            refine ix_iast hx hb hK hP hD hS 1 0 rfl rfl (Nat.le_of_ble_eq_true rfl) (by omega) dX8_make_127 (fun H locs hP hD hS => ?_)
            have hP : va_P (dC, dI) vwCl [(am, .inr (0, [.int (I3 ((0 : Int))), .int (I3 mn), .ref as_, .ref av, .ref aw, .int (I3 sm), .int (I3 wd), .int (I3 lp), .int (I3 mp), .int (I3 re)])), (as_, .inl (dA 0, 60, .inl (iA (uZ SG mn sg)))), (av, .inl (dA 1, 960, .inr (.inl (lA VL)))), (aw, .inl (dA 1, 1024, .inr (.inl (lA W1_61))))] H := hP
            have hD : va_D A [(am, .inr (0, [.int (I3 ((0 : Int))), .int (I3 mn), .ref as_, .ref av, .ref aw, .int (I3 sm), .int (I3 wd), .int (I3 lp), .int (I3 mp), .int (I3 re)])), (as_, .inl (dA 0, 60, .inl (iA (uZ SG mn sg)))), (av, .inl (dA 1, 960, .inr (.inl (lA VL)))), (aw, .inl (dA 1, 1024, .inr (.inl (lA W1_61))))] := hD
            refine lv_iconst (v := I3 (0)) hx hb dX8_make_128 rfl ?_
            refine lv_istore_n (lv' := [(3, .int (I3 0)), (0, .ref am), (1, .int (I3 sg)), (2, .int (I3 code))]) hx hb dX8_make_129 rfl hl (by decide) rfl (fun ls hl => ?_)
            have e_73 : 0 ≤ (0 : Int) ∧ (0 : Int) ≤ 8 := by first | assumption | omega | (constructor <;> omega)
            have e_74 : Dg W1_61 := by first | assumption | omega | (constructor <;> omega)
            have e_75 : Dg VL := by first | assumption | omega | (constructor <;> omega)
            have e_76 : rv W1_61 0 = mkP (rv wf 0) (rv wf 1) := by exact e0
            have e_77 : rv W1_61 1 = mkQ (rv wf 0) (rv wf 1) := by exact e1
            have e_78 : okN mn (rv wf 0) (rv wf 1) := by exact ⟨by omega, by rw [← e0]; omega, by rw [← e1]; omega⟩
            have e_79 : (uZ SG mn sg) = uZ SG mn (if rv wf 0 = 0 then 0 else sg) := by first | (rw [if_pos (by omega)]) | (rw [if_neg (by omega)])
            have e_80 : ∀ i : Int, ¬ (16 * mn ≤ i ∧ i < 16 * mn + 16) → VL i = VL i := by intro i q; rfl
            have e_81 : ∀ j : Int, 0 ≤ j → j < (0 : Int) → VL (16 * mn + j) = W1_61 j := by intro j q1 q2; omega
            have e_82 : ∀ j : Int, 0 ≤ j → j < (0 : Int) → VL (16 * mn + 8 + j) = W1_61 (64 + j) := by intro j q1 q2; omega
            exact cut_130 ((8 - (0 : Int)).toNat + 1) 0 W1_61 (uZ SG mn sg) VL e_73 e_74 e_75 e_76 e_77 e_78 e_79 e_80 e_81 e_82 (Nat.lt_succ_self _) _ _ hP hD hS ls (lv_sub hl [1, 2, 3, 0] rfl)
          · skip
            refine lv_iconst (v := I3 (0)) hx hb dX8_make_122 rfl ?_
            refine lv_goto (tgt := 127) hx hb dX8_make_123 (by decide) ?_
            refine ix_iast hx hb hK hP hD hS 1 0 rfl rfl (Nat.le_of_ble_eq_true rfl) (by omega) dX8_make_127 (fun H locs hP hD hS => ?_)
            have hP : va_P (dC, dI) vwCl [(am, .inr (0, [.int (I3 ((0 : Int))), .int (I3 mn), .ref as_, .ref av, .ref aw, .int (I3 sm), .int (I3 wd), .int (I3 lp), .int (I3 mp), .int (I3 re)])), (as_, .inl (dA 0, 60, .inl (iA (uZ SG mn 0)))), (av, .inl (dA 1, 960, .inr (.inl (lA VL)))), (aw, .inl (dA 1, 1024, .inr (.inl (lA W1_61))))] H := hP
            have hD : va_D A [(am, .inr (0, [.int (I3 ((0 : Int))), .int (I3 mn), .ref as_, .ref av, .ref aw, .int (I3 sm), .int (I3 wd), .int (I3 lp), .int (I3 mp), .int (I3 re)])), (as_, .inl (dA 0, 60, .inl (iA (uZ SG mn 0)))), (av, .inl (dA 1, 960, .inr (.inl (lA VL)))), (aw, .inl (dA 1, 1024, .inr (.inl (lA W1_61))))] := hD
            refine lv_iconst (v := I3 (0)) hx hb dX8_make_128 rfl ?_
            refine lv_istore_n (lv' := [(3, .int (I3 0)), (0, .ref am), (1, .int (I3 sg)), (2, .int (I3 code))]) hx hb dX8_make_129 rfl hl (by decide) rfl (fun ls hl => ?_)
            have e_83 : 0 ≤ (0 : Int) ∧ (0 : Int) ≤ 8 := by first | assumption | omega | (constructor <;> omega)
            have e_84 : Dg W1_61 := by first | assumption | omega | (constructor <;> omega)
            have e_85 : Dg VL := by first | assumption | omega | (constructor <;> omega)
            have e_86 : rv W1_61 0 = mkP (rv wf 0) (rv wf 1) := by exact e0
            have e_87 : rv W1_61 1 = mkQ (rv wf 0) (rv wf 1) := by exact e1
            have e_88 : okN mn (rv wf 0) (rv wf 1) := by exact ⟨by omega, by rw [← e0]; omega, by rw [← e1]; omega⟩
            have e_89 : (uZ SG mn 0) = uZ SG mn (if rv wf 0 = 0 then 0 else sg) := by first | (rw [if_pos (by omega)]) | (rw [if_neg (by omega)])
            have e_90 : ∀ i : Int, ¬ (16 * mn ≤ i ∧ i < 16 * mn + 16) → VL i = VL i := by intro i q; rfl
            have e_91 : ∀ j : Int, 0 ≤ j → j < (0 : Int) → VL (16 * mn + j) = W1_61 j := by intro j q1 q2; omega
            have e_92 : ∀ j : Int, 0 ≤ j → j < (0 : Int) → VL (16 * mn + 8 + j) = W1_61 (64 + j) := by intro j q1 q2; omega
            exact cut_130 ((8 - (0 : Int)).toNat + 1) 0 W1_61 (uZ SG mn 0) VL e_83 e_84 e_85 e_86 e_87 e_88 e_89 e_90 e_91 e_92 (Nat.lt_succ_self _) _ _ hP hD hS ls (lv_sub hl [1, 2, 3, 0] rfl)
        · skip
          refine lv_aload_n hx hb dX8_make_95 rfl (lv_at hl 0 rfl) ?_
          refine lv_iload_n hx hb dX8_make_96 rfl (lv_at hl 2 rfl) ?_
          have h_93 : In3 code := by first | assumption | omega | (constructor <;> omega)
          have hPc := hP.sub (ws' := [(am, .inr (0, [.int (I3 th), .int (I3 mn), .ref as_, .ref av, .ref aw, .int (I3 sm), .int (I3 wd), .int (I3 lp), .int (I3 mp), .int (I3 re)])), (as_, .inl (dA 0, 60, .inl (iA SG))), (av, .inl (dA 1, 960, .inr (.inl (lA VL)))), (aw, .inl (dA 1, 1024, .inr (.inl (lA W1_61))))]) [0, 1, 2, 3] rfl
          have hDc := hD.sub (ws' := [(am, .inr (0, [.int (I3 th), .int (I3 mn), .ref as_, .ref av, .ref aw, .int (I3 sm), .int (I3 wd), .int (I3 lp), .int (I3 mp), .int (I3 re)])), (as_, .inl (dA 0, 60, .inl (iA SG))), (av, .inl (dA 1, 960, .inr (.inl (lA VL)))), (aw, .inl (dA 1, 1024, .inr (.inl (lA W1_61))))]) [0, 1, 2, 3] (by decide) rfl
          have hFc := va_free (wc := [(am, .inr (0, [.int (I3 th), .int (I3 mn), .ref as_, .ref av, .ref aw, .int (I3 sm), .int (I3 wd), .int (I3 lp), .int (I3 mp), .int (I3 re)])), (as_, .inl (dA 0, 60, .inl (iA SG))), (av, .inl (dA 1, 960, .inr (.inl (lA VL)))), (aw, .inl (dA 1, 1024, .inr (.inl (lA W1_61))))]) hD hS hA [0, 1, 2, 3] rfl
          refine va_calli (va_runV (As := [.int (I3 code)]) (rest := []) ⟨hx, hb, hml, hown, hts⟩ (metX8_fails l dC dI dA am as_ av aw H.size th mn sm wd lp mp re SG VL W1_61 code h_93) (cwV 1 hts (lw_V q1016 q1018 qs34 q66 q1019) rfl rfl rfl (by decide +kernel) ⟨Nat.le_of_ble_eq_true rfl, Nat.le_of_ble_eq_true rfl⟩) ⟨fun a U g mk q => by obtain ⟨q0, q1, qP, qK, qD⟩ := q; exact ⟨q0, q1, qP, va_K.moved (u := U) (U := U.calling g mk a) (Vm.Alike.refl U.vm) qK, qD⟩, va_recv hK hPc (ci := 0) (q0 := 0) rfl rfl, fun U hU hW => ⟨rfl, by rw [hU], by rw [hU]; exact hPc, va_K.moved hW.alike hK, hDc.weaken (fun _ _ _ _ => trivial)⟩⟩ rfl rfl hl.1 rfl (lv_room (Nat.le_of_ble_eq_true rfl)) dX8_make_97 ⟨Nat.le_of_ble_eq_true rfl, Nat.le_of_ble_eq_true rfl⟩) hS (fun q _ h => hFc q h) hFc (fun r_97 u t H1 locs ht hvm hw hB hz1 hk1 hS => ?_)
          obtain ⟨z_97, th1_97⟩ := u
          obtain ⟨rfl, p0_97, p1_97⟩ : r_97 = I3 z_97 ∧ (z_97 = 0) ∧ (th1_97 = code) := hw
          obtain ⟨hP1, hK1, hD1⟩ := hB
          rw [ht] at hP1
          obtain ⟨hP, hD⟩ := va_join (wr := []) (w1 := [(am, .inr (0, [.int (I3 th1_97), .int (I3 mn), .ref as_, .ref av, .ref aw, .int (I3 sm), .int (I3 wd), .int (I3 lp), .int (I3 mp), .int (I3 re)])), (as_, .inl (dA 0, 60, .inl (iA SG))), (av, .inl (dA 1, 960, .inr (.inl (lA VL)))), (aw, .inl (dA 1, 1024, .inr (.inl (lA W1_61))))]) hP hD [0, 1, 2, 3] [] rfl rfl (by decide) (by decide) hk1 hFc hP1 hD1
          generalize H1 = H at hP hS ⊢
          have hP : va_P (dC, dI) vwCl [(am, .inr (0, [.int (I3 th1_97), .int (I3 mn), .ref as_, .ref av, .ref aw, .int (I3 sm), .int (I3 wd), .int (I3 lp), .int (I3 mp), .int (I3 re)])), (as_, .inl (dA 0, 60, .inl (iA SG))), (av, .inl (dA 1, 960, .inr (.inl (lA VL)))), (aw, .inl (dA 1, 1024, .inr (.inl (lA W1_61))))] H := hP
          have hD : va_D A [(am, .inr (0, [.int (I3 th1_97), .int (I3 mn), .ref as_, .ref av, .ref aw, .int (I3 sm), .int (I3 wd), .int (I3 lp), .int (I3 mp), .int (I3 re)])), (as_, .inl (dA 0, 60, .inl (iA SG))), (av, .inl (dA 1, 960, .inr (.inl (lA VL)))), (aw, .inl (dA 1, 1024, .inr (.inl (lA W1_61))))] := hD
          have o_94 : Dg W1_61 := by first | assumption | omega | (constructor <;> omega)
          have o_95 : Dg VL := by first | assumption | omega | (constructor <;> omega)
          have o_96 : 0 ≤ mn ∧ mn ≤ 60 := by first | assumption | omega | (constructor <;> omega)
          have o_97 : Mde mn SG VL sg (rv wf 0) (rv wf 1) code z_97 th1_97 mn SG VL := by refine Or.inr ⟨fun ⟨q0, q1, q2⟩ => ?_, by omega, by omega, rfl, rfl, rfl⟩; rw [← e0] at q1; rw [← e1] at q2; omega
          exact W.iret (v := I3 z_97) hx hb hr (fun t ht hW => ⟨⟨I3 z_97, (z_97, th1_97, mn, SG, VL, W1_61), rfl, ⟨rfl, ⟨o_94, o_95, o_96, o_97⟩⟩, by rw [ht]; exact hP, va_K.moved hW.alike hK, hD⟩, hS.F ht⟩) hS.2.2 dX8_make_100
  refine lv_aload_n hx hb dX8_make_0 rfl (lv_at hl 0 rfl) ?_
  refine lv_iconst (v := I3 (0)) hx hb dX8_make_1 rfl ?_
  have h_98 : 0 ≤ (0 : Int) ∧ (0 : Int) < 16 := by first | assumption | omega | (constructor <;> omega)
  have h_99 : Dg wf := by first | assumption | omega | (constructor <;> omega)
  have hPc := hP.sub (ws' := [(am, .inr (0, [.int (I3 th), .int (I3 mn), .ref as_, .ref av, .ref aw, .int (I3 sm), .int (I3 wd), .int (I3 lp), .int (I3 mp), .int (I3 re)])), (as_, .inl (dA 0, 60, .inl (iA SG))), (av, .inl (dA 1, 960, .inr (.inl (lA VL)))), (aw, .inl (dA 1, 1024, .inr (.inl (lA wf))))]) [0, 1, 2, 3] rfl
  have hDc := hD.sub (ws' := [(am, .inr (0, [.int (I3 th), .int (I3 mn), .ref as_, .ref av, .ref aw, .int (I3 sm), .int (I3 wd), .int (I3 lp), .int (I3 mp), .int (I3 re)])), (as_, .inl (dA 0, 60, .inl (iA SG))), (av, .inl (dA 1, 960, .inr (.inl (lA VL)))), (aw, .inl (dA 1, 1024, .inr (.inl (lA wf))))]) [0, 1, 2, 3] (by decide) rfl
  have hFc := va_free (wc := [(am, .inr (0, [.int (I3 th), .int (I3 mn), .ref as_, .ref av, .ref aw, .int (I3 sm), .int (I3 wd), .int (I3 lp), .int (I3 mp), .int (I3 re)])), (as_, .inl (dA 0, 60, .inl (iA SG))), (av, .inl (dA 1, 960, .inr (.inl (lA VL)))), (aw, .inl (dA 1, 1024, .inr (.inl (lA wf))))]) hD hS hA [0, 1, 2, 3] rfl
  refine va_calli (va_runV (As := [.int (I3 0)]) (rest := []) ⟨hx, hb, hml, hown, hts⟩ (metX8_isZero l dC dI dA am as_ av aw s.heap.size th mn sm wd lp mp re SG VL wf 0 h_98 h_99) (cwV 1 hts (lw_V q968 q970 qs22 q66 q971) rfl rfl rfl (by decide +kernel) ⟨Nat.le_of_ble_eq_true rfl, Nat.le_of_ble_eq_true rfl⟩) ⟨fun a U g mk q => by obtain ⟨q0, q1, qP, qK, qD⟩ := q; exact ⟨q0, q1, qP, va_K.moved (u := U) (U := U.calling g mk a) (Vm.Alike.refl U.vm) qK, qD⟩, va_recv hK hPc (ci := 0) (q0 := 0) rfl rfl, fun U hU hW => ⟨rfl, by rw [hU], by rw [hU]; exact hPc, va_K.moved hW.alike hK, hDc.weaken (fun _ _ _ _ => trivial)⟩⟩ rfl rfl hl.1 rfl (lv_room (Nat.le_of_ble_eq_true rfl)) dX8_make_2 ⟨Nat.le_of_ble_eq_true rfl, Nat.le_of_ble_eq_true rfl⟩) hS (fun q _ h => hFc q h) hFc (fun r_2 u t H1 locs ht hvm hw hB hz1 hk1 hS => ?_)
  obtain ⟨z_2, rfl⟩ : ∃ z, z = u := ⟨_, rfl⟩
  obtain ⟨rfl, p0_2⟩ : r_2 = I3 z_2 ∧ (z_2 = if rv wf (0 : Int) = 0 then 1 else 0) := hw
  obtain ⟨hP1, hK1, hD1⟩ := hB
  rw [ht] at hP1
  obtain ⟨hP, hD⟩ := va_join (wr := []) (w1 := [(am, .inr (0, [.int (I3 th), .int (I3 mn), .ref as_, .ref av, .ref aw, .int (I3 sm), .int (I3 wd), .int (I3 lp), .int (I3 mp), .int (I3 re)])), (as_, .inl (dA 0, 60, .inl (iA SG))), (av, .inl (dA 1, 960, .inr (.inl (lA VL)))), (aw, .inl (dA 1, 1024, .inr (.inl (lA wf))))]) hP hD [0, 1, 2, 3] [] rfl rfl (by decide) (by decide) hk1 hFc hP1 hD1
  generalize H1 = H at hP hS ⊢
  have hP : va_P (dC, dI) vwCl [(am, .inr (0, [.int (I3 th), .int (I3 mn), .ref as_, .ref av, .ref aw, .int (I3 sm), .int (I3 wd), .int (I3 lp), .int (I3 mp), .int (I3 re)])), (as_, .inl (dA 0, 60, .inl (iA SG))), (av, .inl (dA 1, 960, .inr (.inl (lA VL)))), (aw, .inl (dA 1, 1024, .inr (.inl (lA wf))))] H := hP
  have hD : va_D A [(am, .inr (0, [.int (I3 th), .int (I3 mn), .ref as_, .ref av, .ref aw, .int (I3 sm), .int (I3 wd), .int (I3 lp), .int (I3 mp), .int (I3 re)])), (as_, .inl (dA 0, 60, .inl (iA SG))), (av, .inl (dA 1, 960, .inr (.inl (lA VL)))), (aw, .inl (dA 1, 1024, .inr (.inl (lA wf))))] := hD
  have y2 := b01 p0_2
  refine ix_if_eq (tgt := 14) hx hb (by first | decide | assumption | (constructor <;> omega)) dX8_make_5 (by decide) (fun c_5 => ?_) (fun c_5 => ?_)
  · skip
    have e_100 : Dg wf := by first | assumption | omega | (constructor <;> omega)
    have e_101 : rv wf 0 = rv wf 0 := by rfl
    have e_102 : rv wf 1 = mkd (rv wf 0) (rv wf 1) := by unfold mkd; rw [if_neg (by omega)]
    exact cut_14 wf e_100 e_101 e_102 _ _ hP hD hS ls (lv_sub hl [0, 1, 2] rfl)
  · skip
    refine lv_aload_n hx hb dX8_make_8 rfl (lv_at hl 0 rfl) ?_
    refine lv_iconst (v := I3 (1)) hx hb dX8_make_9 rfl ?_
    refine lv_lconst (v := L6 1) hx hb dX8_make_10 (by decide) ?_
    have h_103 : 0 ≤ (1 : Int) ∧ (1 : Int) < 16 := by first | assumption | omega | (constructor <;> omega)
    have h_104 : Dg wf := by first | assumption | omega | (constructor <;> omega)
    have hPc := hP.sub (ws' := [(am, .inr (0, [.int (I3 th), .int (I3 mn), .ref as_, .ref av, .ref aw, .int (I3 sm), .int (I3 wd), .int (I3 lp), .int (I3 mp), .int (I3 re)])), (as_, .inl (dA 0, 60, .inl (iA SG))), (av, .inl (dA 1, 960, .inr (.inl (lA VL)))), (aw, .inl (dA 1, 1024, .inr (.inl (lA wf))))]) [0, 1, 2, 3] rfl
    have hDc := hD.sub (ws' := [(am, .inr (0, [.int (I3 th), .int (I3 mn), .ref as_, .ref av, .ref aw, .int (I3 sm), .int (I3 wd), .int (I3 lp), .int (I3 mp), .int (I3 re)])), (as_, .inl (dA 0, 60, .inl (iA SG))), (av, .inl (dA 1, 960, .inr (.inl (lA VL)))), (aw, .inl (dA 1, 1024, .inr (.inl (lA wf))))]) [0, 1, 2, 3] (by decide) rfl
    have hFc := va_free (wc := [(am, .inr (0, [.int (I3 th), .int (I3 mn), .ref as_, .ref av, .ref aw, .int (I3 sm), .int (I3 wd), .int (I3 lp), .int (I3 mp), .int (I3 re)])), (as_, .inl (dA 0, 60, .inl (iA SG))), (av, .inl (dA 1, 960, .inr (.inl (lA VL)))), (aw, .inl (dA 1, 1024, .inr (.inl (lA wf))))]) hD hS hA [0, 1, 2, 3] rfl
    refine va_callv (va_runV (As := [.int (I3 1), .long (L6 1)]) (rest := []) ⟨hx, hb, hml, hown, hts⟩ (metX8_set l dC dI dA am as_ av aw H.size th mn sm wd lp mp re SG VL wf 1 1 h_103 h_104) (cwV 2 hts (lw_V q955 q957 qs19 q66 q958) rfl rfl rfl (by decide +kernel) ⟨Nat.le_of_ble_eq_true rfl, Nat.le_of_ble_eq_true rfl⟩) ⟨fun a U g mk q => by obtain ⟨q0, q1, qP, qK, qD⟩ := q; exact ⟨q0, q1, qP, va_K.moved (u := U) (U := U.calling g mk a) (Vm.Alike.refl U.vm) qK, qD⟩, va_recv hK hPc (ci := 0) (q0 := 0) rfl rfl, fun U hU hW => ⟨rfl, by rw [hU], by rw [hU]; exact hPc, va_K.moved hW.alike hK, hDc.weaken (fun _ _ _ _ => trivial)⟩⟩ rfl rfl hl.1 rfl (lv_room (Nat.le_of_ble_eq_true rfl)) dX8_make_11 ⟨Nat.le_of_ble_eq_true rfl, Nat.le_of_ble_eq_true rfl⟩) hS (fun q _ h => hFc q h) hFc (fun u t H1 locs ht hvm hw hB hz1 hk1 hS => ?_)
    obtain ⟨W1_11, rfl⟩ : ∃ z, z = u := ⟨_, rfl⟩
    obtain ⟨p0_11, p1_11, p2_11⟩ : (Dg W1_11) ∧ (Fr wf W1_11 (1 : Int)) ∧ (rv W1_11 (1 : Int) = ((1 : Int) % 18446744073709551616).toNat) := hw
    obtain ⟨hP1, hK1, hD1⟩ := hB
    rw [ht] at hP1
    obtain ⟨hP, hD⟩ := va_join (wr := []) (w1 := [(am, .inr (0, [.int (I3 th), .int (I3 mn), .ref as_, .ref av, .ref aw, .int (I3 sm), .int (I3 wd), .int (I3 lp), .int (I3 mp), .int (I3 re)])), (as_, .inl (dA 0, 60, .inl (iA SG))), (av, .inl (dA 1, 960, .inr (.inl (lA VL)))), (aw, .inl (dA 1, 1024, .inr (.inl (lA W1_11))))]) hP hD [0, 1, 2, 3] [] rfl rfl (by decide) (by decide) hk1 hFc hP1 hD1
    generalize H1 = H at hP hS ⊢
    have hP : va_P (dC, dI) vwCl [(am, .inr (0, [.int (I3 th), .int (I3 mn), .ref as_, .ref av, .ref aw, .int (I3 sm), .int (I3 wd), .int (I3 lp), .int (I3 mp), .int (I3 re)])), (as_, .inl (dA 0, 60, .inl (iA SG))), (av, .inl (dA 1, 960, .inr (.inl (lA VL)))), (aw, .inl (dA 1, 1024, .inr (.inl (lA W1_11))))] H := hP
    have hD : va_D A [(am, .inr (0, [.int (I3 th), .int (I3 mn), .ref as_, .ref av, .ref aw, .int (I3 sm), .int (I3 wd), .int (I3 lp), .int (I3 mp), .int (I3 re)])), (as_, .inl (dA 0, 60, .inl (iA SG))), (av, .inl (dA 1, 960, .inr (.inl (lA VL)))), (aw, .inl (dA 1, 1024, .inr (.inl (lA W1_11))))] := hD
    have e_105 : Dg W1_11 := by first | assumption | omega | (constructor <;> omega)
    have e_106 : rv W1_11 0 = rv wf 0 := by exact Fr_rv p1_11 (by decide)
    have e_107 : rv W1_11 1 = mkd (rv wf 0) (rv wf 1) := by unfold mkd; rw [if_pos (by omega), p2_11]; rfl
    exact cut_14 W1_11 e_105 e_106 e_107 _ _ hP hD hS ls (lv_sub hl [0, 1, 2] rfl)
