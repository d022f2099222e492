/-! wide numbers: trim, isZero, isOne, bits, at, low, zeros, compare -/
set_option maxRecDepth 100000
abbrev BmetX7_trim (dC : Nat → ClassId) (dI : Nat → Nat → Nat) (dA : Nat → ClassId) (A : Nat → Prop) (aa : Nat) (aaw : Nat) (naa : Int) (faa : Int → Int) : Int → State → Prop := fun u t => (fun (u : Int) => (fun (n1 : Int) => va_P (dC, dI) vwCl [(aa, .inr (2, [.ref aaw, .int (I3 n1)])), (aaw, .inl (dA 0, 36, .inl (iA faa)))] t.heap ∧ va_K (dC, dI) vwCl (tyA dA) t ∧ va_D A [(aa, .inr (2, [.ref aaw, .int (I3 n1)])), (aaw, .inl (dA 0, 36, .inl (iA faa)))]) u) u
abbrev QmetX7_trim (dC : Nat → ClassId) (dI : Nat → Nat → Nat) (dA : Nat → ClassId) (A : Nat → Prop) (aa : Nat) (aaw : Nat) (naa : Int) (faa : Int → Int) := va_Qv (fun (u : Int) => (fun (n1 : Int) => (OKw n1 faa) ∧ (wN n1 faa = wN naa faa) ∧ (n1 ≤ naa)) u) (BmetX7_trim dC dI dA A aa aaw naa faa) A
set_option maxHeartbeats 1000000 in
set_option maxRecDepth 100000 in
/-- leading zeros fall off -/
theorem metX7_trim (l : Launch) (dC : Nat → ClassId) (dI : Nat → Nat → Nat) (dA : Nat → ClassId) (aa : Nat) (aaw : Nat) (sz : Nat) (naa : Int) (faa : Int → Int) (hn : 0 ≤ naa ∧ naa ≤ 36) (hDa : Dg faa) : Met l yX7_trim (ws_ yX7_trim cX7_trim 1 none) ({ frames := 1, cells := 0, slots := 0, locals := 40 }) (va_Pc [.ref aa] (fun U => U.heap.size = sz ∧ va_P (dC, dI) vwCl [(aa, .inr (2, [.ref aaw, .int (I3 naa)])), (aaw, .inl (dA 0, 36, .inl (iA faa)))] U.heap ∧ va_K (dC, dI) vwCl (tyA dA) U ∧ va_D (fun _ => True) [(aa, .inr (2, [.ref aaw, .int (I3 naa)])), (aaw, .inl (dA 0, 36, .inl (iA faa)))])) (QmetX7_trim dC dI dA (va_A [(aa, .inr (2, [.ref aaw, .int (I3 naa)])), (aaw, .inl (dA 0, 36, .inl (iA faa)))] sz) aa aaw naa faa) 0 0 (va_A [(aa, .inr (2, [.ref aaw, .int (I3 naa)])), (aaw, .inl (dA 0, 36, .inl (iA faa)))] sz) := by
  refine Met.ofW (cc := cX7_trim) (maxL := 1) (ret := none) (by decide) rfl ?_
  intro p e s m args below meth c s₁ B hml hv
  obtain ⟨rfl, hsz, hP, hK, hD0⟩ := hv
  have hx := B.exec
  have hb := B.bytes
  have hr := B.returns
  have hts := atoms_spec (ws := (ws_ yX7_trim cX7_trim 1 none)) B.pre
  have hts : ∀ w ∈ lw_all, w.before _ s = true := fun w h => hts w (List.mem_cons_of_mem _ h)
  have hown : s.vm.findClass RX7 = some m.cls := findClass_of_methodNamed B.named
  have hlocks := B.notSynchronized
  subst hsz
  have hD := hD0.self (sz := s.heap.size)
  generalize hAe : va_A [(aa, .inr (2, [.ref aaw, .int (I3 naa)])), (aaw, .inl (dA 0, 36, .inl (iA faa)))] s.heap.size = A at hD ⊢
  have hA : ∀ q : Nat, s.heap.size ≤ q → A q := fun q h => by rw [← hAe]; exact Or.inr h
  have hS : va_S A s.heap s.heap [] := va_S.rf
  have hP : va_P (dC, dI) vwCl [(aa, .inr (2, [.ref aaw, .int (I3 naa)])), (aaw, .inl (dA 0, 36, .inl (iA faa)))] s.heap := hP
  have hl := lv_entry ([.ref aa]) (n := 1) (Nat.le_of_ble_eq_true rfl)
  rw [lg_entry_eq]
  generalize (lg_sl ([.ref aa]) ++ List.replicate (1 - (lg_sl ([.ref aa])).length) Slot.unset).toArray = ls at hl ⊢
  have hl : lv_has ls 1 [(0, .ref aa)] := hl
  have cut_0 : ∀ (fuel_0 : Nat), ∀ (n1 : Int), (0 ≤ n1 ∧ n1 ≤ naa) → (wN n1 faa = wN naa faa) → (n1.toNat < fuel_0) → ∀ (H : Heap) (locs : List Loc), va_P (dC, dI) vwCl [(aa, .inr (2, [.ref aaw, .int (I3 n1)])), (aaw, .inl (dA 0, 36, .inl (iA faa)))] H → va_D A [(aa, .inr (2, [.ref aaw, .int (I3 n1)])), (aaw, .inl (dA 0, 36, .inl (iA faa)))] → va_S A s.heap H locs → ∀ (ls : Array Slot), lv_has ls 1 [(0, .ref aa)] → W p l e (headSpec (ws_ yX7_trim cX7_trim 1 none) ({ frames := 1, cells := 0, slots := 0, locals := 40 })).room s m ([.ref aa] : List Value).toArray below meth c H locs 0 0 (MQ below (QmetX7_trim dC dI dA A aa aaw naa faa) ([.ref aa] : List Value).toArray s 0 0 A) (F0 m 0 ls []) := by
    intro fuel_0
    induction fuel_0 with
    | zero =>
      intro n1 hn1 he hm
      exact absurd hm (Nat.not_lt_zero _)
    | succ fuel_0 ih_0 =>
      intro n1 hn1 he hm_0 H locs hP hD hS ls hl
      refine lv_aload_n hx hb dX7_trim_0 rfl (lv_at hl 0 rfl) ?_
      refine va_get (D := (dC, dI)) (ci := 2) (v := .int (I3 n1)) (C := RX7) (T := TX7) (N := 2) hx hb hts in_X7 hown hK hP 0 rfl rfl 1 (by decide) (hts _ q137) (fun _ h9 => h9) rfl dX7_trim_1 ?_
      refine ix_if_le (tgt := 34) hx hb (by first | assumption | decide | (constructor <;> omega)) dX7_trim_4 (by decide) (fun c_4 => ?_) (fun c_4 => ?_)
      · skip
        have o_1 : OKw n1 faa := by exact ⟨by omega, hDa, fun q => by first | (exfalso; omega) | (have := hDa (n1 - 1); omega)⟩
        have o_2 : wN n1 faa = wN naa faa := by first | assumption | omega | (constructor <;> omega)
        have o_3 : n1 ≤ naa := by first | assumption | omega | (constructor <;> omega)
        exact W.vret hx hb hr (fun t ht hW => ⟨⟨n1, rfl, ⟨o_1, o_2, o_3⟩, by rw [ht]; exact hP, va_K.moved hW.alike hK, hD⟩, hS.F ht⟩) hS.2.2 dX7_trim_34
      · skip
        refine lv_aload_n hx hb dX7_trim_7 rfl (lv_at hl 0 rfl) ?_
        refine va_get (D := (dC, dI)) (ci := 2) (v := .ref aaw) (C := RX7) (T := TX7) (N := 2) hx hb hts in_X7 hown hK hP 0 rfl rfl 0 (by decide) (hts _ q135) (fun _ h9 => h9) rfl dX7_trim_8 ?_
        refine lv_aload_n hx hb dX7_trim_11 rfl (lv_at hl 0 rfl) ?_
        refine va_get (D := (dC, dI)) (ci := 2) (v := .int (I3 n1)) (C := RX7) (T := TX7) (N := 2) hx hb hts in_X7 hown hK hP 0 rfl rfl 1 (by decide) (hts _ q137) (fun _ h9 => h9) rfl dX7_trim_12 ?_
        refine lv_iconst (v := I3 (1)) hx hb dX7_trim_15 rfl ?_
        refine ix_isub hx hb dX7_trim_16 ?_
        refine ix_iald hx hb hK hP 1 0 rfl rfl (Nat.le_of_ble_eq_true rfl) (by omega) dX7_trim_17 ?_
        refine ix_ifm_ne (tgt := 34) hx hb dX7_trim_18 (by decide) (fun c_18 => ?_) (fun c_18 => ?_)
        · skip
          have o_4 : OKw n1 faa := by exact ⟨by omega, hDa, fun q => by first | (exfalso; omega) | (have := hDa (n1 - 1); omega)⟩
          have o_5 : wN n1 faa = wN naa faa := by first | assumption | omega | (constructor <;> omega)
          have o_6 : n1 ≤ naa := by first | assumption | omega | (constructor <;> omega)
          exact W.vret hx hb hr (fun t ht hW => ⟨⟨n1, rfl, ⟨o_4, o_5, o_6⟩, by rw [ht]; exact hP, va_K.moved hW.alike hK, hD⟩, hS.F ht⟩) hS.2.2 dX7_trim_34
        · skip
          refine lv_aload_n hx hb dX7_trim_21 rfl (lv_at hl 0 rfl) ?_
          refine lv_dup hx hb dX7_trim_22 rfl ?_
          refine va_get (D := (dC, dI)) (ci := 2) (v := .int (I3 n1)) (C := RX7) (T := TX7) (N := 2) hx hb hts in_X7 hown hK hP 0 rfl rfl 1 (by decide) (hts _ q137) (fun _ h9 => h9) rfl dX7_trim_23 ?_
          refine lv_iconst (v := I3 (1)) hx hb dX7_trim_26 rfl ?_
          refine ix_isub hx hb dX7_trim_27 ?_
          refine va_put (D := (dC, dI)) (ci := 2) (v := .int (I3 (n1 - 1))) (ty := .int) (C := RX7) (T := TX7) (N := 2) hx hb hts in_X7 tyX7 tyX7_ok nmX7 hown hK hP hD hS 0 rfl rfl 1 (by decide) (hts _ q137) (fun _ h9 => h9) rfl (by decide +kernel) rfl rfl (Nat.le_of_ble_eq_true rfl) dX7_trim_28 (fun H locs hP hD hS => ?_)
          have hP : va_P (dC, dI) vwCl [(aa, .inr (2, [.ref aaw, .int (I3 (n1 - 1))])), (aaw, .inl (dA 0, 36, .inl (iA faa)))] H := hP
          have hD : va_D A [(aa, .inr (2, [.ref aaw, .int (I3 (n1 - 1))])), (aaw, .inl (dA 0, 36, .inl (iA faa)))] := hD
          refine lv_goto (tgt := 0) hx hb dX7_trim_31 (by decide) ?_
          have e_7 : 0 ≤ (n1 - 1) ∧ (n1 - 1) ≤ naa := by first | assumption | omega | (constructor <;> omega)
          have e_8 : wN (n1 - 1) faa = wN naa faa := by rw [← he]; exact wN_trim hDa (by omega) (by have := hDa (n1 - 1); omega)
          have e_9 : (n1 - 1).toNat < fuel_0 := by omega
          exact ih_0 (n1 - 1) e_7 e_8 e_9 _ _ hP hD hS ls (lv_sub hl [0] rfl)
  have e_10 : 0 ≤ naa ∧ naa ≤ naa := by first | assumption | omega | (constructor <;> omega)
  have e_11 : wN naa faa = wN naa faa := by first | assumption | omega | (constructor <;> omega)
  exact cut_0 (naa.toNat + 1) naa e_10 e_11 (Nat.lt_succ_self _) _ _ hP hD hS ls (lv_sub hl [0] rfl)
abbrev BmetX7_isZero (dC : Nat → ClassId) (dI : Nat → Nat → Nat) (dA : Nat → ClassId) (A : Nat → Prop) (aa : Nat) (aaw : Nat) (naa : Int) (faa : Int → Int) : Int → State → Prop := fun u t => (fun (u : Int) => (fun (z : Int) => va_P (dC, dI) vwCl [(aa, .inr (2, [.ref aaw, .int (I3 naa)])), (aaw, .inl (dA 0, 36, .inl (iA faa)))] t.heap ∧ va_K (dC, dI) vwCl (tyA dA) t ∧ va_D A [(aa, .inr (2, [.ref aaw, .int (I3 naa)])), (aaw, .inl (dA 0, 36, .inl (iA faa)))]) u) u
abbrev QmetX7_isZero (dC : Nat → ClassId) (dI : Nat → Nat → Nat) (dA : Nat → ClassId) (A : Nat → Prop) (aa : Nat) (aaw : Nat) (naa : Int) (faa : Int → Int) := va_Qi (fun (rt_ : Int32) => fun (u : Int) => (fun (z : Int) => rt_ = I3 z ∧ (z = if wN naa faa = 0 then 1 else 0)) u) (BmetX7_isZero dC dI dA A aa aaw naa faa) A
set_option maxHeartbeats 1000000 in
set_option maxRecDepth 100000 in
theorem metX7_isZero (l : Launch) (dC : Nat → ClassId) (dI : Nat → Nat → Nat) (dA : Nat → ClassId) (aa : Nat) (aaw : Nat) (sz : Nat) (naa : Int) (faa : Int → Int) (haa : OKw naa faa) : Met l yX7_isZero (ws_ yX7_isZero cX7_isZero 1 (some .boolean)) ({ frames := 1, cells := 0, slots := 0, locals := 40 }) (va_Pc [.ref aa] (fun U => U.heap.size = sz ∧ va_P (dC, dI) vwCl [(aa, .inr (2, [.ref aaw, .int (I3 naa)])), (aaw, .inl (dA 0, 36, .inl (iA faa)))] U.heap ∧ va_K (dC, dI) vwCl (tyA dA) U ∧ va_D (fun _ => True) [(aa, .inr (2, [.ref aaw, .int (I3 naa)])), (aaw, .inl (dA 0, 36, .inl (iA faa)))])) (QmetX7_isZero dC dI dA (va_A [(aa, .inr (2, [.ref aaw, .int (I3 naa)])), (aaw, .inl (dA 0, 36, .inl (iA faa)))] sz) aa aaw naa faa) 0 0 (va_A [(aa, .inr (2, [.ref aaw, .int (I3 naa)])), (aaw, .inl (dA 0, 36, .inl (iA faa)))] sz) := by
  refine Met.ofW (cc := cX7_isZero) (maxL := 1) (ret := (some .boolean)) (by decide) rfl ?_
  intro p e s m args below meth c s₁ B hml hv
  obtain ⟨rfl, hsz, hP, hK, hD0⟩ := hv
  have hx := B.exec
  have hb := B.bytes
  have hr := B.returns
  have hts := atoms_spec (ws := (ws_ yX7_isZero cX7_isZero 1 (some .boolean))) B.pre
  have hts : ∀ w ∈ lw_all, w.before _ s = true := fun w h => hts w (List.mem_cons_of_mem _ h)
  have hown : s.vm.findClass RX7 = some m.cls := findClass_of_methodNamed B.named
  have hlocks := B.notSynchronized
  subst hsz
  have hD := hD0.self (sz := s.heap.size)
  generalize hAe : va_A [(aa, .inr (2, [.ref aaw, .int (I3 naa)])), (aaw, .inl (dA 0, 36, .inl (iA faa)))] s.heap.size = A at hD ⊢
  have hA : ∀ q : Nat, s.heap.size ≤ q → A q := fun q h => by rw [← hAe]; exact Or.inr h
  have hS : va_S A s.heap s.heap [] := va_S.rf
  have hP : va_P (dC, dI) vwCl [(aa, .inr (2, [.ref aaw, .int (I3 naa)])), (aaw, .inl (dA 0, 36, .inl (iA faa)))] s.heap := hP
  have hl := lv_entry ([.ref aa]) (n := 1) (Nat.le_of_ble_eq_true rfl)
  rw [lg_entry_eq]
  generalize (lg_sl ([.ref aa]) ++ List.replicate (1 - (lg_sl ([.ref aa])).length) Slot.unset).toArray = ls at hl ⊢
  have hl : lv_has ls 1 [(0, .ref aa)] := hl
  obtain ⟨⟨hn0, hn36⟩, hDa, htop⟩ := id haa
  have hz := wN_eq0 haa
  refine lv_aload_n hx hb dX7_isZero_0 rfl (lv_at hl 0 rfl) ?_
  refine va_get (D := (dC, dI)) (ci := 2) (v := .int (I3 naa)) (C := RX7) (T := TX7) (N := 2) hx hb hts in_X7 hown hK hP 0 rfl rfl 1 (by decide) (hts _ q137) (fun _ h9 => h9) rfl dX7_isZero_1 ?_
  refine ix_if_ne (tgt := 11) hx hb (by first | assumption | decide | (constructor <;> omega)) dX7_isZero_4 (by decide) (fun c_4 => ?_) (fun c_4 => ?_)
  · skip
    refine lv_iconst (v := I3 (0)) hx hb dX7_isZero_11 rfl ?_
    have o_1 : (0 : Int) = if wN naa faa = 0 then 1 else 0 := by first | (rw [if_pos (by omega)]; done) | (rw [if_neg (by omega)]; done)
    exact W.zret (v := I3 0) hx hb hr rfl (fun t ht hW => ⟨⟨I3 0, 0, rfl, ⟨rfl, o_1⟩, by rw [ht]; exact hP, va_K.moved hW.alike hK, hD⟩, hS.F ht⟩) hS.2.2 dX7_isZero_12
  · skip
    refine lv_iconst (v := I3 (1)) hx hb dX7_isZero_7 rfl ?_
    refine lv_goto (tgt := 12) hx hb dX7_isZero_8 (by decide) ?_
    have o_2 : (1 : Int) = if wN naa faa = 0 then 1 else 0 := by first | (rw [if_pos (by omega)]; done) | (rw [if_neg (by omega)]; done)
    exact W.zret (v := I3 1) hx hb hr rfl (fun t ht hW => ⟨⟨I3 1, 1, rfl, ⟨rfl, o_2⟩, by rw [ht]; exact hP, va_K.moved hW.alike hK, hD⟩, hS.F ht⟩) hS.2.2 dX7_isZero_12
abbrev BmetX7_isOne (dC : Nat → ClassId) (dI : Nat → Nat → Nat) (dA : Nat → ClassId) (A : Nat → Prop) (aa : Nat) (aaw : Nat) (naa : Int) (faa : Int → Int) : Int → State → Prop := fun u t => (fun (u : Int) => (fun (z : Int) => va_P (dC, dI) vwCl [(aa, .inr (2, [.ref aaw, .int (I3 naa)])), (aaw, .inl (dA 0, 36, .inl (iA faa)))] t.heap ∧ va_K (dC, dI) vwCl (tyA dA) t ∧ va_D A [(aa, .inr (2, [.ref aaw, .int (I3 naa)])), (aaw, .inl (dA 0, 36, .inl (iA faa)))]) u) u
abbrev QmetX7_isOne (dC : Nat → ClassId) (dI : Nat → Nat → Nat) (dA : Nat → ClassId) (A : Nat → Prop) (aa : Nat) (aaw : Nat) (naa : Int) (faa : Int → Int) := va_Qi (fun (rt_ : Int32) => fun (u : Int) => (fun (z : Int) => rt_ = I3 z ∧ (z = if wN naa faa = 1 then 1 else 0)) u) (BmetX7_isOne dC dI dA A aa aaw naa faa) A
set_option maxHeartbeats 1000000 in
set_option maxRecDepth 100000 in
theorem metX7_isOne (l : Launch) (dC : Nat → ClassId) (dI : Nat → Nat → Nat) (dA : Nat → ClassId) (aa : Nat) (aaw : Nat) (sz : Nat) (naa : Int) (faa : Int → Int) (haa : OKw naa faa) : Met l yX7_isOne (ws_ yX7_isOne cX7_isOne 1 (some .boolean)) ({ frames := 1, cells := 0, slots := 0, locals := 40 }) (va_Pc [.ref aa] (fun U => U.heap.size = sz ∧ va_P (dC, dI) vwCl [(aa, .inr (2, [.ref aaw, .int (I3 naa)])), (aaw, .inl (dA 0, 36, .inl (iA faa)))] U.heap ∧ va_K (dC, dI) vwCl (tyA dA) U ∧ va_D (fun _ => True) [(aa, .inr (2, [.ref aaw, .int (I3 naa)])), (aaw, .inl (dA 0, 36, .inl (iA faa)))])) (QmetX7_isOne dC dI dA (va_A [(aa, .inr (2, [.ref aaw, .int (I3 naa)])), (aaw, .inl (dA 0, 36, .inl (iA faa)))] sz) aa aaw naa faa) 0 0 (va_A [(aa, .inr (2, [.ref aaw, .int (I3 naa)])), (aaw, .inl (dA 0, 36, .inl (iA faa)))] sz) := by
  refine Met.ofW (cc := cX7_isOne) (maxL := 1) (ret := (some .boolean)) (by decide) rfl ?_
  intro p e s m args below meth c s₁ B hml hv
  obtain ⟨rfl, hsz, hP, hK, hD0⟩ := hv
  have hx := B.exec
  have hb := B.bytes
  have hr := B.returns
  have hts := atoms_spec (ws := (ws_ yX7_isOne cX7_isOne 1 (some .boolean))) B.pre
  have hts : ∀ w ∈ lw_all, w.before _ s = true := fun w h => hts w (List.mem_cons_of_mem _ h)
  have hown : s.vm.findClass RX7 = some m.cls := findClass_of_methodNamed B.named
  have hlocks := B.notSynchronized
  subst hsz
  have hD := hD0.self (sz := s.heap.size)
  generalize hAe : va_A [(aa, .inr (2, [.ref aaw, .int (I3 naa)])), (aaw, .inl (dA 0, 36, .inl (iA faa)))] s.heap.size = A at hD ⊢
  have hA : ∀ q : Nat, s.heap.size ≤ q → A q := fun q h => by rw [← hAe]; exact Or.inr h
  have hS : va_S A s.heap s.heap [] := va_S.rf
  have hP : va_P (dC, dI) vwCl [(aa, .inr (2, [.ref aaw, .int (I3 naa)])), (aaw, .inl (dA 0, 36, .inl (iA faa)))] s.heap := hP
  have hl := lv_entry ([.ref aa]) (n := 1) (Nat.le_of_ble_eq_true rfl)
  rw [lg_entry_eq]
  generalize (lg_sl ([.ref aa]) ++ List.replicate (1 - (lg_sl ([.ref aa])).length) Slot.unset).toArray = ls at hl ⊢
  have hl : lv_has ls 1 [(0, .ref aa)] := hl
  obtain ⟨⟨hn0, hn36⟩, hDa, htop⟩ := id haa
  have h1 : naa = 1 → wN naa faa = (faa 0).toNat := fun q => by rw [q]; have := wN_s hDa (k := 0) (by decide); rw [wN_0] at this; simpa using this
  have h2 : naa ≠ 1 → wN naa faa ≠ 1 := fun q w => by rcases (show naa = 0 ∨ 1 < naa by omega) with c | c; (rw [c, wN_0] at w; omega); (have h3 := wN_ge hDa (by omega) (htop (by omega)); have h4 : 2 ^ (32 * 1) ≤ 2 ^ (32 * (naa - 1).toNat) := Nat.pow_le_pow_right (by decide) (by omega); rw [w] at h3; have h5 : (2 : Nat) ^ (32 * 1) = 4294967296 := (by decide); omega)
  have h0_ := hDa 0
  refine lv_aload_n hx hb dX7_isOne_0 rfl (lv_at hl 0 rfl) ?_
  refine va_get (D := (dC, dI)) (ci := 2) (v := .int (I3 naa)) (C := RX7) (T := TX7) (N := 2) hx hb hts in_X7 hown hK hP 0 rfl rfl 1 (by decide) (hts _ q137) (fun _ h9 => h9) rfl dX7_isOne_1 ?_
  refine lv_iconst (v := I3 (1)) hx hb dX7_isOne_4 rfl ?_
  refine ix_icmp_ne (tgt := 22) hx hb (by first | assumption | decide | (constructor <;> omega)) (by first | assumption | decide | (constructor <;> omega)) dX7_isOne_5 (by decide) (fun c_5 => ?_) (fun c_5 => ?_)
  · skip
    refine lv_iconst (v := I3 (0)) hx hb dX7_isOne_22 rfl ?_
    have o_1 : (0 : Int) = if wN naa faa = 1 then 1 else 0 := by first | (rw [if_pos (by have := h1 (by omega); omega)]; done) | (rw [if_neg (by first | exact h2 (by omega) | (have := h1 (by omega); omega))]; done)
    exact W.zret (v := I3 0) hx hb hr rfl (fun t ht hW => ⟨⟨I3 0, 0, rfl, ⟨rfl, o_1⟩, by rw [ht]; exact hP, va_K.moved hW.alike hK, hD⟩, hS.F ht⟩) hS.2.2 dX7_isOne_23
  · skip
    refine lv_aload_n hx hb dX7_isOne_8 rfl (lv_at hl 0 rfl) ?_
    refine va_get (D := (dC, dI)) (ci := 2) (v := .ref aaw) (C := RX7) (T := TX7) (N := 2) hx hb hts in_X7 hown hK hP 0 rfl rfl 0 (by decide) (hts _ q135) (fun _ h9 => h9) rfl dX7_isOne_9 ?_
    refine lv_iconst (v := I3 (0)) hx hb dX7_isOne_12 rfl ?_
    refine ix_iald hx hb hK hP 1 0 rfl rfl (Nat.le_of_ble_eq_true rfl) (by omega) dX7_isOne_13 ?_
    refine lv_iconst (v := I3 (1)) hx hb dX7_isOne_14 rfl ?_
    refine ix_icmpm_ne (tgt := 22) hx hb dX7_isOne_15 (by decide) (fun c_15 => ?_) (fun c_15 => ?_)
    · skip
      refine lv_iconst (v := I3 (0)) hx hb dX7_isOne_22 rfl ?_
      have o_2 : (0 : Int) = if wN naa faa = 1 then 1 else 0 := by first | (rw [if_pos (by have := h1 (by omega); omega)]; done) | (rw [if_neg (by first | exact h2 (by omega) | (have := h1 (by omega); omega))]; done)
      exact W.zret (v := I3 0) hx hb hr rfl (fun t ht hW => ⟨⟨I3 0, 0, rfl, ⟨rfl, o_2⟩, by rw [ht]; exact hP, va_K.moved hW.alike hK, hD⟩, hS.F ht⟩) hS.2.2 dX7_isOne_23
    · skip
      refine lv_iconst (v := I3 (1)) hx hb dX7_isOne_18 rfl ?_
      refine lv_goto (tgt := 23) hx hb dX7_isOne_19 (by decide) ?_
      have o_3 : (1 : Int) = if wN naa faa = 1 then 1 else 0 := by first | (rw [if_pos (by have := h1 (by omega); omega)]; done) | (rw [if_neg (by first | exact h2 (by omega) | (have := h1 (by omega); omega))]; done)
      exact W.zret (v := I3 1) hx hb hr rfl (fun t ht hW => ⟨⟨I3 1, 1, rfl, ⟨rfl, o_3⟩, by rw [ht]; exact hP, va_K.moved hW.alike hK, hD⟩, hS.F ht⟩) hS.2.2 dX7_isOne_23
abbrev BmetX7_bits (dC : Nat → ClassId) (dI : Nat → Nat → Nat) (dA : Nat → ClassId) (A : Nat → Prop) (aa : Nat) (aaw : Nat) (naa : Int) (faa : Int → Int) : Int → State → Prop := fun u t => (fun (u : Int) => (fun (z : Int) => va_P (dC, dI) vwCl [(aa, .inr (2, [.ref aaw, .int (I3 naa)])), (aaw, .inl (dA 0, 36, .inl (iA faa)))] t.heap ∧ va_K (dC, dI) vwCl (tyA dA) t ∧ va_D A [(aa, .inr (2, [.ref aaw, .int (I3 naa)])), (aaw, .inl (dA 0, 36, .inl (iA faa)))]) u) u
abbrev QmetX7_bits (dC : Nat → ClassId) (dI : Nat → Nat → Nat) (dA : Nat → ClassId) (A : Nat → Prop) (aa : Nat) (aaw : Nat) (naa : Int) (faa : Int → Int) := va_Qi (fun (rt_ : Int32) => fun (u : Int) => (fun (z : Int) => rt_ = I3 z ∧ (z = ((bl (wN naa faa) : Nat) : Int)) ∧ (0 ≤ z ∧ z ≤ 1152)) u) (BmetX7_bits dC dI dA A aa aaw naa faa) A
set_option maxHeartbeats 1000000 in
set_option maxRecDepth 100000 in
/-- how many bits -/
theorem metX7_bits (l : Launch) (dC : Nat → ClassId) (dI : Nat → Nat → Nat) (dA : Nat → ClassId) (aa : Nat) (aaw : Nat) (sz : Nat) (naa : Int) (faa : Int → Int) (haa : OKw naa faa) : Met l yX7_bits (ws_ yX7_bits cX7_bits 1 (some .int)) ({ frames := 2, cells := 0, slots := 0, locals := 80 }) (va_Pc [.ref aa] (fun U => U.heap.size = sz ∧ va_P (dC, dI) vwCl [(aa, .inr (2, [.ref aaw, .int (I3 naa)])), (aaw, .inl (dA 0, 36, .inl (iA faa)))] U.heap ∧ va_K (dC, dI) vwCl (tyA dA) U ∧ va_D (fun _ => True) [(aa, .inr (2, [.ref aaw, .int (I3 naa)])), (aaw, .inl (dA 0, 36, .inl (iA faa)))])) (QmetX7_bits dC dI dA (va_A [(aa, .inr (2, [.ref aaw, .int (I3 naa)])), (aaw, .inl (dA 0, 36, .inl (iA faa)))] sz) aa aaw naa faa) 0 0 (va_A [(aa, .inr (2, [.ref aaw, .int (I3 naa)])), (aaw, .inl (dA 0, 36, .inl (iA faa)))] sz) := by
  refine Met.ofW (cc := cX7_bits) (maxL := 1) (ret := (some .int)) (by decide) rfl ?_
  intro p e s m args below meth c s₁ B hml hv
  obtain ⟨rfl, hsz, hP, hK, hD0⟩ := hv
  have hx := B.exec
  have hb := B.bytes
  have hr := B.returns
  have hts := atoms_spec (ws := (ws_ yX7_bits cX7_bits 1 (some .int))) B.pre
  have hts : ∀ w ∈ lw_all, w.before _ s = true := fun w h => hts w (List.mem_cons_of_mem _ h)
  have hown : s.vm.findClass RX7 = some m.cls := findClass_of_methodNamed B.named
  have hlocks := B.notSynchronized
  subst hsz
  have hD := hD0.self (sz := s.heap.size)
  generalize hAe : va_A [(aa, .inr (2, [.ref aaw, .int (I3 naa)])), (aaw, .inl (dA 0, 36, .inl (iA faa)))] s.heap.size = A at hD ⊢
  have hA : ∀ q : Nat, s.heap.size ≤ q → A q := fun q h => by rw [← hAe]; exact Or.inr h
  have hS : va_S A s.heap s.heap [] := va_S.rf
  have hP : va_P (dC, dI) vwCl [(aa, .inr (2, [.ref aaw, .int (I3 naa)])), (aaw, .inl (dA 0, 36, .inl (iA faa)))] s.heap := hP
  have hl := lv_entry ([.ref aa]) (n := 1) (Nat.le_of_ble_eq_true rfl)
  rw [lg_entry_eq]
  generalize (lg_sl ([.ref aa]) ++ List.replicate (1 - (lg_sl ([.ref aa])).length) Slot.unset).toArray = ls at hl ⊢
  have hl : lv_has ls 1 [(0, .ref aa)] := hl
  obtain ⟨⟨hn0, hn36⟩, hDa, htop⟩ := id haa
  refine lv_aload_n hx hb dX7_bits_0 rfl (lv_at hl 0 rfl) ?_
  refine va_get (D := (dC, dI)) (ci := 2) (v := .int (I3 naa)) (C := RX7) (T := TX7) (N := 2) hx hb hts in_X7 hown hK hP 0 rfl rfl 1 (by decide) (hts _ q137) (fun _ h9 => h9) rfl dX7_bits_1 ?_
  refine ix_if_ne (tgt := 11) hx hb (by first | assumption | decide | (constructor <;> omega)) dX7_bits_4 (by decide) (fun c_4 => ?_) (fun c_4 => ?_)
  · skip
    have hb9 := bl_w hDa (show 0 < naa by omega) (htop (by omega))
    refine lv_bipush (v := I3 (32)) hx hb dX7_bits_11 (by decide) ?_
    refine lv_aload_n hx hb dX7_bits_13 rfl (lv_at hl 0 rfl) ?_
    refine va_get (D := (dC, dI)) (ci := 2) (v := .int (I3 naa)) (C := RX7) (T := TX7) (N := 2) hx hb hts in_X7 hown hK hP 0 rfl rfl 1 (by decide) (hts _ q137) (fun _ h9 => h9) rfl dX7_bits_14 ?_
    refine ix_imul hx hb dX7_bits_17 ?_
    refine lv_aload_n hx hb dX7_bits_18 rfl (lv_at hl 0 rfl) ?_
    refine va_get (D := (dC, dI)) (ci := 2) (v := .ref aaw) (C := RX7) (T := TX7) (N := 2) hx hb hts in_X7 hown hK hP 0 rfl rfl 0 (by decide) (hts _ q135) (fun _ h9 => h9) rfl dX7_bits_19 ?_
    refine lv_aload_n hx hb dX7_bits_22 rfl (lv_at hl 0 rfl) ?_
    refine va_get (D := (dC, dI)) (ci := 2) (v := .int (I3 naa)) (C := RX7) (T := TX7) (N := 2) hx hb hts in_X7 hown hK hP 0 rfl rfl 1 (by decide) (hts _ q137) (fun _ h9 => h9) rfl dX7_bits_23 ?_
    refine lv_iconst (v := I3 (1)) hx hb dX7_bits_26 rfl ?_
    refine ix_isub hx hb dX7_bits_27 ?_
    refine ix_iald hx hb hK hP 1 0 rfl rfl (Nat.le_of_ble_eq_true rfl) (by omega) dX7_bits_28 ?_
    refine ix_ci (y := sm3 (faa (naa - 1))) (by exact I3_sm _) ?_
    have h_1 : In3 (sm3 (faa (naa - 1))) := by exact sm3_in _
    have hPc := hP.sub (ws' := []) [] rfl
    have hDc := hD.sub (ws' := []) [] (by decide) rfl
    have hFc := va_free (wc := []) hD hS hA [] rfl
    refine va_calli (va_runS (As := [.int (I3 (sm3 (faa (naa - 1))))]) (rest := [.int (I3 (32 * naa))]) ⟨hx, hb, hml, hown, hts⟩ (metJ6_numberOfLeadingZeros l dC dI dA s.heap.size (sm3 (faa (naa - 1))) h_1) (va_cwS 1 hts (lw_S q391 q392 q75 q393) rfl rfl rfl (by decide +kernel) ⟨Nat.le_of_ble_eq_true rfl, Nat.le_of_ble_eq_true rfl⟩) ⟨fun a U g mk q => by obtain ⟨q0, q1, qP, qK, qD⟩ := q; exact ⟨q0, q1, qP, va_K.moved (u := U) (U := U.calling g mk a) (Vm.Alike.refl U.vm) qK, qD⟩, fun U hU hW => ⟨rfl, by rw [hU], by rw [hU]; exact hPc, va_K.moved hW.alike hK, hDc.weaken (fun _ _ _ _ => trivial)⟩⟩ rfl rfl hl.1 rfl (lv_room (Nat.le_of_ble_eq_true rfl)) dX7_bits_29 ⟨Nat.le_of_ble_eq_true rfl, Nat.le_of_ble_eq_true rfl⟩) hS (fun q _ h => hFc q h) hFc (fun r_29 u t H1 locs ht hvm hw hB hz1 hk1 hS => ?_)
    obtain ⟨z_29, rfl⟩ : ∃ z, z = u := ⟨_, rfl⟩
    obtain ⟨rfl, p0_29⟩ : r_29 = I3 z_29 ∧ (z_29 = 32 - ((bl ((sm3 (faa (naa - 1))) % 4294967296).toNat : Nat) : Int)) := hw
    obtain ⟨hP1, hK1, hD1⟩ := hB
    rw [ht] at hP1
    obtain ⟨hP, hD⟩ := va_join (wr := [(aa, .inr (2, [.ref aaw, .int (I3 naa)])), (aaw, .inl (dA 0, 36, .inl (iA faa)))]) (w1 := []) hP hD [] [0, 1] rfl rfl (by decide) (by decide) hk1 hFc hP1 hD1
    generalize H1 = H at hP hS ⊢
    have hP : va_P (dC, dI) vwCl [(aa, .inr (2, [.ref aaw, .int (I3 naa)])), (aaw, .inl (dA 0, 36, .inl (iA faa)))] H := hP
    have hD : va_D A [(aa, .inr (2, [.ref aaw, .int (I3 naa)])), (aaw, .inl (dA 0, 36, .inl (iA faa)))] := hD
    have e29 : sm3 (faa (naa - 1)) % 4294967296 = faa (naa - 1) := by have := hDa (naa - 1); unfold sm3; omega
    rw [e29] at p0_29
    have q29 := wN_bl haa
    refine ix_isub hx hb dX7_bits_32 ?_
    have o_2 : ((32 * naa) - z_29) = ((bl (wN naa faa) : Nat) : Int) := by first | omega | (rw [show naa = 0 by omega]; rfl)
    have o_3 : 0 ≤ ((32 * naa) - z_29) ∧ ((32 * naa) - z_29) ≤ 1152 := by first | omega | decide
    exact W.iret (v := I3 ((32 * naa) - z_29)) hx hb hr (fun t ht hW => ⟨⟨I3 ((32 * naa) - z_29), ((32 * naa) - z_29), rfl, ⟨rfl, ⟨o_2, o_3⟩⟩, by rw [ht]; exact hP, va_K.moved hW.alike hK, hD⟩, hS.F ht⟩) hS.2.2 dX7_bits_33
  · skip
    refine lv_iconst (v := I3 (0)) hx hb dX7_bits_7 rfl ?_
    refine lv_goto (tgt := 33) hx hb dX7_bits_8 (by decide) ?_
    have o_4 : (0 : Int) = ((bl (wN naa faa) : Nat) : Int) := by first | omega | (rw [show naa = 0 by omega]; rfl)
    have o_5 : 0 ≤ (0 : Int) ∧ (0 : Int) ≤ 1152 := by first | omega | decide
    exact W.iret (v := I3 0) hx hb hr (fun t ht hW => ⟨⟨I3 0, 0, rfl, ⟨rfl, ⟨o_4, o_5⟩⟩, by rw [ht]; exact hP, va_K.moved hW.alike hK, hD⟩, hS.F ht⟩) hS.2.2 dX7_bits_33
abbrev BmetX7_at (dC : Nat → ClassId) (dI : Nat → Nat → Nat) (dA : Nat → ClassId) (A : Nat → Prop) (aa : Nat) (aaw : Nat) (naa : Int) (faa : Int → Int) (k : Int) : Int → State → Prop := fun u t => (fun (u : Int) => (fun (z : Int) => va_P (dC, dI) vwCl [(aa, .inr (2, [.ref aaw, .int (I3 naa)])), (aaw, .inl (dA 0, 36, .inl (iA faa)))] t.heap ∧ va_K (dC, dI) vwCl (tyA dA) t ∧ va_D A [(aa, .inr (2, [.ref aaw, .int (I3 naa)])), (aaw, .inl (dA 0, 36, .inl (iA faa)))]) u) u
abbrev QmetX7_at (dC : Nat → ClassId) (dI : Nat → Nat → Nat) (dA : Nat → ClassId) (A : Nat → Prop) (aa : Nat) (aaw : Nat) (naa : Int) (faa : Int → Int) (k : Int) := va_Ql (fun (rt_ : Int64) => fun (u : Int) => (fun (z : Int) => rt_ = L6 z ∧ (z = gW naa faa k) ∧ (0 ≤ z ∧ z < 4294967296)) u) (BmetX7_at dC dI dA A aa aaw naa faa k) A
set_option maxHeartbeats 1000000 in
set_option maxRecDepth 100000 in
/-- digit k -/
theorem metX7_at (l : Launch) (dC : Nat → ClassId) (dI : Nat → Nat → Nat) (dA : Nat → ClassId) (aa : Nat) (aaw : Nat) (sz : Nat) (naa : Int) (faa : Int → Int) (k : Int) (hk : 0 ≤ k ∧ k < 2147483648) (hn : 0 ≤ naa ∧ naa ≤ 36) (hDa : Dg faa) : Met l yX7_at (ws_ yX7_at cX7_at 2 (some .long)) ({ frames := 1, cells := 0, slots := 0, locals := 40 }) (va_Pc [.ref aa, .int (I3 k)] (fun U => U.heap.size = sz ∧ va_P (dC, dI) vwCl [(aa, .inr (2, [.ref aaw, .int (I3 naa)])), (aaw, .inl (dA 0, 36, .inl (iA faa)))] U.heap ∧ va_K (dC, dI) vwCl (tyA dA) U ∧ va_D (fun _ => True) [(aa, .inr (2, [.ref aaw, .int (I3 naa)])), (aaw, .inl (dA 0, 36, .inl (iA faa)))])) (QmetX7_at dC dI dA (va_A [(aa, .inr (2, [.ref aaw, .int (I3 naa)])), (aaw, .inl (dA 0, 36, .inl (iA faa)))] sz) aa aaw naa faa k) 0 0 (va_A [(aa, .inr (2, [.ref aaw, .int (I3 naa)])), (aaw, .inl (dA 0, 36, .inl (iA faa)))] sz) := by
  refine Met.ofW (cc := cX7_at) (maxL := 2) (ret := (some .long)) (by decide) rfl ?_
  intro p e s m args below meth c s₁ B hml hv
  obtain ⟨rfl, hsz, hP, hK, hD0⟩ := hv
  have hx := B.exec
  have hb := B.bytes
  have hr := B.returns
  have hts := atoms_spec (ws := (ws_ yX7_at cX7_at 2 (some .long))) B.pre
  have hts : ∀ w ∈ lw_all, w.before _ s = true := fun w h => hts w (List.mem_cons_of_mem _ h)
  have hown : s.vm.findClass RX7 = some m.cls := findClass_of_methodNamed B.named
  have hlocks := B.notSynchronized
  subst hsz
  have hD := hD0.self (sz := s.heap.size)
  generalize hAe : va_A [(aa, .inr (2, [.ref aaw, .int (I3 naa)])), (aaw, .inl (dA 0, 36, .inl (iA faa)))] s.heap.size = A at hD ⊢
  have hA : ∀ q : Nat, s.heap.size ≤ q → A q := fun q h => by rw [← hAe]; exact Or.inr h
  have hS : va_S A s.heap s.heap [] := va_S.rf
  have hP : va_P (dC, dI) vwCl [(aa, .inr (2, [.ref aaw, .int (I3 naa)])), (aaw, .inl (dA 0, 36, .inl (iA faa)))] s.heap := hP
  have hl := lv_entry ([.ref aa, .int (I3 k)]) (n := 2) (Nat.le_of_ble_eq_true rfl)
  rw [lg_entry_eq]
  generalize (lg_sl ([.ref aa, .int (I3 k)]) ++ List.replicate (2 - (lg_sl ([.ref aa, .int (I3 k)])).length) Slot.unset).toArray = ls at hl ⊢
  have hl : lv_has ls 2 [(0, .ref aa), (1, .int (I3 k))] := hl
  refine lv_iload_n hx hb dX7_at_0 rfl (lv_at hl 1 rfl) ?_
  refine lv_aload_n hx hb dX7_at_1 rfl (lv_at hl 0 rfl) ?_
  refine va_get (D := (dC, dI)) (ci := 2) (v := .int (I3 naa)) (C := RX7) (T := TX7) (N := 2) hx hb hts in_X7 hown hK hP 0 rfl rfl 1 (by decide) (hts _ q137) (fun _ h9 => h9) rfl dX7_at_2 ?_
  refine ix_icmp_ge (tgt := 22) hx hb (by first | assumption | decide | (constructor <;> omega)) (by first | assumption | decide | (constructor <;> omega)) dX7_at_5 (by decide) (fun c_5 => ?_) (fun c_5 => ?_)
  · skip
    refine lv_lconst (v := L6 0) hx hb dX7_at_22 (by decide) ?_
    have o_1 : (0 : Int) = gW naa faa k := by first | exact (gW_in (by omega)).symm | exact (gW_out (by omega)).symm
    have o_2 : 0 ≤ (0 : Int) ∧ (0 : Int) < 4294967296 := by first | exact hDa k | decide
    exact W.lret (v := L6 0) hx hb hr (fun t ht hW => ⟨⟨L6 0, 0, rfl, ⟨rfl, ⟨o_1, o_2⟩⟩, by rw [ht]; exact hP, va_K.moved hW.alike hK, hD⟩, hS.F ht⟩) hS.2.2 dX7_at_23
  · skip
    refine lv_aload_n hx hb dX7_at_8 rfl (lv_at hl 0 rfl) ?_
    refine va_get (D := (dC, dI)) (ci := 2) (v := .ref aaw) (C := RX7) (T := TX7) (N := 2) hx hb hts in_X7 hown hK hP 0 rfl rfl 0 (by decide) (hts _ q135) (fun _ h9 => h9) rfl dX7_at_9 ?_
    refine lv_iload_n hx hb dX7_at_12 rfl (lv_at hl 1 rfl) ?_
    refine ix_iald hx hb hK hP 1 0 rfl rfl (Nat.le_of_ble_eq_true rfl) (by omega) dX7_at_13 ?_
    refine ix_i2ls hx hb dX7_at_14 ?_
    refine lv_ldc2 hx hb hown (hts _ q360) dX7_at_15 ?_
    refine ix_vl (x := (4294967295)) (by decide) ?_
    refine ix_landm hx hb 32 (by decide) (by decide) dX7_at_18 ?_
    refine ix_tl (y := (sm3 (faa k)) % 4294967296) rfl ?_
    refine ix_tl (y := faa k) (by have := hDa k; unfold sm3; omega) ?_
    refine lv_goto (tgt := 23) hx hb dX7_at_19 (by decide) ?_
    have o_3 : (faa k) = gW naa faa k := by first | exact (gW_in (by omega)).symm | exact (gW_out (by omega)).symm
    have o_4 : 0 ≤ (faa k) ∧ (faa k) < 4294967296 := by first | exact hDa k | decide
    exact W.lret (v := L6 (faa k)) hx hb hr (fun t ht hW => ⟨⟨L6 (faa k), (faa k), rfl, ⟨rfl, ⟨o_3, o_4⟩⟩, by rw [ht]; exact hP, va_K.moved hW.alike hK, hD⟩, hS.F ht⟩) hS.2.2 dX7_at_23
abbrev BmetX7_low (dC : Nat → ClassId) (dI : Nat → Nat → Nat) (dA : Nat → ClassId) (A : Nat → Prop) (aa : Nat) (aaw : Nat) (naa : Int) (faa : Int → Int) : Int → State → Prop := fun u t => (fun (u : Int) => (fun (z : Int) => va_P (dC, dI) vwCl [(aa, .inr (2, [.ref aaw, .int (I3 naa)])), (aaw, .inl (dA 0, 36, .inl (iA faa)))] t.heap ∧ va_K (dC, dI) vwCl (tyA dA) t ∧ va_D A [(aa, .inr (2, [.ref aaw, .int (I3 naa)])), (aaw, .inl (dA 0, 36, .inl (iA faa)))]) u) u
abbrev QmetX7_low (dC : Nat → ClassId) (dI : Nat → Nat → Nat) (dA : Nat → ClassId) (A : Nat → Prop) (aa : Nat) (aaw : Nat) (naa : Int) (faa : Int → Int) := va_Ql (fun (rt_ : Int64) => fun (u : Int) => (fun (z : Int) => rt_ = L6 z ∧ (z = sm6 ((wN naa faa : Nat) : Int))) u) (BmetX7_low dC dI dA A aa aaw naa faa) A
set_option maxHeartbeats 1000000 in
set_option maxRecDepth 100000 in
/-- the low 64 bits -/
theorem metX7_low (l : Launch) (dC : Nat → ClassId) (dI : Nat → Nat → Nat) (dA : Nat → ClassId) (aa : Nat) (aaw : Nat) (sz : Nat) (naa : Int) (faa : Int → Int) (haa : OKw naa faa) : Met l yX7_low (ws_ yX7_low cX7_low 1 (some .long)) ({ frames := 2, cells := 0, slots := 0, locals := 80 }) (va_Pc [.ref aa] (fun U => U.heap.size = sz ∧ va_P (dC, dI) vwCl [(aa, .inr (2, [.ref aaw, .int (I3 naa)])), (aaw, .inl (dA 0, 36, .inl (iA faa)))] U.heap ∧ va_K (dC, dI) vwCl (tyA dA) U ∧ va_D (fun _ => True) [(aa, .inr (2, [.ref aaw, .int (I3 naa)])), (aaw, .inl (dA 0, 36, .inl (iA faa)))])) (QmetX7_low dC dI dA (va_A [(aa, .inr (2, [.ref aaw, .int (I3 naa)])), (aaw, .inl (dA 0, 36, .inl (iA faa)))] sz) aa aaw naa faa) 0 0 (va_A [(aa, .inr (2, [.ref aaw, .int (I3 naa)])), (aaw, .inl (dA 0, 36, .inl (iA faa)))] sz) := by
  refine Met.ofW (cc := cX7_low) (maxL := 1) (ret := (some .long)) (by decide) rfl ?_
  intro p e s m args below meth c s₁ B hml hv
  obtain ⟨rfl, hsz, hP, hK, hD0⟩ := hv
  have hx := B.exec
  have hb := B.bytes
  have hr := B.returns
  have hts := atoms_spec (ws := (ws_ yX7_low cX7_low 1 (some .long))) B.pre
  have hts : ∀ w ∈ lw_all, w.before _ s = true := fun w h => hts w (List.mem_cons_of_mem _ h)
  have hown : s.vm.findClass RX7 = some m.cls := findClass_of_methodNamed B.named
  have hlocks := B.notSynchronized
  subst hsz
  have hD := hD0.self (sz := s.heap.size)
  generalize hAe : va_A [(aa, .inr (2, [.ref aaw, .int (I3 naa)])), (aaw, .inl (dA 0, 36, .inl (iA faa)))] s.heap.size = A at hD ⊢
  have hA : ∀ q : Nat, s.heap.size ≤ q → A q := fun q h => by rw [← hAe]; exact Or.inr h
  have hS : va_S A s.heap s.heap [] := va_S.rf
  have hP : va_P (dC, dI) vwCl [(aa, .inr (2, [.ref aaw, .int (I3 naa)])), (aaw, .inl (dA 0, 36, .inl (iA faa)))] s.heap := hP
  have hl := lv_entry ([.ref aa]) (n := 1) (Nat.le_of_ble_eq_true rfl)
  rw [lg_entry_eq]
  generalize (lg_sl ([.ref aa]) ++ List.replicate (1 - (lg_sl ([.ref aa])).length) Slot.unset).toArray = ls at hl ⊢
  have hl : lv_has ls 1 [(0, .ref aa)] := hl
  obtain ⟨⟨hn0, hn36⟩, hDa, htop⟩ := id haa
  refine lv_aload_n hx hb dX7_low_0 rfl (lv_at hl 0 rfl) ?_
  refine lv_iconst (v := I3 (0)) hx hb dX7_low_1 rfl ?_
  have h_1 : 0 ≤ (0 : Int) ∧ (0 : Int) < 2147483648 := by decide
  have h_2 : 0 ≤ naa ∧ naa ≤ 36 := by first | assumption | omega | (constructor <;> omega)
  have h_3 : Dg faa := by first | assumption | omega | (constructor <;> omega)
  have hPc := hP.sub (ws' := [(aa, .inr (2, [.ref aaw, .int (I3 naa)])), (aaw, .inl (dA 0, 36, .inl (iA faa)))]) [0, 1] rfl
  have hDc := hD.sub (ws' := [(aa, .inr (2, [.ref aaw, .int (I3 naa)])), (aaw, .inl (dA 0, 36, .inl (iA faa)))]) [0, 1] (by decide) rfl
  have hFc := va_free (wc := [(aa, .inr (2, [.ref aaw, .int (I3 naa)])), (aaw, .inl (dA 0, 36, .inl (iA faa)))]) hD hS hA [0, 1] rfl
  refine va_calll (va_runV (As := [.int (I3 0)]) (rest := []) ⟨hx, hb, hml, hown, hts⟩ (metX7_at l dC dI dA aa aaw s.heap.size naa faa 0 h_1 h_2 h_3) (cwV 1 hts (lw_V q356 q358 qs6 q65 q359) rfl rfl rfl (by decide +kernel) ⟨Nat.le_of_ble_eq_true rfl, Nat.le_of_ble_eq_true rfl⟩) ⟨fun a U g mk q => by obtain ⟨q0, q1, qP, qK, qD⟩ := q; exact ⟨q0, q1, qP, va_K.moved (u := U) (U := U.calling g mk a) (Vm.Alike.refl U.vm) qK, qD⟩, va_recv hK hPc (ci := 2) (q0 := 0) rfl rfl, fun U hU hW => ⟨rfl, by rw [hU], by rw [hU]; exact hPc, va_K.moved hW.alike hK, hDc.weaken (fun _ _ _ _ => trivial)⟩⟩ rfl rfl hl.1 rfl (lv_room (Nat.le_of_ble_eq_true rfl)) dX7_low_2 ⟨Nat.le_of_ble_eq_true rfl, Nat.le_of_ble_eq_true rfl⟩) hS (fun q _ h => hFc q h) hFc (fun r_2 u t H1 locs ht hvm hw hB hz1 hk1 hS => ?_)
  obtain ⟨z_2, rfl⟩ : ∃ z, z = u := ⟨_, rfl⟩
  obtain ⟨rfl, p0_2, p1_2⟩ : r_2 = L6 z_2 ∧ (z_2 = gW naa faa (0 : Int)) ∧ (0 ≤ z_2 ∧ z_2 < 4294967296) := hw
  obtain ⟨hP1, hK1, hD1⟩ := hB
  rw [ht] at hP1
  obtain ⟨hP, hD⟩ := va_join (wr := []) (w1 := [(aa, .inr (2, [.ref aaw, .int (I3 naa)])), (aaw, .inl (dA 0, 36, .inl (iA faa)))]) hP hD [0, 1] [] rfl rfl (by decide) (by decide) hk1 hFc hP1 hD1
  generalize H1 = H at hP hS ⊢
  have hP : va_P (dC, dI) vwCl [(aa, .inr (2, [.ref aaw, .int (I3 naa)])), (aaw, .inl (dA 0, 36, .inl (iA faa)))] H := hP
  have hD : va_D A [(aa, .inr (2, [.ref aaw, .int (I3 naa)])), (aaw, .inl (dA 0, 36, .inl (iA faa)))] := hD
  refine lv_aload_n hx hb dX7_low_5 rfl (lv_at hl 0 rfl) ?_
  refine lv_iconst (v := I3 (1)) hx hb dX7_low_6 rfl ?_
  have h_4 : 0 ≤ (1 : Int) ∧ (1 : Int) < 2147483648 := by decide
  have h_5 : 0 ≤ naa ∧ naa ≤ 36 := by first | assumption | omega | (constructor <;> omega)
  have h_6 : Dg faa := by first | assumption | omega | (constructor <;> omega)
  have hPc := hP.sub (ws' := [(aa, .inr (2, [.ref aaw, .int (I3 naa)])), (aaw, .inl (dA 0, 36, .inl (iA faa)))]) [0, 1] rfl
  have hDc := hD.sub (ws' := [(aa, .inr (2, [.ref aaw, .int (I3 naa)])), (aaw, .inl (dA 0, 36, .inl (iA faa)))]) [0, 1] (by decide) rfl
  have hFc := va_free (wc := [(aa, .inr (2, [.ref aaw, .int (I3 naa)])), (aaw, .inl (dA 0, 36, .inl (iA faa)))]) hD hS hA [0, 1] rfl
  refine va_calll (va_runV (As := [.int (I3 1)]) (rest := [.long (L6 z_2)]) ⟨hx, hb, hml, hown, hts⟩ (metX7_at l dC dI dA aa aaw H.size naa faa 1 h_4 h_5 h_6) (cwV 1 hts (lw_V q356 q358 qs6 q65 q359) rfl rfl rfl (by decide +kernel) ⟨Nat.le_of_ble_eq_true rfl, Nat.le_of_ble_eq_true rfl⟩) ⟨fun a U g mk q => by obtain ⟨q0, q1, qP, qK, qD⟩ := q; exact ⟨q0, q1, qP, va_K.moved (u := U) (U := U.calling g mk a) (Vm.Alike.refl U.vm) qK, qD⟩, va_recv hK hPc (ci := 2) (q0 := 0) rfl rfl, fun U hU hW => ⟨rfl, by rw [hU], by rw [hU]; exact hPc, va_K.moved hW.alike hK, hDc.weaken (fun _ _ _ _ => trivial)⟩⟩ rfl rfl hl.1 rfl (lv_room (Nat.le_of_ble_eq_true rfl)) dX7_low_7 ⟨Nat.le_of_ble_eq_true rfl, Nat.le_of_ble_eq_true rfl⟩) hS (fun q _ h => hFc q h) hFc (fun r_7 u t H1 locs ht hvm hw hB hz1 hk1 hS => ?_)
  obtain ⟨z_7, rfl⟩ : ∃ z, z = u := ⟨_, rfl⟩
  obtain ⟨rfl, p0_7, p1_7⟩ : r_7 = L6 z_7 ∧ (z_7 = gW naa faa (1 : Int)) ∧ (0 ≤ z_7 ∧ z_7 < 4294967296) := hw
  obtain ⟨hP1, hK1, hD1⟩ := hB
  rw [ht] at hP1
  obtain ⟨hP, hD⟩ := va_join (wr := []) (w1 := [(aa, .inr (2, [.ref aaw, .int (I3 naa)])), (aaw, .inl (dA 0, 36, .inl (iA faa)))]) hP hD [0, 1] [] rfl rfl (by decide) (by decide) hk1 hFc hP1 hD1
  generalize H1 = H at hP hS ⊢
  have hP : va_P (dC, dI) vwCl [(aa, .inr (2, [.ref aaw, .int (I3 naa)])), (aaw, .inl (dA 0, 36, .inl (iA faa)))] H := hP
  have hD : va_D A [(aa, .inr (2, [.ref aaw, .int (I3 naa)])), (aaw, .inl (dA 0, 36, .inl (iA faa)))] := hD
  refine lv_bipush (v := I3 (32)) hx hb dX7_low_10 (by decide) ?_
  refine ix_lshl hx hb (by first | decide | omega) dX7_low_12 ?_
  refine ix_tl (y := z_7 * 4294967296) rfl ?_
  refine ix_lor hx hb dX7_low_13 ?_
  refine ix_tl (y := sm6 ((wN naa faa : Nat) : Int)) (by rw [zor6_w p1_2 p1_7, p0_2, p0_7]; exact low_w haa) ?_
  have o_7 : (sm6 ((wN naa faa : Nat) : Int)) = sm6 ((wN naa faa : Nat) : Int) := by rfl
  exact W.lret (v := L6 (sm6 ((wN naa faa : Nat) : Int))) hx hb hr (fun t ht hW => ⟨⟨L6 (sm6 ((wN naa faa : Nat) : Int)), (sm6 ((wN naa faa : Nat) : Int)), rfl, ⟨rfl, o_7⟩, by rw [ht]; exact hP, va_K.moved hW.alike hK, hD⟩, hS.F ht⟩) hS.2.2 dX7_low_14
abbrev BmetX7_zeros (dC : Nat → ClassId) (dI : Nat → Nat → Nat) (dA : Nat → ClassId) (A : Nat → Prop) (aa : Nat) (aaw : Nat) (naa : Int) (faa : Int → Int) : Int → State → Prop := fun u t => (fun (u : Int) => (fun (z : Int) => va_P (dC, dI) vwCl [(aa, .inr (2, [.ref aaw, .int (I3 naa)])), (aaw, .inl (dA 0, 36, .inl (iA faa)))] t.heap ∧ va_K (dC, dI) vwCl (tyA dA) t ∧ va_D A [(aa, .inr (2, [.ref aaw, .int (I3 naa)])), (aaw, .inl (dA 0, 36, .inl (iA faa)))]) u) u
abbrev QmetX7_zeros (dC : Nat → ClassId) (dI : Nat → Nat → Nat) (dA : Nat → ClassId) (A : Nat → Prop) (aa : Nat) (aaw : Nat) (naa : Int) (faa : Int → Int) := va_Qi (fun (rt_ : Int32) => fun (u : Int) => (fun (z : Int) => rt_ = I3 z ∧ (0 ≤ z ∧ z < 1152) ∧ (wN naa faa = 0 → z = 0) ∧ (wN naa faa ≠ 0 → ∃ q : Nat, wN naa faa = 2 ^ z.toNat * (2 * q + 1))) u) (BmetX7_zeros dC dI dA A aa aaw naa faa) A
set_option maxHeartbeats 1000000 in
set_option maxRecDepth 100000 in
/-- trailing zeros -/
theorem metX7_zeros (l : Launch) (dC : Nat → ClassId) (dI : Nat → Nat → Nat) (dA : Nat → ClassId) (aa : Nat) (aaw : Nat) (sz : Nat) (naa : Int) (faa : Int → Int) (haa : OKw naa faa) : Met l yX7_zeros (ws_ yX7_zeros cX7_zeros 2 (some .int)) ({ frames := 2, cells := 0, slots := 0, locals := 80 }) (va_Pc [.ref aa] (fun U => U.heap.size = sz ∧ va_P (dC, dI) vwCl [(aa, .inr (2, [.ref aaw, .int (I3 naa)])), (aaw, .inl (dA 0, 36, .inl (iA faa)))] U.heap ∧ va_K (dC, dI) vwCl (tyA dA) U ∧ va_D (fun _ => True) [(aa, .inr (2, [.ref aaw, .int (I3 naa)])), (aaw, .inl (dA 0, 36, .inl (iA faa)))])) (QmetX7_zeros dC dI dA (va_A [(aa, .inr (2, [.ref aaw, .int (I3 naa)])), (aaw, .inl (dA 0, 36, .inl (iA faa)))] sz) aa aaw naa faa) 0 0 (va_A [(aa, .inr (2, [.ref aaw, .int (I3 naa)])), (aaw, .inl (dA 0, 36, .inl (iA faa)))] sz) := by
  refine Met.ofW (cc := cX7_zeros) (maxL := 2) (ret := (some .int)) (by decide) rfl ?_
  intro p e s m args below meth c s₁ B hml hv
  obtain ⟨rfl, hsz, hP, hK, hD0⟩ := hv
  have hx := B.exec
  have hb := B.bytes
  have hr := B.returns
  have hts := atoms_spec (ws := (ws_ yX7_zeros cX7_zeros 2 (some .int))) B.pre
  have hts : ∀ w ∈ lw_all, w.before _ s = true := fun w h => hts w (List.mem_cons_of_mem _ h)
  have hown : s.vm.findClass RX7 = some m.cls := findClass_of_methodNamed B.named
  have hlocks := B.notSynchronized
  subst hsz
  have hD := hD0.self (sz := s.heap.size)
  generalize hAe : va_A [(aa, .inr (2, [.ref aaw, .int (I3 naa)])), (aaw, .inl (dA 0, 36, .inl (iA faa)))] s.heap.size = A at hD ⊢
  have hA : ∀ q : Nat, s.heap.size ≤ q → A q := fun q h => by rw [← hAe]; exact Or.inr h
  have hS : va_S A s.heap s.heap [] := va_S.rf
  have hP : va_P (dC, dI) vwCl [(aa, .inr (2, [.ref aaw, .int (I3 naa)])), (aaw, .inl (dA 0, 36, .inl (iA faa)))] s.heap := hP
  have hl := lv_entry ([.ref aa]) (n := 2) (Nat.le_of_ble_eq_true rfl)
  rw [lg_entry_eq]
  generalize (lg_sl ([.ref aa]) ++ List.replicate (2 - (lg_sl ([.ref aa])).length) Slot.unset).toArray = ls at hl ⊢
  have hl : lv_has ls 2 [(0, .ref aa)] := hl
  have cut_2 : ∀ (fuel_2 : Nat), ∀ (k : Int), (0 ≤ k ∧ k ≤ naa) → (∀ j : Int, 0 ≤ j → j < k → faa j = 0) → ((naa - k).toNat < fuel_2) → ∀ (H : Heap) (locs : List Loc), va_P (dC, dI) vwCl [(aa, .inr (2, [.ref aaw, .int (I3 naa)])), (aaw, .inl (dA 0, 36, .inl (iA faa)))] H → va_D A [(aa, .inr (2, [.ref aaw, .int (I3 naa)])), (aaw, .inl (dA 0, 36, .inl (iA faa)))] → va_S A s.heap H locs → ∀ (ls : Array Slot), lv_has ls 2 [(0, .ref aa), (1, .int (I3 k))] → W p l e (headSpec (ws_ yX7_zeros cX7_zeros 2 (some .int)) ({ frames := 2, cells := 0, slots := 0, locals := 80 })).room s m ([.ref aa] : List Value).toArray below meth c H locs 0 0 (MQ below (QmetX7_zeros dC dI dA A aa aaw naa faa) ([.ref aa] : List Value).toArray s 0 0 A) (F0 m 2 ls []) := by
    intro fuel_2
    induction fuel_2 with
    | zero =>
      intro k hk hz hm
      exact absurd hm (Nat.not_lt_zero _)
    | succ fuel_2 ih_2 =>
      intro k hk hz hm_2 H locs hP hD hS ls hl
      obtain ⟨⟨hn0, hn36⟩, hDa, htop⟩ := id haa
      refine lv_iload_n hx hb dX7_zeros_2 rfl (lv_at hl 1 rfl) ?_
      refine lv_aload_n hx hb dX7_zeros_3 rfl (lv_at hl 0 rfl) ?_
      refine va_get (D := (dC, dI)) (ci := 2) (v := .int (I3 naa)) (C := RX7) (T := TX7) (N := 2) hx hb hts in_X7 hown hK hP 0 rfl rfl 1 (by decide) (hts _ q137) (fun _ h9 => h9) rfl dX7_zeros_4 ?_
      refine ix_icmp_ge (tgt := 25) hx hb (by first | assumption | decide | (constructor <;> omega)) (by first | assumption | decide | (constructor <;> omega)) dX7_zeros_7 (by decide) (fun c_7 => ?_) (fun c_7 => ?_)
      · skip
        have hkz : k = naa → wN naa faa = 0 := fun q => by have h9 := wN_congr (n := naa) (f := faa) (g := fun _ => 0) (fun j j1 j2 => hz j j1 (by omega)); rw [h9]; unfold wN; rw [vz_zero (fun _ _ _ => rfl)]; rfl
        refine lv_iload_n hx hb dX7_zeros_25 rfl (lv_at hl 1 rfl) ?_
        refine lv_aload_n hx hb dX7_zeros_26 rfl (lv_at hl 0 rfl) ?_
        refine va_get (D := (dC, dI)) (ci := 2) (v := .int (I3 naa)) (C := RX7) (T := TX7) (N := 2) hx hb hts in_X7 hown hK hP 0 rfl rfl 1 (by decide) (hts _ q137) (fun _ h9 => h9) rfl dX7_zeros_27 ?_
        refine ix_icmp_ne (tgt := 37) hx hb (by first | assumption | decide | (constructor <;> omega)) (by first | assumption | decide | (constructor <;> omega)) dX7_zeros_30 (by decide) (fun c_30 => ?_) (fun c_30 => ?_)
        · skip
          refine lv_bipush (v := I3 (32)) hx hb dX7_zeros_37 (by decide) ?_
          refine lv_iload_n hx hb dX7_zeros_39 rfl (lv_at hl 1 rfl) ?_
          refine ix_imul hx hb dX7_zeros_40 ?_
          refine lv_aload_n hx hb dX7_zeros_41 rfl (lv_at hl 0 rfl) ?_
          refine va_get (D := (dC, dI)) (ci := 2) (v := .ref aaw) (C := RX7) (T := TX7) (N := 2) hx hb hts in_X7 hown hK hP 0 rfl rfl 0 (by decide) (hts _ q135) (fun _ h9 => h9) rfl dX7_zeros_42 ?_
          refine lv_iload_n hx hb dX7_zeros_45 rfl (lv_at hl 1 rfl) ?_
          refine ix_iald hx hb hK hP 1 0 rfl rfl (Nat.le_of_ble_eq_true rfl) (by omega) dX7_zeros_46 ?_
          refine ix_ci (y := sm3 (faa k)) (by exact I3_sm _) ?_
          have h_1 : In3 (sm3 (faa k)) := by exact sm3_in _
          have h_2 : ¬ (sm3 (faa k)) = 0 := by have := hDa k; unfold sm3; omega
          have hPc := hP.sub (ws' := []) [] rfl
          have hDc := hD.sub (ws' := []) [] (by decide) rfl
          have hFc := va_free (wc := []) hD hS hA [] rfl
          refine va_calli (va_runS (As := [.int (I3 (sm3 (faa k)))]) (rest := [.int (I3 (32 * k))]) ⟨hx, hb, hml, hown, hts⟩ (metJ6_numberOfTrailingZeros l dC dI dA H.size (sm3 (faa k)) h_1 h_2) (va_cwS 1 hts (lw_S q345 q346 q75 q347) rfl rfl rfl (by decide +kernel) ⟨Nat.le_of_ble_eq_true rfl, Nat.le_of_ble_eq_true rfl⟩) ⟨fun a U g mk q => by obtain ⟨q0, q1, qP, qK, qD⟩ := q; exact ⟨q0, q1, qP, va_K.moved (u := U) (U := U.calling g mk a) (Vm.Alike.refl U.vm) qK, qD⟩, fun U hU hW => ⟨rfl, by rw [hU], by rw [hU]; exact hPc, va_K.moved hW.alike hK, hDc.weaken (fun _ _ _ _ => trivial)⟩⟩ rfl rfl hl.1 rfl (lv_room (Nat.le_of_ble_eq_true rfl)) dX7_zeros_47 ⟨Nat.le_of_ble_eq_true rfl, Nat.le_of_ble_eq_true rfl⟩) hS (fun q _ h => hFc q h) hFc (fun r_47 u t H1 locs ht hvm hw hB hz1 hk1 hS => ?_)
          obtain ⟨z_47, rfl⟩ : ∃ z, z = u := ⟨_, rfl⟩
          obtain ⟨rfl, p0_47⟩ : r_47 = I3 z_47 ∧ ((0 ≤ z_47 ∧ z_47 < 32) ∧ ∃ w : Int, (sm3 (faa k)) = 2 ^ z_47.toNat * (2 * w + 1)) := hw
          obtain ⟨hP1, hK1, hD1⟩ := hB
          rw [ht] at hP1
          obtain ⟨hP, hD⟩ := va_join (wr := [(aa, .inr (2, [.ref aaw, .int (I3 naa)])), (aaw, .inl (dA 0, 36, .inl (iA faa)))]) (w1 := []) hP hD [] [0, 1] rfl rfl (by decide) (by decide) hk1 hFc hP1 hD1
          generalize H1 = H at hP hS ⊢
          have hP : va_P (dC, dI) vwCl [(aa, .inr (2, [.ref aaw, .int (I3 naa)])), (aaw, .inl (dA 0, 36, .inl (iA faa)))] H := hP
          have hD : va_D A [(aa, .inr (2, [.ref aaw, .int (I3 naa)])), (aaw, .inl (dA 0, 36, .inl (iA faa)))] := hD
          obtain ⟨⟨z0_, z1_⟩, w, hw⟩ := p0_47
          obtain ⟨q9, hq9⟩ := tz_w hDa (n := naa) (k := k) (z := z_47) (by omega) hz ⟨z0_, z1_⟩ hw
          refine ix_iadd hx hb dX7_zeros_50 ?_
          have o_3 : 0 ≤ ((32 * k) + z_47) ∧ ((32 * k) + z_47) < 1152 := by first | assumption | omega | (constructor <;> omega)
          have o_4 : wN naa faa = 0 → ((32 * k) + z_47) = 0 := by intro q; rw [hq9] at q; have h8 := Nat.mul_pos (Nat.two_pow_pos (32 * k + z_47).toNat) (show 0 < 2 * q9 + 1 by omega); omega
          have o_5 : wN naa faa ≠ 0 → ∃ q : Nat, wN naa faa = 2 ^ ((32 * k) + z_47).toNat * (2 * q + 1) := by intro _; exact ⟨q9, hq9⟩
          exact W.iret (v := I3 ((32 * k) + z_47)) hx hb hr (fun t ht hW => ⟨⟨I3 ((32 * k) + z_47), ((32 * k) + z_47), rfl, ⟨rfl, ⟨o_3, o_4, o_5⟩⟩, by rw [ht]; exact hP, va_K.moved hW.alike hK, hD⟩, hS.F ht⟩) hS.2.2 dX7_zeros_51
        · skip
          refine lv_iconst (v := I3 (0)) hx hb dX7_zeros_33 rfl ?_
          refine lv_goto (tgt := 51) hx hb dX7_zeros_34 (by decide) ?_
          have o_6 : 0 ≤ (0 : Int) ∧ (0 : Int) < 1152 := by decide
          have o_7 : wN naa faa = 0 → (0 : Int) = 0 := by intro _; rfl
          have o_8 : wN naa faa ≠ 0 → ∃ q : Nat, wN naa faa = 2 ^ (0 : Int).toNat * (2 * q + 1) := by intro q; exact absurd (hkz (by omega)) q
          exact W.iret (v := I3 0) hx hb hr (fun t ht hW => ⟨⟨I3 0, 0, rfl, ⟨rfl, ⟨o_6, o_7, o_8⟩⟩, by rw [ht]; exact hP, va_K.moved hW.alike hK, hD⟩, hS.F ht⟩) hS.2.2 dX7_zeros_51
      · skip
        refine lv_aload_n hx hb dX7_zeros_10 rfl (lv_at hl 0 rfl) ?_
        refine va_get (D := (dC, dI)) (ci := 2) (v := .ref aaw) (C := RX7) (T := TX7) (N := 2) hx hb hts in_X7 hown hK hP 0 rfl rfl 0 (by decide) (hts _ q135) (fun _ h9 => h9) rfl dX7_zeros_11 ?_
        refine lv_iload_n hx hb dX7_zeros_14 rfl (lv_at hl 1 rfl) ?_
        refine ix_iald hx hb hK hP 1 0 rfl rfl (Nat.le_of_ble_eq_true rfl) (by omega) dX7_zeros_15 ?_
        refine ix_ifm_ne (tgt := 25) hx hb dX7_zeros_16 (by decide) (fun c_16 => ?_) (fun c_16 => ?_)
        · skip
          have hkz : k = naa → wN naa faa = 0 := fun q => by have h9 := wN_congr (n := naa) (f := faa) (g := fun _ => 0) (fun j j1 j2 => hz j j1 (by omega)); rw [h9]; unfold wN; rw [vz_zero (fun _ _ _ => rfl)]; rfl
          refine lv_iload_n hx hb dX7_zeros_25 rfl (lv_at hl 1 rfl) ?_
          refine lv_aload_n hx hb dX7_zeros_26 rfl (lv_at hl 0 rfl) ?_
          refine va_get (D := (dC, dI)) (ci := 2) (v := .int (I3 naa)) (C := RX7) (T := TX7) (N := 2) hx hb hts in_X7 hown hK hP 0 rfl rfl 1 (by decide) (hts _ q137) (fun _ h9 => h9) rfl dX7_zeros_27 ?_
          refine ix_icmp_ne (tgt := 37) hx hb (by first | assumption | decide | (constructor <;> omega)) (by first | assumption | decide | (constructor <;> omega)) dX7_zeros_30 (by decide) (fun c_30 => ?_) (fun c_30 => ?_)
          · skip
            refine lv_bipush (v := I3 (32)) hx hb dX7_zeros_37 (by decide) ?_
            refine lv_iload_n hx hb dX7_zeros_39 rfl (lv_at hl 1 rfl) ?_
            refine ix_imul hx hb dX7_zeros_40 ?_
            refine lv_aload_n hx hb dX7_zeros_41 rfl (lv_at hl 0 rfl) ?_
            refine va_get (D := (dC, dI)) (ci := 2) (v := .ref aaw) (C := RX7) (T := TX7) (N := 2) hx hb hts in_X7 hown hK hP 0 rfl rfl 0 (by decide) (hts _ q135) (fun _ h9 => h9) rfl dX7_zeros_42 ?_
            refine lv_iload_n hx hb dX7_zeros_45 rfl (lv_at hl 1 rfl) ?_
            refine ix_iald hx hb hK hP 1 0 rfl rfl (Nat.le_of_ble_eq_true rfl) (by omega) dX7_zeros_46 ?_
            refine ix_ci (y := sm3 (faa k)) (by exact I3_sm _) ?_
            have h_9 : In3 (sm3 (faa k)) := by exact sm3_in _
            have h_10 : ¬ (sm3 (faa k)) = 0 := by have := hDa k; unfold sm3; omega
            have hPc := hP.sub (ws' := []) [] rfl
            have hDc := hD.sub (ws' := []) [] (by decide) rfl
            have hFc := va_free (wc := []) hD hS hA [] rfl
            refine va_calli (va_runS (As := [.int (I3 (sm3 (faa k)))]) (rest := [.int (I3 (32 * k))]) ⟨hx, hb, hml, hown, hts⟩ (metJ6_numberOfTrailingZeros l dC dI dA H.size (sm3 (faa k)) h_9 h_10) (va_cwS 1 hts (lw_S q345 q346 q75 q347) rfl rfl rfl (by decide +kernel) ⟨Nat.le_of_ble_eq_true rfl, Nat.le_of_ble_eq_true rfl⟩) ⟨fun a U g mk q => by obtain ⟨q0, q1, qP, qK, qD⟩ := q; exact ⟨q0, q1, qP, va_K.moved (u := U) (U := U.calling g mk a) (Vm.Alike.refl U.vm) qK, qD⟩, fun U hU hW => ⟨rfl, by rw [hU], by rw [hU]; exact hPc, va_K.moved hW.alike hK, hDc.weaken (fun _ _ _ _ => trivial)⟩⟩ rfl rfl hl.1 rfl (lv_room (Nat.le_of_ble_eq_true rfl)) dX7_zeros_47 ⟨Nat.le_of_ble_eq_true rfl, Nat.le_of_ble_eq_true rfl⟩) hS (fun q _ h => hFc q h) hFc (fun r_47 u t H1 locs ht hvm hw hB hz1 hk1 hS => ?_)
            obtain ⟨z_47, rfl⟩ : ∃ z, z = u := ⟨_, rfl⟩
            obtain ⟨rfl, p0_47⟩ : r_47 = I3 z_47 ∧ ((0 ≤ z_47 ∧ z_47 < 32) ∧ ∃ w : Int, (sm3 (faa k)) = 2 ^ z_47.toNat * (2 * w + 1)) := hw
            obtain ⟨hP1, hK1, hD1⟩ := hB
            rw [ht] at hP1
            obtain ⟨hP, hD⟩ := va_join (wr := [(aa, .inr (2, [.ref aaw, .int (I3 naa)])), (aaw, .inl (dA 0, 36, .inl (iA faa)))]) (w1 := []) hP hD [] [0, 1] rfl rfl (by decide) (by decide) hk1 hFc hP1 hD1
            generalize H1 = H at hP hS ⊢
            have hP : va_P (dC, dI) vwCl [(aa, .inr (2, [.ref aaw, .int (I3 naa)])), (aaw, .inl (dA 0, 36, .inl (iA faa)))] H := hP
            have hD : va_D A [(aa, .inr (2, [.ref aaw, .int (I3 naa)])), (aaw, .inl (dA 0, 36, .inl (iA faa)))] := hD
            obtain ⟨⟨z0_, z1_⟩, w, hw⟩ := p0_47
            obtain ⟨q9, hq9⟩ := tz_w hDa (n := naa) (k := k) (z := z_47) (by omega) hz ⟨z0_, z1_⟩ hw
            refine ix_iadd hx hb dX7_zeros_50 ?_
            have o_11 : 0 ≤ ((32 * k) + z_47) ∧ ((32 * k) + z_47) < 1152 := by first | assumption | omega | (constructor <;> omega)
            have o_12 : wN naa faa = 0 → ((32 * k) + z_47) = 0 := by intro q; rw [hq9] at q; have h8 := Nat.mul_pos (Nat.two_pow_pos (32 * k + z_47).toNat) (show 0 < 2 * q9 + 1 by omega); omega
            have o_13 : wN naa faa ≠ 0 → ∃ q : Nat, wN naa faa = 2 ^ ((32 * k) + z_47).toNat * (2 * q + 1) := by intro _; exact ⟨q9, hq9⟩
            exact W.iret (v := I3 ((32 * k) + z_47)) hx hb hr (fun t ht hW => ⟨⟨I3 ((32 * k) + z_47), ((32 * k) + z_47), rfl, ⟨rfl, ⟨o_11, o_12, o_13⟩⟩, by rw [ht]; exact hP, va_K.moved hW.alike hK, hD⟩, hS.F ht⟩) hS.2.2 dX7_zeros_51
          · skip
            refine lv_iconst (v := I3 (0)) hx hb dX7_zeros_33 rfl ?_
            refine lv_goto (tgt := 51) hx hb dX7_zeros_34 (by decide) ?_
            have o_14 : 0 ≤ (0 : Int) ∧ (0 : Int) < 1152 := by decide
            have o_15 : wN naa faa = 0 → (0 : Int) = 0 := by intro _; rfl
            have o_16 : wN naa faa ≠ 0 → ∃ q : Nat, wN naa faa = 2 ^ (0 : Int).toNat * (2 * q + 1) := by intro q; exact absurd (hkz (by omega)) q
            exact W.iret (v := I3 0) hx hb hr (fun t ht hW => ⟨⟨I3 0, 0, rfl, ⟨rfl, ⟨o_14, o_15, o_16⟩⟩, by rw [ht]; exact hP, va_K.moved hW.alike hK, hD⟩, hS.F ht⟩) hS.2.2 dX7_zeros_51
        · skip
          refine lv_iinc (v := I3 (k + 1)) (lv' := [(1, .int (I3 (k + 1))), (0, .ref aa)]) hx hb dX7_zeros_19 hl (k := 1) rfl (I3_add _ _) (by decide) rfl (fun ls hl => ?_)
          refine lv_goto (tgt := 2) hx hb dX7_zeros_22 (by decide) ?_
          have e_17 : 0 ≤ (k + 1) ∧ (k + 1) ≤ naa := by first | assumption | omega | (constructor <;> omega)
          have e_18 : ∀ j : Int, 0 ≤ j → j < (k + 1) → faa j = 0 := by intro j j1 j2; by_cases q : j = k; (rw [q]; have := hDa k; omega); exact hz j j1 (by omega)
          have e_19 : (naa - (k + 1)).toNat < fuel_2 := by omega
          exact ih_2 (k + 1) e_17 e_18 e_19 _ _ hP hD hS ls (lv_sub hl [1, 0] rfl)
  obtain ⟨⟨hn0, hn36⟩, hDa, htop⟩ := id haa
  refine lv_iconst (v := I3 (0)) hx hb dX7_zeros_0 rfl ?_
  refine lv_istore_n (lv' := [(1, .int (I3 0)), (0, .ref aa)]) hx hb dX7_zeros_1 rfl hl (by decide) rfl (fun ls hl => ?_)
  have e_20 : 0 ≤ (0 : Int) ∧ (0 : Int) ≤ naa := by first | assumption | omega | (constructor <;> omega)
  have e_21 : ∀ j : Int, 0 ≤ j → j < (0 : Int) → faa j = 0 := by intro j j1 j2; omega
  exact cut_2 ((naa - (0 : Int)).toNat + 1) 0 e_20 e_21 (Nat.lt_succ_self _) _ _ hP hD hS ls (lv_sub hl [1, 0] rfl)
abbrev BmetX7_compare (dC : Nat → ClassId) (dI : Nat → Nat → Nat) (dA : Nat → ClassId) (A : Nat → Prop) (aa : Nat) (aaw : Nat) (bb : Nat) (bbw : Nat) (naa : Int) (faa : Int → Int) (nbb : Int) (fbb : Int → Int) : Int → State → Prop := fun u t => (fun (u : Int) => (fun (z : Int) => va_P (dC, dI) vwCl [(aa, .inr (2, [.ref aaw, .int (I3 naa)])), (aaw, .inl (dA 0, 36, .inl (iA faa))), (bb, .inr (2, [.ref bbw, .int (I3 nbb)])), (bbw, .inl (dA 0, 36, .inl (iA fbb)))] t.heap ∧ va_K (dC, dI) vwCl (tyA dA) t ∧ va_D A [(aa, .inr (2, [.ref aaw, .int (I3 naa)])), (aaw, .inl (dA 0, 36, .inl (iA faa))), (bb, .inr (2, [.ref bbw, .int (I3 nbb)])), (bbw, .inl (dA 0, 36, .inl (iA fbb)))]) u) u
abbrev QmetX7_compare (dC : Nat → ClassId) (dI : Nat → Nat → Nat) (dA : Nat → ClassId) (A : Nat → Prop) (aa : Nat) (aaw : Nat) (bb : Nat) (bbw : Nat) (naa : Int) (faa : Int → Int) (nbb : Int) (fbb : Int → Int) := va_Qi (fun (rt_ : Int32) => fun (u : Int) => (fun (z : Int) => rt_ = I3 z ∧ (z = cmpN (wN naa faa) (wN nbb fbb))) u) (BmetX7_compare dC dI dA A aa aaw bb bbw naa faa nbb fbb) A
set_option maxHeartbeats 1000000 in
set_option maxRecDepth 100000 in
/-- compared -/
theorem metX7_compare (l : Launch) (dC : Nat → ClassId) (dI : Nat → Nat → Nat) (dA : Nat → ClassId) (aa : Nat) (aaw : Nat) (bb : Nat) (bbw : Nat) (sz : Nat) (naa : Int) (faa : Int → Int) (nbb : Int) (fbb : Int → Int) (haa : OKw naa faa) (hbb : OKw nbb fbb) : Met l yX7_compare (ws_ yX7_compare cX7_compare 3 (some .int)) ({ frames := 3, cells := 0, slots := 0, locals := 120 }) (va_Pc [.ref aa, .ref bb] (fun U => U.heap.size = sz ∧ va_P (dC, dI) vwCl [(aa, .inr (2, [.ref aaw, .int (I3 naa)])), (aaw, .inl (dA 0, 36, .inl (iA faa))), (bb, .inr (2, [.ref bbw, .int (I3 nbb)])), (bbw, .inl (dA 0, 36, .inl (iA fbb)))] U.heap ∧ va_K (dC, dI) vwCl (tyA dA) U ∧ va_D (fun _ => True) [(aa, .inr (2, [.ref aaw, .int (I3 naa)])), (aaw, .inl (dA 0, 36, .inl (iA faa))), (bb, .inr (2, [.ref bbw, .int (I3 nbb)])), (bbw, .inl (dA 0, 36, .inl (iA fbb)))])) (QmetX7_compare dC dI dA (va_A [(aa, .inr (2, [.ref aaw, .int (I3 naa)])), (aaw, .inl (dA 0, 36, .inl (iA faa))), (bb, .inr (2, [.ref bbw, .int (I3 nbb)])), (bbw, .inl (dA 0, 36, .inl (iA fbb)))] sz) aa aaw bb bbw naa faa nbb fbb) 0 0 (va_A [(aa, .inr (2, [.ref aaw, .int (I3 naa)])), (aaw, .inl (dA 0, 36, .inl (iA faa))), (bb, .inr (2, [.ref bbw, .int (I3 nbb)])), (bbw, .inl (dA 0, 36, .inl (iA fbb)))] sz) := by
  refine Met.ofW (cc := cX7_compare) (maxL := 3) (ret := (some .int)) (by decide) rfl ?_
  intro p e s m args below meth c s₁ B hml hv
  obtain ⟨rfl, hsz, hP, hK, hD0⟩ := hv
  have hx := B.exec
  have hb := B.bytes
  have hr := B.returns
  have hts := atoms_spec (ws := (ws_ yX7_compare cX7_compare 3 (some .int))) B.pre
  have hts : ∀ w ∈ lw_all, w.before _ s = true := fun w h => hts w (List.mem_cons_of_mem _ h)
  have hown : s.vm.findClass RX7 = some m.cls := findClass_of_methodNamed B.named
  have hlocks := B.notSynchronized
  subst hsz
  have hD := hD0.self (sz := s.heap.size)
  generalize hAe : va_A [(aa, .inr (2, [.ref aaw, .int (I3 naa)])), (aaw, .inl (dA 0, 36, .inl (iA faa))), (bb, .inr (2, [.ref bbw, .int (I3 nbb)])), (bbw, .inl (dA 0, 36, .inl (iA fbb)))] s.heap.size = A at hD ⊢
  have hA : ∀ q : Nat, s.heap.size ≤ q → A q := fun q h => by rw [← hAe]; exact Or.inr h
  have hS : va_S A s.heap s.heap [] := va_S.rf
  have hP : va_P (dC, dI) vwCl [(aa, .inr (2, [.ref aaw, .int (I3 naa)])), (aaw, .inl (dA 0, 36, .inl (iA faa))), (bb, .inr (2, [.ref bbw, .int (I3 nbb)])), (bbw, .inl (dA 0, 36, .inl (iA fbb)))] s.heap := hP
  have hl := lv_entry ([.ref aa, .ref bb]) (n := 3) (Nat.le_of_ble_eq_true rfl)
  rw [lg_entry_eq]
  generalize (lg_sl ([.ref aa, .ref bb]) ++ List.replicate (3 - (lg_sl ([.ref aa, .ref bb])).length) Slot.unset).toArray = ls at hl ⊢
  have hl : lv_has ls 3 [(0, .ref aa), (1, .ref bb)] := hl
  have cut_35 : ∀ (fuel_35 : Nat), ∀ (k : Int), (naa = nbb) → (-1 ≤ k ∧ k < naa) → (∀ j : Int, k < j → j < naa → faa j = fbb j) → ((k + 1).toNat < fuel_35) → ∀ (H : Heap) (locs : List Loc), va_P (dC, dI) vwCl [(aa, .inr (2, [.ref aaw, .int (I3 naa)])), (aaw, .inl (dA 0, 36, .inl (iA faa))), (bb, .inr (2, [.ref bbw, .int (I3 nbb)])), (bbw, .inl (dA 0, 36, .inl (iA fbb)))] H → va_D A [(aa, .inr (2, [.ref aaw, .int (I3 naa)])), (aaw, .inl (dA 0, 36, .inl (iA faa))), (bb, .inr (2, [.ref bbw, .int (I3 nbb)])), (bbw, .inl (dA 0, 36, .inl (iA fbb)))] → va_S A s.heap H locs → ∀ (ls : Array Slot), lv_has ls 3 [(0, .ref aa), (1, .ref bb), (2, .int (I3 k))] → W p l e (headSpec (ws_ yX7_compare cX7_compare 3 (some .int)) ({ frames := 3, cells := 0, slots := 0, locals := 120 })).room s m ([.ref aa, .ref bb] : List Value).toArray below meth c H locs 0 0 (MQ below (QmetX7_compare dC dI dA A aa aaw bb bbw naa faa nbb fbb) ([.ref aa, .ref bb] : List Value).toArray s 0 0 A) (F0 m 35 ls []) := by
    intro fuel_35
    induction fuel_35 with
    | zero =>
      intro k hnn hk he hm
      exact absurd hm (Nat.not_lt_zero _)
    | succ fuel_35 ih_35 =>
      intro k hnn hk he hm_35 H locs hP hD hS ls hl
      obtain ⟨⟨hn0, hn36⟩, hDa, htop⟩ := id haa
      obtain ⟨⟨hm0, hm36⟩, hDb, htopb⟩ := id hbb
      refine lv_iload_n hx hb dX7_compare_35 rfl (lv_at hl 2 rfl) ?_
      refine ix_if_lt (tgt := 76) hx hb (by first | assumption | decide | (constructor <;> omega)) dX7_compare_36 (by decide) (fun c_36 => ?_) (fun c_36 => ?_)
      · skip
        refine lv_iconst (v := I3 (0)) hx hb dX7_compare_76 rfl ?_
        have o_1 : (0 : Int) = cmpN (wN naa faa) (wN nbb fbb) := by subst hnn; exact (cmpN_eq (wc_eq (fun j j1 j2 => he j (by omega) j2))).symm
        exact W.iret (v := I3 0) hx hb hr (fun t ht hW => ⟨⟨I3 0, 0, rfl, ⟨rfl, o_1⟩, by rw [ht]; exact hP, va_K.moved hW.alike hK, hD⟩, hS.F ht⟩) hS.2.2 dX7_compare_77
      · skip
        refine lv_aload_n hx hb dX7_compare_39 rfl (lv_at hl 0 rfl) ?_
        refine va_get (D := (dC, dI)) (ci := 2) (v := .ref aaw) (C := RX7) (T := TX7) (N := 2) hx hb hts in_X7 hown hK hP 0 rfl rfl 0 (by decide) (hts _ q135) (fun _ h9 => h9) rfl dX7_compare_40 ?_
        refine lv_iload_n hx hb dX7_compare_43 rfl (lv_at hl 2 rfl) ?_
        refine ix_iald hx hb hK hP 1 0 rfl rfl (Nat.le_of_ble_eq_true rfl) (by omega) dX7_compare_44 ?_
        refine lv_aload_n hx hb dX7_compare_45 rfl (lv_at hl 1 rfl) ?_
        refine va_get (D := (dC, dI)) (ci := 2) (v := .ref bbw) (C := RX7) (T := TX7) (N := 2) hx hb hts in_X7 hown hK hP 2 rfl rfl 0 (by decide) (hts _ q135) (fun _ h9 => h9) rfl dX7_compare_46 ?_
        refine lv_iload_n hx hb dX7_compare_49 rfl (lv_at hl 2 rfl) ?_
        refine ix_iald hx hb hK hP 3 0 rfl rfl (Nat.le_of_ble_eq_true rfl) (by omega) dX7_compare_50 ?_
        refine ix_icmpm_eq (tgt := 70) hx hb dX7_compare_51 (by decide) (fun c_51 => ?_) (fun c_51 => ?_)
        · skip
          refine lv_iinc (v := I3 (k - 1)) (lv' := [(2, .int (I3 (k - 1))), (0, .ref aa), (1, .ref bb)]) hx hb dX7_compare_70 hl (k := 2) rfl ((I3_add _ _).trans (congrArg I3 (by omega))) (by decide) rfl (fun ls hl => ?_)
          refine lv_goto (tgt := 35) hx hb dX7_compare_73 (by decide) ?_
          have e_2 : naa = nbb := by first | assumption | omega | (constructor <;> omega)
          have e_3 : -1 ≤ (k - 1) ∧ (k - 1) < naa := by first | assumption | omega | (constructor <;> omega)
          have e_4 : ∀ j : Int, (k - 1) < j → j < naa → faa j = fbb j := by intro j j1 j2; by_cases q : j = k; (rw [q]; have q1 := hDa k; have q2 := hDb k; omega); exact he j (by omega) j2
          have e_5 : ((k - 1) + 1).toNat < fuel_35 := by omega
          exact ih_35 (k - 1) e_2 e_3 e_4 e_5 _ _ hP hD hS ls (lv_sub hl [1, 2, 0] rfl)
        · skip
          refine lv_aload_n hx hb dX7_compare_54 rfl (lv_at hl 0 rfl) ?_
          refine va_get (D := (dC, dI)) (ci := 2) (v := .ref aaw) (C := RX7) (T := TX7) (N := 2) hx hb hts in_X7 hown hK hP 0 rfl rfl 0 (by decide) (hts _ q135) (fun _ h9 => h9) rfl dX7_compare_55 ?_
          refine lv_iload_n hx hb dX7_compare_58 rfl (lv_at hl 2 rfl) ?_
          refine ix_iald hx hb hK hP 1 0 rfl rfl (Nat.le_of_ble_eq_true rfl) (by omega) dX7_compare_59 ?_
          refine lv_aload_n hx hb dX7_compare_60 rfl (lv_at hl 1 rfl) ?_
          refine va_get (D := (dC, dI)) (ci := 2) (v := .ref bbw) (C := RX7) (T := TX7) (N := 2) hx hb hts in_X7 hown hK hP 2 rfl rfl 0 (by decide) (hts _ q135) (fun _ h9 => h9) rfl dX7_compare_61 ?_
          refine lv_iload_n hx hb dX7_compare_64 rfl (lv_at hl 2 rfl) ?_
          refine ix_iald hx hb hK hP 3 0 rfl rfl (Nat.le_of_ble_eq_true rfl) (by omega) dX7_compare_65 ?_
          have h_6 : 0 ≤ (faa k) ∧ (faa k) < 4294967296 := by exact hDa k
          have h_7 : 0 ≤ (fbb k) ∧ (fbb k) < 4294967296 := by exact hDb k
          have hPc := hP.sub (ws' := []) [] rfl
          have hDc := hD.sub (ws' := []) [] (by decide) rfl
          have hFc := va_free (wc := []) hD hS hA [] rfl
          refine va_calli (va_runS (As := [.int (I3 (faa k)), .int (I3 (fbb k))]) (rest := []) ⟨hx, hb, hml, hown, hts⟩ (metJ6_compareUnsigned l dC dI dA H.size (faa k) (fbb k) h_6 h_7) (va_cwS 2 hts (lw_S q368 q369 q75 q370) rfl rfl rfl (by decide +kernel) ⟨Nat.le_of_ble_eq_true rfl, Nat.le_of_ble_eq_true rfl⟩) ⟨fun a U g mk q => by obtain ⟨q0, q1, qP, qK, qD⟩ := q; exact ⟨q0, q1, qP, va_K.moved (u := U) (U := U.calling g mk a) (Vm.Alike.refl U.vm) qK, qD⟩, fun U hU hW => ⟨rfl, by rw [hU], by rw [hU]; exact hPc, va_K.moved hW.alike hK, hDc.weaken (fun _ _ _ _ => trivial)⟩⟩ rfl rfl hl.1 rfl (lv_room (Nat.le_of_ble_eq_true rfl)) dX7_compare_66 ⟨Nat.le_of_ble_eq_true rfl, Nat.le_of_ble_eq_true rfl⟩) hS (fun q _ h => hFc q h) hFc (fun r_66 u t H1 locs ht hvm hw hB hz1 hk1 hS => ?_)
          obtain ⟨z_66, rfl⟩ : ∃ z, z = u := ⟨_, rfl⟩
          obtain ⟨rfl, p0_66⟩ : r_66 = I3 z_66 ∧ (((faa k) < (fbb k) → z_66 = -1) ∧ ((faa k) = (fbb k) → z_66 = 0) ∧ ((fbb k) < (faa k) → z_66 = 1)) := hw
          obtain ⟨hP1, hK1, hD1⟩ := hB
          rw [ht] at hP1
          obtain ⟨hP, hD⟩ := va_join (wr := [(aa, .inr (2, [.ref aaw, .int (I3 naa)])), (aaw, .inl (dA 0, 36, .inl (iA faa))), (bb, .inr (2, [.ref bbw, .int (I3 nbb)])), (bbw, .inl (dA 0, 36, .inl (iA fbb)))]) (w1 := []) hP hD [] [0, 1, 2, 3] rfl rfl (by decide) (by decide) hk1 hFc hP1 hD1
          generalize H1 = H at hP hS ⊢
          have hP : va_P (dC, dI) vwCl [(aa, .inr (2, [.ref aaw, .int (I3 naa)])), (aaw, .inl (dA 0, 36, .inl (iA faa))), (bb, .inr (2, [.ref bbw, .int (I3 nbb)])), (bbw, .inl (dA 0, 36, .inl (iA fbb)))] H := hP
          have hD : va_D A [(aa, .inr (2, [.ref aaw, .int (I3 naa)])), (aaw, .inl (dA 0, 36, .inl (iA faa))), (bb, .inr (2, [.ref bbw, .int (I3 nbb)])), (bbw, .inl (dA 0, 36, .inl (iA fbb)))] := hD
          obtain ⟨ca_, cb_, cc_⟩ := p0_66
          have o_8 : z_66 = cmpN (wN naa faa) (wN nbb fbb) := by rcases Int.lt_trichotomy (faa k) (fbb k) with q | q | q; (rw [ca_ q]; subst hnn; exact (cmpN_lt (wc_lt hDa hDb (k := k) (by omega) he q)).symm); omega; (rw [cc_ q]; subst hnn; exact (cmpN_gt (wc_lt hDb hDa (k := k) (by omega) (fun j j1 j2 => (he j j1 j2).symm) q)).symm)
          exact W.iret (v := I3 z_66) hx hb hr (fun t ht hW => ⟨⟨I3 z_66, z_66, rfl, ⟨rfl, o_8⟩, by rw [ht]; exact hP, va_K.moved hW.alike hK, hD⟩, hS.F ht⟩) hS.2.2 dX7_compare_69
  obtain ⟨⟨hn0, hn36⟩, hDa, htop⟩ := id haa
  obtain ⟨⟨hm0, hm36⟩, hDb, htopb⟩ := id hbb
  refine lv_aload_n hx hb dX7_compare_0 rfl (lv_at hl 0 rfl) ?_
  refine va_get (D := (dC, dI)) (ci := 2) (v := .int (I3 naa)) (C := RX7) (T := TX7) (N := 2) hx hb hts in_X7 hown hK hP 0 rfl rfl 1 (by decide) (hts _ q137) (fun _ h9 => h9) rfl dX7_compare_1 ?_
  refine lv_aload_n hx hb dX7_compare_4 rfl (lv_at hl 1 rfl) ?_
  refine va_get (D := (dC, dI)) (ci := 2) (v := .int (I3 nbb)) (C := RX7) (T := TX7) (N := 2) hx hb hts in_X7 hown hK hP 2 rfl rfl 1 (by decide) (hts _ q137) (fun _ h9 => h9) rfl dX7_compare_5 ?_
  refine ix_icmp_eq (tgt := 28) hx hb (by first | assumption | decide | (constructor <;> omega)) (by first | assumption | decide | (constructor <;> omega)) dX7_compare_8 (by decide) (fun c_8 => ?_) (fun c_8 => ?_)
  · skip
    refine lv_aload_n hx hb dX7_compare_28 rfl (lv_at hl 0 rfl) ?_
    refine va_get (D := (dC, dI)) (ci := 2) (v := .int (I3 naa)) (C := RX7) (T := TX7) (N := 2) hx hb hts in_X7 hown hK hP 0 rfl rfl 1 (by decide) (hts _ q137) (fun _ h9 => h9) rfl dX7_compare_29 ?_
    refine lv_iconst (v := I3 (1)) hx hb dX7_compare_32 rfl ?_
    refine ix_isub hx hb dX7_compare_33 ?_
    refine lv_istore_n (lv' := [(2, .int (I3 (naa - 1))), (0, .ref aa), (1, .ref bb)]) hx hb dX7_compare_34 rfl hl (by decide) rfl (fun ls hl => ?_)
    have e_9 : naa = nbb := by first | assumption | omega | (constructor <;> omega)
    have e_10 : -1 ≤ (naa - 1) ∧ (naa - 1) < naa := by first | assumption | omega | (constructor <;> omega)
    have e_11 : ∀ j : Int, (naa - 1) < j → j < naa → faa j = fbb j := by intro j j1 j2; omega
    exact cut_35 (((naa - 1) + 1).toNat + 1) (naa - 1) e_9 e_10 e_11 (Nat.lt_succ_self _) _ _ hP hD hS ls (lv_sub hl [1, 2, 0] rfl)
  · skip
    refine lv_aload_n hx hb dX7_compare_11 rfl (lv_at hl 0 rfl) ?_
    refine va_get (D := (dC, dI)) (ci := 2) (v := .int (I3 naa)) (C := RX7) (T := TX7) (N := 2) hx hb hts in_X7 hown hK hP 0 rfl rfl 1 (by decide) (hts _ q137) (fun _ h9 => h9) rfl dX7_compare_12 ?_
    refine lv_aload_n hx hb dX7_compare_15 rfl (lv_at hl 1 rfl) ?_
    refine va_get (D := (dC, dI)) (ci := 2) (v := .int (I3 nbb)) (C := RX7) (T := TX7) (N := 2) hx hb hts in_X7 hown hK hP 2 rfl rfl 1 (by decide) (hts _ q137) (fun _ h9 => h9) rfl dX7_compare_16 ?_
    refine ix_icmp_ge (tgt := 26) hx hb (by first | assumption | decide | (constructor <;> omega)) (by first | assumption | decide | (constructor <;> omega)) dX7_compare_19 (by decide) (fun c_19 => ?_) (fun c_19 => ?_)
    · skip
      refine lv_iconst (v := I3 (1)) hx hb dX7_compare_26 rfl ?_
      have o_12 : (1 : Int) = cmpN (wN naa faa) (wN nbb fbb) := by first | exact (cmpN_lt (wN_szlt haa hbb (by omega))).symm | exact (cmpN_gt (wN_szlt hbb haa (by omega))).symm
      exact W.iret (v := I3 1) hx hb hr (fun t ht hW => ⟨⟨I3 1, 1, rfl, ⟨rfl, o_12⟩, by rw [ht]; exact hP, va_K.moved hW.alike hK, hD⟩, hS.F ht⟩) hS.2.2 dX7_compare_27
    · skip
      refine lv_iconst (v := I3 (-1)) hx hb dX7_compare_22 rfl ?_
      refine lv_goto (tgt := 27) hx hb dX7_compare_23 (by decide) ?_
      have o_13 : (-1 : Int) = cmpN (wN naa faa) (wN nbb fbb) := by first | exact (cmpN_lt (wN_szlt haa hbb (by omega))).symm | exact (cmpN_gt (wN_szlt hbb haa (by omega))).symm
      exact W.iret (v := I3 (-1)) hx hb hr (fun t ht hW => ⟨⟨I3 (-1), (-1), rfl, ⟨rfl, o_13⟩, by rw [ht]; exact hP, va_K.moved hW.alike hK, hD⟩, hS.F ht⟩) hS.2.2 dX7_compare_27
