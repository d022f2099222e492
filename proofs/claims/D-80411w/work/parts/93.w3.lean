/-! wide numbers: set, add, subtract -/
set_option maxRecDepth 100000
abbrev BmetX7_set (dC : Nat → ClassId) (dI : Nat → Nat → Nat) (dA : Nat → ClassId) (A : Nat → Prop) (aa : Nat) (aaw : Nat) (naa : Int) (faa : Int → Int) (v : Int) : Int × (Int → Int) → Nat → State → Prop := fun u ra t => (fun (u : Int × (Int → Int)) => (fun (n1 : Int) (f1 : Int → Int) => ra = aa ∧ va_P (dC, dI) vwCl [(aa, .inr (2, [.ref aaw, .int (I3 n1)])), (aaw, .inl (dA 0, 36, .inl (iA f1)))] t.heap ∧ va_K (dC, dI) vwCl (tyA dA) t ∧ va_D A [(aa, .inr (2, [.ref aaw, .int (I3 n1)])), (aaw, .inl (dA 0, 36, .inl (iA f1)))]) u.1 u.2) u
abbrev QmetX7_set (dC : Nat → ClassId) (dI : Nat → Nat → Nat) (dA : Nat → ClassId) (A : Nat → Prop) (aa : Nat) (aaw : Nat) (naa : Int) (faa : Int → Int) (v : Int) := va_Qr (fun (u : Int × (Int → Int)) => (fun (n1 : Int) (f1 : Int → Int) => (OKw n1 f1) ∧ (wN n1 f1 = (v % 18446744073709551616).toNat)) u.1 u.2) (BmetX7_set dC dI dA A aa aaw naa faa v) A
set_option maxHeartbeats 1000000 in
set_option maxRecDepth 100000 in
/-- a long comes here -/
theorem metX7_set (l : Launch) (dC : Nat → ClassId) (dI : Nat → Nat → Nat) (dA : Nat → ClassId) (aa : Nat) (aaw : Nat) (sz : Nat) (naa : Int) (faa : Int → Int) (v : Int) (hDa : Dg faa) : Met l yX7_set (ws_ yX7_set cX7_set 3 (some (.object "NumberModels$Wide"))) ({ frames := 2, cells := 0, slots := 0, locals := 80 }) (va_Pc [.ref aa, .long (L6 v)] (fun U => U.heap.size = sz ∧ va_P (dC, dI) vwCl [(aa, .inr (2, [.ref aaw, .int (I3 naa)])), (aaw, .inl (dA 0, 36, .inl (iA faa)))] U.heap ∧ va_K (dC, dI) vwCl (tyA dA) U ∧ va_D (fun _ => True) [(aa, .inr (2, [.ref aaw, .int (I3 naa)])), (aaw, .inl (dA 0, 36, .inl (iA faa)))])) (QmetX7_set dC dI dA (va_A [(aa, .inr (2, [.ref aaw, .int (I3 naa)])), (aaw, .inl (dA 0, 36, .inl (iA faa)))] sz) aa aaw naa faa v) 0 0 (va_A [(aa, .inr (2, [.ref aaw, .int (I3 naa)])), (aaw, .inl (dA 0, 36, .inl (iA faa)))] sz) := by
  refine Met.ofW (cc := cX7_set) (maxL := 3) (ret := (some (.object "NumberModels$Wide"))) (by decide) rfl ?_
  intro p e s m args below meth c s₁ B hml hv
  obtain ⟨rfl, hsz, hP, hK, hD0⟩ := hv
  have hx := B.exec
  have hb := B.bytes
  have hr := B.returns
  have hts := atoms_spec (ws := (ws_ yX7_set cX7_set 3 (some (.object "NumberModels$Wide")))) B.pre
  have hts : ∀ w ∈ lw_all, w.before _ s = true := fun w h => hts w (List.mem_cons_of_mem _ h)
  have hown : s.vm.findClass RX7 = some m.cls := findClass_of_methodNamed B.named
  have hlocks := B.notSynchronized
  subst hsz
  have hD := hD0.self (sz := s.heap.size)
  generalize hAe : va_A [(aa, .inr (2, [.ref aaw, .int (I3 naa)])), (aaw, .inl (dA 0, 36, .inl (iA faa)))] s.heap.size = A at hD ⊢
  have hA : ∀ q : Nat, s.heap.size ≤ q → A q := fun q h => by rw [← hAe]; exact Or.inr h
  have hS : va_S A s.heap s.heap [] := va_S.rf
  have hP : va_P (dC, dI) vwCl [(aa, .inr (2, [.ref aaw, .int (I3 naa)])), (aaw, .inl (dA 0, 36, .inl (iA faa)))] s.heap := hP
  have hl := lv_entry ([.ref aa, .long (L6 v)]) (n := 3) (Nat.le_of_ble_eq_true rfl)
  rw [lg_entry_eq]
  generalize (lg_sl ([.ref aa, .long (L6 v)]) ++ List.replicate (3 - (lg_sl ([.ref aa, .long (L6 v)])).length) Slot.unset).toArray = ls at hl ⊢
  have hl : lv_has ls 3 [(0, .ref aa), (1, .long (L6 v))] := hl
  refine lv_aload_n hx hb dX7_set_0 rfl (lv_at hl 0 rfl) ?_
  refine va_get (D := (dC, dI)) (ci := 2) (v := .ref aaw) (C := RX7) (T := TX7) (N := 2) hx hb hts in_X7 hown hK hP 0 rfl rfl 0 (by decide) (hts _ q135) (fun _ h9 => h9) rfl dX7_set_1 ?_
  refine lv_iconst (v := I3 (0)) hx hb dX7_set_4 rfl ?_
  refine lv_lload_n hx hb dX7_set_5 rfl (lv_at hl 1 rfl) ?_
  refine ix_l2i hx hb dX7_set_6 ?_
  refine ix_ci (y := v % 4294967296) (by exact I3_congr (by omega)) ?_
  refine ix_iast hx hb hK hP hD hS 1 0 rfl rfl (Nat.le_of_ble_eq_true rfl) (by omega) dX7_set_7 (fun H locs hP hD hS => ?_)
  have hP : va_P (dC, dI) vwCl [(aa, .inr (2, [.ref aaw, .int (I3 naa)])), (aaw, .inl (dA 0, 36, .inl (iA (uZ faa 0 (v % 4294967296)))))] H := hP
  have hD : va_D A [(aa, .inr (2, [.ref aaw, .int (I3 naa)])), (aaw, .inl (dA 0, 36, .inl (iA (uZ faa 0 (v % 4294967296)))))] := hD
  refine lv_aload_n hx hb dX7_set_8 rfl (lv_at hl 0 rfl) ?_
  refine va_get (D := (dC, dI)) (ci := 2) (v := .ref aaw) (C := RX7) (T := TX7) (N := 2) hx hb hts in_X7 hown hK hP 0 rfl rfl 0 (by decide) (hts _ q135) (fun _ h9 => h9) rfl dX7_set_9 ?_
  refine lv_iconst (v := I3 (1)) hx hb dX7_set_12 rfl ?_
  refine lv_lload_n hx hb dX7_set_13 rfl (lv_at hl 1 rfl) ?_
  refine lv_bipush (v := I3 (32)) hx hb dX7_set_14 (by decide) ?_
  refine ix_lushr hx hb (by first | decide | omega) dX7_set_16 ?_
  refine ix_tl (y := v % 18446744073709551616 / 4294967296) rfl ?_
  refine ix_l2i hx hb dX7_set_17 ?_
  refine ix_iast hx hb hK hP hD hS 1 0 rfl rfl (Nat.le_of_ble_eq_true rfl) (by omega) dX7_set_18 (fun H locs hP hD hS => ?_)
  have hP : va_P (dC, dI) vwCl [(aa, .inr (2, [.ref aaw, .int (I3 naa)])), (aaw, .inl (dA 0, 36, .inl (iA (uZ (uZ faa 0 (v % 4294967296)) 1 (v % 18446744073709551616 / 4294967296)))))] H := hP
  have hD : va_D A [(aa, .inr (2, [.ref aaw, .int (I3 naa)])), (aaw, .inl (dA 0, 36, .inl (iA (uZ (uZ faa 0 (v % 4294967296)) 1 (v % 18446744073709551616 / 4294967296)))))] := hD
  refine lv_aload_n hx hb dX7_set_19 rfl (lv_at hl 0 rfl) ?_
  refine lv_iconst (v := I3 (2)) hx hb dX7_set_20 rfl ?_
  refine va_put (D := (dC, dI)) (ci := 2) (v := .int (I3 2)) (ty := .int) (C := RX7) (T := TX7) (N := 2) hx hb hts in_X7 tyX7 tyX7_ok nmX7 hown hK hP hD hS 0 rfl rfl 1 (by decide) (hts _ q137) (fun _ h9 => h9) rfl (by decide +kernel) rfl rfl (Nat.le_of_ble_eq_true rfl) dX7_set_21 (fun H locs hP hD hS => ?_)
  have hP : va_P (dC, dI) vwCl [(aa, .inr (2, [.ref aaw, .int (I3 2)])), (aaw, .inl (dA 0, 36, .inl (iA (uZ (uZ faa 0 (v % 4294967296)) 1 (v % 18446744073709551616 / 4294967296)))))] H := hP
  have hD : va_D A [(aa, .inr (2, [.ref aaw, .int (I3 2)])), (aaw, .inl (dA 0, 36, .inl (iA (uZ (uZ faa 0 (v % 4294967296)) 1 (v % 18446744073709551616 / 4294967296)))))] := hD
  refine lv_aload_n hx hb dX7_set_24 rfl (lv_at hl 0 rfl) ?_
  have h_1 : 0 ≤ (2 : Int) ∧ (2 : Int) ≤ 36 := by decide
  have h_2 : Dg (uZ (uZ faa 0 (v % 4294967296)) 1 (v % 18446744073709551616 / 4294967296)) := by exact Dg_uZ (Dg_uZ hDa (by omega) (by omega)) (by omega) (by omega)
  have hPc := hP.sub (ws' := [(aa, .inr (2, [.ref aaw, .int (I3 ((2 : Int)))])), (aaw, .inl (dA 0, 36, .inl (iA ((uZ (uZ faa 0 (v % 4294967296)) 1 (v % 18446744073709551616 / 4294967296))))))]) [0, 1] rfl
  have hDc := hD.sub (ws' := [(aa, .inr (2, [.ref aaw, .int (I3 ((2 : Int)))])), (aaw, .inl (dA 0, 36, .inl (iA ((uZ (uZ faa 0 (v % 4294967296)) 1 (v % 18446744073709551616 / 4294967296))))))]) [0, 1] (by decide) rfl
  have hFc := va_free (wc := [(aa, .inr (2, [.ref aaw, .int (I3 ((2 : Int)))])), (aaw, .inl (dA 0, 36, .inl (iA ((uZ (uZ faa 0 (v % 4294967296)) 1 (v % 18446744073709551616 / 4294967296))))))]) hD hS hA [0, 1] rfl
  refine va_callv (va_runV (As := []) (rest := []) ⟨hx, hb, hml, hown, hts⟩ (metX7_trim l dC dI dA aa aaw H.size 2 (uZ (uZ faa 0 (v % 4294967296)) 1 (v % 18446744073709551616 / 4294967296)) h_1 h_2) (cwV 0 hts (lw_V q221 q222 q223 q65 q224) rfl rfl rfl (by decide +kernel) ⟨Nat.le_of_ble_eq_true rfl, Nat.le_of_ble_eq_true rfl⟩) ⟨fun a U g mk q => by obtain ⟨q0, q1, qP, qK, qD⟩ := q; exact ⟨q0, q1, qP, va_K.moved (u := U) (U := U.calling g mk a) (Vm.Alike.refl U.vm) qK, qD⟩, va_recv hK hPc (ci := 2) (q0 := 0) rfl rfl, fun U hU hW => ⟨rfl, by rw [hU], by rw [hU]; exact hPc, va_K.moved hW.alike hK, hDc.weaken (fun _ _ _ _ => trivial)⟩⟩ rfl rfl hl.1 rfl (lv_room (Nat.le_of_ble_eq_true rfl)) dX7_set_25 ⟨Nat.le_of_ble_eq_true rfl, Nat.le_of_ble_eq_true rfl⟩) hS (fun q _ h => hFc q h) hFc (fun u t H1 locs ht hvm hw hB hz1 hk1 hS => ?_)
  obtain ⟨n1_25, rfl⟩ : ∃ z, z = u := ⟨_, rfl⟩
  obtain ⟨p0_25, p1_25, p2_25⟩ : (OKw n1_25 (uZ (uZ faa 0 (v % 4294967296)) 1 (v % 18446744073709551616 / 4294967296))) ∧ (wN n1_25 (uZ (uZ faa 0 (v % 4294967296)) 1 (v % 18446744073709551616 / 4294967296)) = wN (2 : Int) (uZ (uZ faa 0 (v % 4294967296)) 1 (v % 18446744073709551616 / 4294967296))) ∧ (n1_25 ≤ (2 : Int)) := hw
  obtain ⟨hP1, hK1, hD1⟩ := hB
  rw [ht] at hP1
  obtain ⟨hP, hD⟩ := va_join (wr := []) (w1 := [(aa, .inr (2, [.ref aaw, .int (I3 n1_25)])), (aaw, .inl (dA 0, 36, .inl (iA ((uZ (uZ faa 0 (v % 4294967296)) 1 (v % 18446744073709551616 / 4294967296))))))]) hP hD [0, 1] [] rfl rfl (by decide) (by decide) hk1 hFc hP1 hD1
  generalize H1 = H at hP hS ⊢
  have hP : va_P (dC, dI) vwCl [(aa, .inr (2, [.ref aaw, .int (I3 n1_25)])), (aaw, .inl (dA 0, 36, .inl (iA ((uZ (uZ faa 0 (v % 4294967296)) 1 (v % 18446744073709551616 / 4294967296))))))] H := hP
  have hD : va_D A [(aa, .inr (2, [.ref aaw, .int (I3 n1_25)])), (aaw, .inl (dA 0, 36, .inl (iA ((uZ (uZ faa 0 (v % 4294967296)) 1 (v % 18446744073709551616 / 4294967296))))))] := hD
  refine lv_aload_n hx hb dX7_set_28 rfl (lv_at hl 0 rfl) ?_
  have o_3 : OKw n1_25 ((uZ (uZ faa 0 (v % 4294967296)) 1 (v % 18446744073709551616 / 4294967296))) := by exact p0_25
  have o_4 : wN n1_25 ((uZ (uZ faa 0 (v % 4294967296)) 1 (v % 18446744073709551616 / 4294967296))) = (v % 18446744073709551616).toNat := by rw [p1_25]; exact set_w v hDa
  exact W.aret (v := .ref aa) hx hb hr (Or.inl ⟨_, rfl⟩) (Or.inr ⟨_, rfl⟩) (fun t ht hW => ⟨⟨(n1_25, ((uZ (uZ faa 0 (v % 4294967296)) 1 (v % 18446744073709551616 / 4294967296)))), aa, rfl, ⟨o_3, o_4⟩, rfl, by rw [ht]; exact hP, va_K.moved hW.alike hK, hD⟩, hS.F ht⟩) hS.2.2 dX7_set_29
abbrev BmetX7_set_2 (dC : Nat → ClassId) (dI : Nat → Nat → Nat) (dA : Nat → ClassId) (A : Nat → Prop) (aa : Nat) (aaw : Nat) (bb : Nat) (bbw : Nat) (naa : Int) (faa : Int → Int) (nbb : Int) (fbb : Int → Int) : Int × (Int → Int) → Nat → State → Prop := fun u ra t => (fun (u : Int × (Int → Int)) => (fun (n1 : Int) (f1 : Int → Int) => ra = aa ∧ va_P (dC, dI) vwCl [(aa, .inr (2, [.ref aaw, .int (I3 n1)])), (aaw, .inl (dA 0, 36, .inl (iA f1))), (bb, .inr (2, [.ref bbw, .int (I3 nbb)])), (bbw, .inl (dA 0, 36, .inl (iA fbb)))] t.heap ∧ va_K (dC, dI) vwCl (tyA dA) t ∧ va_D A [(aa, .inr (2, [.ref aaw, .int (I3 n1)])), (aaw, .inl (dA 0, 36, .inl (iA f1))), (bb, .inr (2, [.ref bbw, .int (I3 nbb)])), (bbw, .inl (dA 0, 36, .inl (iA fbb)))]) u.1 u.2) u
abbrev QmetX7_set_2 (dC : Nat → ClassId) (dI : Nat → Nat → Nat) (dA : Nat → ClassId) (A : Nat → Prop) (aa : Nat) (aaw : Nat) (bb : Nat) (bbw : Nat) (naa : Int) (faa : Int → Int) (nbb : Int) (fbb : Int → Int) := va_Qr (fun (u : Int × (Int → Int)) => (fun (n1 : Int) (f1 : Int → Int) => (OKw n1 f1) ∧ (wN n1 f1 = wN nbb fbb)) u.1 u.2) (BmetX7_set_2 dC dI dA A aa aaw bb bbw naa faa nbb fbb) A
set_option maxHeartbeats 1000000 in
set_option maxRecDepth 100000 in
/-- another one comes here -/
theorem metX7_set_2 (l : Launch) (dC : Nat → ClassId) (dI : Nat → Nat → Nat) (dA : Nat → ClassId) (aa : Nat) (aaw : Nat) (bb : Nat) (bbw : Nat) (sz : Nat) (naa : Int) (faa : Int → Int) (nbb : Int) (fbb : Int → Int) (hDa : Dg faa) (hbb : OKw nbb fbb) : Met l yX7_set_2 (ws_ yX7_set_2 cX7_set_2 2 (some (.object "NumberModels$Wide"))) ({ frames := 2, cells := 0, slots := 0, locals := 80 }) (va_Pc [.ref aa, .ref bb] (fun U => U.heap.size = sz ∧ va_P (dC, dI) vwCl [(aa, .inr (2, [.ref aaw, .int (I3 naa)])), (aaw, .inl (dA 0, 36, .inl (iA faa))), (bb, .inr (2, [.ref bbw, .int (I3 nbb)])), (bbw, .inl (dA 0, 36, .inl (iA fbb)))] U.heap ∧ va_K (dC, dI) vwCl (tyA dA) U ∧ va_D (fun _ => True) [(aa, .inr (2, [.ref aaw, .int (I3 naa)])), (aaw, .inl (dA 0, 36, .inl (iA faa))), (bb, .inr (2, [.ref bbw, .int (I3 nbb)])), (bbw, .inl (dA 0, 36, .inl (iA fbb)))])) (QmetX7_set_2 dC dI dA (va_A [(aa, .inr (2, [.ref aaw, .int (I3 naa)])), (aaw, .inl (dA 0, 36, .inl (iA faa))), (bb, .inr (2, [.ref bbw, .int (I3 nbb)])), (bbw, .inl (dA 0, 36, .inl (iA fbb)))] sz) aa aaw bb bbw naa faa nbb fbb) 0 0 (va_A [(aa, .inr (2, [.ref aaw, .int (I3 naa)])), (aaw, .inl (dA 0, 36, .inl (iA faa))), (bb, .inr (2, [.ref bbw, .int (I3 nbb)])), (bbw, .inl (dA 0, 36, .inl (iA fbb)))] sz) := by
  refine Met.ofW (cc := cX7_set_2) (maxL := 2) (ret := (some (.object "NumberModels$Wide"))) (by decide) rfl ?_
  intro p e s m args below meth c s₁ B hml hv
  obtain ⟨rfl, hsz, hP, hK, hD0⟩ := hv
  have hx := B.exec
  have hb := B.bytes
  have hr := B.returns
  have hts := atoms_spec (ws := (ws_ yX7_set_2 cX7_set_2 2 (some (.object "NumberModels$Wide")))) B.pre
  have hts : ∀ w ∈ lw_all, w.before _ s = true := fun w h => hts w (List.mem_cons_of_mem _ h)
  have hown : s.vm.findClass RX7 = some m.cls := findClass_of_methodNamed B.named
  have hlocks := B.notSynchronized
  subst hsz
  have hD := hD0.self (sz := s.heap.size)
  generalize hAe : va_A [(aa, .inr (2, [.ref aaw, .int (I3 naa)])), (aaw, .inl (dA 0, 36, .inl (iA faa))), (bb, .inr (2, [.ref bbw, .int (I3 nbb)])), (bbw, .inl (dA 0, 36, .inl (iA fbb)))] s.heap.size = A at hD ⊢
  have hA : ∀ q : Nat, s.heap.size ≤ q → A q := fun q h => by rw [← hAe]; exact Or.inr h
  have hS : va_S A s.heap s.heap [] := va_S.rf
  have hP : va_P (dC, dI) vwCl [(aa, .inr (2, [.ref aaw, .int (I3 naa)])), (aaw, .inl (dA 0, 36, .inl (iA faa))), (bb, .inr (2, [.ref bbw, .int (I3 nbb)])), (bbw, .inl (dA 0, 36, .inl (iA fbb)))] s.heap := hP
  have hl := lv_entry ([.ref aa, .ref bb]) (n := 2) (Nat.le_of_ble_eq_true rfl)
  rw [lg_entry_eq]
  generalize (lg_sl ([.ref aa, .ref bb]) ++ List.replicate (2 - (lg_sl ([.ref aa, .ref bb])).length) Slot.unset).toArray = ls at hl ⊢
  have hl : lv_has ls 2 [(0, .ref aa), (1, .ref bb)] := hl
  obtain ⟨⟨hm0, hm36⟩, hDb, htopb⟩ := id hbb
  refine lv_aload_n hx hb dX7_set_2_0 rfl (lv_at hl 1 rfl) ?_
  refine va_get (D := (dC, dI)) (ci := 2) (v := .ref bbw) (C := RX7) (T := TX7) (N := 2) hx hb hts in_X7 hown hK hP 2 rfl rfl 0 (by decide) (hts _ q135) (fun _ h9 => h9) rfl dX7_set_2_1 ?_
  refine lv_iconst (v := I3 (0)) hx hb dX7_set_2_4 rfl ?_
  refine lv_aload_n hx hb dX7_set_2_5 rfl (lv_at hl 0 rfl) ?_
  refine va_get (D := (dC, dI)) (ci := 2) (v := .ref aaw) (C := RX7) (T := TX7) (N := 2) hx hb hts in_X7 hown hK hP 0 rfl rfl 0 (by decide) (hts _ q135) (fun _ h9 => h9) rfl dX7_set_2_6 ?_
  refine lv_iconst (v := I3 (0)) hx hb dX7_set_2_9 rfl ?_
  refine lv_aload_n hx hb dX7_set_2_10 rfl (lv_at hl 1 rfl) ?_
  refine va_get (D := (dC, dI)) (ci := 2) (v := .int (I3 nbb)) (C := RX7) (T := TX7) (N := 2) hx hb hts in_X7 hown hK hP 2 rfl rfl 1 (by decide) (hts _ q137) (fun _ h9 => h9) rfl dX7_set_2_11 ?_
  refine ix_copyi hx hb (hml.trans hl.1.symm) hown (hts _ q338) (hts _ q340) (hts _ q339) (hts _ q73) hK hP hD hS 3 1 0 rfl rfl rfl (by omega) (Nat.le_of_ble_eq_true rfl) (Nat.le_of_ble_eq_true rfl) (Nat.le_of_ble_eq_true rfl) dX7_set_2_14 (fun H locs hP hD hS => ?_)
  have hP : va_P (dC, dI) vwCl [(aa, .inr (2, [.ref aaw, .int (I3 naa)])), (aaw, .inl (dA 0, 36, .inl (iA (cpZ fbb faa nbb)))), (bb, .inr (2, [.ref bbw, .int (I3 nbb)])), (bbw, .inl (dA 0, 36, .inl (iA fbb)))] H := hP
  have hD : va_D A [(aa, .inr (2, [.ref aaw, .int (I3 naa)])), (aaw, .inl (dA 0, 36, .inl (iA (cpZ fbb faa nbb)))), (bb, .inr (2, [.ref bbw, .int (I3 nbb)])), (bbw, .inl (dA 0, 36, .inl (iA fbb)))] := hD
  refine lv_aload_n hx hb dX7_set_2_17 rfl (lv_at hl 0 rfl) ?_
  refine lv_aload_n hx hb dX7_set_2_18 rfl (lv_at hl 1 rfl) ?_
  refine va_get (D := (dC, dI)) (ci := 2) (v := .int (I3 nbb)) (C := RX7) (T := TX7) (N := 2) hx hb hts in_X7 hown hK hP 2 rfl rfl 1 (by decide) (hts _ q137) (fun _ h9 => h9) rfl dX7_set_2_19 ?_
  refine va_put (D := (dC, dI)) (ci := 2) (v := .int (I3 nbb)) (ty := .int) (C := RX7) (T := TX7) (N := 2) hx hb hts in_X7 tyX7 tyX7_ok nmX7 hown hK hP hD hS 0 rfl rfl 1 (by decide) (hts _ q137) (fun _ h9 => h9) rfl (by decide +kernel) rfl rfl (Nat.le_of_ble_eq_true rfl) dX7_set_2_22 (fun H locs hP hD hS => ?_)
  have hP : va_P (dC, dI) vwCl [(aa, .inr (2, [.ref aaw, .int (I3 nbb)])), (aaw, .inl (dA 0, 36, .inl (iA (cpZ fbb faa nbb)))), (bb, .inr (2, [.ref bbw, .int (I3 nbb)])), (bbw, .inl (dA 0, 36, .inl (iA fbb)))] H := hP
  have hD : va_D A [(aa, .inr (2, [.ref aaw, .int (I3 nbb)])), (aaw, .inl (dA 0, 36, .inl (iA (cpZ fbb faa nbb)))), (bb, .inr (2, [.ref bbw, .int (I3 nbb)])), (bbw, .inl (dA 0, 36, .inl (iA fbb)))] := hD
  refine lv_aload_n hx hb dX7_set_2_25 rfl (lv_at hl 0 rfl) ?_
  have o_1 : OKw nbb (cpZ fbb faa nbb) := by exact ⟨by omega, cpZ_D hDb hDa, fun q => by rw [cpZ_in (by omega)]; exact htopb q⟩
  have o_2 : wN nbb (cpZ fbb faa nbb) = wN nbb fbb := by exact cpZ_N
  exact W.aret (v := .ref aa) hx hb hr (Or.inl ⟨_, rfl⟩) (Or.inr ⟨_, rfl⟩) (fun t ht hW => ⟨⟨(nbb, (cpZ fbb faa nbb)), aa, rfl, ⟨o_1, o_2⟩, rfl, by rw [ht]; exact hP, va_K.moved hW.alike hK, hD⟩, hS.F ht⟩) hS.2.2 dX7_set_2_26
abbrev BmetX7_add (dC : Nat → ClassId) (dI : Nat → Nat → Nat) (dA : Nat → ClassId) (A : Nat → Prop) (aa : Nat) (aaw : Nat) (bb : Nat) (bbw : Nat) (naa : Int) (faa : Int → Int) (nbb : Int) (fbb : Int → Int) : Int × (Int → Int) → State → Prop := fun u t => (fun (u : Int × (Int → Int)) => (fun (n1 : Int) (f1 : Int → Int) => va_P (dC, dI) vwCl [(aa, .inr (2, [.ref aaw, .int (I3 n1)])), (aaw, .inl (dA 0, 36, .inl (iA f1))), (bb, .inr (2, [.ref bbw, .int (I3 nbb)])), (bbw, .inl (dA 0, 36, .inl (iA fbb)))] t.heap ∧ va_K (dC, dI) vwCl (tyA dA) t ∧ va_D A [(aa, .inr (2, [.ref aaw, .int (I3 n1)])), (aaw, .inl (dA 0, 36, .inl (iA f1))), (bb, .inr (2, [.ref bbw, .int (I3 nbb)])), (bbw, .inl (dA 0, 36, .inl (iA fbb)))]) u.1 u.2) u
abbrev QmetX7_add (dC : Nat → ClassId) (dI : Nat → Nat → Nat) (dA : Nat → ClassId) (A : Nat → Prop) (aa : Nat) (aaw : Nat) (bb : Nat) (bbw : Nat) (naa : Int) (faa : Int → Int) (nbb : Int) (fbb : Int → Int) := va_Qv (fun (u : Int × (Int → Int)) => (fun (n1 : Int) (f1 : Int → Int) => (OKw n1 f1) ∧ (wN n1 f1 = wN naa faa + wN nbb fbb)) u.1 u.2) (BmetX7_add dC dI dA A aa aaw bb bbw naa faa nbb fbb) A
set_option maxHeartbeats 2000000 in
set_option maxRecDepth 100000 in
/-- another one is added -/
theorem metX7_add (l : Launch) (dC : Nat → ClassId) (dI : Nat → Nat → Nat) (dA : Nat → ClassId) (aa : Nat) (aaw : Nat) (bb : Nat) (bbw : Nat) (sz : Nat) (naa : Int) (faa : Int → Int) (nbb : Int) (fbb : Int → Int) (haa : OKw naa faa) (hbb : OKw nbb fbb) (hsz : naa ≤ 35 ∧ nbb ≤ 35) : Met l yX7_add (ws_ yX7_add cX7_add 6 none) ({ frames := 3, cells := 0, slots := 0, locals := 120 }) (va_Pc [.ref aa, .ref bb] (fun U => U.heap.size = sz ∧ va_P (dC, dI) vwCl [(aa, .inr (2, [.ref aaw, .int (I3 naa)])), (aaw, .inl (dA 0, 36, .inl (iA faa))), (bb, .inr (2, [.ref bbw, .int (I3 nbb)])), (bbw, .inl (dA 0, 36, .inl (iA fbb)))] U.heap ∧ va_K (dC, dI) vwCl (tyA dA) U ∧ va_D (fun _ => True) [(aa, .inr (2, [.ref aaw, .int (I3 naa)])), (aaw, .inl (dA 0, 36, .inl (iA faa))), (bb, .inr (2, [.ref bbw, .int (I3 nbb)])), (bbw, .inl (dA 0, 36, .inl (iA fbb)))])) (QmetX7_add dC dI dA (va_A [(aa, .inr (2, [.ref aaw, .int (I3 naa)])), (aaw, .inl (dA 0, 36, .inl (iA faa))), (bb, .inr (2, [.ref bbw, .int (I3 nbb)])), (bbw, .inl (dA 0, 36, .inl (iA fbb)))] sz) aa aaw bb bbw naa faa nbb fbb) 0 0 (va_A [(aa, .inr (2, [.ref aaw, .int (I3 naa)])), (aaw, .inl (dA 0, 36, .inl (iA faa))), (bb, .inr (2, [.ref bbw, .int (I3 nbb)])), (bbw, .inl (dA 0, 36, .inl (iA fbb)))] sz) := by
  refine Met.ofW (cc := cX7_add) (maxL := 6) (ret := none) (by decide) rfl ?_
  intro p e s m args below meth c s₁ B hml hv
  obtain ⟨rfl, hsz, hP, hK, hD0⟩ := hv
  have hx := B.exec
  have hb := B.bytes
  have hr := B.returns
  have hts := atoms_spec (ws := (ws_ yX7_add cX7_add 6 none)) B.pre
  have hts : ∀ w ∈ lw_all, w.before _ s = true := fun w h => hts w (List.mem_cons_of_mem _ h)
  have hown : s.vm.findClass RX7 = some m.cls := findClass_of_methodNamed B.named
  have hlocks := B.notSynchronized
  subst hsz
  have hD := hD0.self (sz := s.heap.size)
  generalize hAe : va_A [(aa, .inr (2, [.ref aaw, .int (I3 naa)])), (aaw, .inl (dA 0, 36, .inl (iA faa))), (bb, .inr (2, [.ref bbw, .int (I3 nbb)])), (bbw, .inl (dA 0, 36, .inl (iA fbb)))] s.heap.size = A at hD ⊢
  have hA : ∀ q : Nat, s.heap.size ≤ q → A q := fun q h => by rw [← hAe]; exact Or.inr h
  have hS : va_S A s.heap s.heap [] := va_S.rf
  have hP : va_P (dC, dI) vwCl [(aa, .inr (2, [.ref aaw, .int (I3 naa)])), (aaw, .inl (dA 0, 36, .inl (iA faa))), (bb, .inr (2, [.ref bbw, .int (I3 nbb)])), (bbw, .inl (dA 0, 36, .inl (iA fbb)))] s.heap := hP
  have hl := lv_entry ([.ref aa, .ref bb]) (n := 6) (Nat.le_of_ble_eq_true rfl)
  rw [lg_entry_eq]
  generalize (lg_sl ([.ref aa, .ref bb]) ++ List.replicate (6 - (lg_sl ([.ref aa, .ref bb])).length) Slot.unset).toArray = ls at hl ⊢
  have hl : lv_has ls 6 [(0, .ref aa), (1, .ref bb)] := hl
  have cut_19 : ∀ (fuel_19 : Nat), ∀ (N : Int) (k : Int) (cr : Int) (s1 : Int) (W1 : Int → Int), (naa + 1 ≤ N ∧ nbb + 1 ≤ N ∧ N ≤ 36 ∧ (N = naa + 1 ∨ N = nbb + 1)) → (0 ≤ k ∧ k ≤ N) → (naa ≤ s1 ∧ k ≤ s1 ∧ (s1 = naa ∨ s1 = k)) → (0 ≤ cr ∧ cr ≤ 1) → (Dg W1) → (∀ j : Int, k ≤ j → W1 j = faa j) → (vi W1 0 k + cr * pz k = vi (gW naa faa) 0 k + vi (gW nbb fbb) 0 k) → ((N - k).toNat < fuel_19) → ∀ (H : Heap) (locs : List Loc), va_P (dC, dI) vwCl [(aa, .inr (2, [.ref aaw, .int (I3 s1)])), (aaw, .inl (dA 0, 36, .inl (iA W1))), (bb, .inr (2, [.ref bbw, .int (I3 nbb)])), (bbw, .inl (dA 0, 36, .inl (iA fbb)))] H → va_D A [(aa, .inr (2, [.ref aaw, .int (I3 s1)])), (aaw, .inl (dA 0, 36, .inl (iA W1))), (bb, .inr (2, [.ref bbw, .int (I3 nbb)])), (bbw, .inl (dA 0, 36, .inl (iA fbb)))] → va_S A s.heap H locs → ∀ (ls : Array Slot), lv_has ls 6 [(0, .ref aa), (1, .ref bb), (2, .int (I3 N)), (3, .long (L6 cr)), (5, .int (I3 k))] → W p l e (headSpec (ws_ yX7_add cX7_add 6 none) ({ frames := 3, cells := 0, slots := 0, locals := 120 })).room s m ([.ref aa, .ref bb] : List Value).toArray below meth c H locs 0 0 (MQ below (QmetX7_add dC dI dA A aa aaw bb bbw naa faa nbb fbb) ([.ref aa, .ref bb] : List Value).toArray s 0 0 A) (F0 m 19 ls []) := by
    intro fuel_19
    induction fuel_19 with
    | zero =>
      intro N k cr s1 W1 hN hk hs1 hc hW1 hs hI hm
      exact absurd hm (Nat.not_lt_zero _)
    | succ fuel_19 ih_19 =>
      intro N k cr s1 W1 hN hk hs1 hc hW1 hs hI hm_19 H locs hP hD hS ls hl
      obtain ⟨⟨hn0, hn36⟩, hDa, htop⟩ := id haa
      obtain ⟨⟨hm0, hm36⟩, hDb, htopb⟩ := id hbb
      have hgB := gW_D (n := nbb) hDb
      refine lv_iload hx hb dX7_add_19 (lv_at hl 4 rfl) ?_
      refine lv_iload_n hx hb dX7_add_21 rfl (lv_at hl 2 rfl) ?_
      refine ix_icmp_ge (tgt := 76) hx hb (by first | assumption | decide | (constructor <;> omega)) (by first | assumption | decide | (constructor <;> omega)) dX7_add_22 (by decide) (fun c_22 => ?_) (fun c_22 => ?_)
      · skip
        have hsN : s1 = N := by omega
        refine lv_aload_n hx hb dX7_add_76 rfl (lv_at hl 0 rfl) ?_
        have h_1 : 0 ≤ s1 ∧ s1 ≤ 36 := by omega
        have h_2 : Dg W1 := by exact hW1
        have hPc := hP.sub (ws' := [(aa, .inr (2, [.ref aaw, .int (I3 s1)])), (aaw, .inl (dA 0, 36, .inl (iA W1)))]) [0, 1] rfl
        have hDc := hD.sub (ws' := [(aa, .inr (2, [.ref aaw, .int (I3 s1)])), (aaw, .inl (dA 0, 36, .inl (iA W1)))]) [0, 1] (by decide) rfl
        have hFc := va_free (wc := [(aa, .inr (2, [.ref aaw, .int (I3 s1)])), (aaw, .inl (dA 0, 36, .inl (iA W1)))]) hD hS hA [0, 1] rfl
        refine va_callv (va_runV (As := []) (rest := []) ⟨hx, hb, hml, hown, hts⟩ (metX7_trim l dC dI dA aa aaw H.size s1 W1 h_1 h_2) (cwV 0 hts (lw_V q221 q222 q223 q65 q224) rfl rfl rfl (by decide +kernel) ⟨Nat.le_of_ble_eq_true rfl, Nat.le_of_ble_eq_true rfl⟩) ⟨fun a U g mk q => by obtain ⟨q0, q1, qP, qK, qD⟩ := q; exact ⟨q0, q1, qP, va_K.moved (u := U) (U := U.calling g mk a) (Vm.Alike.refl U.vm) qK, qD⟩, va_recv hK hPc (ci := 2) (q0 := 0) rfl rfl, fun U hU hW => ⟨rfl, by rw [hU], by rw [hU]; exact hPc, va_K.moved hW.alike hK, hDc.weaken (fun _ _ _ _ => trivial)⟩⟩ rfl rfl hl.1 rfl (lv_room (Nat.le_of_ble_eq_true rfl)) dX7_add_77 ⟨Nat.le_of_ble_eq_true rfl, Nat.le_of_ble_eq_true rfl⟩) hS (fun q _ h => hFc q h) hFc (fun u t H1 locs ht hvm hw hB hz1 hk1 hS => ?_)
        obtain ⟨n1_77, rfl⟩ : ∃ z, z = u := ⟨_, rfl⟩
        obtain ⟨p0_77, p1_77, p2_77⟩ : (OKw n1_77 W1) ∧ (wN n1_77 W1 = wN s1 W1) ∧ (n1_77 ≤ s1) := hw
        obtain ⟨hP1, hK1, hD1⟩ := hB
        rw [ht] at hP1
        obtain ⟨hP, hD⟩ := va_join (wr := [(bb, .inr (2, [.ref bbw, .int (I3 nbb)])), (bbw, .inl (dA 0, 36, .inl (iA fbb)))]) (w1 := [(aa, .inr (2, [.ref aaw, .int (I3 n1_77)])), (aaw, .inl (dA 0, 36, .inl (iA W1)))]) hP hD [0, 1] [2, 3] rfl rfl (by decide) (by decide) hk1 hFc hP1 hD1
        generalize H1 = H at hP hS ⊢
        have hP := hP.sub (ws' := [(aa, .inr (2, [.ref aaw, .int (I3 n1_77)])), (aaw, .inl (dA 0, 36, .inl (iA W1))), (bb, .inr (2, [.ref bbw, .int (I3 nbb)])), (bbw, .inl (dA 0, 36, .inl (iA fbb)))]) [2, 3, 0, 1] rfl
        have hD := hD.sub (ws' := [(aa, .inr (2, [.ref aaw, .int (I3 n1_77)])), (aaw, .inl (dA 0, 36, .inl (iA W1))), (bb, .inr (2, [.ref bbw, .int (I3 nbb)])), (bbw, .inl (dA 0, 36, .inl (iA fbb)))]) [2, 3, 0, 1] (by decide) rfl
        have o_3 : OKw n1_77 W1 := by exact p0_77
        have o_4 : wN n1_77 W1 = wN naa faa + wN nbb fbb := by rw [p1_77, hsN]; exact wa_end haa hbb hW1 (by omega) (by omega) hc (by rw [show k = N by omega] at hI; exact hI)
        exact W.vret hx hb hr (fun t ht hW => ⟨⟨(n1_77, W1), rfl, ⟨o_3, o_4⟩, by rw [ht]; exact hP, va_K.moved hW.alike hK, hD⟩, hS.F ht⟩) hS.2.2 dX7_add_80
      · skip
        refine lv_lload_n hx hb dX7_add_25 rfl (lv_at hl 3 rfl) ?_
        refine lv_aload_n hx hb dX7_add_26 rfl (lv_at hl 0 rfl) ?_
        refine lv_iload hx hb dX7_add_27 (lv_at hl 4 rfl) ?_
        have h_5 : 0 ≤ k ∧ k < 2147483648 := by first | assumption | omega | (constructor <;> omega)
        have h_6 : 0 ≤ s1 ∧ s1 ≤ 36 := by first | assumption | omega | (constructor <;> omega)
        have h_7 : Dg W1 := by first | assumption | omega | (constructor <;> omega)
        have hPc := hP.sub (ws' := [(aa, .inr (2, [.ref aaw, .int (I3 s1)])), (aaw, .inl (dA 0, 36, .inl (iA W1)))]) [0, 1] rfl
        have hDc := hD.sub (ws' := [(aa, .inr (2, [.ref aaw, .int (I3 s1)])), (aaw, .inl (dA 0, 36, .inl (iA W1)))]) [0, 1] (by decide) rfl
        have hFc := va_free (wc := [(aa, .inr (2, [.ref aaw, .int (I3 s1)])), (aaw, .inl (dA 0, 36, .inl (iA W1)))]) hD hS hA [0, 1] rfl
        refine va_calll (va_runV (As := [.int (I3 k)]) (rest := [.long (L6 cr)]) ⟨hx, hb, hml, hown, hts⟩ (metX7_at l dC dI dA aa aaw H.size s1 W1 k h_5 h_6 h_7) (cwV 1 hts (lw_V q356 q358 qs6 q65 q359) rfl rfl rfl (by decide +kernel) ⟨Nat.le_of_ble_eq_true rfl, Nat.le_of_ble_eq_true rfl⟩) ⟨fun a U g mk q => by obtain ⟨q0, q1, qP, qK, qD⟩ := q; exact ⟨q0, q1, qP, va_K.moved (u := U) (U := U.calling g mk a) (Vm.Alike.refl U.vm) qK, qD⟩, va_recv hK hPc (ci := 2) (q0 := 0) rfl rfl, fun U hU hW => ⟨rfl, by rw [hU], by rw [hU]; exact hPc, va_K.moved hW.alike hK, hDc.weaken (fun _ _ _ _ => trivial)⟩⟩ rfl rfl hl.1 rfl (lv_room (Nat.le_of_ble_eq_true rfl)) dX7_add_29 ⟨Nat.le_of_ble_eq_true rfl, Nat.le_of_ble_eq_true rfl⟩) hS (fun q _ h => hFc q h) hFc (fun r_29 u t H1 locs ht hvm hw hB hz1 hk1 hS => ?_)
        obtain ⟨z_29, rfl⟩ : ∃ z, z = u := ⟨_, rfl⟩
        obtain ⟨rfl, p0_29, p1_29⟩ : r_29 = L6 z_29 ∧ (z_29 = gW s1 W1 k) ∧ (0 ≤ z_29 ∧ z_29 < 4294967296) := hw
        obtain ⟨hP1, hK1, hD1⟩ := hB
        rw [ht] at hP1
        obtain ⟨hP, hD⟩ := va_join (wr := [(bb, .inr (2, [.ref bbw, .int (I3 nbb)])), (bbw, .inl (dA 0, 36, .inl (iA fbb)))]) (w1 := [(aa, .inr (2, [.ref aaw, .int (I3 s1)])), (aaw, .inl (dA 0, 36, .inl (iA W1)))]) hP hD [0, 1] [2, 3] rfl rfl (by decide) (by decide) hk1 hFc hP1 hD1
        generalize H1 = H at hP hS ⊢
        have hP := hP.sub (ws' := [(aa, .inr (2, [.ref aaw, .int (I3 s1)])), (aaw, .inl (dA 0, 36, .inl (iA W1))), (bb, .inr (2, [.ref bbw, .int (I3 nbb)])), (bbw, .inl (dA 0, 36, .inl (iA fbb)))]) [2, 3, 0, 1] rfl
        have hD := hD.sub (ws' := [(aa, .inr (2, [.ref aaw, .int (I3 s1)])), (aaw, .inl (dA 0, 36, .inl (iA W1))), (bb, .inr (2, [.ref bbw, .int (I3 nbb)])), (bbw, .inl (dA 0, 36, .inl (iA fbb)))]) [2, 3, 0, 1] (by decide) rfl
        have e29 : z_29 = gW naa faa k := by rw [p0_29]; by_cases q : k < naa; (rw [gW_in (by omega), gW_in (by omega)]; exact hs k (by omega)); (rw [gW_out (by omega), gW_out (by omega)])
        refine lv_aload_n hx hb dX7_add_32 rfl (lv_at hl 1 rfl) ?_
        refine lv_iload hx hb dX7_add_33 (lv_at hl 4 rfl) ?_
        have h_8 : 0 ≤ k ∧ k < 2147483648 := by first | assumption | omega | (constructor <;> omega)
        have h_9 : 0 ≤ nbb ∧ nbb ≤ 36 := by first | assumption | omega | (constructor <;> omega)
        have h_10 : Dg fbb := by first | assumption | omega | (constructor <;> omega)
        have hPc := hP.sub (ws' := [(bb, .inr (2, [.ref bbw, .int (I3 nbb)])), (bbw, .inl (dA 0, 36, .inl (iA fbb)))]) [2, 3] rfl
        have hDc := hD.sub (ws' := [(bb, .inr (2, [.ref bbw, .int (I3 nbb)])), (bbw, .inl (dA 0, 36, .inl (iA fbb)))]) [2, 3] (by decide) rfl
        have hFc := va_free (wc := [(bb, .inr (2, [.ref bbw, .int (I3 nbb)])), (bbw, .inl (dA 0, 36, .inl (iA fbb)))]) hD hS hA [2, 3] rfl
        refine va_calll (va_runV (As := [.int (I3 k)]) (rest := [.long (L6 z_29), .long (L6 cr)]) ⟨hx, hb, hml, hown, hts⟩ (metX7_at l dC dI dA bb bbw H.size nbb fbb k h_8 h_9 h_10) (cwV 1 hts (lw_V q356 q358 qs6 q65 q359) rfl rfl rfl (by decide +kernel) ⟨Nat.le_of_ble_eq_true rfl, Nat.le_of_ble_eq_true rfl⟩) ⟨fun a U g mk q => by obtain ⟨q0, q1, qP, qK, qD⟩ := q; exact ⟨q0, q1, qP, va_K.moved (u := U) (U := U.calling g mk a) (Vm.Alike.refl U.vm) qK, qD⟩, va_recv hK hPc (ci := 2) (q0 := 0) rfl rfl, fun U hU hW => ⟨rfl, by rw [hU], by rw [hU]; exact hPc, va_K.moved hW.alike hK, hDc.weaken (fun _ _ _ _ => trivial)⟩⟩ rfl rfl hl.1 rfl (lv_room (Nat.le_of_ble_eq_true rfl)) dX7_add_35 ⟨Nat.le_of_ble_eq_true rfl, Nat.le_of_ble_eq_true rfl⟩) hS (fun q _ h => hFc q h) hFc (fun r_35 u t H1 locs ht hvm hw hB hz1 hk1 hS => ?_)
        obtain ⟨z_35, rfl⟩ : ∃ z, z = u := ⟨_, rfl⟩
        obtain ⟨rfl, p0_35, p1_35⟩ : r_35 = L6 z_35 ∧ (z_35 = gW nbb fbb k) ∧ (0 ≤ z_35 ∧ z_35 < 4294967296) := hw
        obtain ⟨hP1, hK1, hD1⟩ := hB
        rw [ht] at hP1
        obtain ⟨hP, hD⟩ := va_join (wr := [(aa, .inr (2, [.ref aaw, .int (I3 s1)])), (aaw, .inl (dA 0, 36, .inl (iA W1)))]) (w1 := [(bb, .inr (2, [.ref bbw, .int (I3 nbb)])), (bbw, .inl (dA 0, 36, .inl (iA fbb)))]) hP hD [2, 3] [0, 1] rfl rfl (by decide) (by decide) hk1 hFc hP1 hD1
        generalize H1 = H at hP hS ⊢
        have hP : va_P (dC, dI) vwCl [(aa, .inr (2, [.ref aaw, .int (I3 s1)])), (aaw, .inl (dA 0, 36, .inl (iA W1))), (bb, .inr (2, [.ref bbw, .int (I3 nbb)])), (bbw, .inl (dA 0, 36, .inl (iA fbb)))] H := hP
        have hD : va_D A [(aa, .inr (2, [.ref aaw, .int (I3 s1)])), (aaw, .inl (dA 0, 36, .inl (iA W1))), (bb, .inr (2, [.ref bbw, .int (I3 nbb)])), (bbw, .inl (dA 0, 36, .inl (iA fbb)))] := hD
        refine ix_ladd hx hb dX7_add_38 ?_
        refine ix_ladd hx hb dX7_add_39 ?_
        refine ix_cl (y := cr + (gW naa faa k + gW nbb fbb k)) (by rw [e29, p0_35]) ?_
        have hv_ : 0 ≤ cr + (gW naa faa k + gW nbb fbb k) ∧ cr + (gW naa faa k + gW nbb fbb k) < 18446744073709551616 := by rw [← e29, ← p0_35]; omega
        refine lv_lstore_n (lv' := [(3, .long (L6 (cr + (gW naa faa k + gW nbb fbb k)))), (0, .ref aa), (1, .ref bb), (2, .int (I3 N)), (5, .int (I3 k))]) hx hb dX7_add_40 rfl hl (by decide) rfl (fun ls hl => ?_)
        refine lv_aload_n hx hb dX7_add_41 rfl (lv_at hl 1 rfl) ?_
        refine va_get (D := (dC, dI)) (ci := 2) (v := .ref aaw) (C := RX7) (T := TX7) (N := 2) hx hb hts in_X7 hown hK hP 0 rfl rfl 0 (by decide) (hts _ q135) (fun _ h9 => h9) rfl dX7_add_42 ?_
        refine lv_iload hx hb dX7_add_45 (lv_at hl 4 rfl) ?_
        refine lv_lload_n hx hb dX7_add_47 rfl (lv_at hl 0 rfl) ?_
        refine ix_l2i hx hb dX7_add_48 ?_
        refine ix_ci (y := (cr + (gW naa faa k + gW nbb fbb k)) % 4294967296) (by exact I3_congr (by omega)) ?_
        refine ix_iast hx hb hK hP hD hS 1 0 rfl rfl (Nat.le_of_ble_eq_true rfl) (by omega) dX7_add_49 (fun H locs hP hD hS => ?_)
        have hP : va_P (dC, dI) vwCl [(aa, .inr (2, [.ref aaw, .int (I3 s1)])), (aaw, .inl (dA 0, 36, .inl (iA (uZ W1 k ((cr + (gW naa faa k + gW nbb fbb k)) % 4294967296))))), (bb, .inr (2, [.ref bbw, .int (I3 nbb)])), (bbw, .inl (dA 0, 36, .inl (iA fbb)))] H := hP
        have hD : va_D A [(aa, .inr (2, [.ref aaw, .int (I3 s1)])), (aaw, .inl (dA 0, 36, .inl (iA (uZ W1 k ((cr + (gW naa faa k + gW nbb fbb k)) % 4294967296))))), (bb, .inr (2, [.ref bbw, .int (I3 nbb)])), (bbw, .inl (dA 0, 36, .inl (iA fbb)))] := hD
        refine lv_aload_n hx hb dX7_add_50 rfl (lv_at hl 1 rfl) ?_
        refine lv_aload_n hx hb dX7_add_51 rfl (lv_at hl 1 rfl) ?_
        refine va_get (D := (dC, dI)) (ci := 2) (v := .int (I3 s1)) (C := RX7) (T := TX7) (N := 2) hx hb hts in_X7 hown hK hP 0 rfl rfl 1 (by decide) (hts _ q137) (fun _ h9 => h9) rfl dX7_add_52 ?_
        refine lv_iload hx hb dX7_add_55 (lv_at hl 4 rfl) ?_
        refine lv_iconst (v := I3 (1)) hx hb dX7_add_57 rfl ?_
        refine ix_iadd hx hb dX7_add_58 ?_
        have h_11 : In3 s1 := by first | assumption | omega | (constructor <;> omega)
        have h_12 : In3 (k + 1) := by first | assumption | omega | (constructor <;> omega)
        have hPc := hP.sub (ws' := []) [] rfl
        have hDc := hD.sub (ws' := []) [] (by decide) rfl
        have hFc := va_free (wc := []) hD hS hA [] rfl
        refine va_calli (va_runS (As := [.int (I3 s1), .int (I3 (k + 1))]) (rest := [.ref aa]) ⟨hx, hb, hml, hown, hts⟩ (metJ7_max l dC dI dA H.size s1 (k + 1) h_11 h_12) (va_cwS 2 hts (lw_S q361 q362 q76 q363) rfl rfl rfl (by decide +kernel) ⟨Nat.le_of_ble_eq_true rfl, Nat.le_of_ble_eq_true rfl⟩) ⟨fun a U g mk q => by obtain ⟨q0, q1, qP, qK, qD⟩ := q; exact ⟨q0, q1, qP, va_K.moved (u := U) (U := U.calling g mk a) (Vm.Alike.refl U.vm) qK, qD⟩, fun U hU hW => ⟨rfl, by rw [hU], by rw [hU]; exact hPc, va_K.moved hW.alike hK, hDc.weaken (fun _ _ _ _ => trivial)⟩⟩ rfl rfl hl.1 rfl (lv_room (Nat.le_of_ble_eq_true rfl)) dX7_add_59 ⟨Nat.le_of_ble_eq_true rfl, Nat.le_of_ble_eq_true rfl⟩) hS (fun q _ h => hFc q h) hFc (fun r_59 u t H1 locs ht hvm hw hB hz1 hk1 hS => ?_)
        obtain ⟨z_59, rfl⟩ : ∃ z, z = u := ⟨_, rfl⟩
        obtain ⟨rfl, p0_59⟩ : r_59 = I3 z_59 ∧ ((s1 ≤ (k + 1) → z_59 = (k + 1)) ∧ ((k + 1) ≤ s1 → z_59 = s1)) := hw
        obtain ⟨hP1, hK1, hD1⟩ := hB
        rw [ht] at hP1
        obtain ⟨hP, hD⟩ := va_join (wr := [(aa, .inr (2, [.ref aaw, .int (I3 s1)])), (aaw, .inl (dA 0, 36, .inl (iA (uZ W1 k ((cr + (gW naa faa k + gW nbb fbb k)) % 4294967296))))), (bb, .inr (2, [.ref bbw, .int (I3 nbb)])), (bbw, .inl (dA 0, 36, .inl (iA fbb)))]) (w1 := []) hP hD [] [0, 1, 2, 3] rfl rfl (by decide) (by decide) hk1 hFc hP1 hD1
        generalize H1 = H at hP hS ⊢
        have hP : va_P (dC, dI) vwCl [(aa, .inr (2, [.ref aaw, .int (I3 s1)])), (aaw, .inl (dA 0, 36, .inl (iA (uZ W1 k ((cr + (gW naa faa k + gW nbb fbb k)) % 4294967296))))), (bb, .inr (2, [.ref bbw, .int (I3 nbb)])), (bbw, .inl (dA 0, 36, .inl (iA fbb)))] H := hP
        have hD : va_D A [(aa, .inr (2, [.ref aaw, .int (I3 s1)])), (aaw, .inl (dA 0, 36, .inl (iA (uZ W1 k ((cr + (gW naa faa k + gW nbb fbb k)) % 4294967296))))), (bb, .inr (2, [.ref bbw, .int (I3 nbb)])), (bbw, .inl (dA 0, 36, .inl (iA fbb)))] := hD
        refine va_put (D := (dC, dI)) (ci := 2) (v := .int (I3 z_59)) (ty := .int) (C := RX7) (T := TX7) (N := 2) hx hb hts in_X7 tyX7 tyX7_ok nmX7 hown hK hP hD hS 0 rfl rfl 1 (by decide) (hts _ q137) (fun _ h9 => h9) rfl (by decide +kernel) rfl rfl (Nat.le_of_ble_eq_true rfl) dX7_add_62 (fun H locs hP hD hS => ?_)
        have hP : va_P (dC, dI) vwCl [(aa, .inr (2, [.ref aaw, .int (I3 z_59)])), (aaw, .inl (dA 0, 36, .inl (iA (uZ W1 k ((cr + (gW naa faa k + gW nbb fbb k)) % 4294967296))))), (bb, .inr (2, [.ref bbw, .int (I3 nbb)])), (bbw, .inl (dA 0, 36, .inl (iA fbb)))] H := hP
        have hD : va_D A [(aa, .inr (2, [.ref aaw, .int (I3 z_59)])), (aaw, .inl (dA 0, 36, .inl (iA (uZ W1 k ((cr + (gW naa faa k + gW nbb fbb k)) % 4294967296))))), (bb, .inr (2, [.ref bbw, .int (I3 nbb)])), (bbw, .inl (dA 0, 36, .inl (iA fbb)))] := hD
        refine lv_lload_n hx hb dX7_add_65 rfl (lv_at hl 0 rfl) ?_
        have hq_ : 0 ≤ (cr + (gW naa faa k + gW nbb fbb k)) / 4294967296 ∧ (cr + (gW naa faa k + gW nbb fbb k)) / 4294967296 ≤ 1 := by rw [← e29, ← p0_35]; omega
        refine lv_bipush (v := I3 (32)) hx hb dX7_add_66 (by decide) ?_
        refine ix_lushr hx hb (by first | decide | omega) dX7_add_68 ?_
        refine ix_tl (y := (cr + (gW naa faa k + gW nbb fbb k)) % 18446744073709551616 / 4294967296) rfl ?_
        refine ix_tl (y := (cr + (gW naa faa k + gW nbb fbb k)) / 4294967296) (by omega) ?_
        refine lv_lstore_n (lv' := [(3, .long (L6 ((cr + (gW naa faa k + gW nbb fbb k)) / 4294967296))), (0, .ref aa), (1, .ref bb), (2, .int (I3 N)), (5, .int (I3 k))]) hx hb dX7_add_69 rfl hl (by decide) rfl (fun ls hl => ?_)
        refine lv_iinc (v := I3 (k + 1)) (lv' := [(5, .int (I3 (k + 1))), (3, .long (L6 ((cr + (gW naa faa k + gW nbb fbb k)) / 4294967296))), (0, .ref aa), (1, .ref bb), (2, .int (I3 N))]) hx hb dX7_add_70 hl (k := 4) rfl (I3_add _ _) (by decide) rfl (fun ls hl => ?_)
        refine lv_goto (tgt := 19) hx hb dX7_add_73 (by decide) ?_
        obtain ⟨mx1, mx2⟩ := p0_59
        have e_13 : naa + 1 ≤ N ∧ nbb + 1 ≤ N ∧ N ≤ 36 ∧ (N = naa + 1 ∨ N = nbb + 1) := by first | assumption | omega | (constructor <;> omega)
        have e_14 : 0 ≤ (k + 1) ∧ (k + 1) ≤ N := by first | assumption | omega | (constructor <;> omega)
        have e_15 : naa ≤ z_59 ∧ (k + 1) ≤ z_59 ∧ (z_59 = naa ∨ z_59 = (k + 1)) := by first | assumption | omega | (constructor <;> omega)
        have e_16 : 0 ≤ ((cr + (gW naa faa k + gW nbb fbb k)) / 4294967296) ∧ ((cr + (gW naa faa k + gW nbb fbb k)) / 4294967296) ≤ 1 := by first | assumption | omega | (constructor <;> omega)
        have e_17 : Dg (uZ W1 k ((cr + (gW naa faa k + gW nbb fbb k)) % 4294967296)) := by exact Dg_uZ hW1 (by omega) (by omega)
        have e_18 : ∀ j : Int, (k + 1) ≤ j → (uZ W1 k ((cr + (gW naa faa k + gW nbb fbb k)) % 4294967296)) j = faa j := by intro j j1; rw [uZ_n (by omega)]; exact hs j (by omega)
        have e_19 : vi (uZ W1 k ((cr + (gW naa faa k + gW nbb fbb k)) % 4294967296)) 0 (k + 1) + ((cr + (gW naa faa k + gW nbb fbb k)) / 4294967296) * pz (k + 1) = vi (gW naa faa) 0 (k + 1) + vi (gW nbb fbb) 0 (k + 1) := by exact wa_step (by omega) hI
        have e_20 : (N - (k + 1)).toNat < fuel_19 := by omega
        exact ih_19 N (k + 1) ((cr + (gW naa faa k + gW nbb fbb k)) / 4294967296) z_59 (uZ W1 k ((cr + (gW naa faa k + gW nbb fbb k)) % 4294967296)) e_13 e_14 e_15 e_16 e_17 e_18 e_19 e_20 _ _ hP hD hS ls (lv_sub hl [2, 3, 4, 1, 0] rfl)
  obtain ⟨⟨hn0, hn36⟩, hDa, htop⟩ := id haa
  obtain ⟨⟨hm0, hm36⟩, hDb, htopb⟩ := id hbb
  refine lv_aload_n hx hb dX7_add_0 rfl (lv_at hl 0 rfl) ?_
  refine va_get (D := (dC, dI)) (ci := 2) (v := .int (I3 naa)) (C := RX7) (T := TX7) (N := 2) hx hb hts in_X7 hown hK hP 0 rfl rfl 1 (by decide) (hts _ q137) (fun _ h9 => h9) rfl dX7_add_1 ?_
  refine lv_aload_n hx hb dX7_add_4 rfl (lv_at hl 1 rfl) ?_
  refine va_get (D := (dC, dI)) (ci := 2) (v := .int (I3 nbb)) (C := RX7) (T := TX7) (N := 2) hx hb hts in_X7 hown hK hP 2 rfl rfl 1 (by decide) (hts _ q137) (fun _ h9 => h9) rfl dX7_add_5 ?_
  have h_21 : In3 naa := by first | assumption | omega | (constructor <;> omega)
  have h_22 : In3 nbb := by first | assumption | omega | (constructor <;> omega)
  have hPc := hP.sub (ws' := []) [] rfl
  have hDc := hD.sub (ws' := []) [] (by decide) rfl
  have hFc := va_free (wc := []) hD hS hA [] rfl
  refine va_calli (va_runS (As := [.int (I3 naa), .int (I3 nbb)]) (rest := []) ⟨hx, hb, hml, hown, hts⟩ (metJ7_max l dC dI dA s.heap.size naa nbb h_21 h_22) (va_cwS 2 hts (lw_S q361 q362 q76 q363) rfl rfl rfl (by decide +kernel) ⟨Nat.le_of_ble_eq_true rfl, Nat.le_of_ble_eq_true rfl⟩) ⟨fun a U g mk q => by obtain ⟨q0, q1, qP, qK, qD⟩ := q; exact ⟨q0, q1, qP, va_K.moved (u := U) (U := U.calling g mk a) (Vm.Alike.refl U.vm) qK, qD⟩, fun U hU hW => ⟨rfl, by rw [hU], by rw [hU]; exact hPc, va_K.moved hW.alike hK, hDc.weaken (fun _ _ _ _ => trivial)⟩⟩ rfl rfl hl.1 rfl (lv_room (Nat.le_of_ble_eq_true rfl)) dX7_add_8 ⟨Nat.le_of_ble_eq_true rfl, Nat.le_of_ble_eq_true rfl⟩) hS (fun q _ h => hFc q h) hFc (fun r_8 u t H1 locs ht hvm hw hB hz1 hk1 hS => ?_)
  obtain ⟨z_8, rfl⟩ : ∃ z, z = u := ⟨_, rfl⟩
  obtain ⟨rfl, p0_8⟩ : r_8 = I3 z_8 ∧ ((naa ≤ nbb → z_8 = nbb) ∧ (nbb ≤ naa → z_8 = naa)) := hw
  obtain ⟨hP1, hK1, hD1⟩ := hB
  rw [ht] at hP1
  obtain ⟨hP, hD⟩ := va_join (wr := [(aa, .inr (2, [.ref aaw, .int (I3 naa)])), (aaw, .inl (dA 0, 36, .inl (iA faa))), (bb, .inr (2, [.ref bbw, .int (I3 nbb)])), (bbw, .inl (dA 0, 36, .inl (iA fbb)))]) (w1 := []) hP hD [] [0, 1, 2, 3] rfl rfl (by decide) (by decide) hk1 hFc hP1 hD1
  generalize H1 = H at hP hS ⊢
  have hP : va_P (dC, dI) vwCl [(aa, .inr (2, [.ref aaw, .int (I3 naa)])), (aaw, .inl (dA 0, 36, .inl (iA faa))), (bb, .inr (2, [.ref bbw, .int (I3 nbb)])), (bbw, .inl (dA 0, 36, .inl (iA fbb)))] H := hP
  have hD : va_D A [(aa, .inr (2, [.ref aaw, .int (I3 naa)])), (aaw, .inl (dA 0, 36, .inl (iA faa))), (bb, .inr (2, [.ref bbw, .int (I3 nbb)])), (bbw, .inl (dA 0, 36, .inl (iA fbb)))] := hD
  obtain ⟨mx1, mx2⟩ := p0_8
  refine lv_iconst (v := I3 (1)) hx hb dX7_add_11 rfl ?_
  refine ix_iadd hx hb dX7_add_12 ?_
  refine lv_istore_n (lv' := [(2, .int (I3 (z_8 + 1))), (0, .ref aa), (1, .ref bb)]) hx hb dX7_add_13 rfl hl (by decide) rfl (fun ls hl => ?_)
  refine lv_lconst (v := L6 0) hx hb dX7_add_14 (by decide) ?_
  refine lv_lstore_n (lv' := [(3, .long (L6 0)), (2, .int (I3 (z_8 + 1))), (0, .ref aa), (1, .ref bb)]) hx hb dX7_add_15 rfl hl (by decide) rfl (fun ls hl => ?_)
  refine lv_iconst (v := I3 (0)) hx hb dX7_add_16 rfl ?_
  refine lv_istore (lv' := [(5, .int (I3 0)), (3, .long (L6 0)), (2, .int (I3 (z_8 + 1))), (0, .ref aa), (1, .ref bb)]) hx hb dX7_add_17 hl (by decide) rfl (fun ls hl => ?_)
  have e_23 : naa + 1 ≤ (z_8 + 1) ∧ nbb + 1 ≤ (z_8 + 1) ∧ (z_8 + 1) ≤ 36 ∧ ((z_8 + 1) = naa + 1 ∨ (z_8 + 1) = nbb + 1) := by first | assumption | omega | (constructor <;> omega)
  have e_24 : 0 ≤ (0 : Int) ∧ (0 : Int) ≤ (z_8 + 1) := by first | assumption | omega | (constructor <;> omega)
  have e_25 : naa ≤ naa ∧ (0 : Int) ≤ naa ∧ (naa = naa ∨ naa = (0 : Int)) := by first | assumption | omega | (constructor <;> omega)
  have e_26 : 0 ≤ (0 : Int) ∧ (0 : Int) ≤ 1 := by first | assumption | omega | (constructor <;> omega)
  have e_27 : Dg faa := by first | assumption | omega | (constructor <;> omega)
  have e_28 : ∀ j : Int, (0 : Int) ≤ j → faa j = faa j := by intro j j1; rfl
  have e_29 : vi faa 0 (0 : Int) + (0 : Int) * pz (0 : Int) = vi (gW naa faa) 0 (0 : Int) + vi (gW nbb fbb) 0 (0 : Int) := by rw [vi_0, vi_0, vi_0]; decide
  exact cut_19 (((z_8 + 1) - (0 : Int)).toNat + 1) (z_8 + 1) 0 0 naa faa e_23 e_24 e_25 e_26 e_27 e_28 e_29 (Nat.lt_succ_self _) _ _ hP hD hS ls (lv_sub hl [3, 4, 2, 1, 0] rfl)
abbrev BmetX7_subtract (dC : Nat → ClassId) (dI : Nat → Nat → Nat) (dA : Nat → ClassId) (A : Nat → Prop) (aa : Nat) (aaw : Nat) (bb : Nat) (bbw : Nat) (naa : Int) (faa : Int → Int) (nbb : Int) (fbb : Int → Int) : Int × (Int → Int) → State → Prop := fun u t => (fun (u : Int × (Int → Int)) => (fun (n1 : Int) (f1 : Int → Int) => va_P (dC, dI) vwCl [(aa, .inr (2, [.ref aaw, .int (I3 n1)])), (aaw, .inl (dA 0, 36, .inl (iA f1))), (bb, .inr (2, [.ref bbw, .int (I3 nbb)])), (bbw, .inl (dA 0, 36, .inl (iA fbb)))] t.heap ∧ va_K (dC, dI) vwCl (tyA dA) t ∧ va_D A [(aa, .inr (2, [.ref aaw, .int (I3 n1)])), (aaw, .inl (dA 0, 36, .inl (iA f1))), (bb, .inr (2, [.ref bbw, .int (I3 nbb)])), (bbw, .inl (dA 0, 36, .inl (iA fbb)))]) u.1 u.2) u
abbrev QmetX7_subtract (dC : Nat → ClassId) (dI : Nat → Nat → Nat) (dA : Nat → ClassId) (A : Nat → Prop) (aa : Nat) (aaw : Nat) (bb : Nat) (bbw : Nat) (naa : Int) (faa : Int → Int) (nbb : Int) (fbb : Int → Int) := va_Qv (fun (u : Int × (Int → Int)) => (fun (n1 : Int) (f1 : Int → Int) => (OKw n1 f1) ∧ (wN n1 f1 = wN naa faa - wN nbb fbb)) u.1 u.2) (BmetX7_subtract dC dI dA A aa aaw bb bbw naa faa nbb fbb) A
set_option maxHeartbeats 2000000 in
set_option maxRecDepth 100000 in
/-- another one is taken away -/
theorem metX7_subtract (l : Launch) (dC : Nat → ClassId) (dI : Nat → Nat → Nat) (dA : Nat → ClassId) (aa : Nat) (aaw : Nat) (bb : Nat) (bbw : Nat) (sz : Nat) (naa : Int) (faa : Int → Int) (nbb : Int) (fbb : Int → Int) (haa : OKw naa faa) (hbb : OKw nbb fbb) (hle : wN nbb fbb ≤ wN naa faa) : Met l yX7_subtract (ws_ yX7_subtract cX7_subtract 5 none) ({ frames := 2, cells := 0, slots := 0, locals := 80 }) (va_Pc [.ref aa, .ref bb] (fun U => U.heap.size = sz ∧ va_P (dC, dI) vwCl [(aa, .inr (2, [.ref aaw, .int (I3 naa)])), (aaw, .inl (dA 0, 36, .inl (iA faa))), (bb, .inr (2, [.ref bbw, .int (I3 nbb)])), (bbw, .inl (dA 0, 36, .inl (iA fbb)))] U.heap ∧ va_K (dC, dI) vwCl (tyA dA) U ∧ va_D (fun _ => True) [(aa, .inr (2, [.ref aaw, .int (I3 naa)])), (aaw, .inl (dA 0, 36, .inl (iA faa))), (bb, .inr (2, [.ref bbw, .int (I3 nbb)])), (bbw, .inl (dA 0, 36, .inl (iA fbb)))])) (QmetX7_subtract dC dI dA (va_A [(aa, .inr (2, [.ref aaw, .int (I3 naa)])), (aaw, .inl (dA 0, 36, .inl (iA faa))), (bb, .inr (2, [.ref bbw, .int (I3 nbb)])), (bbw, .inl (dA 0, 36, .inl (iA fbb)))] sz) aa aaw bb bbw naa faa nbb fbb) 0 0 (va_A [(aa, .inr (2, [.ref aaw, .int (I3 naa)])), (aaw, .inl (dA 0, 36, .inl (iA faa))), (bb, .inr (2, [.ref bbw, .int (I3 nbb)])), (bbw, .inl (dA 0, 36, .inl (iA fbb)))] sz) := by
  refine Met.ofW (cc := cX7_subtract) (maxL := 5) (ret := none) (by decide) rfl ?_
  intro p e s m args below meth c s₁ B hml hv
  obtain ⟨rfl, hsz, hP, hK, hD0⟩ := hv
  have hx := B.exec
  have hb := B.bytes
  have hr := B.returns
  have hts := atoms_spec (ws := (ws_ yX7_subtract cX7_subtract 5 none)) B.pre
  have hts : ∀ w ∈ lw_all, w.before _ s = true := fun w h => hts w (List.mem_cons_of_mem _ h)
  have hown : s.vm.findClass RX7 = some m.cls := findClass_of_methodNamed B.named
  have hlocks := B.notSynchronized
  subst hsz
  have hD := hD0.self (sz := s.heap.size)
  generalize hAe : va_A [(aa, .inr (2, [.ref aaw, .int (I3 naa)])), (aaw, .inl (dA 0, 36, .inl (iA faa))), (bb, .inr (2, [.ref bbw, .int (I3 nbb)])), (bbw, .inl (dA 0, 36, .inl (iA fbb)))] s.heap.size = A at hD ⊢
  have hA : ∀ q : Nat, s.heap.size ≤ q → A q := fun q h => by rw [← hAe]; exact Or.inr h
  have hS : va_S A s.heap s.heap [] := va_S.rf
  have hP : va_P (dC, dI) vwCl [(aa, .inr (2, [.ref aaw, .int (I3 naa)])), (aaw, .inl (dA 0, 36, .inl (iA faa))), (bb, .inr (2, [.ref bbw, .int (I3 nbb)])), (bbw, .inl (dA 0, 36, .inl (iA fbb)))] s.heap := hP
  have hl := lv_entry ([.ref aa, .ref bb]) (n := 5) (Nat.le_of_ble_eq_true rfl)
  rw [lg_entry_eq]
  generalize (lg_sl ([.ref aa, .ref bb]) ++ List.replicate (5 - (lg_sl ([.ref aa, .ref bb])).length) Slot.unset).toArray = ls at hl ⊢
  have hl : lv_has ls 5 [(0, .ref aa), (1, .ref bb)] := hl
  have cut_5 : ∀ (fuel_5 : Nat), ∀ (k : Int) (cr : Int) (W1 : Int → Int), (0 ≤ k ∧ k ≤ naa) → (-1 ≤ cr ∧ cr ≤ 0) → (Dg W1) → (∀ j : Int, k ≤ j → W1 j = faa j) → (vi W1 0 k + cr * pz k = vi (gW naa faa) 0 k - vi (gW nbb fbb) 0 k) → ((naa - k).toNat < fuel_5) → ∀ (H : Heap) (locs : List Loc), va_P (dC, dI) vwCl [(aa, .inr (2, [.ref aaw, .int (I3 naa)])), (aaw, .inl (dA 0, 36, .inl (iA W1))), (bb, .inr (2, [.ref bbw, .int (I3 nbb)])), (bbw, .inl (dA 0, 36, .inl (iA fbb)))] H → va_D A [(aa, .inr (2, [.ref aaw, .int (I3 naa)])), (aaw, .inl (dA 0, 36, .inl (iA W1))), (bb, .inr (2, [.ref bbw, .int (I3 nbb)])), (bbw, .inl (dA 0, 36, .inl (iA fbb)))] → va_S A s.heap H locs → ∀ (ls : Array Slot), lv_has ls 5 [(0, .ref aa), (1, .ref bb), (2, .long (L6 cr)), (4, .int (I3 k))] → W p l e (headSpec (ws_ yX7_subtract cX7_subtract 5 none) ({ frames := 2, cells := 0, slots := 0, locals := 80 })).room s m ([.ref aa, .ref bb] : List Value).toArray below meth c H locs 0 0 (MQ below (QmetX7_subtract dC dI dA A aa aaw bb bbw naa faa nbb fbb) ([.ref aa, .ref bb] : List Value).toArray s 0 0 A) (F0 m 5 ls []) := by
    intro fuel_5
    induction fuel_5 with
    | zero =>
      intro k cr W1 hk hc hW1 hs hI hm
      exact absurd hm (Nat.not_lt_zero _)
    | succ fuel_5 ih_5 =>
      intro k cr W1 hk hc hW1 hs hI hm_5 H locs hP hD hS ls hl
      obtain ⟨⟨hn0, hn36⟩, hDa, htop⟩ := id haa
      obtain ⟨⟨hm0, hm36⟩, hDb, htopb⟩ := id hbb
      have hgB := gW_D (n := nbb) hDb
      refine lv_iload hx hb dX7_subtract_5 (lv_at hl 3 rfl) ?_
      refine lv_aload_n hx hb dX7_subtract_7 rfl (lv_at hl 0 rfl) ?_
      refine va_get (D := (dC, dI)) (ci := 2) (v := .int (I3 naa)) (C := RX7) (T := TX7) (N := 2) hx hb hts in_X7 hown hK hP 0 rfl rfl 1 (by decide) (hts _ q137) (fun _ h9 => h9) rfl dX7_subtract_8 ?_
      refine ix_icmp_ge (tgt := 50) hx hb (by first | assumption | decide | (constructor <;> omega)) (by first | assumption | decide | (constructor <;> omega)) dX7_subtract_11 (by decide) (fun c_11 => ?_) (fun c_11 => ?_)
      · skip
        refine lv_aload_n hx hb dX7_subtract_50 rfl (lv_at hl 0 rfl) ?_
        have h_1 : 0 ≤ naa ∧ naa ≤ 36 := by omega
        have h_2 : Dg W1 := by exact hW1
        have hPc := hP.sub (ws' := [(aa, .inr (2, [.ref aaw, .int (I3 naa)])), (aaw, .inl (dA 0, 36, .inl (iA W1)))]) [0, 1] rfl
        have hDc := hD.sub (ws' := [(aa, .inr (2, [.ref aaw, .int (I3 naa)])), (aaw, .inl (dA 0, 36, .inl (iA W1)))]) [0, 1] (by decide) rfl
        have hFc := va_free (wc := [(aa, .inr (2, [.ref aaw, .int (I3 naa)])), (aaw, .inl (dA 0, 36, .inl (iA W1)))]) hD hS hA [0, 1] rfl
        refine va_callv (va_runV (As := []) (rest := []) ⟨hx, hb, hml, hown, hts⟩ (metX7_trim l dC dI dA aa aaw H.size naa W1 h_1 h_2) (cwV 0 hts (lw_V q221 q222 q223 q65 q224) rfl rfl rfl (by decide +kernel) ⟨Nat.le_of_ble_eq_true rfl, Nat.le_of_ble_eq_true rfl⟩) ⟨fun a U g mk q => by obtain ⟨q0, q1, qP, qK, qD⟩ := q; exact ⟨q0, q1, qP, va_K.moved (u := U) (U := U.calling g mk a) (Vm.Alike.refl U.vm) qK, qD⟩, va_recv hK hPc (ci := 2) (q0 := 0) rfl rfl, fun U hU hW => ⟨rfl, by rw [hU], by rw [hU]; exact hPc, va_K.moved hW.alike hK, hDc.weaken (fun _ _ _ _ => trivial)⟩⟩ rfl rfl hl.1 rfl (lv_room (Nat.le_of_ble_eq_true rfl)) dX7_subtract_51 ⟨Nat.le_of_ble_eq_true rfl, Nat.le_of_ble_eq_true rfl⟩) hS (fun q _ h => hFc q h) hFc (fun u t H1 locs ht hvm hw hB hz1 hk1 hS => ?_)
        obtain ⟨n1_51, rfl⟩ : ∃ z, z = u := ⟨_, rfl⟩
        obtain ⟨p0_51, p1_51, p2_51⟩ : (OKw n1_51 W1) ∧ (wN n1_51 W1 = wN naa W1) ∧ (n1_51 ≤ naa) := hw
        obtain ⟨hP1, hK1, hD1⟩ := hB
        rw [ht] at hP1
        obtain ⟨hP, hD⟩ := va_join (wr := [(bb, .inr (2, [.ref bbw, .int (I3 nbb)])), (bbw, .inl (dA 0, 36, .inl (iA fbb)))]) (w1 := [(aa, .inr (2, [.ref aaw, .int (I3 n1_51)])), (aaw, .inl (dA 0, 36, .inl (iA W1)))]) hP hD [0, 1] [2, 3] rfl rfl (by decide) (by decide) hk1 hFc hP1 hD1
        generalize H1 = H at hP hS ⊢
        have hP := hP.sub (ws' := [(aa, .inr (2, [.ref aaw, .int (I3 n1_51)])), (aaw, .inl (dA 0, 36, .inl (iA W1))), (bb, .inr (2, [.ref bbw, .int (I3 nbb)])), (bbw, .inl (dA 0, 36, .inl (iA fbb)))]) [2, 3, 0, 1] rfl
        have hD := hD.sub (ws' := [(aa, .inr (2, [.ref aaw, .int (I3 n1_51)])), (aaw, .inl (dA 0, 36, .inl (iA W1))), (bb, .inr (2, [.ref bbw, .int (I3 nbb)])), (bbw, .inl (dA 0, 36, .inl (iA fbb)))]) [2, 3, 0, 1] (by decide) rfl
        have o_3 : OKw n1_51 W1 := by exact p0_51
        have o_4 : wN n1_51 W1 = wN naa faa - wN nbb fbb := by rw [p1_51]; exact ws_end haa hbb hW1 hle hc (by rw [show k = naa by omega] at hI; exact hI)
        exact W.vret hx hb hr (fun t ht hW => ⟨⟨(n1_51, W1), rfl, ⟨o_3, o_4⟩, by rw [ht]; exact hP, va_K.moved hW.alike hK, hD⟩, hS.F ht⟩) hS.2.2 dX7_subtract_54
      · skip
        refine lv_lload_n hx hb dX7_subtract_14 rfl (lv_at hl 2 rfl) ?_
        refine lv_aload_n hx hb dX7_subtract_15 rfl (lv_at hl 0 rfl) ?_
        refine lv_iload hx hb dX7_subtract_16 (lv_at hl 3 rfl) ?_
        have h_5 : 0 ≤ k ∧ k < 2147483648 := by first | assumption | omega | (constructor <;> omega)
        have h_6 : 0 ≤ naa ∧ naa ≤ 36 := by first | assumption | omega | (constructor <;> omega)
        have h_7 : Dg W1 := by first | assumption | omega | (constructor <;> omega)
        have hPc := hP.sub (ws' := [(aa, .inr (2, [.ref aaw, .int (I3 naa)])), (aaw, .inl (dA 0, 36, .inl (iA W1)))]) [0, 1] rfl
        have hDc := hD.sub (ws' := [(aa, .inr (2, [.ref aaw, .int (I3 naa)])), (aaw, .inl (dA 0, 36, .inl (iA W1)))]) [0, 1] (by decide) rfl
        have hFc := va_free (wc := [(aa, .inr (2, [.ref aaw, .int (I3 naa)])), (aaw, .inl (dA 0, 36, .inl (iA W1)))]) hD hS hA [0, 1] rfl
        refine va_calll (va_runV (As := [.int (I3 k)]) (rest := [.long (L6 cr)]) ⟨hx, hb, hml, hown, hts⟩ (metX7_at l dC dI dA aa aaw H.size naa W1 k h_5 h_6 h_7) (cwV 1 hts (lw_V q356 q358 qs6 q65 q359) rfl rfl rfl (by decide +kernel) ⟨Nat.le_of_ble_eq_true rfl, Nat.le_of_ble_eq_true rfl⟩) ⟨fun a U g mk q => by obtain ⟨q0, q1, qP, qK, qD⟩ := q; exact ⟨q0, q1, qP, va_K.moved (u := U) (U := U.calling g mk a) (Vm.Alike.refl U.vm) qK, qD⟩, va_recv hK hPc (ci := 2) (q0 := 0) rfl rfl, fun U hU hW => ⟨rfl, by rw [hU], by rw [hU]; exact hPc, va_K.moved hW.alike hK, hDc.weaken (fun _ _ _ _ => trivial)⟩⟩ rfl rfl hl.1 rfl (lv_room (Nat.le_of_ble_eq_true rfl)) dX7_subtract_18 ⟨Nat.le_of_ble_eq_true rfl, Nat.le_of_ble_eq_true rfl⟩) hS (fun q _ h => hFc q h) hFc (fun r_18 u t H1 locs ht hvm hw hB hz1 hk1 hS => ?_)
        obtain ⟨z_18, rfl⟩ : ∃ z, z = u := ⟨_, rfl⟩
        obtain ⟨rfl, p0_18, p1_18⟩ : r_18 = L6 z_18 ∧ (z_18 = gW naa W1 k) ∧ (0 ≤ z_18 ∧ z_18 < 4294967296) := hw
        obtain ⟨hP1, hK1, hD1⟩ := hB
        rw [ht] at hP1
        obtain ⟨hP, hD⟩ := va_join (wr := [(bb, .inr (2, [.ref bbw, .int (I3 nbb)])), (bbw, .inl (dA 0, 36, .inl (iA fbb)))]) (w1 := [(aa, .inr (2, [.ref aaw, .int (I3 naa)])), (aaw, .inl (dA 0, 36, .inl (iA W1)))]) hP hD [0, 1] [2, 3] rfl rfl (by decide) (by decide) hk1 hFc hP1 hD1
        generalize H1 = H at hP hS ⊢
        have hP := hP.sub (ws' := [(aa, .inr (2, [.ref aaw, .int (I3 naa)])), (aaw, .inl (dA 0, 36, .inl (iA W1))), (bb, .inr (2, [.ref bbw, .int (I3 nbb)])), (bbw, .inl (dA 0, 36, .inl (iA fbb)))]) [2, 3, 0, 1] rfl
        have hD := hD.sub (ws' := [(aa, .inr (2, [.ref aaw, .int (I3 naa)])), (aaw, .inl (dA 0, 36, .inl (iA W1))), (bb, .inr (2, [.ref bbw, .int (I3 nbb)])), (bbw, .inl (dA 0, 36, .inl (iA fbb)))]) [2, 3, 0, 1] (by decide) rfl
        have e18 : z_18 = gW naa faa k := by rw [p0_18, gW_in (by omega), gW_in (by omega)]; exact hs k (by omega)
        refine lv_aload_n hx hb dX7_subtract_21 rfl (lv_at hl 1 rfl) ?_
        refine lv_iload hx hb dX7_subtract_22 (lv_at hl 3 rfl) ?_
        have h_8 : 0 ≤ k ∧ k < 2147483648 := by first | assumption | omega | (constructor <;> omega)
        have h_9 : 0 ≤ nbb ∧ nbb ≤ 36 := by first | assumption | omega | (constructor <;> omega)
        have h_10 : Dg fbb := by first | assumption | omega | (constructor <;> omega)
        have hPc := hP.sub (ws' := [(bb, .inr (2, [.ref bbw, .int (I3 nbb)])), (bbw, .inl (dA 0, 36, .inl (iA fbb)))]) [2, 3] rfl
        have hDc := hD.sub (ws' := [(bb, .inr (2, [.ref bbw, .int (I3 nbb)])), (bbw, .inl (dA 0, 36, .inl (iA fbb)))]) [2, 3] (by decide) rfl
        have hFc := va_free (wc := [(bb, .inr (2, [.ref bbw, .int (I3 nbb)])), (bbw, .inl (dA 0, 36, .inl (iA fbb)))]) hD hS hA [2, 3] rfl
        refine va_calll (va_runV (As := [.int (I3 k)]) (rest := [.long (L6 z_18), .long (L6 cr)]) ⟨hx, hb, hml, hown, hts⟩ (metX7_at l dC dI dA bb bbw H.size nbb fbb k h_8 h_9 h_10) (cwV 1 hts (lw_V q356 q358 qs6 q65 q359) rfl rfl rfl (by decide +kernel) ⟨Nat.le_of_ble_eq_true rfl, Nat.le_of_ble_eq_true rfl⟩) ⟨fun a U g mk q => by obtain ⟨q0, q1, qP, qK, qD⟩ := q; exact ⟨q0, q1, qP, va_K.moved (u := U) (U := U.calling g mk a) (Vm.Alike.refl U.vm) qK, qD⟩, va_recv hK hPc (ci := 2) (q0 := 0) rfl rfl, fun U hU hW => ⟨rfl, by rw [hU], by rw [hU]; exact hPc, va_K.moved hW.alike hK, hDc.weaken (fun _ _ _ _ => trivial)⟩⟩ rfl rfl hl.1 rfl (lv_room (Nat.le_of_ble_eq_true rfl)) dX7_subtract_24 ⟨Nat.le_of_ble_eq_true rfl, Nat.le_of_ble_eq_true rfl⟩) hS (fun q _ h => hFc q h) hFc (fun r_24 u t H1 locs ht hvm hw hB hz1 hk1 hS => ?_)
        obtain ⟨z_24, rfl⟩ : ∃ z, z = u := ⟨_, rfl⟩
        obtain ⟨rfl, p0_24, p1_24⟩ : r_24 = L6 z_24 ∧ (z_24 = gW nbb fbb k) ∧ (0 ≤ z_24 ∧ z_24 < 4294967296) := hw
        obtain ⟨hP1, hK1, hD1⟩ := hB
        rw [ht] at hP1
        obtain ⟨hP, hD⟩ := va_join (wr := [(aa, .inr (2, [.ref aaw, .int (I3 naa)])), (aaw, .inl (dA 0, 36, .inl (iA W1)))]) (w1 := [(bb, .inr (2, [.ref bbw, .int (I3 nbb)])), (bbw, .inl (dA 0, 36, .inl (iA fbb)))]) hP hD [2, 3] [0, 1] rfl rfl (by decide) (by decide) hk1 hFc hP1 hD1
        generalize H1 = H at hP hS ⊢
        have hP : va_P (dC, dI) vwCl [(aa, .inr (2, [.ref aaw, .int (I3 naa)])), (aaw, .inl (dA 0, 36, .inl (iA W1))), (bb, .inr (2, [.ref bbw, .int (I3 nbb)])), (bbw, .inl (dA 0, 36, .inl (iA fbb)))] H := hP
        have hD : va_D A [(aa, .inr (2, [.ref aaw, .int (I3 naa)])), (aaw, .inl (dA 0, 36, .inl (iA W1))), (bb, .inr (2, [.ref bbw, .int (I3 nbb)])), (bbw, .inl (dA 0, 36, .inl (iA fbb)))] := hD
        refine ix_lsub hx hb dX7_subtract_27 ?_
        refine ix_ladd hx hb dX7_subtract_28 ?_
        refine ix_cl (y := cr + (gW naa faa k - gW nbb fbb k)) (by rw [e18, p0_24]) ?_
        have hv_ : -4294967297 ≤ cr + (gW naa faa k - gW nbb fbb k) ∧ cr + (gW naa faa k - gW nbb fbb k) < 4294967296 := by rw [← e18, ← p0_24]; omega
        refine lv_lstore_n (lv' := [(2, .long (L6 (cr + (gW naa faa k - gW nbb fbb k)))), (0, .ref aa), (1, .ref bb), (4, .int (I3 k))]) hx hb dX7_subtract_29 rfl hl (by decide) rfl (fun ls hl => ?_)
        refine lv_aload_n hx hb dX7_subtract_30 rfl (lv_at hl 1 rfl) ?_
        refine va_get (D := (dC, dI)) (ci := 2) (v := .ref aaw) (C := RX7) (T := TX7) (N := 2) hx hb hts in_X7 hown hK hP 0 rfl rfl 0 (by decide) (hts _ q135) (fun _ h9 => h9) rfl dX7_subtract_31 ?_
        refine lv_iload hx hb dX7_subtract_34 (lv_at hl 3 rfl) ?_
        refine lv_lload_n hx hb dX7_subtract_36 rfl (lv_at hl 0 rfl) ?_
        refine ix_l2i hx hb dX7_subtract_37 ?_
        refine ix_ci (y := (cr + (gW naa faa k - gW nbb fbb k)) % 4294967296) (by exact I3_congr (by omega)) ?_
        refine ix_iast hx hb hK hP hD hS 1 0 rfl rfl (Nat.le_of_ble_eq_true rfl) (by omega) dX7_subtract_38 (fun H locs hP hD hS => ?_)
        have hP : va_P (dC, dI) vwCl [(aa, .inr (2, [.ref aaw, .int (I3 naa)])), (aaw, .inl (dA 0, 36, .inl (iA (uZ W1 k ((cr + (gW naa faa k - gW nbb fbb k)) % 4294967296))))), (bb, .inr (2, [.ref bbw, .int (I3 nbb)])), (bbw, .inl (dA 0, 36, .inl (iA fbb)))] H := hP
        have hD : va_D A [(aa, .inr (2, [.ref aaw, .int (I3 naa)])), (aaw, .inl (dA 0, 36, .inl (iA (uZ W1 k ((cr + (gW naa faa k - gW nbb fbb k)) % 4294967296))))), (bb, .inr (2, [.ref bbw, .int (I3 nbb)])), (bbw, .inl (dA 0, 36, .inl (iA fbb)))] := hD
        refine lv_lload_n hx hb dX7_subtract_39 rfl (lv_at hl 0 rfl) ?_
        refine lv_bipush (v := I3 (32)) hx hb dX7_subtract_40 (by decide) ?_
        have hq_ : -1 ≤ (cr + (gW naa faa k - gW nbb fbb k)) / 4294967296 ∧ (cr + (gW naa faa k - gW nbb fbb k)) / 4294967296 ≤ 0 := by rw [← e18, ← p0_24]; omega
        refine ix_lshr hx hb (by first | assumption | (constructor <;> omega)) (by first | decide | omega) dX7_subtract_42 ?_
        refine ix_tl (y := (cr + (gW naa faa k - gW nbb fbb k)) / 4294967296) rfl ?_
        refine lv_lstore_n (lv' := [(2, .long (L6 ((cr + (gW naa faa k - gW nbb fbb k)) / 4294967296))), (0, .ref aa), (1, .ref bb), (4, .int (I3 k))]) hx hb dX7_subtract_43 rfl hl (by decide) rfl (fun ls hl => ?_)
        refine lv_iinc (v := I3 (k + 1)) (lv' := [(4, .int (I3 (k + 1))), (2, .long (L6 ((cr + (gW naa faa k - gW nbb fbb k)) / 4294967296))), (0, .ref aa), (1, .ref bb)]) hx hb dX7_subtract_44 hl (k := 3) rfl (I3_add _ _) (by decide) rfl (fun ls hl => ?_)
        refine lv_goto (tgt := 5) hx hb dX7_subtract_47 (by decide) ?_
        have e_11 : 0 ≤ (k + 1) ∧ (k + 1) ≤ naa := by first | assumption | omega | (constructor <;> omega)
        have e_12 : -1 ≤ ((cr + (gW naa faa k - gW nbb fbb k)) / 4294967296) ∧ ((cr + (gW naa faa k - gW nbb fbb k)) / 4294967296) ≤ 0 := by first | assumption | omega | (constructor <;> omega)
        have e_13 : Dg (uZ W1 k ((cr + (gW naa faa k - gW nbb fbb k)) % 4294967296)) := by exact Dg_uZ hW1 (by omega) (by omega)
        have e_14 : ∀ j : Int, (k + 1) ≤ j → (uZ W1 k ((cr + (gW naa faa k - gW nbb fbb k)) % 4294967296)) j = faa j := by intro j j1; rw [uZ_n (by omega)]; exact hs j (by omega)
        have e_15 : vi (uZ W1 k ((cr + (gW naa faa k - gW nbb fbb k)) % 4294967296)) 0 (k + 1) + ((cr + (gW naa faa k - gW nbb fbb k)) / 4294967296) * pz (k + 1) = vi (gW naa faa) 0 (k + 1) - vi (gW nbb fbb) 0 (k + 1) := by exact ws_step (by omega) hI
        have e_16 : (naa - (k + 1)).toNat < fuel_5 := by omega
        exact ih_5 (k + 1) ((cr + (gW naa faa k - gW nbb fbb k)) / 4294967296) (uZ W1 k ((cr + (gW naa faa k - gW nbb fbb k)) % 4294967296)) e_11 e_12 e_13 e_14 e_15 e_16 _ _ hP hD hS ls (lv_sub hl [2, 3, 1, 0] rfl)
  obtain ⟨⟨hn0, hn36⟩, hDa, htop⟩ := id haa
  obtain ⟨⟨hm0, hm36⟩, hDb, htopb⟩ := id hbb
  refine lv_lconst (v := L6 0) hx hb dX7_subtract_0 (by decide) ?_
  refine lv_lstore_n (lv' := [(2, .long (L6 0)), (0, .ref aa), (1, .ref bb)]) hx hb dX7_subtract_1 rfl hl (by decide) rfl (fun ls hl => ?_)
  refine lv_iconst (v := I3 (0)) hx hb dX7_subtract_2 rfl ?_
  refine lv_istore (lv' := [(4, .int (I3 0)), (2, .long (L6 0)), (0, .ref aa), (1, .ref bb)]) hx hb dX7_subtract_3 hl (by decide) rfl (fun ls hl => ?_)
  have e_17 : 0 ≤ (0 : Int) ∧ (0 : Int) ≤ naa := by first | assumption | omega | (constructor <;> omega)
  have e_18 : -1 ≤ (0 : Int) ∧ (0 : Int) ≤ 0 := by first | assumption | omega | (constructor <;> omega)
  have e_19 : Dg faa := by first | assumption | omega | (constructor <;> omega)
  have e_20 : ∀ j : Int, (0 : Int) ≤ j → faa j = faa j := by intro j j1; rfl
  have e_21 : vi faa 0 (0 : Int) + (0 : Int) * pz (0 : Int) = vi (gW naa faa) 0 (0 : Int) - vi (gW nbb fbb) 0 (0 : Int) := by rw [vi_0, vi_0, vi_0]; decide
  exact cut_5 ((naa - (0 : Int)).toNat + 1) 0 0 faa e_17 e_18 e_19 e_20 e_21 (Nat.lt_succ_self _) _ _ hP hD hS ls (lv_sub hl [2, 3, 1, 0] rfl)
