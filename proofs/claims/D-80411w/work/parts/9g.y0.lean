/-! items: made, taken -/
set_option maxRecDepth 100000
abbrev BmetX7_set_3 (dC : Nat → ClassId) (dI : Nat → Nat → Nat) (dA : Nat → ClassId) (A : Nat → Prop) (aa : Nat) (aaw : Nat) (ga : Nat) (naa : Int) (faa : Int → Int) (ff : Int → Int) (pl : va_W) : Int × (Int → Int) → Nat → State → Prop := fun u ra t => (fun (u : Int × (Int → Int)) => (fun (n1 : Int) (f1 : Int → Int) => ra = aa ∧ va_P (dC, dI) vwCl [(aa, .inr (2, [.ref aaw, .int (I3 n1)])), (aaw, .inl (dA 0, 36, .inl (iA f1)))] t.heap ∧ va_K (dC, dI) vwCl (tyA dA) t ∧ va_D A [(aa, .inr (2, [.ref aaw, .int (I3 n1)])), (aaw, .inl (dA 0, 36, .inl (iA f1)))]) u.1 u.2) u
abbrev QmetX7_set_3 (dC : Nat → ClassId) (dI : Nat → Nat → Nat) (dA : Nat → ClassId) (A : Nat → Prop) (aa : Nat) (aaw : Nat) (ga : Nat) (naa : Int) (faa : Int → Int) (ff : Int → Int) (pl : va_W) := va_Qr (fun (u : Int × (Int → Int)) => (fun (n1 : Int) (f1 : Int → Int) => (OKw n1 f1) ∧ (wN n1 f1 = wN 8 ff)) u.1 u.2) (BmetX7_set_3 dC dI dA A aa aaw ga naa faa ff pl) A
set_option maxHeartbeats 1000000 in
set_option maxRecDepth 100000 in
/-- eight words come here -/
theorem metX7_set_3 (l : Launch) (dC : Nat → ClassId) (dI : Nat → Nat → Nat) (dA : Nat → ClassId) (aa : Nat) (aaw : Nat) (ga : Nat) (sz : Nat) (naa : Int) (faa : Int → Int) (ff : Int → Int) (pl : va_W) (hDa : Dg faa) (hff : Dg ff) (hga : (ga, .inl (dA 0, 8, .inl (iA ff))) ∈ pl) : Met l yX7_set_3 (ws_ yX7_set_3 cX7_set_3 2 (some (.object "NumberModels$Wide"))) ({ frames := 2, cells := 0, slots := 0, locals := 80 }) (va_Pc [.ref aa, .ref ga] (fun U => U.heap.size = sz ∧ va_P (dC, dI) vwCl [(aa, .inr (2, [.ref aaw, .int (I3 naa)])), (aaw, .inl (dA 0, 36, .inl (iA faa)))] U.heap ∧ va_K (dC, dI) vwCl (tyA dA) U ∧ va_D (fun _ => True) [(aa, .inr (2, [.ref aaw, .int (I3 naa)])), (aaw, .inl (dA 0, 36, .inl (iA faa)))] ∧ roP (dC, dI) pl (va_A [(aa, .inr (2, [.ref aaw, .int (I3 naa)])), (aaw, .inl (dA 0, 36, .inl (iA faa)))] sz) U U.heap)) (QmetX7_set_3 dC dI dA (va_A [(aa, .inr (2, [.ref aaw, .int (I3 naa)])), (aaw, .inl (dA 0, 36, .inl (iA faa)))] sz) aa aaw ga naa faa ff pl) 0 0 (va_A [(aa, .inr (2, [.ref aaw, .int (I3 naa)])), (aaw, .inl (dA 0, 36, .inl (iA faa)))] sz) := by
  refine Met.ofW (cc := cX7_set_3) (maxL := 2) (ret := (some (.object "NumberModels$Wide"))) (by decide) rfl ?_
  intro p e s m args below meth c s₁ B hml hv
  obtain ⟨rfl, hsz, hP, hK, hD0, hq0⟩ := hv
  have hx := B.exec
  have hb := B.bytes
  have hr := B.returns
  have hts := atoms_spec (ws := (ws_ yX7_set_3 cX7_set_3 2 (some (.object "NumberModels$Wide")))) B.pre
  have hts : ∀ w ∈ lw_all, w.before _ s = true := fun w h => hts w (List.mem_cons_of_mem _ h)
  have hown : s.vm.findClass RX7 = some m.cls := findClass_of_methodNamed B.named
  have hlocks := B.notSynchronized
  subst hsz
  have hD := hD0.self (sz := s.heap.size)
  generalize hAe : va_A [(aa, .inr (2, [.ref aaw, .int (I3 naa)])), (aaw, .inl (dA 0, 36, .inl (iA faa)))] s.heap.size = A at hD hq0 ⊢
  have hA : ∀ q : Nat, s.heap.size ≤ q → A q := fun q h => by rw [← hAe]; exact Or.inr h
  have hS : va_S A s.heap s.heap [] := va_S.rf
  have hP : va_P (dC, dI) vwCl [(aa, .inr (2, [.ref aaw, .int (I3 naa)])), (aaw, .inl (dA 0, 36, .inl (iA faa)))] s.heap := hP
  have hl := lv_entry ([.ref aa, .ref ga]) (n := 2) (Nat.le_of_ble_eq_true rfl)
  rw [lg_entry_eq]
  generalize (lg_sl ([.ref aa, .ref ga]) ++ List.replicate (2 - (lg_sl ([.ref aa, .ref ga])).length) Slot.unset).toArray = ls at hl ⊢
  have hl : lv_has ls 2 [(0, .ref aa), (1, .ref ga)] := hl
  obtain ⟨jga, hjga⟩ := List.getElem?_of_mem hga
  refine lv_aload_n hx hb dX7_set_3_0 rfl (lv_at hl 1 rfl) ?_
  refine lv_iconst (v := I3 (0)) hx hb dX7_set_3_1 rfl ?_
  refine lv_aload_n hx hb dX7_set_3_2 rfl (lv_at hl 0 rfl) ?_
  refine va_get (D := (dC, dI)) (ci := 2) (v := .ref aaw) (C := RX7) (T := TX7) (N := 2) hx hb hts in_X7 hown hK hP 0 rfl rfl 0 (by decide) (hts _ q135) (fun _ h9 => h9) rfl dX7_set_3_3 ?_
  refine lv_iconst (v := I3 (0)) hx hb dX7_set_3_6 rfl ?_
  refine lv_bipush (v := I3 (8)) hx hb dX7_set_3_7 (by decide) ?_
  refine ix_copyP hx hb (hml.trans hl.1.symm) hown (hts _ q338) (hts _ q340) (hts _ q339) (hts _ q73) hK hP hD hS (roP.at hq0 hS) jga 1 0 hjga rfl rfl (by decide) (Nat.le_of_ble_eq_true rfl) (Nat.le_of_ble_eq_true rfl) (Nat.le_of_ble_eq_true rfl) dX7_set_3_9 (fun H locs hP hD hS => ?_)
  have hP : va_P (dC, dI) vwCl [(aa, .inr (2, [.ref aaw, .int (I3 naa)])), (aaw, .inl (dA 0, 36, .inl (iA (cpZ ff faa 8))))] H := hP
  have hD : va_D A [(aa, .inr (2, [.ref aaw, .int (I3 naa)])), (aaw, .inl (dA 0, 36, .inl (iA (cpZ ff faa 8))))] := hD
  refine lv_aload_n hx hb dX7_set_3_12 rfl (lv_at hl 0 rfl) ?_
  refine lv_bipush (v := I3 (8)) hx hb dX7_set_3_13 (by decide) ?_
  refine va_put (D := (dC, dI)) (ci := 2) (v := .int (I3 8)) (ty := .int) (C := RX7) (T := TX7) (N := 2) hx hb hts in_X7 tyX7 tyX7_ok nmX7 hown hK hP hD hS 0 rfl rfl 1 (by decide) (hts _ q137) (fun _ h9 => h9) rfl (by decide +kernel) rfl rfl (Nat.le_of_ble_eq_true rfl) dX7_set_3_15 (fun H locs hP hD hS => ?_)
  have hP : va_P (dC, dI) vwCl [(aa, .inr (2, [.ref aaw, .int (I3 8)])), (aaw, .inl (dA 0, 36, .inl (iA (cpZ ff faa 8))))] H := hP
  have hD : va_D A [(aa, .inr (2, [.ref aaw, .int (I3 8)])), (aaw, .inl (dA 0, 36, .inl (iA (cpZ ff faa 8))))] := hD
  refine lv_aload_n hx hb dX7_set_3_18 rfl (lv_at hl 0 rfl) ?_
  have h_1 : 0 ≤ (8 : Int) ∧ (8 : Int) ≤ 36 := by decide
  have h_2 : Dg (cpZ ff faa 8) := by exact cpZ_D hff hDa
  have hPc := hP.sub (ws' := [(aa, .inr (2, [.ref aaw, .int (I3 ((8 : Int)))])), (aaw, .inl (dA 0, 36, .inl (iA ((cpZ ff faa 8)))))]) [0, 1] rfl
  have hDc := hD.sub (ws' := [(aa, .inr (2, [.ref aaw, .int (I3 ((8 : Int)))])), (aaw, .inl (dA 0, 36, .inl (iA ((cpZ ff faa 8)))))]) [0, 1] (by decide) rfl
  have hFc := va_free (wc := [(aa, .inr (2, [.ref aaw, .int (I3 ((8 : Int)))])), (aaw, .inl (dA 0, 36, .inl (iA ((cpZ ff faa 8)))))]) hD hS hA [0, 1] rfl
  refine va_callv (va_runV (As := []) (rest := []) ⟨hx, hb, hml, hown, hts⟩ (metX7_trim l dC dI dA aa aaw H.size 8 (cpZ ff faa 8) h_1 h_2) (cwV 0 hts (lw_V q221 q222 q223 q65 q224) rfl rfl rfl (by decide +kernel) ⟨Nat.le_of_ble_eq_true rfl, Nat.le_of_ble_eq_true rfl⟩) ⟨fun a U g mk q => by obtain ⟨q0, q1, qP, qK, qD⟩ := q; exact ⟨q0, q1, qP, va_K.moved (u := U) (U := U.calling g mk a) (Vm.Alike.refl U.vm) qK, qD⟩, va_recv hK hP (ci := 2) (q0 := 0) rfl rfl, fun U hU hW => ⟨rfl, by rw [hU], by rw [hU]; exact hPc, va_K.moved hW.alike hK, hDc.weaken (fun _ _ _ _ => trivial)⟩⟩ rfl rfl hl.1 rfl (lv_room (Nat.le_of_ble_eq_true rfl)) dX7_set_3_19 ⟨Nat.le_of_ble_eq_true rfl, Nat.le_of_ble_eq_true rfl⟩) hS (fun q _ h => hFc q h) hFc (fun u t H1 locs ht hvm hw hB hz1 hk1 hS => ?_)
  obtain ⟨n1_19, rfl⟩ : ∃ z, z = u := ⟨_, rfl⟩
  obtain ⟨p0_19, p1_19, p2_19⟩ : (OKw n1_19 (cpZ ff faa 8)) ∧ (wN n1_19 (cpZ ff faa 8) = wN (8 : Int) (cpZ ff faa 8)) ∧ (n1_19 ≤ (8 : Int)) := hw
  obtain ⟨hP1, hK1, hD1⟩ := hB
  rw [ht] at hP1
  obtain ⟨hP, hD⟩ := va_join (wr := []) (w1 := [(aa, .inr (2, [.ref aaw, .int (I3 n1_19)])), (aaw, .inl (dA 0, 36, .inl (iA ((cpZ ff faa 8)))))]) hP hD [0, 1] [] rfl rfl (by decide) (by decide) hk1 hFc hP1 hD1
  have hP : va_P (dC, dI) vwCl [(aa, .inr (2, [.ref aaw, .int (I3 n1_19)])), (aaw, .inl (dA 0, 36, .inl (iA ((cpZ ff faa 8)))))] H1 := hP
  have hD : va_D A [(aa, .inr (2, [.ref aaw, .int (I3 n1_19)])), (aaw, .inl (dA 0, 36, .inl (iA ((cpZ ff faa 8)))))] := hD
  generalize H1 = H at hP hS ⊢
  refine lv_aload_n hx hb dX7_set_3_22 rfl (lv_at hl 0 rfl) ?_
  have o_3 : OKw n1_19 ((cpZ ff faa 8)) := by exact p0_19
  have o_4 : wN n1_19 ((cpZ ff faa 8)) = wN 8 ff := by rw [p1_19]; exact cpZ_N
  exact W.aret (v := .ref aa) hx hb hr (Or.inl ⟨_, rfl⟩) (Or.inr ⟨_, rfl⟩) (fun t ht hW => ⟨⟨(n1_19, ((cpZ ff faa 8))), aa, rfl, ⟨o_3, o_4⟩, rfl, by rw [ht]; exact hP, va_K.moved hW.alike hK, hD⟩, hS.F ht⟩) hS.2.2 dX7_set_3_23
abbrev BmetX9_init (dC : Nat → ClassId) (dI : Nat → Nat → Nat) (dA : Nat → ClassId) (A : Nat → Prop) (ai : Nat) (af : Nat) (g : Int) : Unit → State → Prop := fun u t => (fun (u : Unit) => va_P (dC, dI) vwCl [(ai, .inr (3, [.int (I3 g), .ref af]))] t.heap ∧ va_K (dC, dI) vwCl (tyA dA) t ∧ va_D A [(ai, .inr (3, [.int (I3 g), .ref af]))]) u
abbrev QmetX9_init (dC : Nat → ClassId) (dI : Nat → Nat → Nat) (dA : Nat → ClassId) (A : Nat → Prop) (ai : Nat) (af : Nat) (g : Int) := va_Qv (fun (u : Unit) => True) (BmetX9_init dC dI dA A ai af g) A
set_option maxHeartbeats 1000000 in
set_option maxRecDepth 100000 in
theorem metX9_init (l : Launch) (dC : Nat → ClassId) (dI : Nat → Nat → Nat) (dA : Nat → ClassId) (ai : Nat) (af : Nat) (sz : Nat) (g : Int) : Met l yX9_init (ws_ yX9_init cX9_init 3 none) ({ frames := 2, cells := 0, slots := 0, locals := 80 }) (va_Pc [.ref ai, .int (I3 g), .ref af] (fun U => U.heap.size = sz ∧ va_P (dC, dI) vwCl [(ai, .inr (3, [.int (I3 0), .null]))] U.heap ∧ va_K (dC, dI) vwCl (tyA dA) U ∧ va_D (fun _ => True) [(ai, .inr (3, [.int (I3 0), .null]))])) (QmetX9_init dC dI dA (va_A [(ai, .inr (3, [.int (I3 0), .null]))] sz) ai af g) 0 0 (va_A [(ai, .inr (3, [.int (I3 0), .null]))] sz) := by
  refine Met.ofW (cc := cX9_init) (maxL := 3) (ret := none) (by decide) rfl ?_
  intro p e s m args below meth c s₁ B hml hv
  obtain ⟨rfl, hsz, hP, hK, hD0⟩ := hv
  have hx := B.exec
  have hb := B.bytes
  have hr := B.returns
  have hts := atoms_spec (ws := (ws_ yX9_init cX9_init 3 none)) B.pre
  have hts : ∀ w ∈ lw_all, w.before _ s = true := fun w h => hts w (List.mem_cons_of_mem _ h)
  have hown : s.vm.findClass RX9 = some m.cls := findClass_of_methodNamed B.named
  have hlocks := B.notSynchronized
  have hin : meth.name = "<init>" := (name_of_methodNamed B.named B.method).1
  subst hsz
  have hD := hD0.self (sz := s.heap.size)
  generalize hAe : va_A [(ai, .inr (3, [.int (I3 0), .null]))] s.heap.size = A at hD ⊢
  have hA : ∀ q : Nat, s.heap.size ≤ q → A q := fun q h => by rw [← hAe]; exact Or.inr h
  have hS : va_S A s.heap s.heap [] := va_S.rf
  have hP : va_P (dC, dI) vwCl [(ai, .inr (3, [.int (I3 0), .null]))] s.heap := hP
  have hl := lv_entry ([.ref ai, .int (I3 g), .ref af]) (n := 3) (Nat.le_of_ble_eq_true rfl)
  rw [lg_entry_eq]
  generalize (lg_sl ([.ref ai, .int (I3 g), .ref af]) ++ List.replicate (3 - (lg_sl ([.ref ai, .int (I3 g), .ref af])).length) Slot.unset).toArray = ls at hl ⊢
  have hl : lv_has ls 3 [(0, .ref ai), (1, .int (I3 g)), (2, .ref af)] := hl
  refine lv_aload_n hx hb dX9_init_0 rfl (lv_at hl 0 rfl) ?_
  refine W.objInit hx hb hown (hts _ q415) (hts _ q92) (hts _ q93) rfl (by rw [hml]; exact hl.1) rfl dX9_init_1 (Nat.le_of_ble_eq_true rfl) (Nat.le_of_ble_eq_true rfl) ?_
  refine W.eq (g2 := F0 m 4 ls []) rfl ?_
  refine lv_aload_n hx hb dX9_init_4 rfl (lv_at hl 0 rfl) ?_
  refine lv_iload_n hx hb dX9_init_5 rfl (lv_at hl 1 rfl) ?_
  refine va_putF (D := (dC, dI)) (ci := 3) (v := .int (I3 g)) (ty := .int) (C := RX9) (T := TX9) (N := 2) hx hb hts in_X9 tyX9 tyX9_ok nmX9 hown hK hP hD hS 0 rfl rfl 0 (by decide) (hts _ q416) (fun _ h9 => h9) rfl hin rfl (by decide +kernel) rfl rfl (Nat.le_of_ble_eq_true rfl) dX9_init_6 (fun H locs hP hD hS => ?_)
  have hP : va_P (dC, dI) vwCl [(ai, .inr (3, [.int (I3 g), .null]))] H := hP
  have hD : va_D A [(ai, .inr (3, [.int (I3 g), .null]))] := hD
  refine lv_aload_n hx hb dX9_init_9 rfl (lv_at hl 0 rfl) ?_
  refine lv_aload_n hx hb dX9_init_10 rfl (lv_at hl 2 rfl) ?_
  refine va_putF (D := (dC, dI)) (ci := 3) (v := .ref af) (ty := (.object "java/lang/Object")) (C := RX9) (T := TX9) (N := 2) hx hb hts in_X9 tyX9 tyX9_ok nmX9 hown hK hP hD hS 0 rfl rfl 1 (by decide) (hts _ q418) (fun _ h9 => h9) rfl hin rfl (by decide +kernel) rfl rfl (Nat.le_of_ble_eq_true rfl) dX9_init_11 (fun H locs hP hD hS => ?_)
  have hP : va_P (dC, dI) vwCl [(ai, .inr (3, [.int (I3 g), .ref af]))] H := hP
  have hD : va_D A [(ai, .inr (3, [.int (I3 g), .ref af]))] := hD
  exact W.vret hx hb hr (fun t ht hW => ⟨⟨(), rfl, trivial, by rw [ht]; exact hP, va_K.moved hW.alike hK, hD⟩, hS.F ht⟩) hS.2.2 dX9_init_14
abbrev BmetX9_take (dC : Nat → ClassId) (dI : Nat → Nat → Nat) (dA : Nat → ClassId) (A : Nat → Prop) (ai : Nat) (pp : Nat) (ppw : Nat) (qq : Nat) (qqw : Nat) (npp : Int) (fpp : Int → Int) (nqq : Int) (fqq : Int → Int) (pl : va_W) (g : Int) (P9 : Nat) (Q9 : Nat) : Int × (Int → Int) × Int × (Int → Int) → State → Prop := fun u t => (fun (u : Int × (Int → Int) × Int × (Int → Int)) => (fun (n1 : Int) (f1 : Int → Int) (n2 : Int) (f2 : Int → Int) => va_P (dC, dI) vwCl [(pp, .inr (2, [.ref ppw, .int (I3 n1)])), (ppw, .inl (dA 0, 36, .inl (iA f1))), (qq, .inr (2, [.ref qqw, .int (I3 n2)])), (qqw, .inl (dA 0, 36, .inl (iA f2)))] t.heap ∧ va_K (dC, dI) vwCl (tyA dA) t ∧ va_D A [(pp, .inr (2, [.ref ppw, .int (I3 n1)])), (ppw, .inl (dA 0, 36, .inl (iA f1))), (qq, .inr (2, [.ref qqw, .int (I3 n2)])), (qqw, .inl (dA 0, 36, .inl (iA f2)))]) u.1 u.2.1 u.2.2.1 u.2.2.2) u
abbrev QmetX9_take (dC : Nat → ClassId) (dI : Nat → Nat → Nat) (dA : Nat → ClassId) (A : Nat → Prop) (ai : Nat) (pp : Nat) (ppw : Nat) (qq : Nat) (qqw : Nat) (npp : Int) (fpp : Int → Int) (nqq : Int) (fqq : Int → Int) (pl : va_W) (g : Int) (P9 : Nat) (Q9 : Nat) := va_Qv (fun (u : Int × (Int → Int) × Int × (Int → Int)) => (fun (n1 : Int) (f1 : Int → Int) (n2 : Int) (f2 : Int → Int) => (OKw n1 f1) ∧ (wN n1 f1 = P9) ∧ (OKw n2 f2) ∧ (wN n2 f2 = Q9)) u.1 u.2.1 u.2.2.1 u.2.2.2) (BmetX9_take dC dI dA A ai pp ppw qq qqw npp fpp nqq fqq pl g P9 Q9) A
abbrev XmetX9_take (dC : Nat → ClassId) (dI : Nat → Nat → Nat) (dA : Nat → ClassId) (A : Nat → Prop) (ai : Nat) (pp : Nat) (ppw : Nat) (qq : Nat) (qqw : Nat) (npp : Int) (fpp : Int → Int) (nqq : Int) (fqq : Int → Int) (pl : va_W) (g : Int) (P9 : Nat) (Q9 : Nat) : String → State → State → Prop := vx_X (S := Unit) (fun _ => True) (fun E u t => ((False)) ∧ va_P (dC, dI) vwCl [(pp, .inr (2, [.ref ppw, .int (I3 npp)])), (ppw, .inl (dA 0, 36, .inl (iA fpp))), (qq, .inr (2, [.ref qqw, .int (I3 nqq)])), (qqw, .inl (dA 0, 36, .inl (iA fqq)))] t.heap ∧ va_K (dC, dI) vwCl (tyA dA) t ∧ va_D A [(pp, .inr (2, [.ref ppw, .int (I3 npp)])), (ppw, .inl (dA 0, 36, .inl (iA fpp))), (qq, .inr (2, [.ref qqw, .int (I3 nqq)])), (qqw, .inl (dA 0, 36, .inl (iA fqq)))]) A
set_option maxHeartbeats 1000000 in
set_option maxRecDepth 100000 in
/-- the number comes to two wide ones -/
theorem metX9_take (l : Launch) (hlt : l.stackTraces = false) (dC : Nat → ClassId) (dI : Nat → Nat → Nat) (dA : Nat → ClassId) (ai : Nat) (pp : Nat) (ppw : Nat) (qq : Nat) (qqw : Nat) (sz : Nat) (npp : Int) (fpp : Int → Int) (nqq : Int) (fqq : Int → Int) (pl : va_W) (g : Int) (P9 : Nat) (Q9 : Nat) (hit : ItAt dA pl ai g P9 Q9) (hDp : Dg fpp) (hDq : Dg fqq) : vx_Met l yX9_take (wsW_ yX9_take cX9_take 5 none [(0, 24, 27, 27)]) ({ frames := 10, cells := 3, slots := 490, locals := 10400 }) (va_Pc [.ref ai, .ref pp, .ref qq] (fun U => U.heap.size = sz ∧ va_P (dC, dI) vwCl [(pp, .inr (2, [.ref ppw, .int (I3 npp)])), (ppw, .inl (dA 0, 36, .inl (iA fpp))), (qq, .inr (2, [.ref qqw, .int (I3 nqq)])), (qqw, .inl (dA 0, 36, .inl (iA fqq)))] U.heap ∧ va_K (dC, dI) vwCl (tyA dA) U ∧ va_D (fun _ => True) [(pp, .inr (2, [.ref ppw, .int (I3 npp)])), (ppw, .inl (dA 0, 36, .inl (iA fpp))), (qq, .inr (2, [.ref qqw, .int (I3 nqq)])), (qqw, .inl (dA 0, 36, .inl (iA fqq)))] ∧ FX (va_A [(pp, .inr (2, [.ref ppw, .int (I3 npp)])), (ppw, .inl (dA 0, 36, .inl (iA fpp))), (qq, .inr (2, [.ref qqw, .int (I3 nqq)])), (qqw, .inl (dA 0, 36, .inl (iA fqq)))] sz) U U.heap ∧ roP (dC, dI) pl (va_A [(pp, .inr (2, [.ref ppw, .int (I3 npp)])), (ppw, .inl (dA 0, 36, .inl (iA fpp))), (qq, .inr (2, [.ref qqw, .int (I3 nqq)])), (qqw, .inl (dA 0, 36, .inl (iA fqq)))] sz) U U.heap)) (QmetX9_take dC dI dA (va_A [(pp, .inr (2, [.ref ppw, .int (I3 npp)])), (ppw, .inl (dA 0, 36, .inl (iA fpp))), (qq, .inr (2, [.ref qqw, .int (I3 nqq)])), (qqw, .inl (dA 0, 36, .inl (iA fqq)))] sz) ai pp ppw qq qqw npp fpp nqq fqq pl g P9 Q9) (XmetX9_take dC dI dA (va_A [(pp, .inr (2, [.ref ppw, .int (I3 npp)])), (ppw, .inl (dA 0, 36, .inl (iA fpp))), (qq, .inr (2, [.ref qqw, .int (I3 nqq)])), (qqw, .inl (dA 0, 36, .inl (iA fqq)))] sz) ai pp ppw qq qqw npp fpp nqq fqq pl g P9 Q9) 3 490 (va_A [(pp, .inr (2, [.ref ppw, .int (I3 npp)])), (ppw, .inl (dA 0, 36, .inl (iA fpp))), (qq, .inr (2, [.ref qqw, .int (I3 nqq)])), (qqw, .inl (dA 0, 36, .inl (iA fqq)))] sz) := by
  refine vx_ofWH (cc := cX9_take) (maxL := 5) (ret := none) (hh := [(0, 24, 27, 27)]) (by decide) rfl ?_
  intro p e s m args below meth c s₁ B hml hv
  obtain ⟨rfl, hsz, hP, hK, hD0, hq0, hq1⟩ := hv
  have hx := B.exec
  have hb := B.bytes
  have hr := B.returns
  have hts := atoms_spec (ws := (wsW_ yX9_take cX9_take 5 none [(0, 24, 27, 27)])) B.pre
  have htb : c.exceptionTable.toList = tableOf [(0, 24, 27, 27)] := vx_table (x := yX9_take) B (hts _ List.mem_cons_self)
  have hts : ∀ w ∈ lw_all, w.before _ s = true := fun w h => hts w (List.mem_cons_of_mem _ h)
  have hown : s.vm.findClass RX9 = some m.cls := findClass_of_methodNamed B.named
  have hlocks := B.notSynchronized
  subst hsz
  have hD := hD0.self (sz := s.heap.size)
  generalize hAe : va_A [(pp, .inr (2, [.ref ppw, .int (I3 npp)])), (ppw, .inl (dA 0, 36, .inl (iA fpp))), (qq, .inr (2, [.ref qqw, .int (I3 nqq)])), (qqw, .inl (dA 0, 36, .inl (iA fqq)))] s.heap.size = A at hD hq0 hq1 ⊢
  have hA : ∀ q : Nat, s.heap.size ≤ q → A q := fun q h => by rw [← hAe]; exact Or.inr h
  have hS : va_S A s.heap s.heap [] := va_S.rf
  have hP : va_P (dC, dI) vwCl [(pp, .inr (2, [.ref ppw, .int (I3 npp)])), (ppw, .inl (dA 0, 36, .inl (iA fpp))), (qq, .inr (2, [.ref qqw, .int (I3 nqq)])), (qqw, .inl (dA 0, 36, .inl (iA fqq)))] s.heap := hP
  have hl := lv_entry ([.ref ai, .ref pp, .ref qq]) (n := 5) (Nat.le_of_ble_eq_true rfl)
  rw [lg_entry_eq]
  generalize (lg_sl ([.ref ai, .ref pp, .ref qq]) ++ List.replicate (5 - (lg_sl ([.ref ai, .ref pp, .ref qq])).length) Slot.unset).toArray = ls at hl ⊢
  have hl : lv_has ls 5 [(0, .ref ai), (1, .ref pp), (2, .ref qq)] := hl
  obtain ⟨fa, hm9, hcs⟩ := hit
  obtain ⟨j0, hj0⟩ := List.getElem?_of_mem hm9
  rcases hcs with ⟨hP63, hQ63, f9, hf9, e0, e1⟩ | ⟨o9, a0, a1, f0, f1, ho9, eo0, eo1, hm0, hm1, hd0_, hd1_, w0, w1⟩
  · skip
    obtain ⟨j1, hj1⟩ := List.getElem?_of_mem hf9
    refine lv_aload_n hx hb dX9_take_0 rfl (lv_at hl 0 rfl) ?_
    refine va_get (D := (dC, dI)) (ci := 3) (v := .ref fa) (C := RX9) (T := TX9) (N := 2) hx hb hts in_X9 hown hK (roP.at hq1 hS) j0 hj0 rfl 1 (by decide) (hts _ q418) (fun _ h9 => h9) rfl dX9_take_1 ?_
    refine va_castA hx hb hown (hts _ q576) (roP.at hq1 hS) j1 hj1 (nm_long hK) dX9_take_4 ?_
    refine lv_astore_n (lv' := [(3, .ref fa), (0, .ref ai), (1, .ref pp), (2, .ref qq)]) hx hb dX9_take_7 rfl hl (by decide) rfl (fun ls hl => ?_)
    refine lv_aload_n hx hb dX9_take_8 rfl (lv_at hl 2 rfl) ?_
    refine lv_aload_n hx hb dX9_take_9 rfl (lv_at hl 0 rfl) ?_
    refine lv_iconst (v := I3 (0)) hx hb dX9_take_10 rfl ?_
    refine ix_lald hx hb hK (roP.at hq1 hS) j1 1 hj1 rfl (Nat.le_of_ble_eq_true rfl) (by omega) dX9_take_11 ?_
    have h_1 : Dg fpp := by exact hDp
    have hPc := hP.sub (ws' := [(pp, .inr (2, [.ref ppw, .int (I3 npp)])), (ppw, .inl (dA 0, 36, .inl (iA fpp)))]) [0, 1] rfl
    have hDc := hD.sub (ws' := [(pp, .inr (2, [.ref ppw, .int (I3 npp)])), (ppw, .inl (dA 0, 36, .inl (iA fpp)))]) [0, 1] (by decide) rfl
    have hFc := va_free (wc := [(pp, .inr (2, [.ref ppw, .int (I3 npp)])), (ppw, .inl (dA 0, 36, .inl (iA fpp)))]) hD hS hA [0, 1] rfl
    refine va_callr (va_runV (As := [.long (L6 (f9 0))]) (rest := []) ⟨hx, hb, hml, hown, hts⟩ (metX7_set l dC dI dA pp ppw s.heap.size npp fpp (f9 0) h_1) (cwV 1 hts (lw_V q614 q218 q219 q65 q220) rfl rfl rfl (by decide +kernel) ⟨Nat.le_of_ble_eq_true rfl, Nat.le_of_ble_eq_true rfl⟩) ⟨fun a U g mk q => by obtain ⟨q0, q1, qP, qK, qD⟩ := q; exact ⟨q0, q1, qP, va_K.moved (u := U) (U := U.calling g mk a) (Vm.Alike.refl U.vm) qK, qD⟩, va_recv hK hP (ci := 2) (q0 := 0) rfl rfl, fun U hU hW => ⟨rfl, by rw [hU], by rw [hU]; exact hPc, va_K.moved hW.alike hK, hDc.weaken (fun _ _ _ _ => trivial)⟩⟩ rfl rfl hl.1 rfl (lv_room (Nat.le_of_ble_eq_true rfl)) dX9_take_12 ⟨Nat.le_of_ble_eq_true rfl, Nat.le_of_ble_eq_true rfl⟩) hS (fun q _ h => hFc q h) hFc (fun u ra_12 t H1 locs ht hvm hw hB hz1 hk1 hS => ?_)
    obtain ⟨n1_12, f1_12⟩ := u
    obtain ⟨p0_12, p1_12⟩ : (OKw n1_12 f1_12) ∧ (wN n1_12 f1_12 = ((f9 0) % 18446744073709551616).toNat) := hw
    obtain ⟨hra_12, hP1, hK1, hD1⟩ := hB
    subst ra_12
    rw [ht] at hP1
    obtain ⟨hP, hD⟩ := va_join (wr := [(qq, .inr (2, [.ref qqw, .int (I3 nqq)])), (qqw, .inl (dA 0, 36, .inl (iA fqq)))]) (w1 := [(pp, .inr (2, [.ref ppw, .int (I3 n1_12)])), (ppw, .inl (dA 0, 36, .inl (iA f1_12)))]) hP hD [0, 1] [2, 3] rfl rfl (by decide) (by decide) hk1 hFc hP1 hD1
    have hP := hP.sub (ws' := [(pp, .inr (2, [.ref ppw, .int (I3 n1_12)])), (ppw, .inl (dA 0, 36, .inl (iA f1_12))), (qq, .inr (2, [.ref qqw, .int (I3 nqq)])), (qqw, .inl (dA 0, 36, .inl (iA fqq)))]) [2, 3, 0, 1] rfl
    have hD := hD.sub (ws' := [(pp, .inr (2, [.ref ppw, .int (I3 n1_12)])), (ppw, .inl (dA 0, 36, .inl (iA f1_12))), (qq, .inr (2, [.ref qqw, .int (I3 nqq)])), (qqw, .inl (dA 0, 36, .inl (iA fqq)))]) [2, 3, 0, 1] (by decide) rfl
    generalize H1 = H at hP hS ⊢
    refine lv_pop hx hb dX9_take_15 rfl ?_
    refine lv_aload_n hx hb dX9_take_16 rfl (lv_at hl 3 rfl) ?_
    refine lv_aload_n hx hb dX9_take_17 rfl (lv_at hl 0 rfl) ?_
    refine lv_iconst (v := I3 (1)) hx hb dX9_take_18 rfl ?_
    refine ix_lald hx hb hK (roP.at hq1 hS) j1 1 hj1 rfl (Nat.le_of_ble_eq_true rfl) (by omega) dX9_take_19 ?_
    have h_2 : Dg fqq := by exact hDq
    have hPc := hP.sub (ws' := [(qq, .inr (2, [.ref qqw, .int (I3 nqq)])), (qqw, .inl (dA 0, 36, .inl (iA fqq)))]) [2, 3] rfl
    have hDc := hD.sub (ws' := [(qq, .inr (2, [.ref qqw, .int (I3 nqq)])), (qqw, .inl (dA 0, 36, .inl (iA fqq)))]) [2, 3] (by decide) rfl
    have hFc := va_free (wc := [(qq, .inr (2, [.ref qqw, .int (I3 nqq)])), (qqw, .inl (dA 0, 36, .inl (iA fqq)))]) hD hS hA [2, 3] rfl
    refine va_callr (va_runV (As := [.long (L6 (f9 1))]) (rest := []) ⟨hx, hb, hml, hown, hts⟩ (metX7_set l dC dI dA qq qqw H.size nqq fqq (f9 1) h_2) (cwV 1 hts (lw_V q614 q218 q219 q65 q220) rfl rfl rfl (by decide +kernel) ⟨Nat.le_of_ble_eq_true rfl, Nat.le_of_ble_eq_true rfl⟩) ⟨fun a U g mk q => by obtain ⟨q0, q1, qP, qK, qD⟩ := q; exact ⟨q0, q1, qP, va_K.moved (u := U) (U := U.calling g mk a) (Vm.Alike.refl U.vm) qK, qD⟩, va_recv hK hP (ci := 2) (q0 := 2) rfl rfl, fun U hU hW => ⟨rfl, by rw [hU], by rw [hU]; exact hPc, va_K.moved hW.alike hK, hDc.weaken (fun _ _ _ _ => trivial)⟩⟩ rfl rfl hl.1 rfl (lv_room (Nat.le_of_ble_eq_true rfl)) dX9_take_20 ⟨Nat.le_of_ble_eq_true rfl, Nat.le_of_ble_eq_true rfl⟩) hS (fun q _ h => hFc q h) hFc (fun u ra_20 t H1 locs ht hvm hw hB hz1 hk1 hS => ?_)
    obtain ⟨n1_20, f1_20⟩ := u
    obtain ⟨p0_20, p1_20⟩ : (OKw n1_20 f1_20) ∧ (wN n1_20 f1_20 = ((f9 1) % 18446744073709551616).toNat) := hw
    obtain ⟨hra_20, hP1, hK1, hD1⟩ := hB
    subst ra_20
    rw [ht] at hP1
    obtain ⟨hP, hD⟩ := va_join (wr := [(pp, .inr (2, [.ref ppw, .int (I3 n1_12)])), (ppw, .inl (dA 0, 36, .inl (iA f1_12)))]) (w1 := [(qq, .inr (2, [.ref qqw, .int (I3 n1_20)])), (qqw, .inl (dA 0, 36, .inl (iA f1_20)))]) hP hD [2, 3] [0, 1] rfl rfl (by decide) (by decide) hk1 hFc hP1 hD1
    have hP : va_P (dC, dI) vwCl [(pp, .inr (2, [.ref ppw, .int (I3 n1_12)])), (ppw, .inl (dA 0, 36, .inl (iA f1_12))), (qq, .inr (2, [.ref qqw, .int (I3 n1_20)])), (qqw, .inl (dA 0, 36, .inl (iA f1_20)))] H1 := hP
    have hD : va_D A [(pp, .inr (2, [.ref ppw, .int (I3 n1_12)])), (ppw, .inl (dA 0, 36, .inl (iA f1_12))), (qq, .inr (2, [.ref qqw, .int (I3 n1_20)])), (qqw, .inl (dA 0, 36, .inl (iA f1_20)))] := hD
    generalize H1 = H at hP hS ⊢
    refine lv_pop hx hb dX9_take_23 rfl ?_
    refine lv_goto (tgt := 55) hx hb dX9_take_24 (by decide) ?_
    refine W.widen (k := 3) (n := 490) (Nat.le_of_ble_eq_true rfl) (Nat.le_of_ble_eq_true rfl) ?_
    have o_3 : OKw n1_12 f1_12 := by first | exact p0_12 | exact p0_42
    have o_4 : wN n1_12 f1_12 = P9 := by first | (rw [p1_42]; exact w0) | (rw [p1_12, e0]; omega)
    have o_5 : OKw n1_20 f1_20 := by first | exact p0_20 | exact p0_51
    have o_6 : wN n1_20 f1_20 = Q9 := by first | (rw [p1_51]; exact w1) | (rw [p1_20, e1]; omega)
    refine vx_ret ?_
    exact W.vret hx hb hr (fun t ht hW => ⟨⟨(n1_12, f1_12, n1_20, f1_20), rfl, ⟨o_3, o_4, o_5, o_6⟩, by rw [ht]; exact hP, va_K.moved hW.alike hK, hD⟩, hS.F ht⟩) hS.2.2 dX9_take_55
  · skip
    obtain ⟨j1, hj1⟩ := List.getElem?_of_mem ho9
    obtain ⟨j2, hj2⟩ := List.getElem?_of_mem hm0
    obtain ⟨j3, hj3⟩ := List.getElem?_of_mem hm1
    refine lv_aload_n hx hb dX9_take_0 rfl (lv_at hl 0 rfl) ?_
    refine va_get (D := (dC, dI)) (ci := 3) (v := .ref fa) (C := RX9) (T := TX9) (N := 2) hx hb hts in_X9 hown hK (roP.at hq1 hS) j0 hj0 rfl 1 (by decide) (hts _ q418) (fun _ h9 => h9) rfl dX9_take_1 ?_
    refine ix_castF hx hb hown (hts _ q576) hq0 hK (roP.at hq1 hS) j1 hj1 dX9_take_4 (fun tx htx => ?_)
    refine xn_C hx hlt hts hq0 hS (hl.1.trans hml.symm) htx (Nat.le_of_ble_eq_true rfl) (Nat.le_of_ble_eq_true rfl) (Nat.le_of_ble_eq_true rfl) (Nat.le_of_ble_eq_true rfl) hlocks (fun H1 q9_4 ce_4 hz1 hk1 hS hce_4 hcv_4 hcl_4 => ?_)
    have hP := xk_P hP hz1 hk1
    refine vx_widen (k := 3) (n := 490) (Nat.le_of_ble_eq_true rfl) (Nat.le_of_ble_eq_true rfl) ?_
    clear hz1 hk1
    generalize H1 = H at hP hS hce_4 ⊢
    refine vx_catch (E := "java/lang/ClassCastException") (name := "java/lang/ClassCastException") hown [] (tE 0 24 27 27) [] (by rw [htb]; rfl) (fun z hz => nomatch hz) (by decide) (by decide) (hts _ q600) (hq0.2.2.1.use q612 rfl) hce_4 hcv_4 hcl_4 ?_
    refine lv_astore_n (lv' := [(3, .ref q9_4), (0, .ref ai), (1, .ref pp), (2, .ref qq)]) hx hb dX9_take_27 rfl hl (by decide) rfl (fun ls hl => ?_)
    refine lv_aload_n hx hb dX9_take_28 rfl (lv_at hl 1 rfl) ?_
    refine va_get (D := (dC, dI)) (ci := 3) (v := .ref fa) (C := RX9) (T := TX9) (N := 2) hx hb hts in_X9 hown hK (roP.at hq1 hS) j0 hj0 rfl 1 (by decide) (hts _ q418) (fun _ h9 => h9) rfl dX9_take_29 ?_
    refine va_castA hx hb hown (hts _ q577) (roP.at hq1 hS) j1 hj1 (nm_ints hK) dX9_take_32 ?_
    refine lv_astore (lv' := [(4, .ref fa), (3, .ref q9_4), (0, .ref ai), (1, .ref pp), (2, .ref qq)]) hx hb dX9_take_35 hl (by decide) rfl (fun ls hl => ?_)
    refine lv_aload_n hx hb dX9_take_37 rfl (lv_at hl 3 rfl) ?_
    refine lv_aload hx hb dX9_take_38 (lv_at hl 0 rfl) ?_
    refine lv_iconst (v := I3 (0)) hx hb dX9_take_40 rfl ?_
    refine ix_aalda hx hb hK (roP.at hq1 hS) j1 4 hj1 rfl (by first | assumption | omega) (Nat.le_of_ble_eq_true rfl) dX9_take_41 ?_
    refine ix_rf (y := a0) (by exact eo0) ?_
    have h_7 : Dg fpp := by exact hDp
    have h_8 : Dg f0 := by exact hd0_
    have h_9 : (a0, .inl (dA 0, 8, .inl (iA f0))) ∈ pl := by exact hm0
    have hPc := hP.sub (ws' := [(pp, .inr (2, [.ref ppw, .int (I3 npp)])), (ppw, .inl (dA 0, 36, .inl (iA fpp)))]) [0, 1] rfl
    have hDc := hD.sub (ws' := [(pp, .inr (2, [.ref ppw, .int (I3 npp)])), (ppw, .inl (dA 0, 36, .inl (iA fpp)))]) [0, 1] (by decide) rfl
    have hFc := va_free (wc := [(pp, .inr (2, [.ref ppw, .int (I3 npp)])), (ppw, .inl (dA 0, 36, .inl (iA fpp)))]) hD hS hA [0, 1] rfl
    refine va_callr (va_runV (As := [.ref a0]) (rest := []) ⟨hx, hb, hml, hown, hts⟩ (metX7_set_3 l dC dI dA pp ppw a0 H.size npp fpp f0 pl h_7 h_8 h_9) (cwV 1 hts (lw_V q615 q616 q617 q65 q618) rfl rfl rfl (by decide +kernel) ⟨Nat.le_of_ble_eq_true rfl, Nat.le_of_ble_eq_true rfl⟩) ⟨fun a U g mk q => by obtain ⟨q0, q1, qP, qK, qD, qF0⟩ := q; exact ⟨q0, q1, qP, va_K.moved (u := U) (U := U.calling g mk a) (Vm.Alike.refl U.vm) qK, qD, roP.moved (u := U) (U := U.calling g mk a) (State.WarmedH.refl U) qF0⟩, va_recv hK hP (ci := 2) (q0 := 0) rfl rfl, fun U hU hW => ⟨rfl, by rw [hU], by rw [hU]; exact hPc, va_K.moved hW.alike hK, hDc.weaken (fun _ _ _ _ => trivial), by rw [hU]; exact roP.moved hW ((roP.kept hq1 hS).narrow hFc)⟩⟩ rfl rfl hl.1 rfl (lv_room (Nat.le_of_ble_eq_true rfl)) dX9_take_42 ⟨Nat.le_of_ble_eq_true rfl, Nat.le_of_ble_eq_true rfl⟩) hS (fun q _ h => hFc q h) hFc (fun u ra_42 t H1 locs ht hvm hw hB hz1 hk1 hS => ?_)
    obtain ⟨n1_42, f1_42⟩ := u
    obtain ⟨p0_42, p1_42⟩ : (OKw n1_42 f1_42) ∧ (wN n1_42 f1_42 = wN 8 f0) := hw
    obtain ⟨hra_42, hP1, hK1, hD1⟩ := hB
    subst ra_42
    rw [ht] at hP1
    obtain ⟨hP, hD⟩ := va_join (wr := [(qq, .inr (2, [.ref qqw, .int (I3 nqq)])), (qqw, .inl (dA 0, 36, .inl (iA fqq)))]) (w1 := [(pp, .inr (2, [.ref ppw, .int (I3 n1_42)])), (ppw, .inl (dA 0, 36, .inl (iA f1_42)))]) hP hD [0, 1] [2, 3] rfl rfl (by decide) (by decide) hk1 hFc hP1 hD1
    have hP := hP.sub (ws' := [(pp, .inr (2, [.ref ppw, .int (I3 n1_42)])), (ppw, .inl (dA 0, 36, .inl (iA f1_42))), (qq, .inr (2, [.ref qqw, .int (I3 nqq)])), (qqw, .inl (dA 0, 36, .inl (iA fqq)))]) [2, 3, 0, 1] rfl
    have hD := hD.sub (ws' := [(pp, .inr (2, [.ref ppw, .int (I3 n1_42)])), (ppw, .inl (dA 0, 36, .inl (iA f1_42))), (qq, .inr (2, [.ref qqw, .int (I3 nqq)])), (qqw, .inl (dA 0, 36, .inl (iA fqq)))]) [2, 3, 0, 1] (by decide) rfl
    generalize H1 = H at hP hS ⊢
    refine lv_pop hx hb dX9_take_45 rfl ?_
    refine lv_aload_n hx hb dX9_take_46 rfl (lv_at hl 4 rfl) ?_
    refine lv_aload hx hb dX9_take_47 (lv_at hl 0 rfl) ?_
    refine lv_iconst (v := I3 (1)) hx hb dX9_take_49 rfl ?_
    refine ix_aalda hx hb hK (roP.at hq1 hS) j1 4 hj1 rfl (by first | assumption | omega) (Nat.le_of_ble_eq_true rfl) dX9_take_50 ?_
    refine ix_rf (y := a1) (by exact eo1) ?_
    have h_10 : Dg fqq := by exact hDq
    have h_11 : Dg f1 := by exact hd1_
    have h_12 : (a1, .inl (dA 0, 8, .inl (iA f1))) ∈ pl := by exact hm1
    have hPc := hP.sub (ws' := [(qq, .inr (2, [.ref qqw, .int (I3 nqq)])), (qqw, .inl (dA 0, 36, .inl (iA fqq)))]) [2, 3] rfl
    have hDc := hD.sub (ws' := [(qq, .inr (2, [.ref qqw, .int (I3 nqq)])), (qqw, .inl (dA 0, 36, .inl (iA fqq)))]) [2, 3] (by decide) rfl
    have hFc := va_free (wc := [(qq, .inr (2, [.ref qqw, .int (I3 nqq)])), (qqw, .inl (dA 0, 36, .inl (iA fqq)))]) hD hS hA [2, 3] rfl
    refine va_callr (va_runV (As := [.ref a1]) (rest := []) ⟨hx, hb, hml, hown, hts⟩ (metX7_set_3 l dC dI dA qq qqw a1 H.size nqq fqq f1 pl h_10 h_11 h_12) (cwV 1 hts (lw_V q615 q616 q617 q65 q618) rfl rfl rfl (by decide +kernel) ⟨Nat.le_of_ble_eq_true rfl, Nat.le_of_ble_eq_true rfl⟩) ⟨fun a U g mk q => by obtain ⟨q0, q1, qP, qK, qD, qF0⟩ := q; exact ⟨q0, q1, qP, va_K.moved (u := U) (U := U.calling g mk a) (Vm.Alike.refl U.vm) qK, qD, roP.moved (u := U) (U := U.calling g mk a) (State.WarmedH.refl U) qF0⟩, va_recv hK hP (ci := 2) (q0 := 2) rfl rfl, fun U hU hW => ⟨rfl, by rw [hU], by rw [hU]; exact hPc, va_K.moved hW.alike hK, hDc.weaken (fun _ _ _ _ => trivial), by rw [hU]; exact roP.moved hW ((roP.kept hq1 hS).narrow hFc)⟩⟩ rfl rfl hl.1 rfl (lv_room (Nat.le_of_ble_eq_true rfl)) dX9_take_51 ⟨Nat.le_of_ble_eq_true rfl, Nat.le_of_ble_eq_true rfl⟩) hS (fun q _ h => hFc q h) hFc (fun u ra_51 t H1 locs ht hvm hw hB hz1 hk1 hS => ?_)
    obtain ⟨n1_51, f1_51⟩ := u
    obtain ⟨p0_51, p1_51⟩ : (OKw n1_51 f1_51) ∧ (wN n1_51 f1_51 = wN 8 f1) := hw
    obtain ⟨hra_51, hP1, hK1, hD1⟩ := hB
    subst ra_51
    rw [ht] at hP1
    obtain ⟨hP, hD⟩ := va_join (wr := [(pp, .inr (2, [.ref ppw, .int (I3 n1_42)])), (ppw, .inl (dA 0, 36, .inl (iA f1_42)))]) (w1 := [(qq, .inr (2, [.ref qqw, .int (I3 n1_51)])), (qqw, .inl (dA 0, 36, .inl (iA f1_51)))]) hP hD [2, 3] [0, 1] rfl rfl (by decide) (by decide) hk1 hFc hP1 hD1
    have hP : va_P (dC, dI) vwCl [(pp, .inr (2, [.ref ppw, .int (I3 n1_42)])), (ppw, .inl (dA 0, 36, .inl (iA f1_42))), (qq, .inr (2, [.ref qqw, .int (I3 n1_51)])), (qqw, .inl (dA 0, 36, .inl (iA f1_51)))] H1 := hP
    have hD : va_D A [(pp, .inr (2, [.ref ppw, .int (I3 n1_42)])), (ppw, .inl (dA 0, 36, .inl (iA f1_42))), (qq, .inr (2, [.ref qqw, .int (I3 n1_51)])), (qqw, .inl (dA 0, 36, .inl (iA f1_51)))] := hD
    generalize H1 = H at hP hS ⊢
    refine lv_pop hx hb dX9_take_54 rfl ?_
    have o_13 : OKw n1_42 f1_42 := by first | exact p0_12 | exact p0_42
    have o_14 : wN n1_42 f1_42 = P9 := by first | (rw [p1_42]; exact w0) | (rw [p1_12, e0]; omega)
    have o_15 : OKw n1_51 f1_51 := by first | exact p0_20 | exact p0_51
    have o_16 : wN n1_51 f1_51 = Q9 := by first | (rw [p1_51]; exact w1) | (rw [p1_20, e1]; omega)
    refine vx_ret ?_
    exact W.vret hx hb hr (fun t ht hW => ⟨⟨(n1_42, f1_42, n1_51, f1_51), rfl, ⟨o_13, o_14, o_15, o_16⟩, by rw [ht]; exact hP, va_K.moved hW.alike hK, hD⟩, hS.F ht⟩) hS.2.2 dX9_take_55
abbrev BmetX7_init (dC : Nat → ClassId) (dI : Nat → Nat → Nat) (dA : Nat → ClassId) (A : Nat → Prop) (aa : Nat) : Nat → State → Prop := fun u t => (fun (u : Nat) => (fun (aaw : Nat) => va_P (dC, dI) vwCl [(aa, .inr (2, [.ref aaw, .int (I3 0)])), (aaw, .inl (dA 0, 36, .inl (iA (fun _ => 0))))] t.heap ∧ va_K (dC, dI) vwCl (tyA dA) t ∧ va_D A [(aa, .inr (2, [.ref aaw, .int (I3 0)])), (aaw, .inl (dA 0, 36, .inl (iA (fun _ => 0))))]) u) u
abbrev QmetX7_init (dC : Nat → ClassId) (dI : Nat → Nat → Nat) (dA : Nat → ClassId) (A : Nat → Prop) (aa : Nat) := va_Qv (fun (u : Nat) => (fun (aaw : Nat) => True) u) (BmetX7_init dC dI dA A aa) A
set_option maxHeartbeats 1000000 in
set_option maxRecDepth 100000 in
/-- a wide number is born -/
theorem metX7_init (l : Launch) (dC : Nat → ClassId) (dI : Nat → Nat → Nat) (dA : Nat → ClassId) (aa : Nat) (sz : Nat) : Met l yX7_init (ws_ yX7_init cX7_init 1 none) ({ frames := 2, cells := 1, slots := 36, locals := 80 }) (va_Pc [.ref aa] (fun U => U.heap.size = sz ∧ va_P (dC, dI) vwCl [(aa, .inr (2, [.null, .int (I3 0)]))] U.heap ∧ va_K (dC, dI) vwCl (tyA dA) U ∧ va_D (fun _ => True) [(aa, .inr (2, [.null, .int (I3 0)]))])) (QmetX7_init dC dI dA (va_A [(aa, .inr (2, [.null, .int (I3 0)]))] sz) aa) 1 36 (va_A [(aa, .inr (2, [.null, .int (I3 0)]))] sz) := by
  refine Met.ofW (cc := cX7_init) (maxL := 1) (ret := none) (by decide) rfl ?_
  intro p e s m args below meth c s₁ B hml hv
  obtain ⟨rfl, hsz, hP, hK, hD0⟩ := hv
  have hx := B.exec
  have hb := B.bytes
  have hr := B.returns
  have hts := atoms_spec (ws := (ws_ yX7_init cX7_init 1 none)) B.pre
  have hts : ∀ w ∈ lw_all, w.before _ s = true := fun w h => hts w (List.mem_cons_of_mem _ h)
  have hown : s.vm.findClass RX7 = some m.cls := findClass_of_methodNamed B.named
  have hlocks := B.notSynchronized
  have hin : meth.name = "<init>" := (name_of_methodNamed B.named B.method).1
  subst hsz
  have hD := hD0.self (sz := s.heap.size)
  generalize hAe : va_A [(aa, .inr (2, [.null, .int (I3 0)]))] s.heap.size = A at hD ⊢
  have hA : ∀ q : Nat, s.heap.size ≤ q → A q := fun q h => by rw [← hAe]; exact Or.inr h
  have hS : va_S A s.heap s.heap [] := va_S.rf
  have hP : va_P (dC, dI) vwCl [(aa, .inr (2, [.null, .int (I3 0)]))] s.heap := hP
  have hl := lv_entry ([.ref aa]) (n := 1) (Nat.le_of_ble_eq_true rfl)
  rw [lg_entry_eq]
  generalize (lg_sl ([.ref aa]) ++ List.replicate (1 - (lg_sl ([.ref aa])).length) Slot.unset).toArray = ls at hl ⊢
  have hl : lv_has ls 1 [(0, .ref aa)] := hl
  refine lv_aload_n hx hb dX7_init_0 rfl (lv_at hl 0 rfl) ?_
  refine W.objInit hx hb hown (hts _ q134) (hts _ q92) (hts _ q93) rfl (by rw [hml]; exact hl.1) rfl dX7_init_1 (Nat.le_of_ble_eq_true rfl) (Nat.le_of_ble_eq_true rfl) ?_
  refine W.eq (g2 := F0 m 4 ls []) rfl ?_
  refine lv_aload_n hx hb dX7_init_4 rfl (lv_at hl 0 rfl) ?_
  refine lv_bipush (v := I3 (36)) hx hb dX7_init_5 (by decide) ?_
  refine ix_newai hx hb (hts _ q144) hK hP hD hS hA 36 rfl (by decide) (Nat.le_of_ble_eq_true rfl) (Nat.le_of_ble_eq_true rfl) dX7_init_7 (fun nw_7 H hP hD hS => ?_)
  have hP : va_P (dC, dI) vwCl [(aa, .inr (2, [.null, .int (I3 0)])), (nw_7, .inl (dA 0, 36, .inl (iA (fun _ => 0))))] H := hP
  have hD : va_D A [(aa, .inr (2, [.null, .int (I3 0)])), (nw_7, .inl (dA 0, 36, .inl (iA (fun _ => 0))))] := hD
  refine W.widen (k := 1) (n := 36) (Nat.le_of_ble_eq_true rfl) (Nat.le_of_ble_eq_true rfl) ?_
  refine va_putF (D := (dC, dI)) (ci := 2) (v := .ref nw_7) (ty := (.array .int)) (C := RX7) (T := TX7) (N := 2) hx hb hts in_X7 tyX7 tyX7_ok nmX7 hown hK hP hD hS 0 rfl rfl 0 (by decide) (hts _ q135) (fun _ h9 => h9) rfl hin rfl (by decide +kernel) rfl rfl (Nat.le_of_ble_eq_true rfl) dX7_init_9 (fun H locs hP hD hS => ?_)
  have hP : va_P (dC, dI) vwCl [(aa, .inr (2, [.ref nw_7, .int (I3 0)])), (nw_7, .inl (dA 0, 36, .inl (iA (fun _ => 0))))] H := hP
  have hD : va_D A [(aa, .inr (2, [.ref nw_7, .int (I3 0)])), (nw_7, .inl (dA 0, 36, .inl (iA (fun _ => 0))))] := hD
  exact W.vret hx hb hr (fun t ht hW => ⟨⟨nw_7, rfl, trivial, by rw [ht]; exact hP, va_K.moved hW.alike hK, hD⟩, hS.F ht⟩) hS.2.2 dX7_init_12
abbrev BmetX9_isWhole (dC : Nat → ClassId) (dI : Nat → Nat → Nat) (dA : Nat → ClassId) (A : Nat → Prop) (ai : Nat) (pl : va_W) (g : Int) (P9 : Nat) (Q9 : Nat) : Int → State → Prop := fun u t => (fun (u : Int) => (fun (z : Int) => va_P (dC, dI) vwCl [] t.heap ∧ va_K (dC, dI) vwCl (tyA dA) t ∧ va_D A []) u) u
abbrev QmetX9_isWhole (dC : Nat → ClassId) (dI : Nat → Nat → Nat) (dA : Nat → ClassId) (A : Nat → Prop) (ai : Nat) (pl : va_W) (g : Int) (P9 : Nat) (Q9 : Nat) := va_Qi (fun (rt_ : Int32) => fun (u : Int) => (fun (z : Int) => rt_ = I3 z ∧ (z = if Q9 = 1 then 1 else 0)) u) (BmetX9_isWhole dC dI dA A ai pl g P9 Q9) A
set_option maxHeartbeats 1000000 in
set_option maxRecDepth 100000 in
/-- whole? -/
theorem metX9_isWhole (l : Launch) (dC : Nat → ClassId) (dI : Nat → Nat → Nat) (dA : Nat → ClassId) (ai : Nat) (sz : Nat) (pl : va_W) (g : Int) (P9 : Nat) (Q9 : Nat) (hit : ItAt dA pl ai g P9 Q9) : Met l yX9_isWhole (ws_ yX9_isWhole cX9_isWhole 4 (some .boolean)) ({ frames := 3, cells := 0, slots := 0, locals := 120 }) (va_Pc [.ref ai] (fun U => U.heap.size = sz ∧ va_P (dC, dI) vwCl [] U.heap ∧ va_K (dC, dI) vwCl (tyA dA) U ∧ va_D (fun _ => True) [] ∧ FX (va_A [] sz) U U.heap ∧ roP (dC, dI) pl (va_A [] sz) U U.heap)) (QmetX9_isWhole dC dI dA (va_A [] sz) ai pl g P9 Q9) 0 0 (va_A [] sz) := by
  refine Met.ofW (cc := cX9_isWhole) (maxL := 4) (ret := (some .boolean)) (by decide) rfl ?_
  intro p e s m args below meth c s₁ B hml hv
  obtain ⟨rfl, hsz, hP, hK, hD0, hq0, hq1⟩ := hv
  have hx := B.exec
  have hb := B.bytes
  have hr := B.returns
  have hts := atoms_spec (ws := (ws_ yX9_isWhole cX9_isWhole 4 (some .boolean))) B.pre
  have hts : ∀ w ∈ lw_all, w.before _ s = true := fun w h => hts w (List.mem_cons_of_mem _ h)
  have hown : s.vm.findClass RX9 = some m.cls := findClass_of_methodNamed B.named
  have hlocks := B.notSynchronized
  subst hsz
  have hD := hD0.self (sz := s.heap.size)
  generalize hAe : va_A [] s.heap.size = A at hD hq0 hq1 ⊢
  have hA : ∀ q : Nat, s.heap.size ≤ q → A q := fun q h => by rw [← hAe]; exact Or.inr h
  have hS : va_S A s.heap s.heap [] := va_S.rf
  have hP : va_P (dC, dI) vwCl [] s.heap := hP
  have hl := lv_entry ([.ref ai]) (n := 4) (Nat.le_of_ble_eq_true rfl)
  rw [lg_entry_eq]
  generalize (lg_sl ([.ref ai]) ++ List.replicate (4 - (lg_sl ([.ref ai])).length) Slot.unset).toArray = ls at hl ⊢
  have hl : lv_has ls 4 [(0, .ref ai)] := hl
  have cut_53 : ∀ (a9 : Nat) (fw9 : Int → Int) (j9 : Nat) (w_ : Int), (pl[j9]? = some (a9, (Sum.inl (dA 0, 8, .inl (iA fw9)) : va_E))) → (Dg fw9) → (wN 8 fw9 = Q9) → ((w_ = 1 ∧ WB fw9 1) ∨ (w_ = 0 ∧ ¬ WB fw9 1)) → ∀ (H : Heap) (locs : List Loc), va_P (dC, dI) vwCl [] H → va_D A [] → va_S A s.heap H locs → ∀ (ls : Array Slot), lv_has ls 4 [(0, .ref ai), (1, .ref a9), (2, .int (I3 w_))] → W p l e (headSpec (ws_ yX9_isWhole cX9_isWhole 4 (some .boolean)) ({ frames := 3, cells := 0, slots := 0, locals := 120 })).room s m ([.ref ai] : List Value).toArray below meth c H locs 0 0 (MQ below (QmetX9_isWhole dC dI dA A ai pl g P9 Q9) ([.ref ai] : List Value).toArray s 0 0 A) (F0 m 53 ls []) := by
    intro a9 fw9 j9 w_ hj9 hd9_ w9 hw H locs hP hD hS ls hl
    have cut_55 : ∀ (fuel_55 : Nat), ∀ (w2 : Int) (k_ : Int), (1 ≤ k_ ∧ k_ ≤ 8) → ((w2 = 1 ∧ WB fw9 k_) ∨ (w2 = 0 ∧ ¬ WB fw9 k_)) → ((8 - k_).toNat < fuel_55) → ∀ (H : Heap) (locs : List Loc), va_P (dC, dI) vwCl [] H → va_D A [] → va_S A s.heap H locs → ∀ (ls : Array Slot), lv_has ls 4 [(0, .ref ai), (1, .ref a9), (2, .int (I3 w2)), (3, .int (I3 k_))] → W p l e (headSpec (ws_ yX9_isWhole cX9_isWhole 4 (some .boolean)) ({ frames := 3, cells := 0, slots := 0, locals := 120 })).room s m ([.ref ai] : List Value).toArray below meth c H locs 0 0 (MQ below (QmetX9_isWhole dC dI dA A ai pl g P9 Q9) ([.ref ai] : List Value).toArray s 0 0 A) (F0 m 55 ls []) := by
      intro fuel_55
      induction fuel_55 with
      | zero =>
        intro w2 k_ hk hw2 hm
        exact absurd hm (Nat.not_lt_zero _)
      | succ fuel_55 ih_55 =>
        intro w2 k_ hk hw2 hm_55 H locs hP hD hS ls hl
        refine lv_iload_n hx hb dX9_isWhole_55 rfl (lv_at hl 3 rfl) ?_
        refine lv_bipush (v := I3 (8)) hx hb dX9_isWhole_56 (by decide) ?_
        refine ix_icmp_ge (tgt := 83) hx hb (by first | assumption | decide | (constructor <;> omega)) (by first | assumption | decide | (constructor <;> omega)) dX9_isWhole_58 (by decide) (fun c_58 => ?_) (fun c_58 => ?_)
        · skip
          refine lv_iload_n hx hb dX9_isWhole_83 rfl (lv_at hl 2 rfl) ?_
          have o_1 : w2 = if Q9 = 1 then 1 else 0 := by exact iw_e hd9_ w9 (by omega) hw2
          exact W.zret (v := I3 w2) hx hb hr (nar_z (by omega)) (fun t ht hW => ⟨⟨I3 w2, w2, rfl, ⟨rfl, o_1⟩, by rw [ht]; exact hP, va_K.moved hW.alike hK, hD⟩, hS.F ht⟩) hS.2.2 dX9_isWhole_84
        · skip
          refine lv_iload_n hx hb dX9_isWhole_61 rfl (lv_at hl 2 rfl) ?_
          refine ix_if_eq (tgt := 75) hx hb (by first | assumption | decide | (constructor <;> omega)) dX9_isWhole_62 (by decide) (fun c_62 => ?_) (fun c_62 => ?_)
          · skip
            refine lv_iconst (v := I3 (0)) hx hb dX9_isWhole_75 rfl ?_
            refine lv_istore_n (lv' := [(2, .int (I3 0)), (0, .ref ai), (1, .ref a9), (3, .int (I3 k_))]) hx hb dX9_isWhole_76 rfl hl (by decide) rfl (fun ls hl => ?_)
            refine lv_iinc (v := I3 (k_ + 1)) (lv' := [(3, .int (I3 (k_ + 1))), (2, .int (I3 0)), (0, .ref ai), (1, .ref a9)]) hx hb dX9_isWhole_77 hl (k := 3) rfl (I3_add _ _) (by decide) rfl (fun ls hl => ?_)
            refine lv_goto (tgt := 55) hx hb dX9_isWhole_80 (by decide) ?_
            have e_2 : 1 ≤ (k_ + 1) ∧ (k_ + 1) ≤ 8 := by first | assumption | omega | (constructor <;> omega)
            have e_3 : ((0 : Int) = 1 ∧ WB fw9 (k_ + 1)) ∨ ((0 : Int) = 0 ∧ ¬ WB fw9 (k_ + 1)) := by first | assumption | exact Or.inr ⟨rfl, WB_n (hw2.elim (fun q => absurd q.1 (by omega)) (fun q => q.2))⟩ | exact Or.inr ⟨rfl, WB_f (by omega) (by omega)⟩ | exact Or.inl ⟨rfl, WB_t (hw2.elim (fun q => q.2) (fun q => absurd q.1 (by omega))) (by omega)⟩
            have e_4 : (8 - (k_ + 1)).toNat < fuel_55 := by omega
            exact ih_55 0 (k_ + 1) e_2 e_3 e_4 _ _ hP hD hS ls (lv_sub hl [2, 3, 1, 0] rfl)
          · skip
            refine lv_aload_n hx hb dX9_isWhole_65 rfl (lv_at hl 1 rfl) ?_
            refine lv_iload_n hx hb dX9_isWhole_66 rfl (lv_at hl 3 rfl) ?_
            refine ix_iald hx hb hK (roP.at hq1 hS) j9 0 hj9 rfl (Nat.le_of_ble_eq_true rfl) (by omega) dX9_isWhole_67 ?_
            have g_67 := hd9_ (k_)
            refine ix_ifm_ne (tgt := 75) hx hb dX9_isWhole_68 (by decide) (fun c_68 => ?_) (fun c_68 => ?_)
            · skip
              refine lv_iconst (v := I3 (0)) hx hb dX9_isWhole_75 rfl ?_
              refine lv_istore_n (lv' := [(2, .int (I3 0)), (0, .ref ai), (1, .ref a9), (3, .int (I3 k_))]) hx hb dX9_isWhole_76 rfl hl (by decide) rfl (fun ls hl => ?_)
              refine lv_iinc (v := I3 (k_ + 1)) (lv' := [(3, .int (I3 (k_ + 1))), (2, .int (I3 0)), (0, .ref ai), (1, .ref a9)]) hx hb dX9_isWhole_77 hl (k := 3) rfl (I3_add _ _) (by decide) rfl (fun ls hl => ?_)
              refine lv_goto (tgt := 55) hx hb dX9_isWhole_80 (by decide) ?_
              have e_5 : 1 ≤ (k_ + 1) ∧ (k_ + 1) ≤ 8 := by first | assumption | omega | (constructor <;> omega)
              have e_6 : ((0 : Int) = 1 ∧ WB fw9 (k_ + 1)) ∨ ((0 : Int) = 0 ∧ ¬ WB fw9 (k_ + 1)) := by first | assumption | exact Or.inr ⟨rfl, WB_n (hw2.elim (fun q => absurd q.1 (by omega)) (fun q => q.2))⟩ | exact Or.inr ⟨rfl, WB_f (by omega) (by omega)⟩ | exact Or.inl ⟨rfl, WB_t (hw2.elim (fun q => q.2) (fun q => absurd q.1 (by omega))) (by omega)⟩
              have e_7 : (8 - (k_ + 1)).toNat < fuel_55 := by omega
              exact ih_55 0 (k_ + 1) e_5 e_6 e_7 _ _ hP hD hS ls (lv_sub hl [2, 3, 1, 0] rfl)
            · skip
              refine lv_iconst (v := I3 (1)) hx hb dX9_isWhole_71 rfl ?_
              refine lv_goto (tgt := 76) hx hb dX9_isWhole_72 (by decide) ?_
              refine lv_istore_n (lv' := [(2, .int (I3 1)), (0, .ref ai), (1, .ref a9), (3, .int (I3 k_))]) hx hb dX9_isWhole_76 rfl hl (by decide) rfl (fun ls hl => ?_)
              refine lv_iinc (v := I3 (k_ + 1)) (lv' := [(3, .int (I3 (k_ + 1))), (2, .int (I3 1)), (0, .ref ai), (1, .ref a9)]) hx hb dX9_isWhole_77 hl (k := 3) rfl (I3_add _ _) (by decide) rfl (fun ls hl => ?_)
              refine lv_goto (tgt := 55) hx hb dX9_isWhole_80 (by decide) ?_
              have e_8 : 1 ≤ (k_ + 1) ∧ (k_ + 1) ≤ 8 := by first | assumption | omega | (constructor <;> omega)
              have e_9 : ((1 : Int) = 1 ∧ WB fw9 (k_ + 1)) ∨ ((1 : Int) = 0 ∧ ¬ WB fw9 (k_ + 1)) := by first | assumption | exact Or.inr ⟨rfl, WB_n (hw2.elim (fun q => absurd q.1 (by omega)) (fun q => q.2))⟩ | exact Or.inr ⟨rfl, WB_f (by omega) (by omega)⟩ | exact Or.inl ⟨rfl, WB_t (hw2.elim (fun q => q.2) (fun q => absurd q.1 (by omega))) (by omega)⟩
              have e_10 : (8 - (k_ + 1)).toNat < fuel_55 := by omega
              exact ih_55 1 (k_ + 1) e_8 e_9 e_10 _ _ hP hD hS ls (lv_sub hl [2, 3, 1, 0] rfl)
    refine lv_iconst (v := I3 (1)) hx hb dX9_isWhole_53 rfl ?_
    refine lv_istore_n (lv' := [(3, .int (I3 1)), (0, .ref ai), (1, .ref a9), (2, .int (I3 w_))]) hx hb dX9_isWhole_54 rfl hl (by decide) rfl (fun ls hl => ?_)
    have e_11 : 1 ≤ (1 : Int) ∧ (1 : Int) ≤ 8 := by first | assumption | omega | (constructor <;> omega)
    have e_12 : (w_ = 1 ∧ WB fw9 (1 : Int)) ∨ (w_ = 0 ∧ ¬ WB fw9 (1 : Int)) := by first | assumption | exact Or.inr ⟨rfl, WB_n (hw2.elim (fun q => absurd q.1 (by omega)) (fun q => q.2))⟩ | exact Or.inr ⟨rfl, WB_f (by omega) (by omega)⟩ | exact Or.inl ⟨rfl, WB_t (hw2.elim (fun q => q.2) (fun q => absurd q.1 (by omega))) (by omega)⟩
    exact cut_55 ((8 - (1 : Int)).toNat + 1) w_ 1 e_11 e_12 (Nat.lt_succ_self _) _ _ hP hD hS ls (lv_sub hl [1, 2, 3, 0] rfl)
  obtain ⟨fa, hm9, hcs⟩ := hit
  obtain ⟨j0, hj0⟩ := List.getElem?_of_mem hm9
  rcases hcs with ⟨hP63, hQ63, f9, hf9, e0, e1⟩ | ⟨o9, a0, a1, f0, f1, ho9, eo0, eo1, hm0, hm1, hd0_, hd1_, w0, w1⟩
  · skip
    obtain ⟨j1, hj1⟩ := List.getElem?_of_mem hf9
    refine lv_aload_n hx hb dX9_isWhole_0 rfl (lv_at hl 0 rfl) ?_
    refine va_get (D := (dC, dI)) (ci := 3) (v := .ref fa) (C := RX9) (T := TX9) (N := 2) hx hb hts in_X9 hown hK (roP.at hq1 hS) j0 hj0 rfl 1 (by decide) (hts _ q418) (fun _ h9 => h9) rfl dX9_isWhole_1 ?_
    refine ix_inst_long hx hb hown (hts _ q576) hq0 hK (roP.at hq1 hS) j1 hj1 dX9_isWhole_4 ?_
    refine ix_if_eq (tgt := 30) hx hb (by first | assumption | decide | (constructor <;> omega)) dX9_isWhole_7 (by decide) (fun c_7 => ?_) (fun c_7 => ?_)
    · skip
      omega
    · skip
      refine lv_aload_n hx hb dX9_isWhole_10 rfl (lv_at hl 0 rfl) ?_
      refine va_get (D := (dC, dI)) (ci := 3) (v := .ref fa) (C := RX9) (T := TX9) (N := 2) hx hb hts in_X9 hown hK (roP.at hq1 hS) j0 hj0 rfl 1 (by decide) (hts _ q418) (fun _ h9 => h9) rfl dX9_isWhole_11 ?_
      refine va_castA hx hb hown (hts _ q576) (roP.at hq1 hS) j1 hj1 (nm_long hK) dX9_isWhole_14 ?_
      refine lv_iconst (v := I3 (1)) hx hb dX9_isWhole_17 rfl ?_
      refine ix_lald hx hb hK (roP.at hq1 hS) j1 1 hj1 rfl (Nat.le_of_ble_eq_true rfl) (by omega) dX9_isWhole_18 ?_
      refine lv_lconst (v := L6 1) hx hb dX9_isWhole_19 (by decide) ?_
      refine ix_lcmp_ne (tgt := 28) hx hb (by first | assumption | decide | (constructor <;> omega)) (by first | assumption | decide | (constructor <;> omega)) dX9_isWhole_20 dX9_isWhole_21 (by decide) (fun c_20 => ?_) (fun c_20 => ?_)
      · skip
        refine lv_iconst (v := I3 (0)) hx hb dX9_isWhole_28 rfl ?_
        have o_13 : (0 : Int) = if Q9 = 1 then 1 else 0 := by first | (rw [if_pos (by omega)]; done) | (rw [if_neg (by omega)]; done)
        exact W.zret (v := I3 0) hx hb hr rfl (fun t ht hW => ⟨⟨I3 0, 0, rfl, ⟨rfl, o_13⟩, by rw [ht]; exact hP, va_K.moved hW.alike hK, hD⟩, hS.F ht⟩) hS.2.2 dX9_isWhole_29
      · skip
        refine lv_iconst (v := I3 (1)) hx hb dX9_isWhole_24 rfl ?_
        refine lv_goto (tgt := 29) hx hb dX9_isWhole_25 (by decide) ?_
        have o_14 : (1 : Int) = if Q9 = 1 then 1 else 0 := by first | (rw [if_pos (by omega)]; done) | (rw [if_neg (by omega)]; done)
        exact W.zret (v := I3 1) hx hb hr rfl (fun t ht hW => ⟨⟨I3 1, 1, rfl, ⟨rfl, o_14⟩, by rw [ht]; exact hP, va_K.moved hW.alike hK, hD⟩, hS.F ht⟩) hS.2.2 dX9_isWhole_29
  · skip
    obtain ⟨j1, hj1⟩ := List.getElem?_of_mem ho9
    obtain ⟨j2, hj2⟩ := List.getElem?_of_mem hm0
    obtain ⟨j3, hj3⟩ := List.getElem?_of_mem hm1
    refine lv_aload_n hx hb dX9_isWhole_0 rfl (lv_at hl 0 rfl) ?_
    refine va_get (D := (dC, dI)) (ci := 3) (v := .ref fa) (C := RX9) (T := TX9) (N := 2) hx hb hts in_X9 hown hK (roP.at hq1 hS) j0 hj0 rfl 1 (by decide) (hts _ q418) (fun _ h9 => h9) rfl dX9_isWhole_1 ?_
    refine ix_inst_ints hx hb hown (hts _ q576) hq0 hK (roP.at hq1 hS) j1 hj1 dX9_isWhole_4 ?_
    refine ix_if_eq (tgt := 30) hx hb (by first | assumption | decide | (constructor <;> omega)) dX9_isWhole_7 (by decide) (fun c_7 => ?_) (fun c_7 => ?_)
    · skip
      refine lv_aload_n hx hb dX9_isWhole_30 rfl (lv_at hl 0 rfl) ?_
      refine va_get (D := (dC, dI)) (ci := 3) (v := .ref fa) (C := RX9) (T := TX9) (N := 2) hx hb hts in_X9 hown hK (roP.at hq1 hS) j0 hj0 rfl 1 (by decide) (hts _ q418) (fun _ h9 => h9) rfl dX9_isWhole_31 ?_
      refine va_castA hx hb hown (hts _ q577) (roP.at hq1 hS) j1 hj1 (nm_ints hK) dX9_isWhole_34 ?_
      refine lv_iconst (v := I3 (1)) hx hb dX9_isWhole_37 rfl ?_
      refine ix_aalda hx hb hK (roP.at hq1 hS) j1 4 hj1 rfl (by first | assumption | omega) (Nat.le_of_ble_eq_true rfl) dX9_isWhole_38 ?_
      refine ix_rf (y := a1) (by exact eo1) ?_
      refine lv_astore_n (lv' := [(1, .ref a1), (0, .ref ai)]) hx hb dX9_isWhole_39 rfl hl (by decide) rfl (fun ls hl => ?_)
      refine lv_aload_n hx hb dX9_isWhole_40 rfl (lv_at hl 0 rfl) ?_
      refine lv_iconst (v := I3 (0)) hx hb dX9_isWhole_41 rfl ?_
      refine ix_iald hx hb hK (roP.at hq1 hS) j3 0 hj3 rfl (Nat.le_of_ble_eq_true rfl) (by omega) dX9_isWhole_42 ?_
      have g_42 := hd1_ (0)
      refine lv_iconst (v := I3 (1)) hx hb dX9_isWhole_43 rfl ?_
      refine ix_icmpm_ne (tgt := 51) hx hb dX9_isWhole_44 (by decide) (fun c_44 => ?_) (fun c_44 => ?_)
      · skip
        refine lv_iconst (v := I3 (0)) hx hb dX9_isWhole_51 rfl ?_
        refine lv_istore_n (lv' := [(2, .int (I3 0)), (1, .ref a1), (0, .ref ai)]) hx hb dX9_isWhole_52 rfl hl (by decide) rfl (fun ls hl => ?_)
        have e_15 : pl[j3]? = some (a1, (Sum.inl (dA 0, 8, .inl (iA f1)) : va_E)) := by exact hj3
        have e_16 : Dg f1 := by exact hd1_
        have e_17 : wN 8 f1 = Q9 := by exact w1
        have e_18 : ((0 : Int) = 1 ∧ WB f1 1) ∨ ((0 : Int) = 0 ∧ ¬ WB f1 1) := by exact Or.inr ⟨rfl, fun q => absurd (WB_1.mp q) (by omega)⟩
        exact cut_53 a1 f1 j3 0 e_15 e_16 e_17 e_18 _ _ hP hD hS ls (lv_sub hl [2, 1, 0] rfl)
      · skip
        refine lv_iconst (v := I3 (1)) hx hb dX9_isWhole_47 rfl ?_
        refine lv_goto (tgt := 52) hx hb dX9_isWhole_48 (by decide) ?_
        refine lv_istore_n (lv' := [(2, .int (I3 1)), (1, .ref a1), (0, .ref ai)]) hx hb dX9_isWhole_52 rfl hl (by decide) rfl (fun ls hl => ?_)
        have e_19 : pl[j3]? = some (a1, (Sum.inl (dA 0, 8, .inl (iA f1)) : va_E)) := by exact hj3
        have e_20 : Dg f1 := by exact hd1_
        have e_21 : wN 8 f1 = Q9 := by exact w1
        have e_22 : ((1 : Int) = 1 ∧ WB f1 1) ∨ ((1 : Int) = 0 ∧ ¬ WB f1 1) := by exact Or.inl ⟨rfl, WB_1.mpr (by omega)⟩
        exact cut_53 a1 f1 j3 1 e_19 e_20 e_21 e_22 _ _ hP hD hS ls (lv_sub hl [2, 1, 0] rfl)
    · skip
      omega
