/-! the component -/
set_option maxRecDepth 100000
abbrev BmetX1_item (dC : Nat → ClassId) (dI : Nat → Nat → Nat) (dA : Nat → ClassId) (A : Nat → Prop) (ax : Nat) (adr : Nat) (ait : Nat) (wp : Nat) (wq : Nat) (wr : Nat) (ws : Nat) (wt : Nat) (wu : Nat) (wv : Nat) (wx : Nat) (wy : Nat) (wz : Nat) (mn : Int) (sg : Int) (rch : Int) (lft : Int) (isl : Int) (it : Nat → Option Nat) (SG : Int → Int) (VL : Int → Int) (pl : va_W) (a : Int) : Nat → Nat → State → Prop := fun u ra t => (fun (u : Nat) => (fun (ad : Nat) => ra = ad ∧ va_P (dC, dI) vwCl [(ax, .inr (1, [.ref adr, .ref ait, .int (I3 mn), .ref wp, .ref wq, .ref wr, .ref ws, .ref wt, .ref wu, .ref wv, .ref wx, .ref wy, .ref wz, .int (I3 sg), .long (L6 rch), .int (I3 lft), .int (I3 isl)])), (ait, .inl (dA 3, 60, .inr (.inr (.inr (.inr (it))))))] t.heap ∧ va_K (dC, dI) vwCl (tyA dA) t ∧ va_D A [(ax, .inr (1, [.ref adr, .ref ait, .int (I3 mn), .ref wp, .ref wq, .ref wr, .ref ws, .ref wt, .ref wu, .ref wv, .ref wx, .ref wy, .ref wz, .int (I3 sg), .long (L6 rch), .int (I3 lft), .int (I3 isl)])), (ait, .inl (dA 3, 60, .inr (.inr (.inr (.inr (it))))))]) u) u
abbrev QmetX1_item (dC : Nat → ClassId) (dI : Nat → Nat → Nat) (dA : Nat → ClassId) (A : Nat → Prop) (ax : Nat) (adr : Nat) (ait : Nat) (wp : Nat) (wq : Nat) (wr : Nat) (ws : Nat) (wt : Nat) (wu : Nat) (wv : Nat) (wx : Nat) (wy : Nat) (wz : Nat) (mn : Int) (sg : Int) (rch : Int) (lft : Int) (isl : Int) (it : Nat → Option Nat) (SG : Int → Int) (VL : Int → Int) (pl : va_W) (a : Int) := va_Qr (fun (u : Nat) => (fun (ad : Nat) => (0 ≤ a ∧ a < mn) ∧ (it a.toNat = some ad) ∧ (ItAt dA pl ad (SG a) (pv VL a) (qv VL a))) u) (BmetX1_item dC dI dA A ax adr ait wp wq wr ws wt wu wv wx wy wz mn sg rch lft isl it SG VL pl a) A
abbrev XmetX1_item (dC : Nat → ClassId) (dI : Nat → Nat → Nat) (dA : Nat → ClassId) (A : Nat → Prop) (ax : Nat) (adr : Nat) (ait : Nat) (wp : Nat) (wq : Nat) (wr : Nat) (ws : Nat) (wt : Nat) (wu : Nat) (wv : Nat) (wx : Nat) (wy : Nat) (wz : Nat) (mn : Int) (sg : Int) (rch : Int) (lft : Int) (isl : Int) (it : Nat → Option Nat) (SG : Int → Int) (VL : Int → Int) (pl : va_W) (a : Int) : String → State → State → Prop := vx_X (S := Unit) (fun _ => True) (fun E u t => ((E = "java/lang/IndexOutOfBoundsException") ∧ (¬ (0 ≤ a ∧ a < mn))) ∧ va_P (dC, dI) vwCl [(ax, .inr (1, [.ref adr, .ref ait, .int (I3 mn), .ref wp, .ref wq, .ref wr, .ref ws, .ref wt, .ref wu, .ref wv, .ref wx, .ref wy, .ref wz, .int (I3 sg), .long (L6 rch), .int (I3 lft), .int (I3 isl)])), (ait, .inl (dA 3, 60, .inr (.inr (.inr (.inr (it))))))] t.heap ∧ va_K (dC, dI) vwCl (tyA dA) t ∧ va_D A [(ax, .inr (1, [.ref adr, .ref ait, .int (I3 mn), .ref wp, .ref wq, .ref wr, .ref ws, .ref wt, .ref wu, .ref wv, .ref wx, .ref wy, .ref wz, .int (I3 sg), .long (L6 rch), .int (I3 lft), .int (I3 isl)])), (ait, .inl (dA 3, 60, .inr (.inr (.inr (.inr (it))))))]) A
set_option maxHeartbeats 1000000 in
set_option maxRecDepth 100000 in
/-- the item of that number -/
theorem metX1_item (l : Launch) (hlt : l.stackTraces = false) (dC : Nat → ClassId) (dI : Nat → Nat → Nat) (dA : Nat → ClassId) (ax : Nat) (adr : Nat) (ait : Nat) (wp : Nat) (wq : Nat) (wr : Nat) (ws : Nat) (wt : Nat) (wu : Nat) (wv : Nat) (wx : Nat) (wy : Nat) (wz : Nat) (sz : Nat) (mn : Int) (sg : Int) (rch : Int) (lft : Int) (isl : Int) (it : Nat → Option Nat) (SG : Int → Int) (VL : Int → Int) (pl : va_W) (a : Int) (ha : In3 a) (hRP : RP dA pl it mn SG VL) : vx_Met l yX1_item (wsW_ yX1_item cX1_item 3 (some (.object "NumberModels$Item")) [(0, 20, 21, 71), (0, 20, 30, 76)]) ({ frames := 10, cells := 4, slots := 496, locals := 10400 }) (va_Pc [.ref ax, .int (I3 a)] (fun U => U.heap.size = sz ∧ va_P (dC, dI) vwCl [(ax, .inr (1, [.ref adr, .ref ait, .int (I3 mn), .ref wp, .ref wq, .ref wr, .ref ws, .ref wt, .ref wu, .ref wv, .ref wx, .ref wy, .ref wz, .int (I3 sg), .long (L6 rch), .int (I3 lft), .int (I3 isl)])), (ait, .inl (dA 3, 60, .inr (.inr (.inr (.inr (it))))))] U.heap ∧ va_K (dC, dI) vwCl (tyA dA) U ∧ va_D (fun _ => True) [(ax, .inr (1, [.ref adr, .ref ait, .int (I3 mn), .ref wp, .ref wq, .ref wr, .ref ws, .ref wt, .ref wu, .ref wv, .ref wx, .ref wy, .ref wz, .int (I3 sg), .long (L6 rch), .int (I3 lft), .int (I3 isl)])), (ait, .inl (dA 3, 60, .inr (.inr (.inr (.inr (it))))))] ∧ FX (va_A [(ax, .inr (1, [.ref adr, .ref ait, .int (I3 mn), .ref wp, .ref wq, .ref wr, .ref ws, .ref wt, .ref wu, .ref wv, .ref wx, .ref wy, .ref wz, .int (I3 sg), .long (L6 rch), .int (I3 lft), .int (I3 isl)])), (ait, .inl (dA 3, 60, .inr (.inr (.inr (.inr (it))))))] sz) U U.heap ∧ roP (dC, dI) pl (va_A [(ax, .inr (1, [.ref adr, .ref ait, .int (I3 mn), .ref wp, .ref wq, .ref wr, .ref ws, .ref wt, .ref wu, .ref wv, .ref wx, .ref wy, .ref wz, .int (I3 sg), .long (L6 rch), .int (I3 lft), .int (I3 isl)])), (ait, .inl (dA 3, 60, .inr (.inr (.inr (.inr (it))))))] sz) U U.heap)) (QmetX1_item dC dI dA (va_A [(ax, .inr (1, [.ref adr, .ref ait, .int (I3 mn), .ref wp, .ref wq, .ref wr, .ref ws, .ref wt, .ref wu, .ref wv, .ref wx, .ref wy, .ref wz, .int (I3 sg), .long (L6 rch), .int (I3 lft), .int (I3 isl)])), (ait, .inl (dA 3, 60, .inr (.inr (.inr (.inr (it))))))] sz) ax adr ait wp wq wr ws wt wu wv wx wy wz mn sg rch lft isl it SG VL pl a) (XmetX1_item dC dI dA (va_A [(ax, .inr (1, [.ref adr, .ref ait, .int (I3 mn), .ref wp, .ref wq, .ref wr, .ref ws, .ref wt, .ref wu, .ref wv, .ref wx, .ref wy, .ref wz, .int (I3 sg), .long (L6 rch), .int (I3 lft), .int (I3 isl)])), (ait, .inl (dA 3, 60, .inr (.inr (.inr (.inr (it))))))] sz) ax adr ait wp wq wr ws wt wu wv wx wy wz mn sg rch lft isl it SG VL pl a) 4 496 (va_A [(ax, .inr (1, [.ref adr, .ref ait, .int (I3 mn), .ref wp, .ref wq, .ref wr, .ref ws, .ref wt, .ref wu, .ref wv, .ref wx, .ref wy, .ref wz, .int (I3 sg), .long (L6 rch), .int (I3 lft), .int (I3 isl)])), (ait, .inl (dA 3, 60, .inr (.inr (.inr (.inr (it))))))] sz) := by
  refine vx_ofWH (cc := cX1_item) (maxL := 3) (ret := (some (.object "NumberModels$Item"))) (hh := [(0, 20, 21, 71), (0, 20, 30, 76)]) (by decide) rfl ?_
  intro p e s m args below meth c s₁ B hml hv
  obtain ⟨rfl, hsz, hP, hK, hD0, hq0, hq1⟩ := hv
  have hx := B.exec
  have hb := B.bytes
  have hr := B.returns
  have hts := atoms_spec (ws := (wsW_ yX1_item cX1_item 3 (some (.object "NumberModels$Item")) [(0, 20, 21, 71), (0, 20, 30, 76)])) B.pre
  have htb : c.exceptionTable.toList = tableOf [(0, 20, 21, 71), (0, 20, 30, 76)] := vx_table (x := yX1_item) B (hts _ List.mem_cons_self)
  have hts : ∀ w ∈ lw_all, w.before _ s = true := fun w h => hts w (List.mem_cons_of_mem _ h)
  have hown : s.vm.findClass RX1 = some m.cls := findClass_of_methodNamed B.named
  have hlocks := B.notSynchronized
  subst hsz
  have hD := hD0.self (sz := s.heap.size)
  generalize hAe : va_A [(ax, .inr (1, [.ref adr, .ref ait, .int (I3 mn), .ref wp, .ref wq, .ref wr, .ref ws, .ref wt, .ref wu, .ref wv, .ref wx, .ref wy, .ref wz, .int (I3 sg), .long (L6 rch), .int (I3 lft), .int (I3 isl)])), (ait, .inl (dA 3, 60, .inr (.inr (.inr (.inr (it))))))] s.heap.size = A at hD hq0 hq1 ⊢
  have hA : ∀ q : Nat, s.heap.size ≤ q → A q := fun q h => by rw [← hAe]; exact Or.inr h
  have hS : va_S A s.heap s.heap [] := va_S.rf
  have hP : va_P (dC, dI) vwCl [(ax, .inr (1, [.ref adr, .ref ait, .int (I3 mn), .ref wp, .ref wq, .ref wr, .ref ws, .ref wt, .ref wu, .ref wv, .ref wx, .ref wy, .ref wz, .int (I3 sg), .long (L6 rch), .int (I3 lft), .int (I3 isl)])), (ait, .inl (dA 3, 60, .inr (.inr (.inr (.inr (it))))))] s.heap := hP
  have hl := lv_entry ([.ref ax, .int (I3 a)]) (n := 3) (Nat.le_of_ble_eq_true rfl)
  rw [lg_entry_eq]
  generalize (lg_sl ([.ref ax, .int (I3 a)]) ++ List.replicate (3 - (lg_sl ([.ref ax, .int (I3 a)])).length) Slot.unset).toArray = ls at hl ⊢
  have hl : lv_has ls 3 [(0, .ref ax), (1, .int (I3 a))] := hl
  have hmn9 := hRP.1.1
  refine lv_aload_n hx hb dX1_item_0 rfl (lv_at hl 0 rfl) ?_
  refine va_get (D := (dC, dI)) (ci := 1) (v := .ref ait) (C := RX1) (T := TX1) (N := 17) hx hb hts in_X1 hown hK hP 0 rfl rfl 1 (by decide) (hts _ q146) (fun _ h9 => h9) rfl dX1_item_1 ?_
  refine lv_iload_n hx hb dX1_item_4 rfl (lv_at hl 1 rfl) ?_
  by_cases ib_5 : 0 ≤ a ∧ a < 60
  rotate_left
  · skip
    refine ix_aaldO hx hb hK hP 1 3 rfl rfl (by first | assumption | (constructor <;> omega)) ib_5 (Nat.le_of_ble_eq_true rfl) dX1_item_5 (fun tx htx => ?_)
    refine xn_B hx hlt hts hq0 hS (hl.1.trans hml.symm) htx (Nat.le_of_ble_eq_true rfl) (Nat.le_of_ble_eq_true rfl) (Nat.le_of_ble_eq_true rfl) (Nat.le_of_ble_eq_true rfl) hlocks (fun H1 q9_5 ce_5 hz1 hk1 hS hce_5 hcv_5 hcl_5 => ?_)
    have hP := xk_P hP hz1 hk1
    refine vx_widen (k := 3) (n := 490) (Nat.le_of_ble_eq_true rfl) (Nat.le_of_ble_eq_true rfl) ?_
    clear hz1 hk1
    generalize H1 = H at hP hS hce_5 ⊢
    refine vx_catch (E := "java/lang/ArrayIndexOutOfBoundsException") (name := "java/lang/ArrayIndexOutOfBoundsException") hown [] (tE 0 20 21 71) [tE 0 20 30 76] (by rw [htb]; rfl) (fun z hz => nomatch hz) (by decide) (by decide) (hts _ q229) (hq0.2.2.1.use q297 rfl) hce_5 hcv_5 hcl_5 ?_
    refine lv_astore_n (lv' := [(2, .ref q9_5), (0, .ref ax), (1, .int (I3 a))]) hx hb dX1_item_21 rfl hl (by decide) rfl (fun ls hl => ?_)
    have y_1 : ("java/lang/IndexOutOfBoundsException") = "java/lang/IndexOutOfBoundsException" := by rfl
    have y_2 : ¬ (0 ≤ a ∧ a < mn) := by first | (intro q; omega) | (intro q; obtain ⟨ad9, h9, -⟩ := hRP.2.1 a q.1 q.2; rw [ea_5] at h9; cases h9)
    exact vx_throw0 (cls := "java/lang/IndexOutOfBoundsException") (names := ["java/lang/RuntimeException", "java/lang/Exception"]) (ik := 73) (ic := 75) hx hb hlt hown (by decide) (by decide) (hts _ q557) (hts _ q70) (hatI_at hts hq0) hatI_good hq0.1 hq0.2.1 hS (hl.1.trans hml.symm) dX1_item_22 dX1_item_25 dX1_item_26 dX1_item_29 (by rw [htb]; decide) (Nat.le_of_ble_eq_true rfl) (Nat.le_of_ble_eq_true rfl) (Nat.le_of_ble_eq_true rfl) (Nat.le_of_ble_eq_true rfl) hlocks (fun t hvm h1 h2 => ⟨(), trivial, ⟨⟨y_1, y_2⟩, xk_P hP h1 h2, va_K.moved hvm hK, hD⟩, xk_F hS h1 h2⟩) hS.2.2 (Nat.le_of_ble_eq_true rfl) (Nat.le_of_ble_eq_true rfl)
  refine ix_aaldq hx hb hK hP 1 3 rfl rfl (by first | assumption | omega) (Nat.le_of_ble_eq_true rfl) dX1_item_5 ?_
  cases ea_5 : it a.toNat with
  | none =>
    refine ix_rfn rfl ?_
    refine lv_astore_nN (lv' := [(2, .null), (0, .ref ax), (1, .int (I3 a))]) hx hb dX1_item_6 rfl hl (by decide) rfl (fun ls hl => ?_)
    refine lv_aload_nN hx hb dX1_item_7 rfl (lv_at hl 0 rfl) ?_
    refine vx_getfNN (D := (dC, dI)) (C := RX9) (T := TX9) (N := 2) hx hb hts in_X9 hown hK (ci := 3) rfl 0 (by decide) (hq0.2.2.1.use q417 rfl) (fun _ h9 => h9) dX1_item_8 ?_
    refine xn_N hx hlt hts hq0 hS (hl.1.trans hml.symm) (Nat.le_of_ble_eq_true rfl) (Nat.le_of_ble_eq_true rfl) (Nat.le_of_ble_eq_true rfl) (Nat.le_of_ble_eq_true rfl) hlocks (fun H1 q9_8 ce_8 hz1 hk1 hS hce_8 hcv_8 hcl_8 => ?_)
    have hP := xk_P hP hz1 hk1
    refine vx_widen (k := 1) (n := 8) (Nat.le_of_ble_eq_true rfl) (Nat.le_of_ble_eq_true rfl) ?_
    clear hz1 hk1
    generalize H1 = H at hP hS hce_8 ⊢
    refine vx_catch (E := "java/lang/NullPointerException") (name := "java/lang/NullPointerException") hown [tE 0 20 21 71] (tE 0 20 30 76) [] (by rw [htb]; rfl) (by intro z hz; cases List.mem_singleton.mp hz; exact Or.inr ⟨by decide, "java/lang/ArrayIndexOutOfBoundsException", hts _ q229, hq0.2.2.2.at 1 rfl⟩) (by decide) (by decide) (hts _ q538) (hq0.2.2.1.use q554 rfl) hce_8 hcv_8 hcl_8 ?_
    refine lv_astore_n (lv' := [(2, .ref q9_8), (0, .ref ax), (1, .int (I3 a))]) hx hb dX1_item_30 rfl hl (by decide) rfl (fun ls hl => ?_)
    have y_3 : ("java/lang/IndexOutOfBoundsException") = "java/lang/IndexOutOfBoundsException" := by rfl
    have y_4 : ¬ (0 ≤ a ∧ a < mn) := by first | (intro q; omega) | (intro q; obtain ⟨ad9, h9, -⟩ := hRP.2.1 a q.1 q.2; rw [ea_5] at h9; cases h9)
    exact vx_throw0 (cls := "java/lang/IndexOutOfBoundsException") (names := ["java/lang/RuntimeException", "java/lang/Exception"]) (ik := 73) (ic := 75) hx hb hlt hown (by decide) (by decide) (hts _ q557) (hts _ q70) (hatI_at hts hq0) hatI_good hq0.1 hq0.2.1 hS (hl.1.trans hml.symm) dX1_item_31 dX1_item_34 dX1_item_35 dX1_item_38 (by rw [htb]; decide) (Nat.le_of_ble_eq_true rfl) (Nat.le_of_ble_eq_true rfl) (Nat.le_of_ble_eq_true rfl) (Nat.le_of_ble_eq_true rfl) hlocks (fun t hvm h1 h2 => ⟨(), trivial, ⟨⟨y_3, y_4⟩, xk_P hP h1 h2, va_K.moved hvm hK, hD⟩, xk_F hS h1 h2⟩) hS.2.2 (Nat.le_of_ble_eq_true rfl) (Nat.le_of_ble_eq_true rfl)
  | some ad_5 =>
    refine ix_rf rfl ?_
    have hm_ : a < mn := Int.not_le.mp fun q => by have h9 := hRP.2.2 a.toNat (by omega) (by omega); rw [ea_5] at h9; cases h9
    obtain ⟨ad9, ha9, hit9⟩ := hRP.2.1 a (by omega) hm_
    obtain rfl : ad9 = ad_5 := by rw [ea_5] at ha9; exact (Option.some.inj ha9).symm
    have hs9 := (hRP.1.2.2 a (by omega) hm_).1
    obtain ⟨fa_9, hm_9, -⟩ := id hit9
    obtain ⟨j_9, hj_9⟩ := List.getElem?_of_mem hm_9
    refine lv_astore_n (lv' := [(2, .ref ad9), (0, .ref ax), (1, .int (I3 a))]) hx hb dX1_item_6 rfl hl (by decide) rfl (fun ls hl => ?_)
    refine lv_aload_n hx hb dX1_item_7 rfl (lv_at hl 0 rfl) ?_
    refine va_getN (D := (dC, dI)) (ci := 3) (v := .int (I3 ((SG a)))) (C := RX9) (T := TX9) (N := 2) hx hb hts in_X9 hown hK (roP.at hq1 hS) j_9 hj_9 rfl 0 (by decide) (hq0.2.2.1.use q417 rfl) (fun _ h9 => h9) rfl dX1_item_8 ?_
    refine lv_iconst (v := I3 (1)) hx hb dX1_item_11 rfl ?_
    refine ix_icmp_le (tgt := 19) hx hb (by constructor <;> omega) (by first | assumption | decide | (constructor <;> omega)) dX1_item_12 (by decide) (fun c_12 => ?_) (fun c_12 => ?_)
    · skip
      refine lv_aload_n hx hb dX1_item_19 rfl (lv_at hl 0 rfl) ?_
      refine W.widen (k := 4) (n := 496) (Nat.le_of_ble_eq_true rfl) (Nat.le_of_ble_eq_true rfl) ?_
      have o_5 : 0 ≤ a ∧ a < mn := by omega
      have o_6 : it a.toNat = some ad9 := by exact ha9
      have o_7 : ItAt dA pl ad9 (SG a) (pv VL a) (qv VL a) := by exact hit9
      refine vx_ret ?_
      exact W.aret (v := .ref ad9) hx hb hr (Or.inl ⟨_, rfl⟩) (Or.inr ⟨_, rfl⟩) (fun t ht hW => ⟨⟨ad9, ad9, rfl, ⟨o_5, o_6, o_7⟩, rfl, by rw [ht]; exact hP, va_K.moved hW.alike hK, hD⟩, hS.F ht⟩) hS.2.2 dX1_item_20
    · skip
      exact absurd c_12 (by omega)
abbrev BmetX1_argument (dC : Nat → ClassId) (dI : Nat → Nat → Nat) (dA : Nat → ClassId) (A : Nat → Prop)  (g : Int) : Unit → State → Prop := fun u t => (fun (u : Unit) => va_P (dC, dI) vwCl [] t.heap ∧ va_K (dC, dI) vwCl (tyA dA) t ∧ va_D A []) u
abbrev QmetX1_argument (dC : Nat → ClassId) (dI : Nat → Nat → Nat) (dA : Nat → ClassId) (A : Nat → Prop)  (g : Int) := va_Qv (fun (u : Unit) => (g = 1)) (BmetX1_argument dC dI dA A g) A
abbrev XmetX1_argument (dC : Nat → ClassId) (dI : Nat → Nat → Nat) (dA : Nat → ClassId) (A : Nat → Prop)  (g : Int) : String → State → State → Prop := vx_X (S := Unit) (fun _ => True) (fun E u t => ((E = "java/lang/IllegalArgumentException") ∧ (g = 0)) ∧ va_P (dC, dI) vwCl [] t.heap ∧ va_K (dC, dI) vwCl (tyA dA) t ∧ va_D A []) A
set_option maxHeartbeats 1000000 in
set_option maxRecDepth 100000 in
theorem metX1_argument (l : Launch) (hlt : l.stackTraces = false) (dC : Nat → ClassId) (dI : Nat → Nat → Nat) (dA : Nat → ClassId)  (sz : Nat) (g : Int) (hg : g = 0 ∨ g = 1) : vx_Met l yX1_argument (ws_ yX1_argument cX1_argument 1 none) ({ frames := 6, cells := 1, slots := 6, locals := 200 }) (va_Pc [.int (I3 g)] (fun U => U.heap.size = sz ∧ va_P (dC, dI) vwCl [] U.heap ∧ va_K (dC, dI) vwCl (tyA dA) U ∧ va_D (fun _ => True) [] ∧ FX (va_A [] sz) U U.heap)) (QmetX1_argument dC dI dA (va_A [] sz) g) (XmetX1_argument dC dI dA (va_A [] sz) g) 1 6 (va_A [] sz) := by
  refine vx_ofW (cc := cX1_argument) (maxL := 1) (ret := none) (by decide) rfl ?_
  intro p e s m args below meth c s₁ B hml htb hv
  obtain ⟨rfl, hsz, hP, hK, hD0, hq0⟩ := hv
  have hx := B.exec
  have hb := B.bytes
  have hr := B.returns
  have hts := atoms_spec (ws := (ws_ yX1_argument cX1_argument 1 none)) B.pre
  have hts : ∀ w ∈ lw_all, w.before _ s = true := fun w h => hts w (List.mem_cons_of_mem _ h)
  have hown : s.vm.findClass RX1 = some m.cls := findClass_of_methodNamed B.named
  have hlocks := B.notSynchronized
  subst hsz
  have hD := hD0.self (sz := s.heap.size)
  generalize hAe : va_A [] s.heap.size = A at hD hq0 ⊢
  have hA : ∀ q : Nat, s.heap.size ≤ q → A q := fun q h => by rw [← hAe]; exact Or.inr h
  have hS : va_S A s.heap s.heap [] := va_S.rf
  have hP : va_P (dC, dI) vwCl [] s.heap := hP
  have hl := lv_entry ([.int (I3 g)]) (n := 1) (Nat.le_of_ble_eq_true rfl)
  rw [lg_entry_eq]
  generalize (lg_sl ([.int (I3 g)]) ++ List.replicate (1 - (lg_sl ([.int (I3 g)])).length) Slot.unset).toArray = ls at hl ⊢
  have hl : lv_has ls 1 [(0, .int (I3 g))] := hl
  refine lv_iload_n hx hb dX1_argument_0 rfl (lv_at hl 0 rfl) ?_
  refine ix_if_ne (tgt := 12) hx hb (by first | assumption | decide | (constructor <;> omega)) dX1_argument_1 (by decide) (fun c_1 => ?_) (fun c_1 => ?_)
  · skip
    refine W.widen (k := 1) (n := 6) (Nat.le_of_ble_eq_true rfl) (Nat.le_of_ble_eq_true rfl) ?_
    have o_1 : g = 1 := by first | assumption | omega | (constructor <;> omega)
    refine vx_ret ?_
    exact W.vret hx hb hr (fun t ht hW => ⟨⟨(), rfl, o_1, by rw [ht]; exact hP, va_K.moved hW.alike hK, hD⟩, hS.F ht⟩) hS.2.2 dX1_argument_12
  · skip
    have y_2 : ("java/lang/IllegalArgumentException") = "java/lang/IllegalArgumentException" := by rfl
    have y_3 : g = 0 := by first | assumption | rfl | omega
    exact vx_throw0 (cls := "java/lang/IllegalArgumentException") (names := ["java/lang/RuntimeException", "java/lang/Exception"]) (ik := 78) (ic := 80) hx hb hlt hown (by decide) (by decide) (hts _ q581) (hts _ q82) (hatG_at hts hq0) hatG_good hq0.1 hq0.2.1 hS (hl.1.trans hml.symm) dX1_argument_4 dX1_argument_7 dX1_argument_8 dX1_argument_11 (fun x hx => (htb x hx).elim) (Nat.le_of_ble_eq_true rfl) (Nat.le_of_ble_eq_true rfl) (Nat.le_of_ble_eq_true rfl) (Nat.le_of_ble_eq_true rfl) hlocks (fun t hvm h1 h2 => ⟨(), trivial, ⟨⟨y_2, y_3⟩, xk_P hP h1 h2, va_K.moved hvm hK, hD⟩, xk_F hS h1 h2⟩) hS.2.2 (Nat.le_of_ble_eq_true rfl) (Nat.le_of_ble_eq_true rfl)
abbrev BmetX1_divided (dC : Nat → ClassId) (dI : Nat → Nat → Nat) (dA : Nat → ClassId) (A : Nat → Prop)  : Nat → Nat → State → Prop := fun u ra t => (fun (u : Nat) => (fun (q9 : Nat) => ra = q9 ∧ va_P (dC, dI) vwCl [(q9, .inr (8, []))] t.heap ∧ va_K (dC, dI) vwCl (tyA dA) t ∧ va_D A [(q9, .inr (8, []))]) u) u
abbrev QmetX1_divided (dC : Nat → ClassId) (dI : Nat → Nat → Nat) (dA : Nat → ClassId) (A : Nat → Prop)  := va_Qr (fun (u : Nat) => (fun (q9 : Nat) => True) u) (BmetX1_divided dC dI dA A ) A
abbrev XmetX1_divided (dC : Nat → ClassId) (dI : Nat → Nat → Nat) (dA : Nat → ClassId) (A : Nat → Prop)  : String → State → State → Prop := vx_X (S := Unit) (fun _ => True) (fun E u t => ((False)) ∧ va_P (dC, dI) vwCl [] t.heap ∧ va_K (dC, dI) vwCl (tyA dA) t ∧ va_D A []) A
set_option maxHeartbeats 1000000 in
set_option maxRecDepth 100000 in
theorem metX1_divided (l : Launch) (hlt : l.stackTraces = false) (dC : Nat → ClassId) (dI : Nat → Nat → Nat) (dA : Nat → ClassId)  (sz : Nat) : vx_Met l yX1_divided (ws_ yX1_divided cX1_divided 0 (some (.object "java/lang/ArithmeticException"))) ({ frames := 6, cells := 1, slots := 6, locals := 200 }) (va_Pc [] (fun U => U.heap.size = sz ∧ va_P (dC, dI) vwCl [] U.heap ∧ va_K (dC, dI) vwCl (tyA dA) U ∧ va_D (fun _ => True) [] ∧ FX (va_A [] sz) U U.heap)) (QmetX1_divided dC dI dA (va_A [] sz) ) (XmetX1_divided dC dI dA (va_A [] sz) ) 1 6 (va_A [] sz) := by
  refine vx_ofW (cc := cX1_divided) (maxL := 0) (ret := (some (.object "java/lang/ArithmeticException"))) (by decide) rfl ?_
  intro p e s m args below meth c s₁ B hml htb hv
  obtain ⟨rfl, hsz, hP, hK, hD0, hq0⟩ := hv
  have hx := B.exec
  have hb := B.bytes
  have hr := B.returns
  have hts := atoms_spec (ws := (ws_ yX1_divided cX1_divided 0 (some (.object "java/lang/ArithmeticException")))) B.pre
  have hts : ∀ w ∈ lw_all, w.before _ s = true := fun w h => hts w (List.mem_cons_of_mem _ h)
  have hown : s.vm.findClass RX1 = some m.cls := findClass_of_methodNamed B.named
  have hlocks := B.notSynchronized
  subst hsz
  have hD := hD0.self (sz := s.heap.size)
  generalize hAe : va_A [] s.heap.size = A at hD hq0 ⊢
  have hA : ∀ q : Nat, s.heap.size ≤ q → A q := fun q h => by rw [← hAe]; exact Or.inr h
  have hS : va_S A s.heap s.heap [] := va_S.rf
  have hP : va_P (dC, dI) vwCl [] s.heap := hP
  have hl := lv_entry ([]) (n := 0) (Nat.le_of_ble_eq_true rfl)
  rw [lg_entry_eq]
  generalize (lg_sl ([]) ++ List.replicate (0 - (lg_sl ([])).length) Slot.unset).toArray = ls at hl ⊢
  have hl : lv_has ls 0 [] := hl
  refine vx_make0 (cls := "java/lang/ArithmeticException") (names := ["java/lang/RuntimeException", "java/lang/Exception"]) (ik := 81) (ic := 83) hx hb hlt hown (by decide) (by decide) (hts _ q467) (hts _ q79) (hatA_at hts hq0) hatA_good hq0.1 hq0.2.1 hS (hl.1.trans hml.symm) dX1_divided_0 dX1_divided_3 dX1_divided_4 hK hP hD hA (ci := 8) rfl (Nat.le_of_ble_eq_true rfl) (Nat.le_of_ble_eq_true rfl) (Nat.le_of_ble_eq_true rfl) (Nat.le_of_ble_eq_true rfl) (fun nx_0 H hP hD hS => ?_)
  have hP : va_P (dC, dI) vwCl [(nx_0, .inr (8, []))] H := hP
  have hD : va_D A [(nx_0, .inr (8, []))] := hD
  refine W.widen (k := 1) (n := 6) (Nat.le_of_ble_eq_true rfl) (Nat.le_of_ble_eq_true rfl) ?_
  refine vx_ret ?_
  exact W.aret (v := .ref nx_0) hx hb hr (Or.inl ⟨_, rfl⟩) (Or.inr ⟨_, rfl⟩) (fun t ht hW => ⟨⟨nx_0, nx_0, rfl, trivial, rfl, by rw [ht]; exact hP, va_K.moved hW.alike hK, hD⟩, hS.F ht⟩) hS.2.2 dX1_divided_7
abbrev BmetX1_form (dC : Nat → ClassId) (dI : Nat → Nat → Nat) (dA : Nat → ClassId) (A : Nat → Prop) (ax : Nat) (adr : Nat) (ait : Nat) (wp : Nat) (wq : Nat) (wr : Nat) (ws : Nat) (wt : Nat) (wu : Nat) (wv : Nat) (wx : Nat) (wy : Nat) (wz : Nat) (wpw : Nat) (wqw : Nat) (mn : Int) (sg : Int) (rch : Int) (lft : Int) (isl : Int) (nwp : Int) (fwp : Int → Int) (nwq : Int) (fwq : Int → Int) : Nat × va_W → Nat → State → Prop := fun u ra t => (fun (u : Nat × va_W) => (fun (fa : Nat) (npl : va_W) => ra = fa ∧ va_P (dC, dI) vwCl ([(ax, .inr (1, [.ref adr, .ref ait, .int (I3 mn), .ref wp, .ref wq, .ref wr, .ref ws, .ref wt, .ref wu, .ref wv, .ref wx, .ref wy, .ref wz, .int (I3 sg), .long (L6 rch), .int (I3 lft), .int (I3 isl)])), (wp, .inr (2, [.ref wpw, .int (I3 nwp)])), (wpw, .inl (dA 0, 36, .inl (iA fwp))), (wq, .inr (2, [.ref wqw, .int (I3 nwq)])), (wqw, .inl (dA 0, 36, .inl (iA fwq)))] ++ npl) t.heap ∧ va_K (dC, dI) vwCl (tyA dA) t ∧ va_D A ([(ax, .inr (1, [.ref adr, .ref ait, .int (I3 mn), .ref wp, .ref wq, .ref wr, .ref ws, .ref wt, .ref wu, .ref wv, .ref wx, .ref wy, .ref wz, .int (I3 sg), .long (L6 rch), .int (I3 lft), .int (I3 isl)])), (wp, .inr (2, [.ref wpw, .int (I3 nwp)])), (wpw, .inl (dA 0, 36, .inl (iA fwp))), (wq, .inr (2, [.ref wqw, .int (I3 nwq)])), (wqw, .inl (dA 0, 36, .inl (iA fwq)))] ++ npl)) u.1 u.2) u
abbrev QmetX1_form (dC : Nat → ClassId) (dI : Nat → Nat → Nat) (dA : Nat → ClassId) (A : Nat → Prop) (ax : Nat) (adr : Nat) (ait : Nat) (wp : Nat) (wq : Nat) (wr : Nat) (ws : Nat) (wt : Nat) (wu : Nat) (wv : Nat) (wx : Nat) (wy : Nat) (wz : Nat) (wpw : Nat) (wqw : Nat) (mn : Int) (sg : Int) (rch : Int) (lft : Int) (isl : Int) (nwp : Int) (fwp : Int → Int) (nwq : Int) (fwq : Int → Int) := va_Qr (fun (u : Nat × va_W) => (fun (fa : Nat) (npl : va_W) => (FrmAt dA npl fa (wN nwp fwp) (wN nwq fwq)) ∧ (nwp ≤ 8 ∧ nwq ≤ 8)) u.1 u.2) (BmetX1_form dC dI dA A ax adr ait wp wq wr ws wt wu wv wx wy wz wpw wqw mn sg rch lft isl nwp fwp nwq fwq) A
abbrev XmetX1_form (dC : Nat → ClassId) (dI : Nat → Nat → Nat) (dA : Nat → ClassId) (A : Nat → Prop) (ax : Nat) (adr : Nat) (ait : Nat) (wp : Nat) (wq : Nat) (wr : Nat) (ws : Nat) (wt : Nat) (wu : Nat) (wv : Nat) (wx : Nat) (wy : Nat) (wz : Nat) (wpw : Nat) (wqw : Nat) (mn : Int) (sg : Int) (rch : Int) (lft : Int) (isl : Int) (nwp : Int) (fwp : Int → Int) (nwq : Int) (fwq : Int → Int) : String → State → State → Prop := vx_X (S := Unit) (fun _ => True) (fun E u t => ((E = "java/lang/ArrayIndexOutOfBoundsException") ∧ (¬ (nwp ≤ 8 ∧ nwq ≤ 8))) ∧ va_P (dC, dI) vwCl [(ax, .inr (1, [.ref adr, .ref ait, .int (I3 mn), .ref wp, .ref wq, .ref wr, .ref ws, .ref wt, .ref wu, .ref wv, .ref wx, .ref wy, .ref wz, .int (I3 sg), .long (L6 rch), .int (I3 lft), .int (I3 isl)])), (wp, .inr (2, [.ref wpw, .int (I3 nwp)])), (wpw, .inl (dA 0, 36, .inl (iA fwp))), (wq, .inr (2, [.ref wqw, .int (I3 nwq)])), (wqw, .inl (dA 0, 36, .inl (iA fwq)))] t.heap ∧ va_K (dC, dI) vwCl (tyA dA) t ∧ va_D A [(ax, .inr (1, [.ref adr, .ref ait, .int (I3 mn), .ref wp, .ref wq, .ref wr, .ref ws, .ref wt, .ref wu, .ref wv, .ref wx, .ref wy, .ref wz, .int (I3 sg), .long (L6 rch), .int (I3 lft), .int (I3 isl)])), (wp, .inr (2, [.ref wpw, .int (I3 nwp)])), (wpw, .inl (dA 0, 36, .inl (iA fwp))), (wq, .inr (2, [.ref wqw, .int (I3 nwq)])), (wqw, .inl (dA 0, 36, .inl (iA fwq)))]) A
set_option maxHeartbeats 1000000 in
set_option maxRecDepth 100000 in
/-- as it is kept -/
theorem metX1_form (l : Launch) (hlt : l.stackTraces = false) (dC : Nat → ClassId) (dI : Nat → Nat → Nat) (dA : Nat → ClassId) (ax : Nat) (adr : Nat) (ait : Nat) (wp : Nat) (wq : Nat) (wr : Nat) (ws : Nat) (wt : Nat) (wu : Nat) (wv : Nat) (wx : Nat) (wy : Nat) (wz : Nat) (wpw : Nat) (wqw : Nat) (sz : Nat) (mn : Int) (sg : Int) (rch : Int) (lft : Int) (isl : Int) (nwp : Int) (fwp : Int → Int) (nwq : Int) (fwq : Int → Int) (hOp : OKw nwp fwp) (hOq : OKw nwq fwq) : vx_Met l yX1_form (ws_ yX1_form cX1_form 2 (some (.object "java/lang/Object"))) ({ frames := 10, cells := 6, slots := 508, locals := 10400 }) (va_Pc [.ref ax] (fun U => U.heap.size = sz ∧ va_P (dC, dI) vwCl [(ax, .inr (1, [.ref adr, .ref ait, .int (I3 mn), .ref wp, .ref wq, .ref wr, .ref ws, .ref wt, .ref wu, .ref wv, .ref wx, .ref wy, .ref wz, .int (I3 sg), .long (L6 rch), .int (I3 lft), .int (I3 isl)])), (wp, .inr (2, [.ref wpw, .int (I3 nwp)])), (wpw, .inl (dA 0, 36, .inl (iA fwp))), (wq, .inr (2, [.ref wqw, .int (I3 nwq)])), (wqw, .inl (dA 0, 36, .inl (iA fwq)))] U.heap ∧ va_K (dC, dI) vwCl (tyA dA) U ∧ va_D (fun _ => True) [(ax, .inr (1, [.ref adr, .ref ait, .int (I3 mn), .ref wp, .ref wq, .ref wr, .ref ws, .ref wt, .ref wu, .ref wv, .ref wx, .ref wy, .ref wz, .int (I3 sg), .long (L6 rch), .int (I3 lft), .int (I3 isl)])), (wp, .inr (2, [.ref wpw, .int (I3 nwp)])), (wpw, .inl (dA 0, 36, .inl (iA fwp))), (wq, .inr (2, [.ref wqw, .int (I3 nwq)])), (wqw, .inl (dA 0, 36, .inl (iA fwq)))] ∧ FX (va_A [(ax, .inr (1, [.ref adr, .ref ait, .int (I3 mn), .ref wp, .ref wq, .ref wr, .ref ws, .ref wt, .ref wu, .ref wv, .ref wx, .ref wy, .ref wz, .int (I3 sg), .long (L6 rch), .int (I3 lft), .int (I3 isl)])), (wp, .inr (2, [.ref wpw, .int (I3 nwp)])), (wpw, .inl (dA 0, 36, .inl (iA fwp))), (wq, .inr (2, [.ref wqw, .int (I3 nwq)])), (wqw, .inl (dA 0, 36, .inl (iA fwq)))] sz) U U.heap)) (QmetX1_form dC dI dA (va_A [(ax, .inr (1, [.ref adr, .ref ait, .int (I3 mn), .ref wp, .ref wq, .ref wr, .ref ws, .ref wt, .ref wu, .ref wv, .ref wx, .ref wy, .ref wz, .int (I3 sg), .long (L6 rch), .int (I3 lft), .int (I3 isl)])), (wp, .inr (2, [.ref wpw, .int (I3 nwp)])), (wpw, .inl (dA 0, 36, .inl (iA fwp))), (wq, .inr (2, [.ref wqw, .int (I3 nwq)])), (wqw, .inl (dA 0, 36, .inl (iA fwq)))] sz) ax adr ait wp wq wr ws wt wu wv wx wy wz wpw wqw mn sg rch lft isl nwp fwp nwq fwq) (XmetX1_form dC dI dA (va_A [(ax, .inr (1, [.ref adr, .ref ait, .int (I3 mn), .ref wp, .ref wq, .ref wr, .ref ws, .ref wt, .ref wu, .ref wv, .ref wx, .ref wy, .ref wz, .int (I3 sg), .long (L6 rch), .int (I3 lft), .int (I3 isl)])), (wp, .inr (2, [.ref wpw, .int (I3 nwp)])), (wpw, .inl (dA 0, 36, .inl (iA fwp))), (wq, .inr (2, [.ref wqw, .int (I3 nwq)])), (wqw, .inl (dA 0, 36, .inl (iA fwq)))] sz) ax adr ait wp wq wr ws wt wu wv wx wy wz wpw wqw mn sg rch lft isl nwp fwp nwq fwq) 6 508 (va_A [(ax, .inr (1, [.ref adr, .ref ait, .int (I3 mn), .ref wp, .ref wq, .ref wr, .ref ws, .ref wt, .ref wu, .ref wv, .ref wx, .ref wy, .ref wz, .int (I3 sg), .long (L6 rch), .int (I3 lft), .int (I3 isl)])), (wp, .inr (2, [.ref wpw, .int (I3 nwp)])), (wpw, .inl (dA 0, 36, .inl (iA fwp))), (wq, .inr (2, [.ref wqw, .int (I3 nwq)])), (wqw, .inl (dA 0, 36, .inl (iA fwq)))] sz) := by
  refine vx_ofW (cc := cX1_form) (maxL := 2) (ret := (some (.object "java/lang/Object"))) (by decide) rfl ?_
  intro p e s m args below meth c s₁ B hml htb hv
  obtain ⟨rfl, hsz, hP, hK, hD0, hq0⟩ := hv
  have hx := B.exec
  have hb := B.bytes
  have hr := B.returns
  have hts := atoms_spec (ws := (ws_ yX1_form cX1_form 2 (some (.object "java/lang/Object")))) B.pre
  have hts : ∀ w ∈ lw_all, w.before _ s = true := fun w h => hts w (List.mem_cons_of_mem _ h)
  have hown : s.vm.findClass RX1 = some m.cls := findClass_of_methodNamed B.named
  have hlocks := B.notSynchronized
  subst hsz
  have hD := hD0.self (sz := s.heap.size)
  generalize hAe : va_A [(ax, .inr (1, [.ref adr, .ref ait, .int (I3 mn), .ref wp, .ref wq, .ref wr, .ref ws, .ref wt, .ref wu, .ref wv, .ref wx, .ref wy, .ref wz, .int (I3 sg), .long (L6 rch), .int (I3 lft), .int (I3 isl)])), (wp, .inr (2, [.ref wpw, .int (I3 nwp)])), (wpw, .inl (dA 0, 36, .inl (iA fwp))), (wq, .inr (2, [.ref wqw, .int (I3 nwq)])), (wqw, .inl (dA 0, 36, .inl (iA fwq)))] s.heap.size = A at hD hq0 ⊢
  have hA : ∀ q : Nat, s.heap.size ≤ q → A q := fun q h => by rw [← hAe]; exact Or.inr h
  have hS : va_S A s.heap s.heap [] := va_S.rf
  have hP : va_P (dC, dI) vwCl [(ax, .inr (1, [.ref adr, .ref ait, .int (I3 mn), .ref wp, .ref wq, .ref wr, .ref ws, .ref wt, .ref wu, .ref wv, .ref wx, .ref wy, .ref wz, .int (I3 sg), .long (L6 rch), .int (I3 lft), .int (I3 isl)])), (wp, .inr (2, [.ref wpw, .int (I3 nwp)])), (wpw, .inl (dA 0, 36, .inl (iA fwp))), (wq, .inr (2, [.ref wqw, .int (I3 nwq)])), (wqw, .inl (dA 0, 36, .inl (iA fwq)))] s.heap := hP
  have hl := lv_entry ([.ref ax]) (n := 2) (Nat.le_of_ble_eq_true rfl)
  rw [lg_entry_eq]
  generalize (lg_sl ([.ref ax]) ++ List.replicate (2 - (lg_sl ([.ref ax])).length) Slot.unset).toArray = ls at hl ⊢
  have hl : lv_has ls 2 [(0, .ref ax)] := hl
  have zp_ := hOp.1
  have zq_ := hOq.1
  refine lv_aload_n hx hb dX1_form_0 rfl (lv_at hl 0 rfl) ?_
  refine va_get (D := (dC, dI)) (ci := 1) (v := .ref wp) (C := RX1) (T := TX1) (N := 17) hx hb hts in_X1 hown hK hP 0 rfl rfl 3 (by decide) (hts _ q148) (fun _ h9 => h9) rfl dX1_form_1 ?_
  have h_1 : OKw nwp fwp := by exact hOp
  have hPc := hP.sub (ws' := [(wp, .inr (2, [.ref wpw, .int (I3 nwp)])), (wpw, .inl (dA 0, 36, .inl (iA fwp)))]) [1, 2] rfl
  have hDc := hD.sub (ws' := [(wp, .inr (2, [.ref wpw, .int (I3 nwp)])), (wpw, .inl (dA 0, 36, .inl (iA fwp)))]) [1, 2] (by decide) rfl
  have hFc := va_free (wc := [(wp, .inr (2, [.ref wpw, .int (I3 nwp)])), (wpw, .inl (dA 0, 36, .inl (iA fwp)))]) hD hS hA [1, 2] rfl
  refine va_calli (va_runV (As := []) (rest := []) ⟨hx, hb, hml, hown, hts⟩ (metX7_bits l dC dI dA wp wpw s.heap.size nwp fwp h_1) (cwV 0 hts (lw_V q404 q388 q389 q65 q390) rfl rfl rfl (by decide +kernel) ⟨Nat.le_of_ble_eq_true rfl, Nat.le_of_ble_eq_true rfl⟩) ⟨fun a U g mk q => by obtain ⟨q0, q1, qP, qK, qD⟩ := q; exact ⟨q0, q1, qP, va_K.moved (u := U) (U := U.calling g mk a) (Vm.Alike.refl U.vm) qK, qD⟩, va_recv hK hP (ci := 2) (q0 := 1) rfl rfl, fun U hU hW => ⟨rfl, by rw [hU], by rw [hU]; exact hPc, va_K.moved hW.alike hK, hDc.weaken (fun _ _ _ _ => trivial)⟩⟩ rfl rfl hl.1 rfl (lv_room (Nat.le_of_ble_eq_true rfl)) dX1_form_4 ⟨Nat.le_of_ble_eq_true rfl, Nat.le_of_ble_eq_true rfl⟩) hS (fun q _ h => hFc q h) hFc (fun r_4 u t H1 locs ht hvm hw hB hz1 hk1 hS => ?_)
  obtain ⟨z_4, rfl⟩ : ∃ z, z = u := ⟨_, rfl⟩
  obtain ⟨rfl, p0_4, p1_4⟩ : r_4 = I3 z_4 ∧ (z_4 = ((bl (wN nwp fwp) : Nat) : Int)) ∧ (0 ≤ z_4 ∧ z_4 ≤ 1152) := hw
  obtain ⟨hP1, hK1, hD1⟩ := hB
  rw [ht] at hP1
  obtain ⟨hP, hD⟩ := va_join (wr := [(ax, .inr (1, [.ref adr, .ref ait, .int (I3 mn), .ref wp, .ref wq, .ref wr, .ref ws, .ref wt, .ref wu, .ref wv, .ref wx, .ref wy, .ref wz, .int (I3 sg), .long (L6 rch), .int (I3 lft), .int (I3 isl)])), (wq, .inr (2, [.ref wqw, .int (I3 nwq)])), (wqw, .inl (dA 0, 36, .inl (iA fwq)))]) (w1 := [(wp, .inr (2, [.ref wpw, .int (I3 nwp)])), (wpw, .inl (dA 0, 36, .inl (iA fwp)))]) hP hD [1, 2] [0, 3, 4] rfl rfl (by decide) (by decide) hk1 hFc hP1 hD1
  have hP := hP.sub (ws' := [(ax, .inr (1, [.ref adr, .ref ait, .int (I3 mn), .ref wp, .ref wq, .ref wr, .ref ws, .ref wt, .ref wu, .ref wv, .ref wx, .ref wy, .ref wz, .int (I3 sg), .long (L6 rch), .int (I3 lft), .int (I3 isl)])), (wp, .inr (2, [.ref wpw, .int (I3 nwp)])), (wpw, .inl (dA 0, 36, .inl (iA fwp))), (wq, .inr (2, [.ref wqw, .int (I3 nwq)])), (wqw, .inl (dA 0, 36, .inl (iA fwq)))]) [0, 3, 4, 1, 2] rfl
  have hD := hD.sub (ws' := [(ax, .inr (1, [.ref adr, .ref ait, .int (I3 mn), .ref wp, .ref wq, .ref wr, .ref ws, .ref wt, .ref wu, .ref wv, .ref wx, .ref wy, .ref wz, .int (I3 sg), .long (L6 rch), .int (I3 lft), .int (I3 isl)])), (wp, .inr (2, [.ref wpw, .int (I3 nwp)])), (wpw, .inl (dA 0, 36, .inl (iA fwp))), (wq, .inr (2, [.ref wqw, .int (I3 nwq)])), (wqw, .inl (dA 0, 36, .inl (iA fwq)))]) [0, 3, 4, 1, 2] (by decide) rfl
  generalize H1 = H at hP hS ⊢
  refine lv_bipush (v := I3 (64)) hx hb dX1_form_7 (by decide) ?_
  refine ix_icmp_ge (tgt := 48) hx hb (by first | assumption | decide | (constructor <;> omega)) (by first | assumption | decide | (constructor <;> omega)) dX1_form_9 (by decide) (fun c_9 => ?_) (fun c_9 => ?_)
  · skip
    refine lv_iconst (v := I3 (2)) hx hb dX1_form_48 rfl ?_
    refine lv_bipush (v := I3 (8)) hx hb dX1_form_49 (by decide) ?_
    refine ix_multi hx hb hown (hts _ q409) (hq0.2.2.1.use q410 rfl) (hts _ q144) hK hP hD hS hA dX1_form_51 (Nat.le_of_ble_eq_true rfl) (Nat.le_of_ble_eq_true rfl) (fun nw_51 H hP hD hS => ?_)
    have hP : va_P (dC, dI) vwCl [(ax, .inr (1, [.ref adr, .ref ait, .int (I3 mn), .ref wp, .ref wq, .ref wr, .ref ws, .ref wt, .ref wu, .ref wv, .ref wx, .ref wy, .ref wz, .int (I3 sg), .long (L6 rch), .int (I3 lft), .int (I3 isl)])), (wp, .inr (2, [.ref wpw, .int (I3 nwp)])), (wpw, .inl (dA 0, 36, .inl (iA fwp))), (wq, .inr (2, [.ref wqw, .int (I3 nwq)])), (wqw, .inl (dA 0, 36, .inl (iA fwq))), (nw_51, .inl (dA 4, 2, .inr (.inr (.inr (.inr ((fun k => some (nw_51 + 1 + k)))))))), ((nw_51 + 1), .inl (dA 0, 8, .inl (iA (fun _ => 0)))), ((nw_51 + 2), .inl (dA 0, 8, .inl (iA (fun _ => 0))))] H := hP
    have hD : va_D A [(ax, .inr (1, [.ref adr, .ref ait, .int (I3 mn), .ref wp, .ref wq, .ref wr, .ref ws, .ref wt, .ref wu, .ref wv, .ref wx, .ref wy, .ref wz, .int (I3 sg), .long (L6 rch), .int (I3 lft), .int (I3 isl)])), (wp, .inr (2, [.ref wpw, .int (I3 nwp)])), (wpw, .inl (dA 0, 36, .inl (iA fwp))), (wq, .inr (2, [.ref wqw, .int (I3 nwq)])), (wqw, .inl (dA 0, 36, .inl (iA fwq))), (nw_51, .inl (dA 4, 2, .inr (.inr (.inr (.inr ((fun k => some (nw_51 + 1 + k)))))))), ((nw_51 + 1), .inl (dA 0, 8, .inl (iA (fun _ => 0)))), ((nw_51 + 2), .inl (dA 0, 8, .inl (iA (fun _ => 0))))] := hD
    refine W.widen (k := 3) (n := 18) (Nat.le_of_ble_eq_true rfl) (Nat.le_of_ble_eq_true rfl) ?_
    refine lv_astore_n (lv' := [(1, .ref nw_51), (0, .ref ax)]) hx hb dX1_form_55 rfl hl (by decide) rfl (fun ls hl => ?_)
    refine lv_aload_n hx hb dX1_form_56 rfl (lv_at hl 1 rfl) ?_
    refine va_get (D := (dC, dI)) (ci := 1) (v := .ref wp) (C := RX1) (T := TX1) (N := 17) hx hb hts in_X1 hown hK hP 0 rfl rfl 3 (by decide) (hts _ q148) (fun _ h9 => h9) rfl dX1_form_57 ?_
    refine va_getN (D := (dC, dI)) (ci := 2) (v := .ref wpw) (C := RX7) (T := TX7) (N := 2) hx hb hts in_X7 hown hK hP 1 rfl rfl 0 (by decide) (hq0.2.2.1.use q136 rfl) (fun _ h9 => h9) rfl dX1_form_60 ?_
    refine lv_iconst (v := I3 (0)) hx hb dX1_form_63 rfl ?_
    refine lv_aload_n hx hb dX1_form_64 rfl (lv_at hl 0 rfl) ?_
    refine lv_iconst (v := I3 (0)) hx hb dX1_form_65 rfl ?_
    refine ix_aalda hx hb hK hP 5 4 rfl rfl (by first | assumption | omega) (Nat.le_of_ble_eq_true rfl) dX1_form_66 ?_
    refine ix_rf (y := (nw_51 + 1)) (by rfl) ?_
    refine lv_iconst (v := I3 (0)) hx hb dX1_form_67 rfl ?_
    refine lv_aload_n hx hb dX1_form_68 rfl (lv_at hl 1 rfl) ?_
    refine va_get (D := (dC, dI)) (ci := 1) (v := .ref wp) (C := RX1) (T := TX1) (N := 17) hx hb hts in_X1 hown hK hP 0 rfl rfl 3 (by decide) (hts _ q148) (fun _ h9 => h9) rfl dX1_form_69 ?_
    refine va_getN (D := (dC, dI)) (ci := 2) (v := .int (I3 nwp)) (C := RX7) (T := TX7) (N := 2) hx hb hts in_X7 hown hK hP 1 rfl rfl 1 (by decide) (hq0.2.2.1.use q138 rfl) (fun _ h9 => h9) rfl dX1_form_72 ?_
    by_cases ib_75 : nwp ≤ 8
    rotate_left
    · skip
      refine ix_copyO hx hlt hb (hml.trans hl.1.symm) hown hts (hts _ q411) (hts _ q340) (hts _ q339) (hts _ q73) hq0 hK hP hS 2 6 0 rfl rfl rfl (by first | omega | (refine ⟨?_, ?_, ?_⟩ <;> omega)) (Nat.le_of_ble_eq_true rfl) (Nat.le_of_ble_eq_true rfl) (Nat.le_of_ble_eq_true rfl) (Nat.le_of_ble_eq_true rfl) (Nat.le_of_ble_eq_true rfl) hlocks dX1_form_75 (fun H1 q9_75 ce_75 hz1 hk1 hS hce_75 hcv_75 hcl_75 => ?_)
      have hP := xk_P hP hz1 hk1
      refine vx_widen (k := 6) (n := 508) (Nat.le_of_ble_eq_true rfl) (Nat.le_of_ble_eq_true rfl) ?_
      clear hz1 hk1
      generalize H1 = H at hP hS hce_75 ⊢
      have hP := hP.sub (ws' := [(ax, .inr (1, [.ref adr, .ref ait, .int (I3 mn), .ref wp, .ref wq, .ref wr, .ref ws, .ref wt, .ref wu, .ref wv, .ref wx, .ref wy, .ref wz, .int (I3 sg), .long (L6 rch), .int (I3 lft), .int (I3 isl)])), (wp, .inr (2, [.ref wpw, .int (I3 nwp)])), (wpw, .inl (dA 0, 36, .inl (iA fwp))), (wq, .inr (2, [.ref wqw, .int (I3 nwq)])), (wqw, .inl (dA 0, 36, .inl (iA fwq)))]) [0, 1, 2, 3, 4] rfl
      have hD := hD.sub (ws' := [(ax, .inr (1, [.ref adr, .ref ait, .int (I3 mn), .ref wp, .ref wq, .ref wr, .ref ws, .ref wt, .ref wu, .ref wv, .ref wx, .ref wy, .ref wz, .int (I3 sg), .long (L6 rch), .int (I3 lft), .int (I3 isl)])), (wp, .inr (2, [.ref wpw, .int (I3 nwp)])), (wpw, .inl (dA 0, 36, .inl (iA fwp))), (wq, .inr (2, [.ref wqw, .int (I3 nwq)])), (wqw, .inl (dA 0, 36, .inl (iA fwq)))]) [0, 1, 2, 3, 4] (by decide) rfl
      have y_2 : ("java/lang/ArrayIndexOutOfBoundsException") = "java/lang/ArrayIndexOutOfBoundsException" := by rfl
      have y_3 : ¬ (nwp ≤ 8 ∧ nwq ≤ 8) := by omega
      exact vx_out (E := "java/lang/ArrayIndexOutOfBoundsException") (fun x hx => (htb x hx).elim) hlocks hce_75 hcv_75 hcl_75 (fun t ht hvm => ⟨(), trivial, ⟨⟨y_2, y_3⟩, by rw [ht]; exact hP, va_K.moved hvm hK, hD⟩, hS.F ht⟩) hS.2.2 (Nat.le_of_ble_eq_true rfl) (Nat.le_of_ble_eq_true rfl)
    refine ix_copyi hx hb (hml.trans hl.1.symm) hown (hts _ q411) (hts _ q340) (hts _ q339) (hts _ q73) hK hP hD hS 2 6 0 rfl rfl rfl (by omega) (Nat.le_of_ble_eq_true rfl) (Nat.le_of_ble_eq_true rfl) (Nat.le_of_ble_eq_true rfl) dX1_form_75 (fun H locs hP hD hS => ?_)
    have hP : va_P (dC, dI) vwCl [(ax, .inr (1, [.ref adr, .ref ait, .int (I3 mn), .ref wp, .ref wq, .ref wr, .ref ws, .ref wt, .ref wu, .ref wv, .ref wx, .ref wy, .ref wz, .int (I3 sg), .long (L6 rch), .int (I3 lft), .int (I3 isl)])), (wp, .inr (2, [.ref wpw, .int (I3 nwp)])), (wpw, .inl (dA 0, 36, .inl (iA fwp))), (wq, .inr (2, [.ref wqw, .int (I3 nwq)])), (wqw, .inl (dA 0, 36, .inl (iA fwq))), (nw_51, .inl (dA 4, 2, .inr (.inr (.inr (.inr ((fun k => some (nw_51 + 1 + k)))))))), ((nw_51 + 1), .inl (dA 0, 8, .inl (iA (cpZ fwp (fun _ => 0) nwp)))), ((nw_51 + 2), .inl (dA 0, 8, .inl (iA (fun _ => 0))))] H := hP
    have hD : va_D A [(ax, .inr (1, [.ref adr, .ref ait, .int (I3 mn), .ref wp, .ref wq, .ref wr, .ref ws, .ref wt, .ref wu, .ref wv, .ref wx, .ref wy, .ref wz, .int (I3 sg), .long (L6 rch), .int (I3 lft), .int (I3 isl)])), (wp, .inr (2, [.ref wpw, .int (I3 nwp)])), (wpw, .inl (dA 0, 36, .inl (iA fwp))), (wq, .inr (2, [.ref wqw, .int (I3 nwq)])), (wqw, .inl (dA 0, 36, .inl (iA fwq))), (nw_51, .inl (dA 4, 2, .inr (.inr (.inr (.inr ((fun k => some (nw_51 + 1 + k)))))))), ((nw_51 + 1), .inl (dA 0, 8, .inl (iA (cpZ fwp (fun _ => 0) nwp)))), ((nw_51 + 2), .inl (dA 0, 8, .inl (iA (fun _ => 0))))] := hD
    refine lv_aload_n hx hb dX1_form_78 rfl (lv_at hl 1 rfl) ?_
    refine va_get (D := (dC, dI)) (ci := 1) (v := .ref wq) (C := RX1) (T := TX1) (N := 17) hx hb hts in_X1 hown hK hP 0 rfl rfl 4 (by decide) (hts _ q149) (fun _ h9 => h9) rfl dX1_form_79 ?_
    refine va_getN (D := (dC, dI)) (ci := 2) (v := .ref wqw) (C := RX7) (T := TX7) (N := 2) hx hb hts in_X7 hown hK hP 3 rfl rfl 0 (by decide) (hq0.2.2.1.use q136 rfl) (fun _ h9 => h9) rfl dX1_form_82 ?_
    refine lv_iconst (v := I3 (0)) hx hb dX1_form_85 rfl ?_
    refine lv_aload_n hx hb dX1_form_86 rfl (lv_at hl 0 rfl) ?_
    refine lv_iconst (v := I3 (1)) hx hb dX1_form_87 rfl ?_
    refine ix_aalda hx hb hK hP 5 4 rfl rfl (by first | assumption | omega) (Nat.le_of_ble_eq_true rfl) dX1_form_88 ?_
    refine ix_rf (y := (nw_51 + 2)) (by rfl) ?_
    refine lv_iconst (v := I3 (0)) hx hb dX1_form_89 rfl ?_
    refine lv_aload_n hx hb dX1_form_90 rfl (lv_at hl 1 rfl) ?_
    refine va_get (D := (dC, dI)) (ci := 1) (v := .ref wq) (C := RX1) (T := TX1) (N := 17) hx hb hts in_X1 hown hK hP 0 rfl rfl 4 (by decide) (hts _ q149) (fun _ h9 => h9) rfl dX1_form_91 ?_
    refine va_getN (D := (dC, dI)) (ci := 2) (v := .int (I3 nwq)) (C := RX7) (T := TX7) (N := 2) hx hb hts in_X7 hown hK hP 3 rfl rfl 1 (by decide) (hq0.2.2.1.use q138 rfl) (fun _ h9 => h9) rfl dX1_form_94 ?_
    by_cases ib_97 : nwq ≤ 8
    rotate_left
    · skip
      refine ix_copyO hx hlt hb (hml.trans hl.1.symm) hown hts (hts _ q411) (hts _ q340) (hts _ q339) (hts _ q73) hq0 hK hP hS 4 7 0 rfl rfl rfl (by first | omega | (refine ⟨?_, ?_, ?_⟩ <;> omega)) (Nat.le_of_ble_eq_true rfl) (Nat.le_of_ble_eq_true rfl) (Nat.le_of_ble_eq_true rfl) (Nat.le_of_ble_eq_true rfl) (Nat.le_of_ble_eq_true rfl) hlocks dX1_form_97 (fun H1 q9_97 ce_97 hz1 hk1 hS hce_97 hcv_97 hcl_97 => ?_)
      have hP := xk_P hP hz1 hk1
      refine vx_widen (k := 6) (n := 508) (Nat.le_of_ble_eq_true rfl) (Nat.le_of_ble_eq_true rfl) ?_
      clear hz1 hk1
      generalize H1 = H at hP hS hce_97 ⊢
      have hP := hP.sub (ws' := [(ax, .inr (1, [.ref adr, .ref ait, .int (I3 mn), .ref wp, .ref wq, .ref wr, .ref ws, .ref wt, .ref wu, .ref wv, .ref wx, .ref wy, .ref wz, .int (I3 sg), .long (L6 rch), .int (I3 lft), .int (I3 isl)])), (wp, .inr (2, [.ref wpw, .int (I3 nwp)])), (wpw, .inl (dA 0, 36, .inl (iA fwp))), (wq, .inr (2, [.ref wqw, .int (I3 nwq)])), (wqw, .inl (dA 0, 36, .inl (iA fwq)))]) [0, 1, 2, 3, 4] rfl
      have hD := hD.sub (ws' := [(ax, .inr (1, [.ref adr, .ref ait, .int (I3 mn), .ref wp, .ref wq, .ref wr, .ref ws, .ref wt, .ref wu, .ref wv, .ref wx, .ref wy, .ref wz, .int (I3 sg), .long (L6 rch), .int (I3 lft), .int (I3 isl)])), (wp, .inr (2, [.ref wpw, .int (I3 nwp)])), (wpw, .inl (dA 0, 36, .inl (iA fwp))), (wq, .inr (2, [.ref wqw, .int (I3 nwq)])), (wqw, .inl (dA 0, 36, .inl (iA fwq)))]) [0, 1, 2, 3, 4] (by decide) rfl
      have y_4 : ("java/lang/ArrayIndexOutOfBoundsException") = "java/lang/ArrayIndexOutOfBoundsException" := by rfl
      have y_5 : ¬ (nwp ≤ 8 ∧ nwq ≤ 8) := by omega
      exact vx_out (E := "java/lang/ArrayIndexOutOfBoundsException") (fun x hx => (htb x hx).elim) hlocks hce_97 hcv_97 hcl_97 (fun t ht hvm => ⟨(), trivial, ⟨⟨y_4, y_5⟩, by rw [ht]; exact hP, va_K.moved hvm hK, hD⟩, hS.F ht⟩) hS.2.2 (Nat.le_of_ble_eq_true rfl) (Nat.le_of_ble_eq_true rfl)
    refine ix_copyi hx hb (hml.trans hl.1.symm) hown (hts _ q411) (hts _ q340) (hts _ q339) (hts _ q73) hK hP hD hS 4 7 0 rfl rfl rfl (by omega) (Nat.le_of_ble_eq_true rfl) (Nat.le_of_ble_eq_true rfl) (Nat.le_of_ble_eq_true rfl) dX1_form_97 (fun H locs hP hD hS => ?_)
    have hP : va_P (dC, dI) vwCl [(ax, .inr (1, [.ref adr, .ref ait, .int (I3 mn), .ref wp, .ref wq, .ref wr, .ref ws, .ref wt, .ref wu, .ref wv, .ref wx, .ref wy, .ref wz, .int (I3 sg), .long (L6 rch), .int (I3 lft), .int (I3 isl)])), (wp, .inr (2, [.ref wpw, .int (I3 nwp)])), (wpw, .inl (dA 0, 36, .inl (iA fwp))), (wq, .inr (2, [.ref wqw, .int (I3 nwq)])), (wqw, .inl (dA 0, 36, .inl (iA fwq))), (nw_51, .inl (dA 4, 2, .inr (.inr (.inr (.inr ((fun k => some (nw_51 + 1 + k)))))))), ((nw_51 + 1), .inl (dA 0, 8, .inl (iA (cpZ fwp (fun _ => 0) nwp)))), ((nw_51 + 2), .inl (dA 0, 8, .inl (iA (cpZ fwq (fun _ => 0) nwq))))] H := hP
    have hD : va_D A [(ax, .inr (1, [.ref adr, .ref ait, .int (I3 mn), .ref wp, .ref wq, .ref wr, .ref ws, .ref wt, .ref wu, .ref wv, .ref wx, .ref wy, .ref wz, .int (I3 sg), .long (L6 rch), .int (I3 lft), .int (I3 isl)])), (wp, .inr (2, [.ref wpw, .int (I3 nwp)])), (wpw, .inl (dA 0, 36, .inl (iA fwp))), (wq, .inr (2, [.ref wqw, .int (I3 nwq)])), (wqw, .inl (dA 0, 36, .inl (iA fwq))), (nw_51, .inl (dA 4, 2, .inr (.inr (.inr (.inr ((fun k => some (nw_51 + 1 + k)))))))), ((nw_51 + 1), .inl (dA 0, 8, .inl (iA (cpZ fwp (fun _ => 0) nwp)))), ((nw_51 + 2), .inl (dA 0, 8, .inl (iA (cpZ fwq (fun _ => 0) nwq))))] := hD
    refine lv_aload_n hx hb dX1_form_100 rfl (lv_at hl 0 rfl) ?_
    refine W.widen (k := 6) (n := 508) (Nat.le_of_ble_eq_true rfl) (Nat.le_of_ble_eq_true rfl) ?_
    have o_6 : FrmAt dA ([(nw_51, .inl (dA 4, 2, .inr (.inr (.inr (.inr ((fun k => some (nw_51 + 1 + k)))))))), ((nw_51 + 1), .inl (dA 0, 8, .inl (iA (cpZ fwp (fun _ => 0) nwp)))), ((nw_51 + 2), .inl (dA 0, 8, .inl (iA (cpZ fwq (fun _ => 0) nwq))))]) nw_51 (wN nwp fwp) (wN nwq fwq) := by exact Or.inr ⟨_, _, _, _, _, List.mem_cons_self, rfl, rfl, List.mem_cons_of_mem _ List.mem_cons_self, List.mem_cons_of_mem _ (List.mem_cons_of_mem _ List.mem_cons_self), cp0_D hOp.2.1, cp0_D hOq.2.1, cp0_N hOp (by omega), cp0_N hOq (by omega)⟩
    have o_7 : nwp ≤ 8 ∧ nwq ≤ 8 := by omega
    refine vx_ret ?_
    exact W.aret (v := .ref nw_51) hx hb hr (Or.inl ⟨_, rfl⟩) (Or.inr ⟨_, rfl⟩) (fun t ht hW => ⟨⟨(nw_51, ([(nw_51, .inl (dA 4, 2, .inr (.inr (.inr (.inr ((fun k => some (nw_51 + 1 + k)))))))), ((nw_51 + 1), .inl (dA 0, 8, .inl (iA (cpZ fwp (fun _ => 0) nwp)))), ((nw_51 + 2), .inl (dA 0, 8, .inl (iA (cpZ fwq (fun _ => 0) nwq))))])), nw_51, rfl, ⟨o_6, o_7⟩, rfl, by rw [ht]; exact hP, va_K.moved hW.alike hK, hD⟩, hS.F ht⟩) hS.2.2 dX1_form_101
  · skip
    refine lv_aload_n hx hb dX1_form_12 rfl (lv_at hl 0 rfl) ?_
    refine va_get (D := (dC, dI)) (ci := 1) (v := .ref wq) (C := RX1) (T := TX1) (N := 17) hx hb hts in_X1 hown hK hP 0 rfl rfl 4 (by decide) (hts _ q149) (fun _ h9 => h9) rfl dX1_form_13 ?_
    have h_8 : OKw nwq fwq := by exact hOq
    have hPc := hP.sub (ws' := [(wq, .inr (2, [.ref wqw, .int (I3 nwq)])), (wqw, .inl (dA 0, 36, .inl (iA fwq)))]) [3, 4] rfl
    have hDc := hD.sub (ws' := [(wq, .inr (2, [.ref wqw, .int (I3 nwq)])), (wqw, .inl (dA 0, 36, .inl (iA fwq)))]) [3, 4] (by decide) rfl
    have hFc := va_free (wc := [(wq, .inr (2, [.ref wqw, .int (I3 nwq)])), (wqw, .inl (dA 0, 36, .inl (iA fwq)))]) hD hS hA [3, 4] rfl
    refine va_calli (va_runV (As := []) (rest := []) ⟨hx, hb, hml, hown, hts⟩ (metX7_bits l dC dI dA wq wqw H.size nwq fwq h_8) (cwV 0 hts (lw_V q404 q388 q389 q65 q390) rfl rfl rfl (by decide +kernel) ⟨Nat.le_of_ble_eq_true rfl, Nat.le_of_ble_eq_true rfl⟩) ⟨fun a U g mk q => by obtain ⟨q0, q1, qP, qK, qD⟩ := q; exact ⟨q0, q1, qP, va_K.moved (u := U) (U := U.calling g mk a) (Vm.Alike.refl U.vm) qK, qD⟩, va_recv hK hP (ci := 2) (q0 := 3) rfl rfl, fun U hU hW => ⟨rfl, by rw [hU], by rw [hU]; exact hPc, va_K.moved hW.alike hK, hDc.weaken (fun _ _ _ _ => trivial)⟩⟩ rfl rfl hl.1 rfl (lv_room (Nat.le_of_ble_eq_true rfl)) dX1_form_16 ⟨Nat.le_of_ble_eq_true rfl, Nat.le_of_ble_eq_true rfl⟩) hS (fun q _ h => hFc q h) hFc (fun r_16 u t H1 locs ht hvm hw hB hz1 hk1 hS => ?_)
    obtain ⟨z_16, rfl⟩ : ∃ z, z = u := ⟨_, rfl⟩
    obtain ⟨rfl, p0_16, p1_16⟩ : r_16 = I3 z_16 ∧ (z_16 = ((bl (wN nwq fwq) : Nat) : Int)) ∧ (0 ≤ z_16 ∧ z_16 ≤ 1152) := hw
    obtain ⟨hP1, hK1, hD1⟩ := hB
    rw [ht] at hP1
    obtain ⟨hP, hD⟩ := va_join (wr := [(ax, .inr (1, [.ref adr, .ref ait, .int (I3 mn), .ref wp, .ref wq, .ref wr, .ref ws, .ref wt, .ref wu, .ref wv, .ref wx, .ref wy, .ref wz, .int (I3 sg), .long (L6 rch), .int (I3 lft), .int (I3 isl)])), (wp, .inr (2, [.ref wpw, .int (I3 nwp)])), (wpw, .inl (dA 0, 36, .inl (iA fwp)))]) (w1 := [(wq, .inr (2, [.ref wqw, .int (I3 nwq)])), (wqw, .inl (dA 0, 36, .inl (iA fwq)))]) hP hD [3, 4] [0, 1, 2] rfl rfl (by decide) (by decide) hk1 hFc hP1 hD1
    have hP : va_P (dC, dI) vwCl [(ax, .inr (1, [.ref adr, .ref ait, .int (I3 mn), .ref wp, .ref wq, .ref wr, .ref ws, .ref wt, .ref wu, .ref wv, .ref wx, .ref wy, .ref wz, .int (I3 sg), .long (L6 rch), .int (I3 lft), .int (I3 isl)])), (wp, .inr (2, [.ref wpw, .int (I3 nwp)])), (wpw, .inl (dA 0, 36, .inl (iA fwp))), (wq, .inr (2, [.ref wqw, .int (I3 nwq)])), (wqw, .inl (dA 0, 36, .inl (iA fwq)))] H1 := hP
    have hD : va_D A [(ax, .inr (1, [.ref adr, .ref ait, .int (I3 mn), .ref wp, .ref wq, .ref wr, .ref ws, .ref wt, .ref wu, .ref wv, .ref wx, .ref wy, .ref wz, .int (I3 sg), .long (L6 rch), .int (I3 lft), .int (I3 isl)])), (wp, .inr (2, [.ref wpw, .int (I3 nwp)])), (wpw, .inl (dA 0, 36, .inl (iA fwp))), (wq, .inr (2, [.ref wqw, .int (I3 nwq)])), (wqw, .inl (dA 0, 36, .inl (iA fwq)))] := hD
    generalize H1 = H at hP hS ⊢
    refine lv_bipush (v := I3 (64)) hx hb dX1_form_19 (by decide) ?_
    refine ix_icmp_ge (tgt := 48) hx hb (by first | assumption | decide | (constructor <;> omega)) (by first | assumption | decide | (constructor <;> omega)) dX1_form_21 (by decide) (fun c_21 => ?_) (fun c_21 => ?_)
    · skip
      refine lv_iconst (v := I3 (2)) hx hb dX1_form_48 rfl ?_
      refine lv_bipush (v := I3 (8)) hx hb dX1_form_49 (by decide) ?_
      refine ix_multi hx hb hown (hts _ q409) (hq0.2.2.1.use q410 rfl) (hts _ q144) hK hP hD hS hA dX1_form_51 (Nat.le_of_ble_eq_true rfl) (Nat.le_of_ble_eq_true rfl) (fun nw_51 H hP hD hS => ?_)
      have hP : va_P (dC, dI) vwCl [(ax, .inr (1, [.ref adr, .ref ait, .int (I3 mn), .ref wp, .ref wq, .ref wr, .ref ws, .ref wt, .ref wu, .ref wv, .ref wx, .ref wy, .ref wz, .int (I3 sg), .long (L6 rch), .int (I3 lft), .int (I3 isl)])), (wp, .inr (2, [.ref wpw, .int (I3 nwp)])), (wpw, .inl (dA 0, 36, .inl (iA fwp))), (wq, .inr (2, [.ref wqw, .int (I3 nwq)])), (wqw, .inl (dA 0, 36, .inl (iA fwq))), (nw_51, .inl (dA 4, 2, .inr (.inr (.inr (.inr ((fun k => some (nw_51 + 1 + k)))))))), ((nw_51 + 1), .inl (dA 0, 8, .inl (iA (fun _ => 0)))), ((nw_51 + 2), .inl (dA 0, 8, .inl (iA (fun _ => 0))))] H := hP
      have hD : va_D A [(ax, .inr (1, [.ref adr, .ref ait, .int (I3 mn), .ref wp, .ref wq, .ref wr, .ref ws, .ref wt, .ref wu, .ref wv, .ref wx, .ref wy, .ref wz, .int (I3 sg), .long (L6 rch), .int (I3 lft), .int (I3 isl)])), (wp, .inr (2, [.ref wpw, .int (I3 nwp)])), (wpw, .inl (dA 0, 36, .inl (iA fwp))), (wq, .inr (2, [.ref wqw, .int (I3 nwq)])), (wqw, .inl (dA 0, 36, .inl (iA fwq))), (nw_51, .inl (dA 4, 2, .inr (.inr (.inr (.inr ((fun k => some (nw_51 + 1 + k)))))))), ((nw_51 + 1), .inl (dA 0, 8, .inl (iA (fun _ => 0)))), ((nw_51 + 2), .inl (dA 0, 8, .inl (iA (fun _ => 0))))] := hD
      refine W.widen (k := 3) (n := 18) (Nat.le_of_ble_eq_true rfl) (Nat.le_of_ble_eq_true rfl) ?_
      refine lv_astore_n (lv' := [(1, .ref nw_51), (0, .ref ax)]) hx hb dX1_form_55 rfl hl (by decide) rfl (fun ls hl => ?_)
      refine lv_aload_n hx hb dX1_form_56 rfl (lv_at hl 1 rfl) ?_
      refine va_get (D := (dC, dI)) (ci := 1) (v := .ref wp) (C := RX1) (T := TX1) (N := 17) hx hb hts in_X1 hown hK hP 0 rfl rfl 3 (by decide) (hts _ q148) (fun _ h9 => h9) rfl dX1_form_57 ?_
      refine va_getN (D := (dC, dI)) (ci := 2) (v := .ref wpw) (C := RX7) (T := TX7) (N := 2) hx hb hts in_X7 hown hK hP 1 rfl rfl 0 (by decide) (hq0.2.2.1.use q136 rfl) (fun _ h9 => h9) rfl dX1_form_60 ?_
      refine lv_iconst (v := I3 (0)) hx hb dX1_form_63 rfl ?_
      refine lv_aload_n hx hb dX1_form_64 rfl (lv_at hl 0 rfl) ?_
      refine lv_iconst (v := I3 (0)) hx hb dX1_form_65 rfl ?_
      refine ix_aalda hx hb hK hP 5 4 rfl rfl (by first | assumption | omega) (Nat.le_of_ble_eq_true rfl) dX1_form_66 ?_
      refine ix_rf (y := (nw_51 + 1)) (by rfl) ?_
      refine lv_iconst (v := I3 (0)) hx hb dX1_form_67 rfl ?_
      refine lv_aload_n hx hb dX1_form_68 rfl (lv_at hl 1 rfl) ?_
      refine va_get (D := (dC, dI)) (ci := 1) (v := .ref wp) (C := RX1) (T := TX1) (N := 17) hx hb hts in_X1 hown hK hP 0 rfl rfl 3 (by decide) (hts _ q148) (fun _ h9 => h9) rfl dX1_form_69 ?_
      refine va_getN (D := (dC, dI)) (ci := 2) (v := .int (I3 nwp)) (C := RX7) (T := TX7) (N := 2) hx hb hts in_X7 hown hK hP 1 rfl rfl 1 (by decide) (hq0.2.2.1.use q138 rfl) (fun _ h9 => h9) rfl dX1_form_72 ?_
      by_cases ib_75 : nwp ≤ 8
      rotate_left
      · skip
        refine ix_copyO hx hlt hb (hml.trans hl.1.symm) hown hts (hts _ q411) (hts _ q340) (hts _ q339) (hts _ q73) hq0 hK hP hS 2 6 0 rfl rfl rfl (by first | omega | (refine ⟨?_, ?_, ?_⟩ <;> omega)) (Nat.le_of_ble_eq_true rfl) (Nat.le_of_ble_eq_true rfl) (Nat.le_of_ble_eq_true rfl) (Nat.le_of_ble_eq_true rfl) (Nat.le_of_ble_eq_true rfl) hlocks dX1_form_75 (fun H1 q9_75 ce_75 hz1 hk1 hS hce_75 hcv_75 hcl_75 => ?_)
        have hP := xk_P hP hz1 hk1
        refine vx_widen (k := 6) (n := 508) (Nat.le_of_ble_eq_true rfl) (Nat.le_of_ble_eq_true rfl) ?_
        clear hz1 hk1
        generalize H1 = H at hP hS hce_75 ⊢
        have hP := hP.sub (ws' := [(ax, .inr (1, [.ref adr, .ref ait, .int (I3 mn), .ref wp, .ref wq, .ref wr, .ref ws, .ref wt, .ref wu, .ref wv, .ref wx, .ref wy, .ref wz, .int (I3 sg), .long (L6 rch), .int (I3 lft), .int (I3 isl)])), (wp, .inr (2, [.ref wpw, .int (I3 nwp)])), (wpw, .inl (dA 0, 36, .inl (iA fwp))), (wq, .inr (2, [.ref wqw, .int (I3 nwq)])), (wqw, .inl (dA 0, 36, .inl (iA fwq)))]) [0, 1, 2, 3, 4] rfl
        have hD := hD.sub (ws' := [(ax, .inr (1, [.ref adr, .ref ait, .int (I3 mn), .ref wp, .ref wq, .ref wr, .ref ws, .ref wt, .ref wu, .ref wv, .ref wx, .ref wy, .ref wz, .int (I3 sg), .long (L6 rch), .int (I3 lft), .int (I3 isl)])), (wp, .inr (2, [.ref wpw, .int (I3 nwp)])), (wpw, .inl (dA 0, 36, .inl (iA fwp))), (wq, .inr (2, [.ref wqw, .int (I3 nwq)])), (wqw, .inl (dA 0, 36, .inl (iA fwq)))]) [0, 1, 2, 3, 4] (by decide) rfl
        have y_9 : ("java/lang/ArrayIndexOutOfBoundsException") = "java/lang/ArrayIndexOutOfBoundsException" := by rfl
        have y_10 : ¬ (nwp ≤ 8 ∧ nwq ≤ 8) := by omega
        exact vx_out (E := "java/lang/ArrayIndexOutOfBoundsException") (fun x hx => (htb x hx).elim) hlocks hce_75 hcv_75 hcl_75 (fun t ht hvm => ⟨(), trivial, ⟨⟨y_9, y_10⟩, by rw [ht]; exact hP, va_K.moved hvm hK, hD⟩, hS.F ht⟩) hS.2.2 (Nat.le_of_ble_eq_true rfl) (Nat.le_of_ble_eq_true rfl)
      refine ix_copyi hx hb (hml.trans hl.1.symm) hown (hts _ q411) (hts _ q340) (hts _ q339) (hts _ q73) hK hP hD hS 2 6 0 rfl rfl rfl (by omega) (Nat.le_of_ble_eq_true rfl) (Nat.le_of_ble_eq_true rfl) (Nat.le_of_ble_eq_true rfl) dX1_form_75 (fun H locs hP hD hS => ?_)
      have hP : va_P (dC, dI) vwCl [(ax, .inr (1, [.ref adr, .ref ait, .int (I3 mn), .ref wp, .ref wq, .ref wr, .ref ws, .ref wt, .ref wu, .ref wv, .ref wx, .ref wy, .ref wz, .int (I3 sg), .long (L6 rch), .int (I3 lft), .int (I3 isl)])), (wp, .inr (2, [.ref wpw, .int (I3 nwp)])), (wpw, .inl (dA 0, 36, .inl (iA fwp))), (wq, .inr (2, [.ref wqw, .int (I3 nwq)])), (wqw, .inl (dA 0, 36, .inl (iA fwq))), (nw_51, .inl (dA 4, 2, .inr (.inr (.inr (.inr ((fun k => some (nw_51 + 1 + k)))))))), ((nw_51 + 1), .inl (dA 0, 8, .inl (iA (cpZ fwp (fun _ => 0) nwp)))), ((nw_51 + 2), .inl (dA 0, 8, .inl (iA (fun _ => 0))))] H := hP
      have hD : va_D A [(ax, .inr (1, [.ref adr, .ref ait, .int (I3 mn), .ref wp, .ref wq, .ref wr, .ref ws, .ref wt, .ref wu, .ref wv, .ref wx, .ref wy, .ref wz, .int (I3 sg), .long (L6 rch), .int (I3 lft), .int (I3 isl)])), (wp, .inr (2, [.ref wpw, .int (I3 nwp)])), (wpw, .inl (dA 0, 36, .inl (iA fwp))), (wq, .inr (2, [.ref wqw, .int (I3 nwq)])), (wqw, .inl (dA 0, 36, .inl (iA fwq))), (nw_51, .inl (dA 4, 2, .inr (.inr (.inr (.inr ((fun k => some (nw_51 + 1 + k)))))))), ((nw_51 + 1), .inl (dA 0, 8, .inl (iA (cpZ fwp (fun _ => 0) nwp)))), ((nw_51 + 2), .inl (dA 0, 8, .inl (iA (fun _ => 0))))] := hD
      refine lv_aload_n hx hb dX1_form_78 rfl (lv_at hl 1 rfl) ?_
      refine va_get (D := (dC, dI)) (ci := 1) (v := .ref wq) (C := RX1) (T := TX1) (N := 17) hx hb hts in_X1 hown hK hP 0 rfl rfl 4 (by decide) (hts _ q149) (fun _ h9 => h9) rfl dX1_form_79 ?_
      refine va_getN (D := (dC, dI)) (ci := 2) (v := .ref wqw) (C := RX7) (T := TX7) (N := 2) hx hb hts in_X7 hown hK hP 3 rfl rfl 0 (by decide) (hq0.2.2.1.use q136 rfl) (fun _ h9 => h9) rfl dX1_form_82 ?_
      refine lv_iconst (v := I3 (0)) hx hb dX1_form_85 rfl ?_
      refine lv_aload_n hx hb dX1_form_86 rfl (lv_at hl 0 rfl) ?_
      refine lv_iconst (v := I3 (1)) hx hb dX1_form_87 rfl ?_
      refine ix_aalda hx hb hK hP 5 4 rfl rfl (by first | assumption | omega) (Nat.le_of_ble_eq_true rfl) dX1_form_88 ?_
      refine ix_rf (y := (nw_51 + 2)) (by rfl) ?_
      refine lv_iconst (v := I3 (0)) hx hb dX1_form_89 rfl ?_
      refine lv_aload_n hx hb dX1_form_90 rfl (lv_at hl 1 rfl) ?_
      refine va_get (D := (dC, dI)) (ci := 1) (v := .ref wq) (C := RX1) (T := TX1) (N := 17) hx hb hts in_X1 hown hK hP 0 rfl rfl 4 (by decide) (hts _ q149) (fun _ h9 => h9) rfl dX1_form_91 ?_
      refine va_getN (D := (dC, dI)) (ci := 2) (v := .int (I3 nwq)) (C := RX7) (T := TX7) (N := 2) hx hb hts in_X7 hown hK hP 3 rfl rfl 1 (by decide) (hq0.2.2.1.use q138 rfl) (fun _ h9 => h9) rfl dX1_form_94 ?_
      by_cases ib_97 : nwq ≤ 8
      rotate_left
      · skip
        refine ix_copyO hx hlt hb (hml.trans hl.1.symm) hown hts (hts _ q411) (hts _ q340) (hts _ q339) (hts _ q73) hq0 hK hP hS 4 7 0 rfl rfl rfl (by first | omega | (refine ⟨?_, ?_, ?_⟩ <;> omega)) (Nat.le_of_ble_eq_true rfl) (Nat.le_of_ble_eq_true rfl) (Nat.le_of_ble_eq_true rfl) (Nat.le_of_ble_eq_true rfl) (Nat.le_of_ble_eq_true rfl) hlocks dX1_form_97 (fun H1 q9_97 ce_97 hz1 hk1 hS hce_97 hcv_97 hcl_97 => ?_)
        have hP := xk_P hP hz1 hk1
        refine vx_widen (k := 6) (n := 508) (Nat.le_of_ble_eq_true rfl) (Nat.le_of_ble_eq_true rfl) ?_
        clear hz1 hk1
        generalize H1 = H at hP hS hce_97 ⊢
        have hP := hP.sub (ws' := [(ax, .inr (1, [.ref adr, .ref ait, .int (I3 mn), .ref wp, .ref wq, .ref wr, .ref ws, .ref wt, .ref wu, .ref wv, .ref wx, .ref wy, .ref wz, .int (I3 sg), .long (L6 rch), .int (I3 lft), .int (I3 isl)])), (wp, .inr (2, [.ref wpw, .int (I3 nwp)])), (wpw, .inl (dA 0, 36, .inl (iA fwp))), (wq, .inr (2, [.ref wqw, .int (I3 nwq)])), (wqw, .inl (dA 0, 36, .inl (iA fwq)))]) [0, 1, 2, 3, 4] rfl
        have hD := hD.sub (ws' := [(ax, .inr (1, [.ref adr, .ref ait, .int (I3 mn), .ref wp, .ref wq, .ref wr, .ref ws, .ref wt, .ref wu, .ref wv, .ref wx, .ref wy, .ref wz, .int (I3 sg), .long (L6 rch), .int (I3 lft), .int (I3 isl)])), (wp, .inr (2, [.ref wpw, .int (I3 nwp)])), (wpw, .inl (dA 0, 36, .inl (iA fwp))), (wq, .inr (2, [.ref wqw, .int (I3 nwq)])), (wqw, .inl (dA 0, 36, .inl (iA fwq)))]) [0, 1, 2, 3, 4] (by decide) rfl
        have y_11 : ("java/lang/ArrayIndexOutOfBoundsException") = "java/lang/ArrayIndexOutOfBoundsException" := by rfl
        have y_12 : ¬ (nwp ≤ 8 ∧ nwq ≤ 8) := by omega
        exact vx_out (E := "java/lang/ArrayIndexOutOfBoundsException") (fun x hx => (htb x hx).elim) hlocks hce_97 hcv_97 hcl_97 (fun t ht hvm => ⟨(), trivial, ⟨⟨y_11, y_12⟩, by rw [ht]; exact hP, va_K.moved hvm hK, hD⟩, hS.F ht⟩) hS.2.2 (Nat.le_of_ble_eq_true rfl) (Nat.le_of_ble_eq_true rfl)
      refine ix_copyi hx hb (hml.trans hl.1.symm) hown (hts _ q411) (hts _ q340) (hts _ q339) (hts _ q73) hK hP hD hS 4 7 0 rfl rfl rfl (by omega) (Nat.le_of_ble_eq_true rfl) (Nat.le_of_ble_eq_true rfl) (Nat.le_of_ble_eq_true rfl) dX1_form_97 (fun H locs hP hD hS => ?_)
      have hP : va_P (dC, dI) vwCl [(ax, .inr (1, [.ref adr, .ref ait, .int (I3 mn), .ref wp, .ref wq, .ref wr, .ref ws, .ref wt, .ref wu, .ref wv, .ref wx, .ref wy, .ref wz, .int (I3 sg), .long (L6 rch), .int (I3 lft), .int (I3 isl)])), (wp, .inr (2, [.ref wpw, .int (I3 nwp)])), (wpw, .inl (dA 0, 36, .inl (iA fwp))), (wq, .inr (2, [.ref wqw, .int (I3 nwq)])), (wqw, .inl (dA 0, 36, .inl (iA fwq))), (nw_51, .inl (dA 4, 2, .inr (.inr (.inr (.inr ((fun k => some (nw_51 + 1 + k)))))))), ((nw_51 + 1), .inl (dA 0, 8, .inl (iA (cpZ fwp (fun _ => 0) nwp)))), ((nw_51 + 2), .inl (dA 0, 8, .inl (iA (cpZ fwq (fun _ => 0) nwq))))] H := hP
      have hD : va_D A [(ax, .inr (1, [.ref adr, .ref ait, .int (I3 mn), .ref wp, .ref wq, .ref wr, .ref ws, .ref wt, .ref wu, .ref wv, .ref wx, .ref wy, .ref wz, .int (I3 sg), .long (L6 rch), .int (I3 lft), .int (I3 isl)])), (wp, .inr (2, [.ref wpw, .int (I3 nwp)])), (wpw, .inl (dA 0, 36, .inl (iA fwp))), (wq, .inr (2, [.ref wqw, .int (I3 nwq)])), (wqw, .inl (dA 0, 36, .inl (iA fwq))), (nw_51, .inl (dA 4, 2, .inr (.inr (.inr (.inr ((fun k => some (nw_51 + 1 + k)))))))), ((nw_51 + 1), .inl (dA 0, 8, .inl (iA (cpZ fwp (fun _ => 0) nwp)))), ((nw_51 + 2), .inl (dA 0, 8, .inl (iA (cpZ fwq (fun _ => 0) nwq))))] := hD
      refine lv_aload_n hx hb dX1_form_100 rfl (lv_at hl 0 rfl) ?_
      refine W.widen (k := 6) (n := 508) (Nat.le_of_ble_eq_true rfl) (Nat.le_of_ble_eq_true rfl) ?_
      have o_13 : FrmAt dA ([(nw_51, .inl (dA 4, 2, .inr (.inr (.inr (.inr ((fun k => some (nw_51 + 1 + k)))))))), ((nw_51 + 1), .inl (dA 0, 8, .inl (iA (cpZ fwp (fun _ => 0) nwp)))), ((nw_51 + 2), .inl (dA 0, 8, .inl (iA (cpZ fwq (fun _ => 0) nwq))))]) nw_51 (wN nwp fwp) (wN nwq fwq) := by exact Or.inr ⟨_, _, _, _, _, List.mem_cons_self, rfl, rfl, List.mem_cons_of_mem _ List.mem_cons_self, List.mem_cons_of_mem _ (List.mem_cons_of_mem _ List.mem_cons_self), cp0_D hOp.2.1, cp0_D hOq.2.1, cp0_N hOp (by omega), cp0_N hOq (by omega)⟩
      have o_14 : nwp ≤ 8 ∧ nwq ≤ 8 := by omega
      refine vx_ret ?_
      exact W.aret (v := .ref nw_51) hx hb hr (Or.inl ⟨_, rfl⟩) (Or.inr ⟨_, rfl⟩) (fun t ht hW => ⟨⟨(nw_51, ([(nw_51, .inl (dA 4, 2, .inr (.inr (.inr (.inr ((fun k => some (nw_51 + 1 + k)))))))), ((nw_51 + 1), .inl (dA 0, 8, .inl (iA (cpZ fwp (fun _ => 0) nwp)))), ((nw_51 + 2), .inl (dA 0, 8, .inl (iA (cpZ fwq (fun _ => 0) nwq))))])), nw_51, rfl, ⟨o_13, o_14⟩, rfl, by rw [ht]; exact hP, va_K.moved hW.alike hK, hD⟩, hS.F ht⟩) hS.2.2 dX1_form_101
    · skip
      have bp_ := fm_small hOp (by omega)
      have bq_ := fm_small hOq (by omega)
      refine lv_iconst (v := I3 (2)) hx hb dX1_form_24 rfl ?_
      refine ix_newal hx hb (hts _ q424) hK hP hD hS hA 2 rfl (by decide) (Nat.le_of_ble_eq_true rfl) (Nat.le_of_ble_eq_true rfl) dX1_form_25 (fun nw_25 H hP hD hS => ?_)
      have hP : va_P (dC, dI) vwCl [(ax, .inr (1, [.ref adr, .ref ait, .int (I3 mn), .ref wp, .ref wq, .ref wr, .ref ws, .ref wt, .ref wu, .ref wv, .ref wx, .ref wy, .ref wz, .int (I3 sg), .long (L6 rch), .int (I3 lft), .int (I3 isl)])), (wp, .inr (2, [.ref wpw, .int (I3 nwp)])), (wpw, .inl (dA 0, 36, .inl (iA fwp))), (wq, .inr (2, [.ref wqw, .int (I3 nwq)])), (wqw, .inl (dA 0, 36, .inl (iA fwq))), (nw_25, .inl (dA 1, 2, .inr (.inl (lA (fun _ => 0)))))] H := hP
      have hD : va_D A [(ax, .inr (1, [.ref adr, .ref ait, .int (I3 mn), .ref wp, .ref wq, .ref wr, .ref ws, .ref wt, .ref wu, .ref wv, .ref wx, .ref wy, .ref wz, .int (I3 sg), .long (L6 rch), .int (I3 lft), .int (I3 isl)])), (wp, .inr (2, [.ref wpw, .int (I3 nwp)])), (wpw, .inl (dA 0, 36, .inl (iA fwp))), (wq, .inr (2, [.ref wqw, .int (I3 nwq)])), (wqw, .inl (dA 0, 36, .inl (iA fwq))), (nw_25, .inl (dA 1, 2, .inr (.inl (lA (fun _ => 0)))))] := hD
      refine W.widen (k := 1) (n := 2) (Nat.le_of_ble_eq_true rfl) (Nat.le_of_ble_eq_true rfl) ?_
      refine lv_dup hx hb dX1_form_27 rfl ?_
      refine lv_iconst (v := I3 (0)) hx hb dX1_form_28 rfl ?_
      refine lv_aload_n hx hb dX1_form_29 rfl (lv_at hl 0 rfl) ?_
      refine va_get (D := (dC, dI)) (ci := 1) (v := .ref wp) (C := RX1) (T := TX1) (N := 17) hx hb hts in_X1 hown hK hP 0 rfl rfl 3 (by decide) (hts _ q148) (fun _ h9 => h9) rfl dX1_form_30 ?_
      have h_15 : OKw nwp fwp := by exact hOp
      have hPc := hP.sub (ws' := [(wp, .inr (2, [.ref wpw, .int (I3 nwp)])), (wpw, .inl (dA 0, 36, .inl (iA fwp)))]) [1, 2] rfl
      have hDc := hD.sub (ws' := [(wp, .inr (2, [.ref wpw, .int (I3 nwp)])), (wpw, .inl (dA 0, 36, .inl (iA fwp)))]) [1, 2] (by decide) rfl
      have hFc := va_free (wc := [(wp, .inr (2, [.ref wpw, .int (I3 nwp)])), (wpw, .inl (dA 0, 36, .inl (iA fwp)))]) hD hS hA [1, 2] rfl
      refine va_calll (va_runV (As := []) (rest := [.int (I3 0), .ref nw_25, .ref nw_25]) ⟨hx, hb, hml, hown, hts⟩ (metX7_low l dC dI dA wp wpw H.size nwp fwp h_15) (cwV 0 hts (lw_V q405 q406 q407 q65 q408) rfl rfl rfl (by decide +kernel) ⟨Nat.le_of_ble_eq_true rfl, Nat.le_of_ble_eq_true rfl⟩) ⟨fun a U g mk q => by obtain ⟨q0, q1, qP, qK, qD⟩ := q; exact ⟨q0, q1, qP, va_K.moved (u := U) (U := U.calling g mk a) (Vm.Alike.refl U.vm) qK, qD⟩, va_recv hK hP (ci := 2) (q0 := 1) rfl rfl, fun U hU hW => ⟨rfl, by rw [hU], by rw [hU]; exact hPc, va_K.moved hW.alike hK, hDc.weaken (fun _ _ _ _ => trivial)⟩⟩ rfl rfl hl.1 rfl (lv_room (Nat.le_of_ble_eq_true rfl)) dX1_form_33 ⟨Nat.le_of_ble_eq_true rfl, Nat.le_of_ble_eq_true rfl⟩) hS (fun q _ h => hFc q h) hFc (fun r_33 u t H1 locs ht hvm hw hB hz1 hk1 hS => ?_)
      obtain ⟨z_33, rfl⟩ : ∃ z, z = u := ⟨_, rfl⟩
      obtain ⟨rfl, p0_33⟩ : r_33 = L6 z_33 ∧ (z_33 = sm6 ((wN nwp fwp : Nat) : Int)) := hw
      obtain ⟨hP1, hK1, hD1⟩ := hB
      rw [ht] at hP1
      obtain ⟨hP, hD⟩ := va_join (wr := [(ax, .inr (1, [.ref adr, .ref ait, .int (I3 mn), .ref wp, .ref wq, .ref wr, .ref ws, .ref wt, .ref wu, .ref wv, .ref wx, .ref wy, .ref wz, .int (I3 sg), .long (L6 rch), .int (I3 lft), .int (I3 isl)])), (wq, .inr (2, [.ref wqw, .int (I3 nwq)])), (wqw, .inl (dA 0, 36, .inl (iA fwq))), (nw_25, .inl (dA 1, 2, .inr (.inl (lA (fun _ => 0)))))]) (w1 := [(wp, .inr (2, [.ref wpw, .int (I3 nwp)])), (wpw, .inl (dA 0, 36, .inl (iA fwp)))]) hP hD [1, 2] [0, 3, 4, 5] rfl rfl (by decide) (by decide) hk1 hFc hP1 hD1
      have hP := hP.sub (ws' := [(ax, .inr (1, [.ref adr, .ref ait, .int (I3 mn), .ref wp, .ref wq, .ref wr, .ref ws, .ref wt, .ref wu, .ref wv, .ref wx, .ref wy, .ref wz, .int (I3 sg), .long (L6 rch), .int (I3 lft), .int (I3 isl)])), (wp, .inr (2, [.ref wpw, .int (I3 nwp)])), (wpw, .inl (dA 0, 36, .inl (iA fwp))), (wq, .inr (2, [.ref wqw, .int (I3 nwq)])), (wqw, .inl (dA 0, 36, .inl (iA fwq))), (nw_25, .inl (dA 1, 2, .inr (.inl (lA (fun _ => 0)))))]) [0, 4, 5, 1, 2, 3] rfl
      have hD := hD.sub (ws' := [(ax, .inr (1, [.ref adr, .ref ait, .int (I3 mn), .ref wp, .ref wq, .ref wr, .ref ws, .ref wt, .ref wu, .ref wv, .ref wx, .ref wy, .ref wz, .int (I3 sg), .long (L6 rch), .int (I3 lft), .int (I3 isl)])), (wp, .inr (2, [.ref wpw, .int (I3 nwp)])), (wpw, .inl (dA 0, 36, .inl (iA fwp))), (wq, .inr (2, [.ref wqw, .int (I3 nwq)])), (wqw, .inl (dA 0, 36, .inl (iA fwq))), (nw_25, .inl (dA 1, 2, .inr (.inl (lA (fun _ => 0)))))]) [0, 4, 5, 1, 2, 3] (by decide) rfl
      generalize H1 = H at hP hS ⊢
      refine ix_last hx hb hK hP hD hS 5 1 rfl rfl (Nat.le_of_ble_eq_true rfl) (by omega) dX1_form_36 (fun H locs hP hD hS => ?_)
      have hP : va_P (dC, dI) vwCl [(ax, .inr (1, [.ref adr, .ref ait, .int (I3 mn), .ref wp, .ref wq, .ref wr, .ref ws, .ref wt, .ref wu, .ref wv, .ref wx, .ref wy, .ref wz, .int (I3 sg), .long (L6 rch), .int (I3 lft), .int (I3 isl)])), (wp, .inr (2, [.ref wpw, .int (I3 nwp)])), (wpw, .inl (dA 0, 36, .inl (iA fwp))), (wq, .inr (2, [.ref wqw, .int (I3 nwq)])), (wqw, .inl (dA 0, 36, .inl (iA fwq))), (nw_25, .inl (dA 1, 2, .inr (.inl (lA (uZ (fun _ => 0) 0 z_33)))))] H := hP
      have hD : va_D A [(ax, .inr (1, [.ref adr, .ref ait, .int (I3 mn), .ref wp, .ref wq, .ref wr, .ref ws, .ref wt, .ref wu, .ref wv, .ref wx, .ref wy, .ref wz, .int (I3 sg), .long (L6 rch), .int (I3 lft), .int (I3 isl)])), (wp, .inr (2, [.ref wpw, .int (I3 nwp)])), (wpw, .inl (dA 0, 36, .inl (iA fwp))), (wq, .inr (2, [.ref wqw, .int (I3 nwq)])), (wqw, .inl (dA 0, 36, .inl (iA fwq))), (nw_25, .inl (dA 1, 2, .inr (.inl (lA (uZ (fun _ => 0) 0 z_33)))))] := hD
      refine lv_dup hx hb dX1_form_37 rfl ?_
      refine lv_iconst (v := I3 (1)) hx hb dX1_form_38 rfl ?_
      refine lv_aload_n hx hb dX1_form_39 rfl (lv_at hl 0 rfl) ?_
      refine va_get (D := (dC, dI)) (ci := 1) (v := .ref wq) (C := RX1) (T := TX1) (N := 17) hx hb hts in_X1 hown hK hP 0 rfl rfl 4 (by decide) (hts _ q149) (fun _ h9 => h9) rfl dX1_form_40 ?_
      have h_16 : OKw nwq fwq := by exact hOq
      have hPc := hP.sub (ws' := [(wq, .inr (2, [.ref wqw, .int (I3 nwq)])), (wqw, .inl (dA 0, 36, .inl (iA fwq)))]) [3, 4] rfl
      have hDc := hD.sub (ws' := [(wq, .inr (2, [.ref wqw, .int (I3 nwq)])), (wqw, .inl (dA 0, 36, .inl (iA fwq)))]) [3, 4] (by decide) rfl
      have hFc := va_free (wc := [(wq, .inr (2, [.ref wqw, .int (I3 nwq)])), (wqw, .inl (dA 0, 36, .inl (iA fwq)))]) hD hS hA [3, 4] rfl
      refine va_calll (va_runV (As := []) (rest := [.int (I3 1), .ref nw_25, .ref nw_25]) ⟨hx, hb, hml, hown, hts⟩ (metX7_low l dC dI dA wq wqw H.size nwq fwq h_16) (cwV 0 hts (lw_V q405 q406 q407 q65 q408) rfl rfl rfl (by decide +kernel) ⟨Nat.le_of_ble_eq_true rfl, Nat.le_of_ble_eq_true rfl⟩) ⟨fun a U g mk q => by obtain ⟨q0, q1, qP, qK, qD⟩ := q; exact ⟨q0, q1, qP, va_K.moved (u := U) (U := U.calling g mk a) (Vm.Alike.refl U.vm) qK, qD⟩, va_recv hK hP (ci := 2) (q0 := 3) rfl rfl, fun U hU hW => ⟨rfl, by rw [hU], by rw [hU]; exact hPc, va_K.moved hW.alike hK, hDc.weaken (fun _ _ _ _ => trivial)⟩⟩ rfl rfl hl.1 rfl (lv_room (Nat.le_of_ble_eq_true rfl)) dX1_form_43 ⟨Nat.le_of_ble_eq_true rfl, Nat.le_of_ble_eq_true rfl⟩) hS (fun q _ h => hFc q h) hFc (fun r_43 u t H1 locs ht hvm hw hB hz1 hk1 hS => ?_)
      obtain ⟨z_43, rfl⟩ : ∃ z, z = u := ⟨_, rfl⟩
      obtain ⟨rfl, p0_43⟩ : r_43 = L6 z_43 ∧ (z_43 = sm6 ((wN nwq fwq : Nat) : Int)) := hw
      obtain ⟨hP1, hK1, hD1⟩ := hB
      rw [ht] at hP1
      obtain ⟨hP, hD⟩ := va_join (wr := [(ax, .inr (1, [.ref adr, .ref ait, .int (I3 mn), .ref wp, .ref wq, .ref wr, .ref ws, .ref wt, .ref wu, .ref wv, .ref wx, .ref wy, .ref wz, .int (I3 sg), .long (L6 rch), .int (I3 lft), .int (I3 isl)])), (wp, .inr (2, [.ref wpw, .int (I3 nwp)])), (wpw, .inl (dA 0, 36, .inl (iA fwp))), (nw_25, .inl (dA 1, 2, .inr (.inl (lA (uZ (fun _ => 0) 0 z_33)))))]) (w1 := [(wq, .inr (2, [.ref wqw, .int (I3 nwq)])), (wqw, .inl (dA 0, 36, .inl (iA fwq)))]) hP hD [3, 4] [0, 1, 2, 5] rfl rfl (by decide) (by decide) hk1 hFc hP1 hD1
      have hP := hP.sub (ws' := [(ax, .inr (1, [.ref adr, .ref ait, .int (I3 mn), .ref wp, .ref wq, .ref wr, .ref ws, .ref wt, .ref wu, .ref wv, .ref wx, .ref wy, .ref wz, .int (I3 sg), .long (L6 rch), .int (I3 lft), .int (I3 isl)])), (wp, .inr (2, [.ref wpw, .int (I3 nwp)])), (wpw, .inl (dA 0, 36, .inl (iA fwp))), (wq, .inr (2, [.ref wqw, .int (I3 nwq)])), (wqw, .inl (dA 0, 36, .inl (iA fwq))), (nw_25, .inl (dA 1, 2, .inr (.inl (lA (uZ (fun _ => 0) 0 z_33)))))]) [0, 1, 2, 4, 5, 3] rfl
      have hD := hD.sub (ws' := [(ax, .inr (1, [.ref adr, .ref ait, .int (I3 mn), .ref wp, .ref wq, .ref wr, .ref ws, .ref wt, .ref wu, .ref wv, .ref wx, .ref wy, .ref wz, .int (I3 sg), .long (L6 rch), .int (I3 lft), .int (I3 isl)])), (wp, .inr (2, [.ref wpw, .int (I3 nwp)])), (wpw, .inl (dA 0, 36, .inl (iA fwp))), (wq, .inr (2, [.ref wqw, .int (I3 nwq)])), (wqw, .inl (dA 0, 36, .inl (iA fwq))), (nw_25, .inl (dA 1, 2, .inr (.inl (lA (uZ (fun _ => 0) 0 z_33)))))]) [0, 1, 2, 4, 5, 3] (by decide) rfl
      generalize H1 = H at hP hS ⊢
      refine ix_last hx hb hK hP hD hS 5 1 rfl rfl (Nat.le_of_ble_eq_true rfl) (by omega) dX1_form_46 (fun H locs hP hD hS => ?_)
      have hP : va_P (dC, dI) vwCl [(ax, .inr (1, [.ref adr, .ref ait, .int (I3 mn), .ref wp, .ref wq, .ref wr, .ref ws, .ref wt, .ref wu, .ref wv, .ref wx, .ref wy, .ref wz, .int (I3 sg), .long (L6 rch), .int (I3 lft), .int (I3 isl)])), (wp, .inr (2, [.ref wpw, .int (I3 nwp)])), (wpw, .inl (dA 0, 36, .inl (iA fwp))), (wq, .inr (2, [.ref wqw, .int (I3 nwq)])), (wqw, .inl (dA 0, 36, .inl (iA fwq))), (nw_25, .inl (dA 1, 2, .inr (.inl (lA (uZ (uZ (fun _ => 0) 0 z_33) 1 z_43)))))] H := hP
      have hD : va_D A [(ax, .inr (1, [.ref adr, .ref ait, .int (I3 mn), .ref wp, .ref wq, .ref wr, .ref ws, .ref wt, .ref wu, .ref wv, .ref wx, .ref wy, .ref wz, .int (I3 sg), .long (L6 rch), .int (I3 lft), .int (I3 isl)])), (wp, .inr (2, [.ref wpw, .int (I3 nwp)])), (wpw, .inl (dA 0, 36, .inl (iA fwp))), (wq, .inr (2, [.ref wqw, .int (I3 nwq)])), (wqw, .inl (dA 0, 36, .inl (iA fwq))), (nw_25, .inl (dA 1, 2, .inr (.inl (lA (uZ (uZ (fun _ => 0) 0 z_33) 1 z_43)))))] := hD
      refine W.widen (k := 6) (n := 508) (Nat.le_of_ble_eq_true rfl) (Nat.le_of_ble_eq_true rfl) ?_
      have o_17 : FrmAt dA ([(nw_25, .inl (dA 1, 2, .inr (.inl (lA (uZ (uZ (fun _ => 0) 0 z_33) 1 z_43)))))]) nw_25 (wN nwp fwp) (wN nwq fwq) := by refine Or.inl ⟨bp_.1, bq_.1, _, List.mem_cons_self, ?_, ?_⟩; (rw [uZ_n (by decide), uZ_s, p0_33]; exact bp_.2.2); (rw [uZ_s, p0_43]; exact bq_.2.2)
      have o_18 : nwp ≤ 8 ∧ nwq ≤ 8 := by exact ⟨bp_.2.1, bq_.2.1⟩
      refine vx_ret ?_
      exact W.aret (v := .ref nw_25) hx hb hr (Or.inl ⟨_, rfl⟩) (Or.inr ⟨_, rfl⟩) (fun t ht hW => ⟨⟨(nw_25, ([(nw_25, .inl (dA 1, 2, .inr (.inl (lA (uZ (uZ (fun _ => 0) 0 z_33) 1 z_43)))))])), nw_25, rfl, ⟨o_17, o_18⟩, rfl, by rw [ht]; exact hP, va_K.moved hW.alike hK, hD⟩, hS.F ht⟩) hS.2.2 dX1_form_47
