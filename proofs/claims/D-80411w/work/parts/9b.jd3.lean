/-! floor, ceil and rint of the JDK -/
set_option maxRecDepth 100000
section ND
variable {p : Program} {l : Launch} {e : Env} {R : Room} {s : State} {m : MethodId} {args : Array Value} {below : List Frame} {meth : Method} {c : Code} {H : Heap} {locs : List Loc} {cells slots : Nat} {Q : State → Prop}
variable {pc : Nat} {ls : Array Slot} {rest : List Value}
theorem ix_nd {x : Int} (k : ∀ y : Int, y = x → W p l e R s m args below meth c H locs cells slots Q (F0 m pc ls (.double (dX y) :: rest))) : W p l e R s m args below meth c H locs cells slots Q (F0 m pc ls (.double (dX x) :: rest)) := k x rfl
theorem ix_nf {x : Int} (k : ∀ y : Int, y = x → W p l e R s m args below meth c H locs cells slots Q (F0 m pc ls (.float (fB y) :: rest))) : W p l e R s m args below meth c H locs cells slots Q (F0 m pc ls (.float (fB x) :: rest)) := k x rfl
end ND
theorem fc_c {v sg : Int} (h6 : In6 v) (h1 : 1023 ≤ eX v) (hs : OneX sg) (hk : kX (if 0 < sg then v else ng v) = if 0 < sg then kX v else -kX v) : (kX (if 0 < sg then v else ng v) ≤ kX 0 → ¬ (0 < sg ↔ 0 ≤ v)) ∧ (¬ kX (if 0 < sg then v else ng v) ≤ kX 0 → (0 < sg ↔ 0 ≤ v)) := by
  have k0 : kX 0 = 0 := by decide
  have r1 := kX_c h6
  have ed : eX v = v / 4503599627370496 % 2048 := rfl
  rw [hk, k0]
  rcases hs with rfl | rfl
  · rw [if_pos (by decide)]
    constructor <;> intro h <;> omega
  · rw [if_neg (by decide)]
    constructor <;> intro h <;> omega
abbrev BmetJ15_floorOrCeil (dC : Nat → ClassId) (dI : Nat → Nat → Nat) (dA : Nat → ClassId) (A : Nat → Prop)  (v : Int) (nb : Int) (pb : Int) (sg : Int) : Int → State → Prop := fun u t => (fun (u : Int) => (fun (z : Int) => va_P (dC, dI) vwCl [] t.heap ∧ va_K (dC, dI) vwCl (tyA dA) t ∧ va_D A []) u) u
abbrev QmetJ15_floorOrCeil (dC : Nat → ClassId) (dI : Nat → Nat → Nat) (dA : Nat → ClassId) (A : Nat → Prop)  (v : Int) (nb : Int) (pb : Int) (sg : Int) := va_Qd (fun (rt_ : UInt64) => fun (u : Int) => (fun (z : Int) => rt_ = dX z ∧ ((eX v = 2047 ∨ 0 ≤ plX v → z = v) ∧ (¬ (eX v = 2047 ∨ 0 ≤ plX v) → (eX v < 1023 → z = if kX v = 0 then v else if v < 0 then nb else pb) ∧ (1023 ≤ eX v → vD z = fcV (0 < sg ↔ 0 ≤ v) v))) ∧ (In6 z) ∧ (¬ noX z)) u) (BmetJ15_floorOrCeil dC dI dA A v nb pb sg) A
set_option maxHeartbeats 4000000 in
set_option maxRecDepth 100000 in
theorem metJ15_floorOrCeil (l : Launch) (dC : Nat → ClassId) (dI : Nat → Nat → Nat) (dA : Nat → ClassId)  (sz : Nat) (v : Int) (nb : Int) (pb : Int) (sg : Int) (hv : In6 v) (hnb : In6 nb) (hpb : In6 pb) (hsg : OneX sg) (hno : ¬ noX v) (hn1 : ¬ noX nb) (hn2 : ¬ noX pb) : Met l yJ15_floorOrCeil (ws_ yJ15_floorOrCeil cJ15_floorOrCeil 15 (some .double)) ({ frames := 3, cells := 0, slots := 0, locals := 120 }) (va_Pc [.double (dX v), .double (dX nb), .double (dX pb), .double (dX sg)] (fun U => U.heap.size = sz ∧ va_P (dC, dI) vwCl [] U.heap ∧ va_K (dC, dI) vwCl (tyA dA) U ∧ va_D (fun _ => True) [] ∧ MX (va_A [] sz) U U.heap)) (QmetJ15_floorOrCeil dC dI dA (va_A [] sz) v nb pb sg) 0 0 (va_A [] sz) := by
  refine Met.ofW (cc := cJ15_floorOrCeil) (maxL := 15) (ret := (some .double)) (by decide) rfl ?_
  intro p e s m args below meth c s₁ B hml hv
  obtain ⟨rfl, hsz, hP, hK, hD0, hq0⟩ := hv
  have hx := B.exec
  have hb := B.bytes
  have hr := B.returns
  have hts := atoms_spec (ws := (ws_ yJ15_floorOrCeil cJ15_floorOrCeil 15 (some .double))) B.pre
  have hts : ∀ w ∈ lw_all, w.before _ s = true := fun w h => hts w (List.mem_cons_of_mem _ h)
  have hown : s.vm.findClass RJ15 = some m.cls := findClass_of_methodNamed B.named
  have hlocks := B.notSynchronized
  subst hsz
  have hD := hD0.self (sz := s.heap.size)
  generalize hAe : va_A [] s.heap.size = A at hD hq0 ⊢
  have hA : ∀ q : Nat, s.heap.size ≤ q → A q := fun q h => by rw [← hAe]; exact Or.inr h
  have hS : va_S A s.heap s.heap [] := va_S.rf
  have hP : va_P (dC, dI) vwCl [] s.heap := hP
  have hl := lv_entry ([.double (dX v), .double (dX nb), .double (dX pb), .double (dX sg)]) (n := 15) (Nat.le_of_ble_eq_true rfl)
  rw [lg_entry_eq]
  generalize (lg_sl ([.double (dX v), .double (dX nb), .double (dX pb), .double (dX sg)]) ++ List.replicate (15 - (lg_sl ([.double (dX v), .double (dX nb), .double (dX pb), .double (dX sg)])).length) Slot.unset).toArray = ls at hl ⊢
  have hl : lv_has ls 15 [(0, .double (dX v)), (2, .double (dX nb)), (4, .double (dX pb)), (6, .double (dX sg))] := hl
  have k0_ : kX 0 = 0 := by decide
  have n0_ : ¬ noX 0 := by decide
  have he_ := eX_r v
  have pl_ := plX_c v
  have r1_ := kX_c hv
  have hs6_ : In6 sg := by rcases hsg with rfl | rfl <;> decide
  have hsn_ : ¬ noX sg := by rcases hsg with rfl | rfl <;> decide
  have hse_ : eX sg ≠ 2047 := by rcases hsg with rfl | rfl <;> decide
  refine lv_dload_n hx hb dJ15_floorOrCeil_0 rfl (lv_at hl 0 rfl) ?_
  have h_1 : In6 v := by first | assumption | omega | (constructor <;> omega)
  have hPc := hP.sub (ws' := []) [] rfl
  have hDc := hD.sub (ws' := []) [] (by decide) rfl
  have hFc := va_free (wc := []) hD hS hA [] rfl
  refine va_calli (va_runS (As := [.double (dX v)]) (rest := []) ⟨hx, hb, hml, hown, hts⟩ (metJ7_getExponent l dC dI dA s.heap.size v h_1) (va_cwS 1 hts (lw_S q838 q505 q76 q506) rfl rfl rfl (by decide +kernel) ⟨Nat.le_of_ble_eq_true rfl, Nat.le_of_ble_eq_true rfl⟩) ⟨fun a U g mk q => by obtain ⟨q0, q1, qP, qK, qD⟩ := q; exact ⟨q0, q1, qP, va_K.moved (u := U) (U := U.calling g mk a) (Vm.Alike.refl U.vm) qK, qD⟩, fun U hU hW => ⟨rfl, by rw [hU], by rw [hU]; exact hPc, va_K.moved hW.alike hK, hDc.weaken (fun _ _ _ _ => trivial)⟩⟩ rfl rfl hl.1 rfl (lv_room (Nat.le_of_ble_eq_true rfl)) dJ15_floorOrCeil_1 ⟨Nat.le_of_ble_eq_true rfl, Nat.le_of_ble_eq_true rfl⟩) hS (fun q _ h => hFc q h) hFc (fun r_1 u t H1 locs ht hvm hw hB hz1 hk1 hS => ?_)
  obtain ⟨z_1, rfl⟩ : ∃ z, z = u := ⟨_, rfl⟩
  obtain ⟨rfl, p0_1⟩ : r_1 = I3 z_1 ∧ (z_1 = eX v - 1023) := hw
  obtain ⟨hP1, hK1, hD1⟩ := hB
  rw [ht] at hP1
  obtain ⟨hP, hD⟩ := va_join (wr := []) (w1 := []) hP hD [] [] rfl rfl (by decide) (by decide) hk1 hFc hP1 hD1
  have hP : va_P (dC, dI) vwCl [] H1 := hP
  have hD : va_D A [] := hD
  generalize H1 = H at hP hS ⊢
  have y1_ : z_1 = eX v - 1023 := p0_1
  refine lv_istore (lv' := [(8, .int (I3 z_1)), (0, .double (dX v)), (2, .double (dX nb)), (4, .double (dX pb)), (6, .double (dX sg))]) hx hb dJ15_floorOrCeil_4 hl (by decide) rfl (fun ls hl => ?_)
  refine lv_iload hx hb dJ15_floorOrCeil_6 (lv_at hl 0 rfl) ?_
  refine ix_if_ge (tgt := 34) hx hb (by first | assumption | decide | (constructor <;> omega)) dJ15_floorOrCeil_8 (by decide) (fun c_8 => ?_) (fun c_8 => ?_)
  · skip
    refine lv_iload hx hb dJ15_floorOrCeil_34 (lv_at hl 0 rfl) ?_
    refine lv_bipush (v := I3 (52)) hx hb dJ15_floorOrCeil_36 (by decide) ?_
    refine ix_icmp_lt (tgt := 43) hx hb (by first | assumption | decide | (constructor <;> omega)) (by first | assumption | decide | (constructor <;> omega)) dJ15_floorOrCeil_38 (by decide) (fun c_38 => ?_) (fun c_38 => ?_)
    · skip
      refine va_gets (C := "java/lang/StrictMath") (v := .int (I3 1)) hx hb hq0.2.1 hS hown (hts _ q839) (fun _ h9 => h9) dJ15_floorOrCeil_43 ?_
      refine ix_if_ne (tgt := 69) hx hb (by first | assumption | decide | (constructor <;> omega)) dJ15_floorOrCeil_46 (by decide) (fun c_46 => ?_) (fun c_46 => ?_)
      · skip
        refine lv_dload_n hx hb dJ15_floorOrCeil_69 rfl (lv_at hl 1 rfl) ?_
        refine ix_draw hx hb (hml.trans hl.1.symm) hown (hts _ q841) (hts _ q496) (hts _ q495) (hts _ q80) (Nat.le_of_ble_eq_true rfl) (Nat.le_of_ble_eq_true rfl) dJ15_floorOrCeil_70 ?_
        refine lv_lstore (lv' := [(9, .long (L6 v)), (8, .int (I3 z_1)), (0, .double (dX v)), (2, .double (dX nb)), (4, .double (dX pb)), (6, .double (dX sg))]) hx hb dJ15_floorOrCeil_73 hl (by decide) rfl (fun ls hl => ?_)
        refine lv_ldc2 hx hb hown (hts _ q842) dJ15_floorOrCeil_75 ?_
        refine ix_vl (x := (4503599627370495)) (by decide) ?_
        refine lv_iload hx hb dJ15_floorOrCeil_78 (lv_at hl 1 rfl) ?_
        refine ix_lshr hx hb (by decide) (by first | decide | omega) dJ15_floorOrCeil_80 ?_
        refine ix_tl (y := 2 ^ (1075 - eX v).toNat - 1) (by rw [y1_]; exact mask_sh (by omega)) ?_
        refine lv_lstore (lv' := [(11, .long (L6 (2 ^ (1075 - eX v).toNat - 1))), (9, .long (L6 v)), (8, .int (I3 z_1)), (0, .double (dX v)), (2, .double (dX nb)), (4, .double (dX pb)), (6, .double (dX sg))]) hx hb dJ15_floorOrCeil_81 hl (by decide) rfl (fun ls hl => ?_)
        refine lv_lload hx hb dJ15_floorOrCeil_83 (lv_at hl 0 rfl) ?_
        refine lv_lload hx hb dJ15_floorOrCeil_85 (lv_at hl 1 rfl) ?_
        refine ix_land hx hb dJ15_floorOrCeil_87 ?_
        refine ix_tl (y := v % 2 ^ (1075 - eX v).toNat) (by rw [zand6_comm]; exact zand6_m (by omega)) ?_
        refine lv_lconst (v := L6 0) hx hb dJ15_floorOrCeil_88 (by decide) ?_
        refine ix_lcmp_ne (tgt := 95) hx hb (by exact mod6 (by omega)) (by first | assumption | decide | (constructor <;> omega)) dJ15_floorOrCeil_89 dJ15_floorOrCeil_90 (by decide) (fun c_89 => ?_) (fun c_89 => ?_)
        · skip
          refine lv_lload hx hb dJ15_floorOrCeil_95 (lv_at hl 1 rfl) ?_
          refine lv_lload hx hb dJ15_floorOrCeil_97 (lv_at hl 0 rfl) ?_
          refine lv_ldc2 hx hb hown (hts _ q843) dJ15_floorOrCeil_99 ?_
          refine ix_vl (x := (-1)) (by decide) ?_
          refine ix_lxor hx hb dJ15_floorOrCeil_102 ?_
          refine ix_tl (y := -1 - (2 ^ (1075 - eX v).toNat - 1)) (by exact zxor6_m1 (msk6 (by omega))) ?_
          refine ix_land hx hb dJ15_floorOrCeil_103 ?_
          refine ix_tl (y := v - v % 2 ^ (1075 - eX v).toNat) (by rcases zand6_hi (v := v) (k := (1075 - eX v).toNat) (by omega) with q | q; (exact q); (exact absurd (fc_b hv (by omega) (by omega)).2.1 q)) ?_
          have hb1_ := fc_b hv (show 1023 ≤ eX v by omega) (show eX v < 1075 by omega)
          refine ix_dbits hx hb (hml.trans hl.1.symm) hown (hts _ q844) (hts _ q490) (hts _ q489) (hts _ q80) (by exact hb1_.2.2) (Nat.le_of_ble_eq_true rfl) (Nat.le_of_ble_eq_true rfl) dJ15_floorOrCeil_104 ?_
          refine lv_dstore (lv' := [(13, .double (dX (v - v % 2 ^ (1075 - eX v).toNat))), (11, .long (L6 (2 ^ (1075 - eX v).toNat - 1))), (9, .long (L6 v)), (8, .int (I3 z_1)), (0, .double (dX v)), (2, .double (dX nb)), (4, .double (dX pb)), (6, .double (dX sg))]) hx hb dJ15_floorOrCeil_107 hl (by decide) rfl (fun ls hl => ?_)
          refine lv_dload hx hb dJ15_floorOrCeil_109 (lv_at hl 7 rfl) ?_
          refine lv_dload_n hx hb dJ15_floorOrCeil_111 rfl (lv_at hl 4 rfl) ?_
          have hm1_ := fc_mul hsg hv hno
          refine ix_dmul (u := (if 0 < sg then v else ng v)) hx hb (by exact hm1_.1) (by exact hm1_.2.2.1) dJ15_floorOrCeil_112 ?_
          refine lv_dconst0 hx hb dJ15_floorOrCeil_113 ?_
          refine ix_dc (x := 0) rfl ?_
          refine ix_dci_le (tgt := 125) hx hb (by exact hm1_.2.1) (by first | assumption | decide | (constructor <;> omega)) (by exact hm1_.2.2.1) (by first | assumption | decide | omega) dJ15_floorOrCeil_114 dJ15_floorOrCeil_115 (by decide) (fun c_114 => ?_) (fun c_114 => ?_)
          · skip
            refine lv_dload hx hb dJ15_floorOrCeil_125 (lv_at hl 0 rfl) ?_
            have hk1_ := hm1_.2.2.2
            have o_2 : (eX v = 2047 ∨ 0 ≤ plX v → (v - v % 2 ^ (1075 - eX v).toNat) = v) ∧ (¬ (eX v = 2047 ∨ 0 ≤ plX v) → (eX v < 1023 → (v - v % 2 ^ (1075 - eX v).toNat) = if kX v = 0 then v else if v < 0 then nb else pb) ∧ (1023 ≤ eX v → vD (v - v % 2 ^ (1075 - eX v).toNat) = fcV (0 < sg ↔ 0 ≤ v) v)) := by refine ⟨fun q => absurd q (by omega), fun _ => ⟨fun q => absurd q (by omega), fun _ => ?_⟩⟩; first | exact fc_n hv (by omega) (by omega) ((fc_c hv (by omega) hsg hk1_).1 c_114) | exact fc_u hv (by omega) (by omega) (by assumption) ((fc_c hv (by omega) hsg hk1_).2 (Int.not_le.mpr c_114)) hsg ((fc_c hv (by omega) hsg hk1_).2 (Int.not_le.mpr c_114)) wv_122
            have o_3 : In6 (v - v % 2 ^ (1075 - eX v).toNat) := by first | assumption | exact hb1_.2.1
            have o_4 : ¬ noX (v - v % 2 ^ (1075 - eX v).toNat) := by first | assumption | exact hb1_.2.2
            exact W.dret (v := dX (v - v % 2 ^ (1075 - eX v).toNat)) hx hb hr (fun t ht hW => ⟨⟨dX (v - v % 2 ^ (1075 - eX v).toNat), (v - v % 2 ^ (1075 - eX v).toNat), rfl, ⟨rfl, ⟨o_2, o_3, o_4⟩⟩, by rw [ht]; exact hP, va_K.moved hW.alike hK, hD⟩, hS.F ht⟩) hS.2.2 dJ15_floorOrCeil_127
          · skip
            refine lv_dload hx hb dJ15_floorOrCeil_118 (lv_at hl 0 rfl) ?_
            refine lv_dload hx hb dJ15_floorOrCeil_120 (lv_at hl 7 rfl) ?_
            refine ix_daddE hx hb (by exact hb1_.2.1) (by first | assumption | decide) (by exact xs_r (noX_v.mp hb1_.2.2) hse_) dJ15_floorOrCeil_122 (fun w_122 w6_122 wn_122 wv_122 => ?_)
            refine lv_dstore (lv' := [(13, .double (dX w_122)), (11, .long (L6 (2 ^ (1075 - eX v).toNat - 1))), (9, .long (L6 v)), (8, .int (I3 z_1)), (0, .double (dX v)), (2, .double (dX nb)), (4, .double (dX pb)), (6, .double (dX sg))]) hx hb dJ15_floorOrCeil_123 hl (by decide) rfl (fun ls hl => ?_)
            refine lv_dload hx hb dJ15_floorOrCeil_125 (lv_at hl 0 rfl) ?_
            have hk1_ := hm1_.2.2.2
            have o_5 : (eX v = 2047 ∨ 0 ≤ plX v → w_122 = v) ∧ (¬ (eX v = 2047 ∨ 0 ≤ plX v) → (eX v < 1023 → w_122 = if kX v = 0 then v else if v < 0 then nb else pb) ∧ (1023 ≤ eX v → vD w_122 = fcV (0 < sg ↔ 0 ≤ v) v)) := by refine ⟨fun q => absurd q (by omega), fun _ => ⟨fun q => absurd q (by omega), fun _ => ?_⟩⟩; first | exact fc_n hv (by omega) (by omega) ((fc_c hv (by omega) hsg hk1_).1 c_114) | exact fc_u hv (by omega) (by omega) (by assumption) ((fc_c hv (by omega) hsg hk1_).2 (Int.not_le.mpr c_114)) hsg ((fc_c hv (by omega) hsg hk1_).2 (Int.not_le.mpr c_114)) wv_122
            have o_6 : In6 w_122 := by first | assumption | exact hb1_.2.1
            have o_7 : ¬ noX w_122 := by first | assumption | exact hb1_.2.2
            exact W.dret (v := dX w_122) hx hb hr (fun t ht hW => ⟨⟨dX w_122, w_122, rfl, ⟨rfl, ⟨o_5, o_6, o_7⟩⟩, by rw [ht]; exact hP, va_K.moved hW.alike hK, hD⟩, hS.F ht⟩) hS.2.2 dJ15_floorOrCeil_127
        · skip
          refine lv_dload_n hx hb dJ15_floorOrCeil_93 rfl (lv_at hl 3 rfl) ?_
          have o_8 : (eX v = 2047 ∨ 0 ≤ plX v → v = v) ∧ (¬ (eX v = 2047 ∨ 0 ≤ plX v) → (eX v < 1023 → v = if kX v = 0 then v else if v < 0 then nb else pb) ∧ (1023 ≤ eX v → vD v = fcV (0 < sg ↔ 0 ≤ v) v)) := by refine ⟨fun q => absurd q (by omega), fun _ => ⟨fun q => absurd q (by omega), fun _ => ?_⟩⟩; exact fc_z hv (by omega) (by omega) (by assumption) _
          have o_9 : In6 v := by first | assumption | omega | (constructor <;> omega)
          have o_10 : ¬ noX v := by first | assumption | omega | (constructor <;> omega)
          exact W.dret (v := dX v) hx hb hr (fun t ht hW => ⟨⟨dX v, v, rfl, ⟨rfl, ⟨o_8, o_9, o_10⟩⟩, by rw [ht]; exact hP, va_K.moved hW.alike hK, hD⟩, hS.F ht⟩) hS.2.2 dJ15_floorOrCeil_94
      · skip
        omega
    · skip
      refine lv_dload_n hx hb dJ15_floorOrCeil_41 rfl (lv_at hl 1 rfl) ?_
      have o_11 : (eX v = 2047 ∨ 0 ≤ plX v → v = v) ∧ (¬ (eX v = 2047 ∨ 0 ≤ plX v) → (eX v < 1023 → v = if kX v = 0 then v else if v < 0 then nb else pb) ∧ (1023 ≤ eX v → vD v = fcV (0 < sg ↔ 0 ≤ v) v)) := by refine ⟨fun _ => rfl, fun q => absurd (by omega) q⟩
      have o_12 : In6 v := by first | assumption | omega | (constructor <;> omega)
      have o_13 : ¬ noX v := by first | assumption | omega | (constructor <;> omega)
      exact W.dret (v := dX v) hx hb hr (fun t ht hW => ⟨⟨dX v, v, rfl, ⟨rfl, ⟨o_11, o_12, o_13⟩⟩, by rw [ht]; exact hP, va_K.moved hW.alike hK, hD⟩, hS.F ht⟩) hS.2.2 dJ15_floorOrCeil_42
  · skip
    refine lv_dload_n hx hb dJ15_floorOrCeil_11 rfl (lv_at hl 1 rfl) ?_
    refine lv_dconst0 hx hb dJ15_floorOrCeil_12 ?_
    refine ix_dc (x := 0) rfl ?_
    refine ix_dci_ne (tgt := 21) hx hb (by first | assumption | decide | (constructor <;> omega)) (by first | assumption | decide | (constructor <;> omega)) (by first | assumption | decide | omega) (by first | assumption | decide | omega) dJ15_floorOrCeil_13 dJ15_floorOrCeil_14 (by decide) (fun c_13 => ?_) (fun c_13 => ?_)
    · skip
      refine lv_dload_n hx hb dJ15_floorOrCeil_21 rfl (lv_at hl 1 rfl) ?_
      refine lv_dconst0 hx hb dJ15_floorOrCeil_22 ?_
      refine ix_dc (x := 0) rfl ?_
      refine ix_dci_ge (tgt := 31) hx hb (by first | assumption | decide | (constructor <;> omega)) (by first | assumption | decide | (constructor <;> omega)) (by first | assumption | decide | omega) (by first | assumption | decide | omega) dJ15_floorOrCeil_23 dJ15_floorOrCeil_24 (by decide) (fun c_23 => ?_) (fun c_23 => ?_)
      · skip
        refine lv_dload hx hb dJ15_floorOrCeil_31 (lv_at hl 3 rfl) ?_
        have o_14 : (eX v = 2047 ∨ 0 ≤ plX v → pb = v) ∧ (¬ (eX v = 2047 ∨ 0 ≤ plX v) → (eX v < 1023 → pb = if kX v = 0 then v else if v < 0 then nb else pb) ∧ (1023 ≤ eX v → vD pb = fcV (0 < sg ↔ 0 ≤ v) v)) := by refine ⟨fun q => absurd q (by omega), fun _ => ⟨fun _ => ?_, fun q => absurd q (by omega)⟩⟩; first | (rw [if_pos (by omega)]; done) | (rw [if_neg (by omega), if_pos (by omega)]; done) | (rw [if_neg (by omega), if_neg (by omega)]; done)
        have o_15 : In6 pb := by first | assumption | omega | (constructor <;> omega)
        have o_16 : ¬ noX pb := by first | assumption | omega | (constructor <;> omega)
        exact W.dret (v := dX pb) hx hb hr (fun t ht hW => ⟨⟨dX pb, pb, rfl, ⟨rfl, ⟨o_14, o_15, o_16⟩⟩, by rw [ht]; exact hP, va_K.moved hW.alike hK, hD⟩, hS.F ht⟩) hS.2.2 dJ15_floorOrCeil_33
      · skip
        refine lv_dload_n hx hb dJ15_floorOrCeil_27 rfl (lv_at hl 2 rfl) ?_
        refine lv_goto (tgt := 33) hx hb dJ15_floorOrCeil_28 (by decide) ?_
        have o_17 : (eX v = 2047 ∨ 0 ≤ plX v → nb = v) ∧ (¬ (eX v = 2047 ∨ 0 ≤ plX v) → (eX v < 1023 → nb = if kX v = 0 then v else if v < 0 then nb else pb) ∧ (1023 ≤ eX v → vD nb = fcV (0 < sg ↔ 0 ≤ v) v)) := by refine ⟨fun q => absurd q (by omega), fun _ => ⟨fun _ => ?_, fun q => absurd q (by omega)⟩⟩; first | (rw [if_pos (by omega)]; done) | (rw [if_neg (by omega), if_pos (by omega)]; done) | (rw [if_neg (by omega), if_neg (by omega)]; done)
        have o_18 : In6 nb := by first | assumption | omega | (constructor <;> omega)
        have o_19 : ¬ noX nb := by first | assumption | omega | (constructor <;> omega)
        exact W.dret (v := dX nb) hx hb hr (fun t ht hW => ⟨⟨dX nb, nb, rfl, ⟨rfl, ⟨o_17, o_18, o_19⟩⟩, by rw [ht]; exact hP, va_K.moved hW.alike hK, hD⟩, hS.F ht⟩) hS.2.2 dJ15_floorOrCeil_33
    · skip
      refine lv_dload_n hx hb dJ15_floorOrCeil_17 rfl (lv_at hl 1 rfl) ?_
      refine lv_goto (tgt := 33) hx hb dJ15_floorOrCeil_18 (by decide) ?_
      have o_20 : (eX v = 2047 ∨ 0 ≤ plX v → v = v) ∧ (¬ (eX v = 2047 ∨ 0 ≤ plX v) → (eX v < 1023 → v = if kX v = 0 then v else if v < 0 then nb else pb) ∧ (1023 ≤ eX v → vD v = fcV (0 < sg ↔ 0 ≤ v) v)) := by refine ⟨fun q => absurd q (by omega), fun _ => ⟨fun _ => ?_, fun q => absurd q (by omega)⟩⟩; first | (rw [if_pos (by omega)]; done) | (rw [if_neg (by omega), if_pos (by omega)]; done) | (rw [if_neg (by omega), if_neg (by omega)]; done)
      have o_21 : In6 v := by first | assumption | omega | (constructor <;> omega)
      have o_22 : ¬ noX v := by first | assumption | omega | (constructor <;> omega)
      exact W.dret (v := dX v) hx hb hr (fun t ht hW => ⟨⟨dX v, v, rfl, ⟨rfl, ⟨o_20, o_21, o_22⟩⟩, by rw [ht]; exact hP, va_K.moved hW.alike hK, hD⟩, hS.F ht⟩) hS.2.2 dJ15_floorOrCeil_33
abbrev BmetJ15_floor (dC : Nat → ClassId) (dI : Nat → Nat → Nat) (dA : Nat → ClassId) (A : Nat → Prop)  (v : Int) : Int → State → Prop := fun u t => (fun (u : Int) => (fun (z : Int) => va_P (dC, dI) vwCl [] t.heap ∧ va_K (dC, dI) vwCl (tyA dA) t ∧ va_D A []) u) u
abbrev QmetJ15_floor (dC : Nat → ClassId) (dI : Nat → Nat → Nat) (dA : Nat → ClassId) (A : Nat → Prop)  (v : Int) := va_Qd (fun (rt_ : UInt64) => fun (u : Int) => (fun (z : Int) => rt_ = dX z ∧ ((eX v = 2047 ∨ 0 ≤ plX v → z = v) ∧ (¬ (eX v = 2047 ∨ 0 ≤ plX v) → vD z = fcV (v < 0) v)) ∧ (In6 z) ∧ (¬ noX z)) u) (BmetJ15_floor dC dI dA A v) A
set_option maxHeartbeats 1000000 in
set_option maxRecDepth 100000 in
theorem metJ15_floor (l : Launch) (dC : Nat → ClassId) (dI : Nat → Nat → Nat) (dA : Nat → ClassId)  (sz : Nat) (v : Int) (hv : In6 v) (hno : ¬ noX v) : Met l yJ15_floor (ws_ yJ15_floor cJ15_floor 2 (some .double)) ({ frames := 4, cells := 0, slots := 0, locals := 160 }) (va_Pc [.double (dX v)] (fun U => U.heap.size = sz ∧ va_P (dC, dI) vwCl [] U.heap ∧ va_K (dC, dI) vwCl (tyA dA) U ∧ va_D (fun _ => True) [] ∧ MX (va_A [] sz) U U.heap)) (QmetJ15_floor dC dI dA (va_A [] sz) v) 0 0 (va_A [] sz) := by
  refine Met.ofW (cc := cJ15_floor) (maxL := 2) (ret := (some .double)) (by decide) rfl ?_
  intro p e s m args below meth c s₁ B hml hv
  obtain ⟨rfl, hsz, hP, hK, hD0, hq0⟩ := hv
  have hx := B.exec
  have hb := B.bytes
  have hr := B.returns
  have hts := atoms_spec (ws := (ws_ yJ15_floor cJ15_floor 2 (some .double))) B.pre
  have hts : ∀ w ∈ lw_all, w.before _ s = true := fun w h => hts w (List.mem_cons_of_mem _ h)
  have hown : s.vm.findClass RJ15 = some m.cls := findClass_of_methodNamed B.named
  have hlocks := B.notSynchronized
  subst hsz
  have hD := hD0.self (sz := s.heap.size)
  generalize hAe : va_A [] s.heap.size = A at hD hq0 ⊢
  have hA : ∀ q : Nat, s.heap.size ≤ q → A q := fun q h => by rw [← hAe]; exact Or.inr h
  have hS : va_S A s.heap s.heap [] := va_S.rf
  have hP : va_P (dC, dI) vwCl [] s.heap := hP
  have hl := lv_entry ([.double (dX v)]) (n := 2) (Nat.le_of_ble_eq_true rfl)
  rw [lg_entry_eq]
  generalize (lg_sl ([.double (dX v)]) ++ List.replicate (2 - (lg_sl ([.double (dX v)])).length) Slot.unset).toArray = ls at hl ⊢
  have hl : lv_has ls 2 [(0, .double (dX v))] := hl
  have he_ := eX_r v
  have pl_ := plX_c v
  refine lv_dload_n hx hb dJ15_floor_0 rfl (lv_at hl 0 rfl) ?_
  refine lv_ldc2d hx hb hown (hts _ q834) dJ15_floor_1 ?_
  refine ix_dc (x := (-4616189618054758400)) (by decide) ?_
  refine lv_dconst0 hx hb dJ15_floor_4 ?_
  refine ix_dc (x := 0) rfl ?_
  refine lv_ldc2d hx hb hown (hts _ q834) dJ15_floor_5 ?_
  refine ix_dc (x := (-4616189618054758400)) (by decide) ?_
  have h_1 : In6 v := by first | assumption | omega | (constructor <;> omega)
  have h_2 : In6 (-4616189618054758400 : Int) := by decide
  have h_3 : In6 (0 : Int) := by decide
  have h_4 : OneX (-4616189618054758400 : Int) := by first | exact Or.inl rfl | exact Or.inr rfl
  have h_5 : ¬ noX v := by first | assumption | omega | (constructor <;> omega)
  have h_6 : ¬ noX (-4616189618054758400 : Int) := by decide
  have h_7 : ¬ noX (0 : Int) := by decide
  have hPc := hP.sub (ws' := []) [] rfl
  have hDc := hD.sub (ws' := []) [] (by decide) rfl
  have hFc := va_free (wc := []) hD hS hA [] rfl
  refine va_calld (va_runS (As := [.double (dX v), .double (dX (-4616189618054758400)), .double (dX 0), .double (dX (-4616189618054758400))]) (rest := []) ⟨hx, hb, hml, hown, hts⟩ (metJ15_floorOrCeil l dC dI dA s.heap.size v (-4616189618054758400) 0 (-4616189618054758400) h_1 h_2 h_3 h_4 h_5 h_6 h_7) (va_cwS 4 hts (lw_S q835 q836 q85 q837) rfl rfl rfl (by decide +kernel) ⟨Nat.le_of_ble_eq_true rfl, Nat.le_of_ble_eq_true rfl⟩) ⟨fun a U g mk q => by obtain ⟨q0, q1, qP, qK, qD, qF0⟩ := q; exact ⟨q0, q1, qP, va_K.moved (u := U) (U := U.calling g mk a) (Vm.Alike.refl U.vm) qK, qD, MX.moved (u := U) (U := U.calling g mk a) (State.WarmedH.refl U) qF0⟩, fun U hU hW => ⟨rfl, by rw [hU], by rw [hU]; exact hPc, va_K.moved hW.alike hK, hDc.weaken (fun _ _ _ _ => trivial), by rw [hU]; exact MX.moved hW ((MX.kept hq0 hS).narrow hFc)⟩⟩ rfl rfl hl.1 rfl (lv_room (Nat.le_of_ble_eq_true rfl)) dJ15_floor_8 ⟨Nat.le_of_ble_eq_true rfl, Nat.le_of_ble_eq_true rfl⟩) hS (fun q _ h => hFc q h) hFc (fun r_8 u t H1 locs ht hvm hw hB hz1 hk1 hS => ?_)
  obtain ⟨z_8, rfl⟩ : ∃ z, z = u := ⟨_, rfl⟩
  obtain ⟨rfl, p0_8, p1_8, p2_8⟩ : r_8 = dX z_8 ∧ ((eX v = 2047 ∨ 0 ≤ plX v → z_8 = v) ∧ (¬ (eX v = 2047 ∨ 0 ≤ plX v) → (eX v < 1023 → z_8 = if kX v = 0 then v else if v < 0 then (-4616189618054758400 : Int) else (0 : Int)) ∧ (1023 ≤ eX v → vD z_8 = fcV (0 < (-4616189618054758400 : Int) ↔ 0 ≤ v) v))) ∧ (In6 z_8) ∧ (¬ noX z_8) := hw
  obtain ⟨hP1, hK1, hD1⟩ := hB
  rw [ht] at hP1
  obtain ⟨hP, hD⟩ := va_join (wr := []) (w1 := []) hP hD [] [] rfl rfl (by decide) (by decide) hk1 hFc hP1 hD1
  have hP : va_P (dC, dI) vwCl [] H1 := hP
  have hD : va_D A [] := hD
  generalize H1 = H at hP hS ⊢
  have o_8 : (eX v = 2047 ∨ 0 ≤ plX v → z_8 = v) ∧ (¬ (eX v = 2047 ∨ 0 ≤ plX v) → vD z_8 = fcV (v < 0) v) := by refine ⟨fun q => p0_8.1 q, fun q => ?_⟩; obtain ⟨q1, q2⟩ := p0_8.2 q; by_cases hE : eX v < 1023; (exact fl_sm hv hE (q1 hE)); (rw [q2 (by omega)]; exact fcV_c (by omega))
  have o_9 : In6 z_8 := by first | assumption | omega | (constructor <;> omega)
  have o_10 : ¬ noX z_8 := by first | assumption | omega | (constructor <;> omega)
  exact W.dret (v := dX z_8) hx hb hr (fun t ht hW => ⟨⟨dX z_8, z_8, rfl, ⟨rfl, ⟨o_8, o_9, o_10⟩⟩, by rw [ht]; exact hP, va_K.moved hW.alike hK, hD⟩, hS.F ht⟩) hS.2.2 dJ15_floor_11
abbrev BmetJ15_ceil (dC : Nat → ClassId) (dI : Nat → Nat → Nat) (dA : Nat → ClassId) (A : Nat → Prop)  (v : Int) : Int → State → Prop := fun u t => (fun (u : Int) => (fun (z : Int) => va_P (dC, dI) vwCl [] t.heap ∧ va_K (dC, dI) vwCl (tyA dA) t ∧ va_D A []) u) u
abbrev QmetJ15_ceil (dC : Nat → ClassId) (dI : Nat → Nat → Nat) (dA : Nat → ClassId) (A : Nat → Prop)  (v : Int) := va_Qd (fun (rt_ : UInt64) => fun (u : Int) => (fun (z : Int) => rt_ = dX z ∧ ((eX v = 2047 ∨ 0 ≤ plX v → z = v) ∧ (¬ (eX v = 2047 ∨ 0 ≤ plX v) → vD z = fcV (0 ≤ v) v)) ∧ (In6 z) ∧ (¬ noX z)) u) (BmetJ15_ceil dC dI dA A v) A
set_option maxHeartbeats 1000000 in
set_option maxRecDepth 100000 in
theorem metJ15_ceil (l : Launch) (dC : Nat → ClassId) (dI : Nat → Nat → Nat) (dA : Nat → ClassId)  (sz : Nat) (v : Int) (hv : In6 v) (hno : ¬ noX v) : Met l yJ15_ceil (ws_ yJ15_ceil cJ15_ceil 2 (some .double)) ({ frames := 4, cells := 0, slots := 0, locals := 160 }) (va_Pc [.double (dX v)] (fun U => U.heap.size = sz ∧ va_P (dC, dI) vwCl [] U.heap ∧ va_K (dC, dI) vwCl (tyA dA) U ∧ va_D (fun _ => True) [] ∧ MX (va_A [] sz) U U.heap)) (QmetJ15_ceil dC dI dA (va_A [] sz) v) 0 0 (va_A [] sz) := by
  refine Met.ofW (cc := cJ15_ceil) (maxL := 2) (ret := (some .double)) (by decide) rfl ?_
  intro p e s m args below meth c s₁ B hml hv
  obtain ⟨rfl, hsz, hP, hK, hD0, hq0⟩ := hv
  have hx := B.exec
  have hb := B.bytes
  have hr := B.returns
  have hts := atoms_spec (ws := (ws_ yJ15_ceil cJ15_ceil 2 (some .double))) B.pre
  have hts : ∀ w ∈ lw_all, w.before _ s = true := fun w h => hts w (List.mem_cons_of_mem _ h)
  have hown : s.vm.findClass RJ15 = some m.cls := findClass_of_methodNamed B.named
  have hlocks := B.notSynchronized
  subst hsz
  have hD := hD0.self (sz := s.heap.size)
  generalize hAe : va_A [] s.heap.size = A at hD hq0 ⊢
  have hA : ∀ q : Nat, s.heap.size ≤ q → A q := fun q h => by rw [← hAe]; exact Or.inr h
  have hS : va_S A s.heap s.heap [] := va_S.rf
  have hP : va_P (dC, dI) vwCl [] s.heap := hP
  have hl := lv_entry ([.double (dX v)]) (n := 2) (Nat.le_of_ble_eq_true rfl)
  rw [lg_entry_eq]
  generalize (lg_sl ([.double (dX v)]) ++ List.replicate (2 - (lg_sl ([.double (dX v)])).length) Slot.unset).toArray = ls at hl ⊢
  have hl : lv_has ls 2 [(0, .double (dX v))] := hl
  have he_ := eX_r v
  have pl_ := plX_c v
  refine lv_dload_n hx hb dJ15_ceil_0 rfl (lv_at hl 0 rfl) ?_
  refine lv_ldc2d hx hb hown (hts _ q851) dJ15_ceil_1 ?_
  refine ix_dc (x := (-9223372036854775808)) (by decide) ?_
  refine lv_dconst1 hx hb dJ15_ceil_4 ?_
  refine ix_dc (x := 4607182418800017408) rfl ?_
  refine lv_dconst1 hx hb dJ15_ceil_5 ?_
  refine ix_dc (x := 4607182418800017408) rfl ?_
  have h_1 : In6 v := by first | assumption | omega | (constructor <;> omega)
  have h_2 : In6 (-9223372036854775808 : Int) := by decide
  have h_3 : In6 (4607182418800017408 : Int) := by decide
  have h_4 : OneX (4607182418800017408 : Int) := by first | exact Or.inl rfl | exact Or.inr rfl
  have h_5 : ¬ noX v := by first | assumption | omega | (constructor <;> omega)
  have h_6 : ¬ noX (-9223372036854775808 : Int) := by decide
  have h_7 : ¬ noX (4607182418800017408 : Int) := by decide
  have hPc := hP.sub (ws' := []) [] rfl
  have hDc := hD.sub (ws' := []) [] (by decide) rfl
  have hFc := va_free (wc := []) hD hS hA [] rfl
  refine va_calld (va_runS (As := [.double (dX v), .double (dX (-9223372036854775808)), .double (dX 4607182418800017408), .double (dX 4607182418800017408)]) (rest := []) ⟨hx, hb, hml, hown, hts⟩ (metJ15_floorOrCeil l dC dI dA s.heap.size v (-9223372036854775808) 4607182418800017408 4607182418800017408 h_1 h_2 h_3 h_4 h_5 h_6 h_7) (va_cwS 4 hts (lw_S q835 q836 q85 q837) rfl rfl rfl (by decide +kernel) ⟨Nat.le_of_ble_eq_true rfl, Nat.le_of_ble_eq_true rfl⟩) ⟨fun a U g mk q => by obtain ⟨q0, q1, qP, qK, qD, qF0⟩ := q; exact ⟨q0, q1, qP, va_K.moved (u := U) (U := U.calling g mk a) (Vm.Alike.refl U.vm) qK, qD, MX.moved (u := U) (U := U.calling g mk a) (State.WarmedH.refl U) qF0⟩, fun U hU hW => ⟨rfl, by rw [hU], by rw [hU]; exact hPc, va_K.moved hW.alike hK, hDc.weaken (fun _ _ _ _ => trivial), by rw [hU]; exact MX.moved hW ((MX.kept hq0 hS).narrow hFc)⟩⟩ rfl rfl hl.1 rfl (lv_room (Nat.le_of_ble_eq_true rfl)) dJ15_ceil_6 ⟨Nat.le_of_ble_eq_true rfl, Nat.le_of_ble_eq_true rfl⟩) hS (fun q _ h => hFc q h) hFc (fun r_6 u t H1 locs ht hvm hw hB hz1 hk1 hS => ?_)
  obtain ⟨z_6, rfl⟩ : ∃ z, z = u := ⟨_, rfl⟩
  obtain ⟨rfl, p0_6, p1_6, p2_6⟩ : r_6 = dX z_6 ∧ ((eX v = 2047 ∨ 0 ≤ plX v → z_6 = v) ∧ (¬ (eX v = 2047 ∨ 0 ≤ plX v) → (eX v < 1023 → z_6 = if kX v = 0 then v else if v < 0 then (-9223372036854775808 : Int) else (4607182418800017408 : Int)) ∧ (1023 ≤ eX v → vD z_6 = fcV (0 < (4607182418800017408 : Int) ↔ 0 ≤ v) v))) ∧ (In6 z_6) ∧ (¬ noX z_6) := hw
  obtain ⟨hP1, hK1, hD1⟩ := hB
  rw [ht] at hP1
  obtain ⟨hP, hD⟩ := va_join (wr := []) (w1 := []) hP hD [] [] rfl rfl (by decide) (by decide) hk1 hFc hP1 hD1
  have hP : va_P (dC, dI) vwCl [] H1 := hP
  have hD : va_D A [] := hD
  generalize H1 = H at hP hS ⊢
  have o_8 : (eX v = 2047 ∨ 0 ≤ plX v → z_6 = v) ∧ (¬ (eX v = 2047 ∨ 0 ≤ plX v) → vD z_6 = fcV (0 ≤ v) v) := by refine ⟨fun q => p0_6.1 q, fun q => ?_⟩; obtain ⟨q1, q2⟩ := p0_6.2 q; by_cases hE : eX v < 1023; (exact ce_sm hv hE (q1 hE)); (rw [q2 (by omega)]; exact fcV_c (by omega))
  have o_9 : In6 z_6 := by first | assumption | omega | (constructor <;> omega)
  have o_10 : ¬ noX z_6 := by first | assumption | omega | (constructor <;> omega)
  exact W.dret (v := dX z_6) hx hb hr (fun t ht hW => ⟨⟨dX z_6, z_6, rfl, ⟨rfl, ⟨o_8, o_9, o_10⟩⟩, by rw [ht]; exact hP, va_K.moved hW.alike hK, hD⟩, hS.F ht⟩) hS.2.2 dJ15_ceil_9
abbrev BmetJ15_rint (dC : Nat → ClassId) (dI : Nat → Nat → Nat) (dA : Nat → ClassId) (A : Nat → Prop)  (v : Int) : Int → State → Prop := fun u t => (fun (u : Int) => (fun (z : Int) => va_P (dC, dI) vwCl [] t.heap ∧ va_K (dC, dI) vwCl (tyA dA) t ∧ va_D A []) u) u
abbrev QmetJ15_rint (dC : Nat → ClassId) (dI : Nat → Nat → Nat) (dA : Nat → ClassId) (A : Nat → Prop)  (v : Int) := va_Qd (fun (rt_ : UInt64) => fun (u : Int) => (fun (z : Int) => rt_ = dX z ∧ ((eX v = 2047 ∨ 0 ≤ plX v → z = v) ∧ (¬ (eX v = 2047 ∨ 0 ≤ plX v) → vD z = rtV v)) ∧ (In6 z) ∧ (¬ noX z)) u) (BmetJ15_rint dC dI dA A v) A
set_option maxHeartbeats 2000000 in
set_option maxRecDepth 100000 in
theorem metJ15_rint (l : Launch) (dC : Nat → ClassId) (dI : Nat → Nat → Nat) (dA : Nat → ClassId)  (sz : Nat) (v : Int) (hv : In6 v) (hno : ¬ noX v) : Met l yJ15_rint (ws_ yJ15_rint cJ15_rint 6 (some .double)) ({ frames := 4, cells := 0, slots := 0, locals := 160 }) (va_Pc [.double (dX v)] (fun U => U.heap.size = sz ∧ va_P (dC, dI) vwCl [] U.heap ∧ va_K (dC, dI) vwCl (tyA dA) U ∧ va_D (fun _ => True) [] ∧ MX (va_A [] sz) U U.heap)) (QmetJ15_rint dC dI dA (va_A [] sz) v) 0 0 (va_A [] sz) := by
  refine Met.ofW (cc := cJ15_rint) (maxL := 6) (ret := (some .double)) (by decide) rfl ?_
  intro p e s m args below meth c s₁ B hml hv
  obtain ⟨rfl, hsz, hP, hK, hD0, hq0⟩ := hv
  have hx := B.exec
  have hb := B.bytes
  have hr := B.returns
  have hts := atoms_spec (ws := (ws_ yJ15_rint cJ15_rint 6 (some .double))) B.pre
  have hts : ∀ w ∈ lw_all, w.before _ s = true := fun w h => hts w (List.mem_cons_of_mem _ h)
  have hown : s.vm.findClass RJ15 = some m.cls := findClass_of_methodNamed B.named
  have hlocks := B.notSynchronized
  subst hsz
  have hD := hD0.self (sz := s.heap.size)
  generalize hAe : va_A [] s.heap.size = A at hD hq0 ⊢
  have hA : ∀ q : Nat, s.heap.size ≤ q → A q := fun q h => by rw [← hAe]; exact Or.inr h
  have hS : va_S A s.heap s.heap [] := va_S.rf
  have hP : va_P (dC, dI) vwCl [] s.heap := hP
  have hl := lv_entry ([.double (dX v)]) (n := 6) (Nat.le_of_ble_eq_true rfl)
  rw [lg_entry_eq]
  generalize (lg_sl ([.double (dX v)]) ++ List.replicate (6 - (lg_sl ([.double (dX v)])).length) Slot.unset).toArray = ls at hl ⊢
  have hl : lv_has ls 6 [(0, .double (dX v))] := hl
  have he_ := eX_r v
  have pl_ := plX_c v
  have eXd_ : eX v = v / 4503599627370496 % 2048 := rfl
  have kc_ : kX 4841369599423283200 = 4841369599423283200 := by decide
  have n52_ : ¬ noX 4841369599423283200 := by decide
  have e52_ : eX 4841369599423283200 ≠ 2047 := by decide
  refine lv_ldc2d hx hb hown (hts _ q858) dJ15_rint_0 ?_
  refine ix_dc (x := 4841369599423283200) (by decide) ?_
  refine lv_dstore_n (lv' := [(2, .double (dX 4841369599423283200)), (0, .double (dX v))]) hx hb dJ15_rint_3 rfl hl (by decide) rfl (fun ls hl => ?_)
  refine lv_dconst1 hx hb dJ15_rint_4 ?_
  refine ix_dc (x := 4607182418800017408) rfl ?_
  refine lv_dload_n hx hb dJ15_rint_5 rfl (lv_at hl 1 rfl) ?_
  refine ix_mcs hx hb (hml.trans hl.1.symm) hown (hts _ q859) (hts _ q711) (hts _ q76) (hts _ q712) (by first | assumption | decide | (constructor <;> omega)) (by first | assumption | decide | (constructor <;> omega)) (Nat.le_of_ble_eq_true rfl) (Nat.le_of_ble_eq_true rfl) dJ15_rint_6 ?_
  refine ix_nd (fun z_6 ez_6 => ?_)
  have s6_ : z_6 = if v < 0 then -4616189618054758400 else 4607182418800017408 := by rw [ez_6]; unfold sgb; split <;> decide
  have o6_ : OneX z_6 := by rw [s6_]; split; (exact Or.inr rfl); (exact Or.inl rfl)
  refine lv_dstore (lv' := [(4, .double (dX z_6)), (2, .double (dX 4841369599423283200)), (0, .double (dX v))]) hx hb dJ15_rint_9 hl (by decide) rfl (fun ls hl => ?_)
  refine lv_dload_n hx hb dJ15_rint_11 rfl (lv_at hl 2 rfl) ?_
  refine ix_mabs hx hb (hml.trans hl.1.symm) hown (hts _ q860) (hts _ q492) (hts _ q76) (hts _ q493) (by first | assumption | decide | (constructor <;> omega)) (Nat.le_of_ble_eq_true rfl) (Nat.le_of_ble_eq_true rfl) dJ15_rint_12 ?_
  refine ix_nd (fun z_12 ez_12 => ?_)
  have p0_12 : z_12 = v % 9223372036854775808 := ez_12
  have a6_ : In6 z_12 := by rw [p0_12]; constructor <;> omega
  have an_ : ¬ noX z_12 := by rw [p0_12]; intro q; rw [noX_m] at q; rw [noX_m] at hno; omega
  have ak_ := (kX_c a6_).2.1 (by omega)
  refine lv_dstore_n (lv' := [(0, .double (dX z_12)), (4, .double (dX z_6)), (2, .double (dX 4841369599423283200))]) hx hb dJ15_rint_15 rfl hl (by decide) rfl (fun ls hl => ?_)
  refine lv_dload_n hx hb dJ15_rint_16 rfl (lv_at hl 0 rfl) ?_
  refine lv_dload_n hx hb dJ15_rint_17 rfl (lv_at hl 2 rfl) ?_
  refine ix_dci_ge (tgt := 28) hx hb (by first | assumption | decide | (constructor <;> omega)) (by first | assumption | decide | (constructor <;> omega)) (by first | assumption | decide | omega) (by first | assumption | decide | omega) dJ15_rint_18 dJ15_rint_19 (by decide) (fun c_18 => ?_) (fun c_18 => ?_)
  · skip
    refine lv_dload hx hb dJ15_rint_28 (lv_at hl 1 rfl) ?_
    refine lv_dload_n hx hb dJ15_rint_30 rfl (lv_at hl 0 rfl) ?_
    have hm_31 := fc_mul o6_ (show In6 z_12 by assumption) (show ¬ noX z_12 by assumption)
    refine ix_dmul (u := (if 0 < z_6 then z_12 else ng z_12)) hx hb hm_31.1 hm_31.2.2.1 dJ15_rint_31 ?_
    have o_1 : (eX v = 2047 ∨ 0 ≤ plX v → ((if 0 < z_6 then z_12 else ng z_12)) = v) ∧ (¬ (eX v = 2047 ∨ 0 ≤ plX v) → vD ((if 0 < z_6 then z_12 else ng z_12)) = rtV v) := by refine ⟨fun _ => ?_, fun q => absurd (by omega) q⟩; rw [s6_, p0_12]; unfold ng; by_cases d : v < 0; (rw [if_pos d, if_neg (by decide), if_neg (by omega)]; omega); (rw [if_neg d, if_pos (by decide)]; omega)
    have o_2 : In6 ((if 0 < z_6 then z_12 else ng z_12)) := by exact hm_31.2.1
    have o_3 : ¬ noX ((if 0 < z_6 then z_12 else ng z_12)) := by exact hm_31.2.2.1
    exact W.dret (v := dX ((if 0 < z_6 then z_12 else ng z_12))) hx hb hr (fun t ht hW => ⟨⟨dX ((if 0 < z_6 then z_12 else ng z_12)), ((if 0 < z_6 then z_12 else ng z_12)), rfl, ⟨rfl, ⟨o_1, o_2, o_3⟩⟩, by rw [ht]; exact hP, va_K.moved hW.alike hK, hD⟩, hS.F ht⟩) hS.2.2 dJ15_rint_32
  · skip
    refine lv_dload_n hx hb dJ15_rint_22 rfl (lv_at hl 2 rfl) ?_
    refine lv_dload_n hx hb dJ15_rint_23 rfl (lv_at hl 0 rfl) ?_
    refine ix_daddE hx hb (by first | assumption | decide) (by first | assumption | decide) (by exact xs_l e52_ an_) dJ15_rint_24 (fun w_24 w6_24 wn_24 wv_24 => ?_)
    refine lv_dload_n hx hb dJ15_rint_25 rfl (lv_at hl 2 rfl) ?_
    refine ix_dsubE hx hb (by first | assumption | decide) (by first | assumption | decide) (by exact xs_s wn_24 e52_) dJ15_rint_26 (fun w_26 w6_26 wn_26 wv_26 => ?_)
    refine lv_dstore_n (lv' := [(0, .double (dX w_26)), (4, .double (dX z_6)), (2, .double (dX 4841369599423283200))]) hx hb dJ15_rint_27 rfl hl (by decide) rfl (fun ls hl => ?_)
    refine lv_dload hx hb dJ15_rint_28 (lv_at hl 1 rfl) ?_
    refine lv_dload_n hx hb dJ15_rint_30 rfl (lv_at hl 0 rfl) ?_
    have hm_31 := fc_mul o6_ (show In6 w_26 by assumption) (show ¬ noX w_26 by assumption)
    refine ix_dmul (u := (if 0 < z_6 then w_26 else ng w_26)) hx hb hm_31.1 hm_31.2.2.1 dJ15_rint_31 ?_
    have o_4 : (eX v = 2047 ∨ 0 ≤ plX v → ((if 0 < z_6 then w_26 else ng w_26)) = v) ∧ (¬ (eX v = 2047 ∨ 0 ≤ plX v) → vD ((if 0 < z_6 then w_26 else ng w_26)) = rtV v) := by refine ⟨fun q => absurd q (by omega), fun q => ri_all (by omega) s6_ (by rw [← p0_12]; exact wv_24) wv_26 w6_26 rfl⟩
    have o_5 : In6 ((if 0 < z_6 then w_26 else ng w_26)) := by exact hm_31.2.1
    have o_6 : ¬ noX ((if 0 < z_6 then w_26 else ng w_26)) := by exact hm_31.2.2.1
    exact W.dret (v := dX ((if 0 < z_6 then w_26 else ng w_26))) hx hb hr (fun t ht hW => ⟨⟨dX ((if 0 < z_6 then w_26 else ng w_26)), ((if 0 < z_6 then w_26 else ng w_26)), rfl, ⟨rfl, ⟨o_4, o_5, o_6⟩⟩, by rw [ht]; exact hP, va_K.moved hW.alike hK, hD⟩, hS.F ht⟩) hS.2.2 dJ15_rint_32
