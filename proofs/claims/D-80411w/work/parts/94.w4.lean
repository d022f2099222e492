/-! wide numbers: multiply, up, down -/
set_option maxRecDepth 100000
abbrev BmetX7_multiply (dC : Nat → ClassId) (dI : Nat → Nat → Nat) (dA : Nat → ClassId) (A : Nat → Prop) (aa : Nat) (aaw : Nat) (bb : Nat) (bbw : Nat) (cc : Nat) (ccw : Nat) (naa : Int) (faa : Int → Int) (nbb : Int) (fbb : Int → Int) (ncc : Int) (fcc : Int → Int) : Int × (Int → Int) → State → Prop := fun u t => (fun (u : Int × (Int → Int)) => (fun (n1 : Int) (f1 : Int → Int) => va_P (dC, dI) vwCl [(aa, .inr (2, [.ref aaw, .int (I3 n1)])), (aaw, .inl (dA 0, 36, .inl (iA f1))), (bb, .inr (2, [.ref bbw, .int (I3 nbb)])), (bbw, .inl (dA 0, 36, .inl (iA fbb))), (cc, .inr (2, [.ref ccw, .int (I3 ncc)])), (ccw, .inl (dA 0, 36, .inl (iA fcc)))] t.heap ∧ va_K (dC, dI) vwCl (tyA dA) t ∧ va_D A [(aa, .inr (2, [.ref aaw, .int (I3 n1)])), (aaw, .inl (dA 0, 36, .inl (iA f1))), (bb, .inr (2, [.ref bbw, .int (I3 nbb)])), (bbw, .inl (dA 0, 36, .inl (iA fbb))), (cc, .inr (2, [.ref ccw, .int (I3 ncc)])), (ccw, .inl (dA 0, 36, .inl (iA fcc)))]) u.1 u.2) u
abbrev QmetX7_multiply (dC : Nat → ClassId) (dI : Nat → Nat → Nat) (dA : Nat → ClassId) (A : Nat → Prop) (aa : Nat) (aaw : Nat) (bb : Nat) (bbw : Nat) (cc : Nat) (ccw : Nat) (naa : Int) (faa : Int → Int) (nbb : Int) (fbb : Int → Int) (ncc : Int) (fcc : Int → Int) := va_Qv (fun (u : Int × (Int → Int)) => (fun (n1 : Int) (f1 : Int → Int) => (OKw n1 f1) ∧ (wN n1 f1 = wN nbb fbb * wN ncc fcc)) u.1 u.2) (BmetX7_multiply dC dI dA A aa aaw bb bbw cc ccw naa faa nbb fbb ncc fcc) A
set_option maxHeartbeats 4000000 in
set_option maxRecDepth 100000 in
/-- a product comes here -/
theorem metX7_multiply (l : Launch) (dC : Nat → ClassId) (dI : Nat → Nat → Nat) (dA : Nat → ClassId) (aa : Nat) (aaw : Nat) (bb : Nat) (bbw : Nat) (cc : Nat) (ccw : Nat) (sz : Nat) (naa : Int) (faa : Int → Int) (nbb : Int) (fbb : Int → Int) (ncc : Int) (fcc : Int → Int) (hDa : Dg faa) (hbb : OKw nbb fbb) (hcc : OKw ncc fcc) (hsz : nbb + ncc ≤ 36) : Met l yX7_multiply (ws_ yX7_multiply cX7_multiply 7 none) ({ frames := 2, cells := 0, slots := 0, locals := 80 }) (va_Pc [.ref aa, .ref bb, .ref cc] (fun U => U.heap.size = sz ∧ va_P (dC, dI) vwCl [(aa, .inr (2, [.ref aaw, .int (I3 naa)])), (aaw, .inl (dA 0, 36, .inl (iA faa))), (bb, .inr (2, [.ref bbw, .int (I3 nbb)])), (bbw, .inl (dA 0, 36, .inl (iA fbb))), (cc, .inr (2, [.ref ccw, .int (I3 ncc)])), (ccw, .inl (dA 0, 36, .inl (iA fcc)))] U.heap ∧ va_K (dC, dI) vwCl (tyA dA) U ∧ va_D (fun _ => True) [(aa, .inr (2, [.ref aaw, .int (I3 naa)])), (aaw, .inl (dA 0, 36, .inl (iA faa))), (bb, .inr (2, [.ref bbw, .int (I3 nbb)])), (bbw, .inl (dA 0, 36, .inl (iA fbb))), (cc, .inr (2, [.ref ccw, .int (I3 ncc)])), (ccw, .inl (dA 0, 36, .inl (iA fcc)))])) (QmetX7_multiply dC dI dA (va_A [(aa, .inr (2, [.ref aaw, .int (I3 naa)])), (aaw, .inl (dA 0, 36, .inl (iA faa))), (bb, .inr (2, [.ref bbw, .int (I3 nbb)])), (bbw, .inl (dA 0, 36, .inl (iA fbb))), (cc, .inr (2, [.ref ccw, .int (I3 ncc)])), (ccw, .inl (dA 0, 36, .inl (iA fcc)))] sz) aa aaw bb bbw cc ccw naa faa nbb fbb ncc fcc) 0 0 (va_A [(aa, .inr (2, [.ref aaw, .int (I3 naa)])), (aaw, .inl (dA 0, 36, .inl (iA faa))), (bb, .inr (2, [.ref bbw, .int (I3 nbb)])), (bbw, .inl (dA 0, 36, .inl (iA fbb))), (cc, .inr (2, [.ref ccw, .int (I3 ncc)])), (ccw, .inl (dA 0, 36, .inl (iA fcc)))] sz) := by
  refine Met.ofW (cc := cX7_multiply) (maxL := 7) (ret := none) (by decide) rfl ?_
  intro p e s m args below meth c s₁ B hml hv
  obtain ⟨rfl, hsz, hP, hK, hD0⟩ := hv
  have hx := B.exec
  have hb := B.bytes
  have hr := B.returns
  have hts := atoms_spec (ws := (ws_ yX7_multiply cX7_multiply 7 none)) B.pre
  have hts : ∀ w ∈ lw_all, w.before _ s = true := fun w h => hts w (List.mem_cons_of_mem _ h)
  have hown : s.vm.findClass RX7 = some m.cls := findClass_of_methodNamed B.named
  have hlocks := B.notSynchronized
  subst hsz
  have hD := hD0.self (sz := s.heap.size)
  generalize hAe : va_A [(aa, .inr (2, [.ref aaw, .int (I3 naa)])), (aaw, .inl (dA 0, 36, .inl (iA faa))), (bb, .inr (2, [.ref bbw, .int (I3 nbb)])), (bbw, .inl (dA 0, 36, .inl (iA fbb))), (cc, .inr (2, [.ref ccw, .int (I3 ncc)])), (ccw, .inl (dA 0, 36, .inl (iA fcc)))] s.heap.size = A at hD ⊢
  have hA : ∀ q : Nat, s.heap.size ≤ q → A q := fun q h => by rw [← hAe]; exact Or.inr h
  have hS : va_S A s.heap s.heap [] := va_S.rf
  have hP : va_P (dC, dI) vwCl [(aa, .inr (2, [.ref aaw, .int (I3 naa)])), (aaw, .inl (dA 0, 36, .inl (iA faa))), (bb, .inr (2, [.ref bbw, .int (I3 nbb)])), (bbw, .inl (dA 0, 36, .inl (iA fbb))), (cc, .inr (2, [.ref ccw, .int (I3 ncc)])), (ccw, .inl (dA 0, 36, .inl (iA fcc)))] s.heap := hP
  have hl := lv_entry ([.ref aa, .ref bb, .ref cc]) (n := 7) (Nat.le_of_ble_eq_true rfl)
  rw [lg_entry_eq]
  generalize (lg_sl ([.ref aa, .ref bb, .ref cc]) ++ List.replicate (7 - (lg_sl ([.ref aa, .ref bb, .ref cc])).length) Slot.unset).toArray = ls at hl ⊢
  have hl : lv_has ls 7 [(0, .ref aa), (1, .ref bb), (2, .ref cc)] := hl
  have cut_38 : ∀ (fuel_38 : Nat), ∀ (i : Int) (W1 : Int → Int), (0 ≤ i ∧ i ≤ nbb) → (Dg W1) → (∀ j : Int, i + ncc ≤ j → j < nbb + ncc → W1 j = 0) → (vi W1 0 (i + ncc) = vi fbb 0 i * vi fcc 0 ncc) → ((nbb - i).toNat < fuel_38) → ∀ (H : Heap) (locs : List Loc), va_P (dC, dI) vwCl [(aa, .inr (2, [.ref aaw, .int (I3 (nbb + ncc))])), (aaw, .inl (dA 0, 36, .inl (iA W1))), (bb, .inr (2, [.ref bbw, .int (I3 nbb)])), (bbw, .inl (dA 0, 36, .inl (iA fbb))), (cc, .inr (2, [.ref ccw, .int (I3 ncc)])), (ccw, .inl (dA 0, 36, .inl (iA fcc)))] H → va_D A [(aa, .inr (2, [.ref aaw, .int (I3 (nbb + ncc))])), (aaw, .inl (dA 0, 36, .inl (iA W1))), (bb, .inr (2, [.ref bbw, .int (I3 nbb)])), (bbw, .inl (dA 0, 36, .inl (iA fbb))), (cc, .inr (2, [.ref ccw, .int (I3 ncc)])), (ccw, .inl (dA 0, 36, .inl (iA fcc)))] → va_S A s.heap H locs → ∀ (ls : Array Slot), lv_has ls 7 [(0, .ref aa), (1, .ref bb), (2, .ref cc), (3, .int (I3 i))] → W p l e (headSpec (ws_ yX7_multiply cX7_multiply 7 none) ({ frames := 2, cells := 0, slots := 0, locals := 80 })).room s m ([.ref aa, .ref bb, .ref cc] : List Value).toArray below meth c H locs 0 0 (MQ below (QmetX7_multiply dC dI dA A aa aaw bb bbw cc ccw naa faa nbb fbb ncc fcc) ([.ref aa, .ref bb, .ref cc] : List Value).toArray s 0 0 A) (F0 m 38 ls []) := by
    intro fuel_38
    induction fuel_38 with
    | zero =>
      intro i W1 hi hW1 hz hO hm
      exact absurd hm (Nat.not_lt_zero _)
    | succ fuel_38 ih_38 =>
      intro i W1 hi hW1 hz hO hm_38 H locs hP hD hS ls hl
      obtain ⟨⟨hm0, hm36⟩, hDb, htopb⟩ := id hbb
      obtain ⟨⟨hc0, hc36⟩, hDcc, htopc⟩ := id hcc
      have cut_52 : ∀ (fuel_52 : Nat), ∀ (k : Int) (cr : Int) (W2 : Int → Int), (i < nbb) → (0 ≤ k ∧ k ≤ ncc) → (0 ≤ cr ∧ cr < 4294967296) → (Dg W2) → (∀ j : Int, i + k ≤ j → W2 j = W1 j) → (vi W2 0 (i + k) + cr * pz (i + k) = vi W1 0 (i + k) + fbb i * pz i * vi fcc 0 k) → ((ncc - k).toNat < fuel_52) → ∀ (H : Heap) (locs : List Loc), va_P (dC, dI) vwCl [(aa, .inr (2, [.ref aaw, .int (I3 (nbb + ncc))])), (aaw, .inl (dA 0, 36, .inl (iA W2))), (bb, .inr (2, [.ref bbw, .int (I3 nbb)])), (bbw, .inl (dA 0, 36, .inl (iA fbb))), (cc, .inr (2, [.ref ccw, .int (I3 ncc)])), (ccw, .inl (dA 0, 36, .inl (iA fcc)))] H → va_D A [(aa, .inr (2, [.ref aaw, .int (I3 (nbb + ncc))])), (aaw, .inl (dA 0, 36, .inl (iA W2))), (bb, .inr (2, [.ref bbw, .int (I3 nbb)])), (bbw, .inl (dA 0, 36, .inl (iA fbb))), (cc, .inr (2, [.ref ccw, .int (I3 ncc)])), (ccw, .inl (dA 0, 36, .inl (iA fcc)))] → va_S A s.heap H locs → ∀ (ls : Array Slot), lv_has ls 7 [(0, .ref aa), (1, .ref bb), (2, .ref cc), (3, .int (I3 i)), (4, .long (L6 cr)), (6, .int (I3 k))] → W p l e (headSpec (ws_ yX7_multiply cX7_multiply 7 none) ({ frames := 2, cells := 0, slots := 0, locals := 80 })).room s m ([.ref aa, .ref bb, .ref cc] : List Value).toArray below meth c H locs 0 0 (MQ below (QmetX7_multiply dC dI dA A aa aaw bb bbw cc ccw naa faa nbb fbb ncc fcc) ([.ref aa, .ref bb, .ref cc] : List Value).toArray s 0 0 A) (F0 m 52 ls []) := by
        intro fuel_52
        induction fuel_52 with
        | zero =>
          intro k cr W2 hi1 hk hc hW2 hs2 hI hm
          exact absurd hm (Nat.not_lt_zero _)
        | succ fuel_52 ih_52 =>
          intro k cr W2 hi1 hk hc hW2 hs2 hI hm_52 H locs hP hD hS ls hl
          refine lv_iload hx hb dX7_multiply_52 (lv_at hl 5 rfl) ?_
          refine lv_aload_n hx hb dX7_multiply_54 rfl (lv_at hl 2 rfl) ?_
          refine va_get (D := (dC, dI)) (ci := 2) (v := .int (I3 ncc)) (C := RX7) (T := TX7) (N := 2) hx hb hts in_X7 hown hK hP 4 rfl rfl 1 (by decide) (hts _ q137) (fun _ h9 => h9) rfl dX7_multiply_55 ?_
          refine ix_icmp_ge (tgt := 130) hx hb (by first | assumption | decide | (constructor <;> omega)) (by first | assumption | decide | (constructor <;> omega)) dX7_multiply_58 (by decide) (fun c_58 => ?_) (fun c_58 => ?_)
          · skip
            refine lv_aload_n hx hb dX7_multiply_130 rfl (lv_at hl 0 rfl) ?_
            refine va_get (D := (dC, dI)) (ci := 2) (v := .ref aaw) (C := RX7) (T := TX7) (N := 2) hx hb hts in_X7 hown hK hP 0 rfl rfl 0 (by decide) (hts _ q135) (fun _ h9 => h9) rfl dX7_multiply_131 ?_
            refine lv_iload_n hx hb dX7_multiply_134 rfl (lv_at hl 3 rfl) ?_
            refine lv_aload_n hx hb dX7_multiply_135 rfl (lv_at hl 2 rfl) ?_
            refine va_get (D := (dC, dI)) (ci := 2) (v := .int (I3 ncc)) (C := RX7) (T := TX7) (N := 2) hx hb hts in_X7 hown hK hP 4 rfl rfl 1 (by decide) (hts _ q137) (fun _ h9 => h9) rfl dX7_multiply_136 ?_
            refine ix_iadd hx hb dX7_multiply_139 ?_
            refine lv_lload hx hb dX7_multiply_140 (lv_at hl 4 rfl) ?_
            refine ix_l2i hx hb dX7_multiply_142 ?_
            refine ix_iast hx hb hK hP hD hS 1 0 rfl rfl (Nat.le_of_ble_eq_true rfl) (by omega) dX7_multiply_143 (fun H locs hP hD hS => ?_)
            have hP : va_P (dC, dI) vwCl [(aa, .inr (2, [.ref aaw, .int (I3 (nbb + ncc))])), (aaw, .inl (dA 0, 36, .inl (iA (uZ W2 (i + ncc) cr)))), (bb, .inr (2, [.ref bbw, .int (I3 nbb)])), (bbw, .inl (dA 0, 36, .inl (iA fbb))), (cc, .inr (2, [.ref ccw, .int (I3 ncc)])), (ccw, .inl (dA 0, 36, .inl (iA fcc)))] H := hP
            have hD : va_D A [(aa, .inr (2, [.ref aaw, .int (I3 (nbb + ncc))])), (aaw, .inl (dA 0, 36, .inl (iA (uZ W2 (i + ncc) cr)))), (bb, .inr (2, [.ref bbw, .int (I3 nbb)])), (bbw, .inl (dA 0, 36, .inl (iA fbb))), (cc, .inr (2, [.ref ccw, .int (I3 ncc)])), (ccw, .inl (dA 0, 36, .inl (iA fcc)))] := hD
            refine lv_iinc (v := I3 (i + 1)) (lv' := [(3, .int (I3 (i + 1))), (0, .ref aa), (1, .ref bb), (2, .ref cc), (4, .long (L6 cr)), (6, .int (I3 k))]) hx hb dX7_multiply_144 hl (k := 3) rfl (I3_add _ _) (by decide) rfl (fun ls hl => ?_)
            refine lv_goto (tgt := 38) hx hb dX7_multiply_147 (by decide) ?_
            have e_1 : 0 ≤ (i + 1) ∧ (i + 1) ≤ nbb := by first | assumption | omega | (constructor <;> omega)
            have e_2 : Dg (uZ W2 (i + ncc) cr) := by exact Dg_uZ hW2 (by omega) (by omega)
            have e_3 : ∀ j : Int, (i + 1) + ncc ≤ j → j < nbb + ncc → (uZ W2 (i + ncc) cr) j = 0 := by intro j j1 j2; rw [uZ_n (by omega), hs2 j (by omega)]; exact hz j (by omega) j2
            have e_4 : vi (uZ W2 (i + ncc) cr) 0 ((i + 1) + ncc) = vi fbb 0 (i + 1) * vi fcc 0 ncc := by rw [show k = ncc by omega] at hI; exact wm_row (by omega) (by omega) rfl rfl hO hI
            have e_5 : (nbb - (i + 1)).toNat < fuel_38 := by omega
            exact ih_38 (i + 1) (uZ W2 (i + ncc) cr) e_1 e_2 e_3 e_4 e_5 _ _ hP hD hS ls (lv_sub hl [1, 2, 3, 0] rfl)
          · skip
            have dx_ := hDb i
            have dy_ := hDcc k
            have dw_ := hW2 (i + k)
            have hv_ := wm_v dx_ dy_ dw_ hc
            refine lv_lload hx hb dX7_multiply_61 (lv_at hl 4 rfl) ?_
            refine lv_aload_n hx hb dX7_multiply_63 rfl (lv_at hl 1 rfl) ?_
            refine va_get (D := (dC, dI)) (ci := 2) (v := .ref bbw) (C := RX7) (T := TX7) (N := 2) hx hb hts in_X7 hown hK hP 2 rfl rfl 0 (by decide) (hts _ q135) (fun _ h9 => h9) rfl dX7_multiply_64 ?_
            refine lv_iload_n hx hb dX7_multiply_67 rfl (lv_at hl 3 rfl) ?_
            refine ix_iald hx hb hK hP 3 0 rfl rfl (Nat.le_of_ble_eq_true rfl) (by omega) dX7_multiply_68 ?_
            refine ix_i2ls hx hb dX7_multiply_69 ?_
            refine lv_ldc2 hx hb hown (hts _ q360) dX7_multiply_70 ?_
            refine ix_vl (x := (4294967295)) (by decide) ?_
            refine ix_landm hx hb 32 (by decide) (by decide) dX7_multiply_73 ?_
            refine ix_tl (y := (sm3 (fbb i)) % 4294967296) rfl ?_
            refine ix_tl (y := fbb i) (by unfold sm3; omega) ?_
            refine lv_aload_n hx hb dX7_multiply_74 rfl (lv_at hl 2 rfl) ?_
            refine va_get (D := (dC, dI)) (ci := 2) (v := .ref ccw) (C := RX7) (T := TX7) (N := 2) hx hb hts in_X7 hown hK hP 4 rfl rfl 0 (by decide) (hts _ q135) (fun _ h9 => h9) rfl dX7_multiply_75 ?_
            refine lv_iload hx hb dX7_multiply_78 (lv_at hl 5 rfl) ?_
            refine ix_iald hx hb hK hP 5 0 rfl rfl (Nat.le_of_ble_eq_true rfl) (by omega) dX7_multiply_80 ?_
            refine ix_i2ls hx hb dX7_multiply_81 ?_
            refine lv_ldc2 hx hb hown (hts _ q360) dX7_multiply_82 ?_
            refine ix_vl (x := (4294967295)) (by decide) ?_
            refine ix_landm hx hb 32 (by decide) (by decide) dX7_multiply_85 ?_
            refine ix_tl (y := (sm3 (fcc k)) % 4294967296) rfl ?_
            refine ix_tl (y := fcc k) (by unfold sm3; omega) ?_
            refine ix_lmul hx hb dX7_multiply_86 ?_
            refine lv_aload_n hx hb dX7_multiply_87 rfl (lv_at hl 0 rfl) ?_
            refine va_get (D := (dC, dI)) (ci := 2) (v := .ref aaw) (C := RX7) (T := TX7) (N := 2) hx hb hts in_X7 hown hK hP 0 rfl rfl 0 (by decide) (hts _ q135) (fun _ h9 => h9) rfl dX7_multiply_88 ?_
            refine lv_iload_n hx hb dX7_multiply_91 rfl (lv_at hl 3 rfl) ?_
            refine lv_iload hx hb dX7_multiply_92 (lv_at hl 5 rfl) ?_
            refine ix_iadd hx hb dX7_multiply_94 ?_
            refine ix_iald hx hb hK hP 1 0 rfl rfl (Nat.le_of_ble_eq_true rfl) (by omega) dX7_multiply_95 ?_
            refine ix_i2ls hx hb dX7_multiply_96 ?_
            refine lv_ldc2 hx hb hown (hts _ q360) dX7_multiply_97 ?_
            refine ix_vl (x := (4294967295)) (by decide) ?_
            refine ix_landm hx hb 32 (by decide) (by decide) dX7_multiply_100 ?_
            refine ix_tl (y := (sm3 (W2 (i + k))) % 4294967296) rfl ?_
            refine ix_tl (y := W2 (i + k)) (by unfold sm3; omega) ?_
            refine ix_ladd hx hb dX7_multiply_101 ?_
            refine ix_ladd hx hb dX7_multiply_102 ?_
            refine lv_lstore (lv' := [(4, .long (L6 (cr + (((fbb i) * (fcc k)) + (W2 (i + k)))))), (0, .ref aa), (1, .ref bb), (2, .ref cc), (3, .int (I3 i)), (6, .int (I3 k))]) hx hb dX7_multiply_103 hl (by decide) rfl (fun ls hl => ?_)
            refine lv_aload_n hx hb dX7_multiply_105 rfl (lv_at hl 1 rfl) ?_
            refine va_get (D := (dC, dI)) (ci := 2) (v := .ref aaw) (C := RX7) (T := TX7) (N := 2) hx hb hts in_X7 hown hK hP 0 rfl rfl 0 (by decide) (hts _ q135) (fun _ h9 => h9) rfl dX7_multiply_106 ?_
            refine lv_iload_n hx hb dX7_multiply_109 rfl (lv_at hl 4 rfl) ?_
            refine lv_iload hx hb dX7_multiply_110 (lv_at hl 5 rfl) ?_
            refine ix_iadd hx hb dX7_multiply_112 ?_
            refine lv_lload hx hb dX7_multiply_113 (lv_at hl 0 rfl) ?_
            refine ix_l2i hx hb dX7_multiply_115 ?_
            refine ix_ci (y := (cr + (fbb i * fcc k + W2 (i + k))) % 4294967296) (by exact I3_congr (by omega)) ?_
            refine ix_iast hx hb hK hP hD hS 1 0 rfl rfl (Nat.le_of_ble_eq_true rfl) (by omega) dX7_multiply_116 (fun H locs hP hD hS => ?_)
            have hP : va_P (dC, dI) vwCl [(aa, .inr (2, [.ref aaw, .int (I3 (nbb + ncc))])), (aaw, .inl (dA 0, 36, .inl (iA (uZ W2 (i + k) ((cr + (fbb i * fcc k + W2 (i + k))) % 4294967296))))), (bb, .inr (2, [.ref bbw, .int (I3 nbb)])), (bbw, .inl (dA 0, 36, .inl (iA fbb))), (cc, .inr (2, [.ref ccw, .int (I3 ncc)])), (ccw, .inl (dA 0, 36, .inl (iA fcc)))] H := hP
            have hD : va_D A [(aa, .inr (2, [.ref aaw, .int (I3 (nbb + ncc))])), (aaw, .inl (dA 0, 36, .inl (iA (uZ W2 (i + k) ((cr + (fbb i * fcc k + W2 (i + k))) % 4294967296))))), (bb, .inr (2, [.ref bbw, .int (I3 nbb)])), (bbw, .inl (dA 0, 36, .inl (iA fbb))), (cc, .inr (2, [.ref ccw, .int (I3 ncc)])), (ccw, .inl (dA 0, 36, .inl (iA fcc)))] := hD
            refine lv_lload hx hb dX7_multiply_117 (lv_at hl 0 rfl) ?_
            refine lv_bipush (v := I3 (32)) hx hb dX7_multiply_119 (by decide) ?_
            refine ix_lushr hx hb (by first | decide | omega) dX7_multiply_121 ?_
            refine ix_tl (y := (cr + (((fbb i) * (fcc k)) + (W2 (i + k)))) % 18446744073709551616 / 4294967296) rfl ?_
            refine ix_tl (y := (cr + (fbb i * fcc k + W2 (i + k))) / 4294967296) (by rw [Int.emod_eq_of_lt hv_.1 hv_.2]) ?_
            have hq_ : 0 ≤ (cr + (fbb i * fcc k + W2 (i + k))) / 4294967296 ∧ (cr + (fbb i * fcc k + W2 (i + k))) / 4294967296 < 4294967296 := by generalize cr + (fbb i * fcc k + W2 (i + k)) = v9 at hv_ ⊢; omega
            refine lv_lstore (lv' := [(4, .long (L6 ((cr + (fbb i * fcc k + W2 (i + k))) / 4294967296))), (0, .ref aa), (1, .ref bb), (2, .ref cc), (3, .int (I3 i)), (6, .int (I3 k))]) hx hb dX7_multiply_122 hl (by decide) rfl (fun ls hl => ?_)
            refine lv_iinc (v := I3 (k + 1)) (lv' := [(6, .int (I3 (k + 1))), (4, .long (L6 ((cr + (fbb i * fcc k + W2 (i + k))) / 4294967296))), (0, .ref aa), (1, .ref bb), (2, .ref cc), (3, .int (I3 i))]) hx hb dX7_multiply_124 hl (k := 5) rfl (I3_add _ _) (by decide) rfl (fun ls hl => ?_)
            refine lv_goto (tgt := 52) hx hb dX7_multiply_127 (by decide) ?_
            have e_6 : i < nbb := by first | assumption | omega | (constructor <;> omega)
            have e_7 : 0 ≤ (k + 1) ∧ (k + 1) ≤ ncc := by first | assumption | omega | (constructor <;> omega)
            have e_8 : 0 ≤ ((cr + (fbb i * fcc k + W2 (i + k))) / 4294967296) ∧ ((cr + (fbb i * fcc k + W2 (i + k))) / 4294967296) < 4294967296 := by first | assumption | omega | (constructor <;> omega)
            have e_9 : Dg (uZ W2 (i + k) ((cr + (fbb i * fcc k + W2 (i + k))) % 4294967296)) := by exact Dg_uZ hW2 (by omega) (by omega)
            have e_10 : ∀ j : Int, i + (k + 1) ≤ j → (uZ W2 (i + k) ((cr + (fbb i * fcc k + W2 (i + k))) % 4294967296)) j = W1 j := by intro j j1; rw [uZ_n (by omega)]; exact hs2 j (by omega)
            have e_11 : vi (uZ W2 (i + k) ((cr + (fbb i * fcc k + W2 (i + k))) % 4294967296)) 0 (i + (k + 1)) + ((cr + (fbb i * fcc k + W2 (i + k))) / 4294967296) * pz (i + (k + 1)) = vi W1 0 (i + (k + 1)) + fbb i * pz i * vi fcc 0 (k + 1) := by exact wm_step (W0 := W1) (x := fbb i) (by omega) (by omega) (hs2 _ (by omega)) rfl hv_ hI
            have e_12 : (ncc - (k + 1)).toNat < fuel_52 := by omega
            exact ih_52 (k + 1) ((cr + (fbb i * fcc k + W2 (i + k))) / 4294967296) (uZ W2 (i + k) ((cr + (fbb i * fcc k + W2 (i + k))) % 4294967296)) e_6 e_7 e_8 e_9 e_10 e_11 e_12 _ _ hP hD hS ls (lv_sub hl [2, 3, 4, 5, 1, 0] rfl)
      refine lv_iload_n hx hb dX7_multiply_38 rfl (lv_at hl 3 rfl) ?_
      refine lv_aload_n hx hb dX7_multiply_39 rfl (lv_at hl 1 rfl) ?_
      refine va_get (D := (dC, dI)) (ci := 2) (v := .int (I3 nbb)) (C := RX7) (T := TX7) (N := 2) hx hb hts in_X7 hown hK hP 2 rfl rfl 1 (by decide) (hts _ q137) (fun _ h9 => h9) rfl dX7_multiply_40 ?_
      refine ix_icmp_ge (tgt := 150) hx hb (by first | assumption | decide | (constructor <;> omega)) (by first | assumption | decide | (constructor <;> omega)) dX7_multiply_43 (by decide) (fun c_43 => ?_) (fun c_43 => ?_)
      · skip
        refine lv_aload_n hx hb dX7_multiply_150 rfl (lv_at hl 0 rfl) ?_
        have h_13 : 0 ≤ (nbb + ncc) ∧ (nbb + ncc) ≤ 36 := by omega
        have h_14 : Dg W1 := by exact hW1
        have hPc := hP.sub (ws' := [(aa, .inr (2, [.ref aaw, .int (I3 ((nbb + ncc)))])), (aaw, .inl (dA 0, 36, .inl (iA W1)))]) [0, 1] rfl
        have hDc := hD.sub (ws' := [(aa, .inr (2, [.ref aaw, .int (I3 ((nbb + ncc)))])), (aaw, .inl (dA 0, 36, .inl (iA W1)))]) [0, 1] (by decide) rfl
        have hFc := va_free (wc := [(aa, .inr (2, [.ref aaw, .int (I3 ((nbb + ncc)))])), (aaw, .inl (dA 0, 36, .inl (iA W1)))]) hD hS hA [0, 1] rfl
        refine va_callv (va_runV (As := []) (rest := []) ⟨hx, hb, hml, hown, hts⟩ (metX7_trim l dC dI dA aa aaw H.size (nbb + ncc) W1 h_13 h_14) (cwV 0 hts (lw_V q221 q222 q223 q65 q224) rfl rfl rfl (by decide +kernel) ⟨Nat.le_of_ble_eq_true rfl, Nat.le_of_ble_eq_true rfl⟩) ⟨fun a U g mk q => by obtain ⟨q0, q1, qP, qK, qD⟩ := q; exact ⟨q0, q1, qP, va_K.moved (u := U) (U := U.calling g mk a) (Vm.Alike.refl U.vm) qK, qD⟩, va_recv hK hPc (ci := 2) (q0 := 0) rfl rfl, fun U hU hW => ⟨rfl, by rw [hU], by rw [hU]; exact hPc, va_K.moved hW.alike hK, hDc.weaken (fun _ _ _ _ => trivial)⟩⟩ rfl rfl hl.1 rfl (lv_room (Nat.le_of_ble_eq_true rfl)) dX7_multiply_151 ⟨Nat.le_of_ble_eq_true rfl, Nat.le_of_ble_eq_true rfl⟩) hS (fun q _ h => hFc q h) hFc (fun u t H1 locs ht hvm hw hB hz1 hk1 hS => ?_)
        obtain ⟨n1_151, rfl⟩ : ∃ z, z = u := ⟨_, rfl⟩
        obtain ⟨p0_151, p1_151, p2_151⟩ : (OKw n1_151 W1) ∧ (wN n1_151 W1 = wN (nbb + ncc) W1) ∧ (n1_151 ≤ (nbb + ncc)) := hw
        obtain ⟨hP1, hK1, hD1⟩ := hB
        rw [ht] at hP1
        obtain ⟨hP, hD⟩ := va_join (wr := [(bb, .inr (2, [.ref bbw, .int (I3 nbb)])), (bbw, .inl (dA 0, 36, .inl (iA fbb))), (cc, .inr (2, [.ref ccw, .int (I3 ncc)])), (ccw, .inl (dA 0, 36, .inl (iA fcc)))]) (w1 := [(aa, .inr (2, [.ref aaw, .int (I3 n1_151)])), (aaw, .inl (dA 0, 36, .inl (iA W1)))]) hP hD [0, 1] [2, 3, 4, 5] rfl rfl (by decide) (by decide) hk1 hFc hP1 hD1
        generalize H1 = H at hP hS ⊢
        have hP := hP.sub (ws' := [(aa, .inr (2, [.ref aaw, .int (I3 n1_151)])), (aaw, .inl (dA 0, 36, .inl (iA W1))), (bb, .inr (2, [.ref bbw, .int (I3 nbb)])), (bbw, .inl (dA 0, 36, .inl (iA fbb))), (cc, .inr (2, [.ref ccw, .int (I3 ncc)])), (ccw, .inl (dA 0, 36, .inl (iA fcc)))]) [4, 5, 0, 1, 2, 3] rfl
        have hD := hD.sub (ws' := [(aa, .inr (2, [.ref aaw, .int (I3 n1_151)])), (aaw, .inl (dA 0, 36, .inl (iA W1))), (bb, .inr (2, [.ref bbw, .int (I3 nbb)])), (bbw, .inl (dA 0, 36, .inl (iA fbb))), (cc, .inr (2, [.ref ccw, .int (I3 ncc)])), (ccw, .inl (dA 0, 36, .inl (iA fcc)))]) [4, 5, 0, 1, 2, 3] (by decide) rfl
        have o_15 : OKw n1_151 W1 := by exact p0_151
        have o_16 : wN n1_151 W1 = wN nbb fbb * wN ncc fcc := by rw [p1_151]; exact wm_end hm0 hc0 hDb hDcc hW1 (by rw [show i = nbb by omega] at hO; exact hO)
        exact W.vret hx hb hr (fun t ht hW => ⟨⟨(n1_151, W1), rfl, ⟨o_15, o_16⟩, by rw [ht]; exact hP, va_K.moved hW.alike hK, hD⟩, hS.F ht⟩) hS.2.2 dX7_multiply_154
      · skip
        refine lv_lconst (v := L6 0) hx hb dX7_multiply_46 (by decide) ?_
        refine lv_lstore (lv' := [(4, .long (L6 0)), (0, .ref aa), (1, .ref bb), (2, .ref cc), (3, .int (I3 i))]) hx hb dX7_multiply_47 hl (by decide) rfl (fun ls hl => ?_)
        refine lv_iconst (v := I3 (0)) hx hb dX7_multiply_49 rfl ?_
        refine lv_istore (lv' := [(6, .int (I3 0)), (4, .long (L6 0)), (0, .ref aa), (1, .ref bb), (2, .ref cc), (3, .int (I3 i))]) hx hb dX7_multiply_50 hl (by decide) rfl (fun ls hl => ?_)
        have e_17 : i < nbb := by first | assumption | omega | (constructor <;> omega)
        have e_18 : 0 ≤ (0 : Int) ∧ (0 : Int) ≤ ncc := by first | assumption | omega | (constructor <;> omega)
        have e_19 : 0 ≤ (0 : Int) ∧ (0 : Int) < 4294967296 := by first | assumption | omega | (constructor <;> omega)
        have e_20 : Dg W1 := by first | assumption | omega | (constructor <;> omega)
        have e_21 : ∀ j : Int, i + (0 : Int) ≤ j → W1 j = W1 j := by intro j j1; rfl
        have e_22 : vi W1 0 (i + (0 : Int)) + (0 : Int) * pz (i + (0 : Int)) = vi W1 0 (i + (0 : Int)) + fbb i * pz i * vi fcc 0 (0 : Int) := by rw [vi_0]; simp
        exact cut_52 ((ncc - (0 : Int)).toNat + 1) 0 0 W1 e_17 e_18 e_19 e_20 e_21 e_22 (Nat.lt_succ_self _) _ _ hP hD hS ls (lv_sub hl [2, 3, 4, 5, 1, 0] rfl)
  have cut_15 : ∀ (fuel_15 : Nat), ∀ (k : Int) (W1 : Int → Int), (0 ≤ k ∧ k ≤ nbb + ncc) → (Dg W1) → (∀ j : Int, 0 ≤ j → j < k → W1 j = 0) → ((nbb + ncc - k).toNat < fuel_15) → ∀ (H : Heap) (locs : List Loc), va_P (dC, dI) vwCl [(aa, .inr (2, [.ref aaw, .int (I3 (nbb + ncc))])), (aaw, .inl (dA 0, 36, .inl (iA W1))), (bb, .inr (2, [.ref bbw, .int (I3 nbb)])), (bbw, .inl (dA 0, 36, .inl (iA fbb))), (cc, .inr (2, [.ref ccw, .int (I3 ncc)])), (ccw, .inl (dA 0, 36, .inl (iA fcc)))] H → va_D A [(aa, .inr (2, [.ref aaw, .int (I3 (nbb + ncc))])), (aaw, .inl (dA 0, 36, .inl (iA W1))), (bb, .inr (2, [.ref bbw, .int (I3 nbb)])), (bbw, .inl (dA 0, 36, .inl (iA fbb))), (cc, .inr (2, [.ref ccw, .int (I3 ncc)])), (ccw, .inl (dA 0, 36, .inl (iA fcc)))] → va_S A s.heap H locs → ∀ (ls : Array Slot), lv_has ls 7 [(0, .ref aa), (1, .ref bb), (2, .ref cc), (3, .int (I3 k))] → W p l e (headSpec (ws_ yX7_multiply cX7_multiply 7 none) ({ frames := 2, cells := 0, slots := 0, locals := 80 })).room s m ([.ref aa, .ref bb, .ref cc] : List Value).toArray below meth c H locs 0 0 (MQ below (QmetX7_multiply dC dI dA A aa aaw bb bbw cc ccw naa faa nbb fbb ncc fcc) ([.ref aa, .ref bb, .ref cc] : List Value).toArray s 0 0 A) (F0 m 15 ls []) := by
    intro fuel_15
    induction fuel_15 with
    | zero =>
      intro k W1 hk hW1 hz0 hm
      exact absurd hm (Nat.not_lt_zero _)
    | succ fuel_15 ih_15 =>
      intro k W1 hk hW1 hz0 hm_15 H locs hP hD hS ls hl
      obtain ⟨⟨hm0, hm36⟩, hDb, htopb⟩ := id hbb
      obtain ⟨⟨hc0, hc36⟩, hDcc, htopc⟩ := id hcc
      refine lv_iload_n hx hb dX7_multiply_15 rfl (lv_at hl 3 rfl) ?_
      refine lv_aload_n hx hb dX7_multiply_16 rfl (lv_at hl 0 rfl) ?_
      refine va_get (D := (dC, dI)) (ci := 2) (v := .int (I3 (nbb + ncc))) (C := RX7) (T := TX7) (N := 2) hx hb hts in_X7 hown hK hP 0 rfl rfl 1 (by decide) (hts _ q137) (fun _ h9 => h9) rfl dX7_multiply_17 ?_
      refine ix_icmp_ge (tgt := 36) hx hb (by first | assumption | decide | (constructor <;> omega)) (by first | assumption | decide | (constructor <;> omega)) dX7_multiply_20 (by decide) (fun c_20 => ?_) (fun c_20 => ?_)
      · skip
        have hz0 : ∀ j : Int, 0 ≤ j → j < nbb + ncc → W1 j = 0 := fun j j1 j2 => hz0 j j1 (by omega)
        refine lv_iconst (v := I3 (0)) hx hb dX7_multiply_36 rfl ?_
        refine lv_istore_n (lv' := [(3, .int (I3 0)), (0, .ref aa), (1, .ref bb), (2, .ref cc)]) hx hb dX7_multiply_37 rfl hl (by decide) rfl (fun ls hl => ?_)
        have e_23 : 0 ≤ (0 : Int) ∧ (0 : Int) ≤ nbb := by first | assumption | omega | (constructor <;> omega)
        have e_24 : Dg W1 := by first | assumption | omega | (constructor <;> omega)
        have e_25 : ∀ j : Int, (0 : Int) + ncc ≤ j → j < nbb + ncc → W1 j = 0 := by intro j j1 j2; exact hz0 j (by omega) (by omega)
        have e_26 : vi W1 0 ((0 : Int) + ncc) = vi fbb 0 (0 : Int) * vi fcc 0 ncc := by rw [vi_0, Int.zero_mul]; exact vi_0s (fun j j1 j2 => hz0 j j1 (by omega))
        exact cut_38 ((nbb - (0 : Int)).toNat + 1) 0 W1 e_23 e_24 e_25 e_26 (Nat.lt_succ_self _) _ _ hP hD hS ls (lv_sub hl [1, 2, 3, 0] rfl)
      · skip
        refine lv_aload_n hx hb dX7_multiply_23 rfl (lv_at hl 0 rfl) ?_
        refine va_get (D := (dC, dI)) (ci := 2) (v := .ref aaw) (C := RX7) (T := TX7) (N := 2) hx hb hts in_X7 hown hK hP 0 rfl rfl 0 (by decide) (hts _ q135) (fun _ h9 => h9) rfl dX7_multiply_24 ?_
        refine lv_iload_n hx hb dX7_multiply_27 rfl (lv_at hl 3 rfl) ?_
        refine lv_iconst (v := I3 (0)) hx hb dX7_multiply_28 rfl ?_
        refine ix_iast hx hb hK hP hD hS 1 0 rfl rfl (Nat.le_of_ble_eq_true rfl) (by omega) dX7_multiply_29 (fun H locs hP hD hS => ?_)
        have hP : va_P (dC, dI) vwCl [(aa, .inr (2, [.ref aaw, .int (I3 (nbb + ncc))])), (aaw, .inl (dA 0, 36, .inl (iA (uZ W1 k 0)))), (bb, .inr (2, [.ref bbw, .int (I3 nbb)])), (bbw, .inl (dA 0, 36, .inl (iA fbb))), (cc, .inr (2, [.ref ccw, .int (I3 ncc)])), (ccw, .inl (dA 0, 36, .inl (iA fcc)))] H := hP
        have hD : va_D A [(aa, .inr (2, [.ref aaw, .int (I3 (nbb + ncc))])), (aaw, .inl (dA 0, 36, .inl (iA (uZ W1 k 0)))), (bb, .inr (2, [.ref bbw, .int (I3 nbb)])), (bbw, .inl (dA 0, 36, .inl (iA fbb))), (cc, .inr (2, [.ref ccw, .int (I3 ncc)])), (ccw, .inl (dA 0, 36, .inl (iA fcc)))] := hD
        refine lv_iinc (v := I3 (k + 1)) (lv' := [(3, .int (I3 (k + 1))), (0, .ref aa), (1, .ref bb), (2, .ref cc)]) hx hb dX7_multiply_30 hl (k := 3) rfl (I3_add _ _) (by decide) rfl (fun ls hl => ?_)
        refine lv_goto (tgt := 15) hx hb dX7_multiply_33 (by decide) ?_
        have e_27 : 0 ≤ (k + 1) ∧ (k + 1) ≤ nbb + ncc := by first | assumption | omega | (constructor <;> omega)
        have e_28 : Dg (uZ W1 k 0) := by exact Dg_uZ hW1 (by decide) (by decide)
        have e_29 : ∀ j : Int, 0 ≤ j → j < (k + 1) → (uZ W1 k 0) j = 0 := by intro j j1 j2; unfold uZ; split; rfl; exact hz0 j j1 (by omega)
        have e_30 : (nbb + ncc - (k + 1)).toNat < fuel_15 := by omega
        exact ih_15 (k + 1) (uZ W1 k 0) e_27 e_28 e_29 e_30 _ _ hP hD hS ls (lv_sub hl [1, 2, 3, 0] rfl)
  obtain ⟨⟨hm0, hm36⟩, hDb, htopb⟩ := id hbb
  obtain ⟨⟨hc0, hc36⟩, hDcc, htopc⟩ := id hcc
  refine lv_aload_n hx hb dX7_multiply_0 rfl (lv_at hl 0 rfl) ?_
  refine lv_aload_n hx hb dX7_multiply_1 rfl (lv_at hl 1 rfl) ?_
  refine va_get (D := (dC, dI)) (ci := 2) (v := .int (I3 nbb)) (C := RX7) (T := TX7) (N := 2) hx hb hts in_X7 hown hK hP 2 rfl rfl 1 (by decide) (hts _ q137) (fun _ h9 => h9) rfl dX7_multiply_2 ?_
  refine lv_aload_n hx hb dX7_multiply_5 rfl (lv_at hl 2 rfl) ?_
  refine va_get (D := (dC, dI)) (ci := 2) (v := .int (I3 ncc)) (C := RX7) (T := TX7) (N := 2) hx hb hts in_X7 hown hK hP 4 rfl rfl 1 (by decide) (hts _ q137) (fun _ h9 => h9) rfl dX7_multiply_6 ?_
  refine ix_iadd hx hb dX7_multiply_9 ?_
  refine va_put (D := (dC, dI)) (ci := 2) (v := .int (I3 (nbb + ncc))) (ty := .int) (C := RX7) (T := TX7) (N := 2) hx hb hts in_X7 tyX7 tyX7_ok nmX7 hown hK hP hD hS 0 rfl rfl 1 (by decide) (hts _ q137) (fun _ h9 => h9) rfl (by decide +kernel) rfl rfl (Nat.le_of_ble_eq_true rfl) dX7_multiply_10 (fun H locs hP hD hS => ?_)
  have hP : va_P (dC, dI) vwCl [(aa, .inr (2, [.ref aaw, .int (I3 (nbb + ncc))])), (aaw, .inl (dA 0, 36, .inl (iA faa))), (bb, .inr (2, [.ref bbw, .int (I3 nbb)])), (bbw, .inl (dA 0, 36, .inl (iA fbb))), (cc, .inr (2, [.ref ccw, .int (I3 ncc)])), (ccw, .inl (dA 0, 36, .inl (iA fcc)))] H := hP
  have hD : va_D A [(aa, .inr (2, [.ref aaw, .int (I3 (nbb + ncc))])), (aaw, .inl (dA 0, 36, .inl (iA faa))), (bb, .inr (2, [.ref bbw, .int (I3 nbb)])), (bbw, .inl (dA 0, 36, .inl (iA fbb))), (cc, .inr (2, [.ref ccw, .int (I3 ncc)])), (ccw, .inl (dA 0, 36, .inl (iA fcc)))] := hD
  refine lv_iconst (v := I3 (0)) hx hb dX7_multiply_13 rfl ?_
  refine lv_istore_n (lv' := [(3, .int (I3 0)), (0, .ref aa), (1, .ref bb), (2, .ref cc)]) hx hb dX7_multiply_14 rfl hl (by decide) rfl (fun ls hl => ?_)
  have e_31 : 0 ≤ (0 : Int) ∧ (0 : Int) ≤ nbb + ncc := by first | assumption | omega | (constructor <;> omega)
  have e_32 : Dg faa := by first | assumption | omega | (constructor <;> omega)
  have e_33 : ∀ j : Int, 0 ≤ j → j < (0 : Int) → faa j = 0 := by intro j j1 j2; omega
  exact cut_15 ((nbb + ncc - (0 : Int)).toNat + 1) 0 faa e_31 e_32 e_33 (Nat.lt_succ_self _) _ _ hP hD hS ls (lv_sub hl [1, 2, 3, 0] rfl)
abbrev BmetX7_up (dC : Nat → ClassId) (dI : Nat → Nat → Nat) (dA : Nat → ClassId) (A : Nat → Prop) (aa : Nat) (aaw : Nat) (naa : Int) (faa : Int → Int) (by_ : Int) : Int × (Int → Int) → State → Prop := fun u t => (fun (u : Int × (Int → Int)) => (fun (n1 : Int) (f1 : Int → Int) => va_P (dC, dI) vwCl [(aa, .inr (2, [.ref aaw, .int (I3 n1)])), (aaw, .inl (dA 0, 36, .inl (iA f1)))] t.heap ∧ va_K (dC, dI) vwCl (tyA dA) t ∧ va_D A [(aa, .inr (2, [.ref aaw, .int (I3 n1)])), (aaw, .inl (dA 0, 36, .inl (iA f1)))]) u.1 u.2) u
abbrev QmetX7_up (dC : Nat → ClassId) (dI : Nat → Nat → Nat) (dA : Nat → ClassId) (A : Nat → Prop) (aa : Nat) (aaw : Nat) (naa : Int) (faa : Int → Int) (by_ : Int) := va_Qv (fun (u : Int × (Int → Int)) => (fun (n1 : Int) (f1 : Int → Int) => (OKw n1 f1) ∧ (wN n1 f1 = wN naa faa * 2 ^ by_.toNat)) u.1 u.2) (BmetX7_up dC dI dA A aa aaw naa faa by_) A
set_option maxHeartbeats 4000000 in
set_option maxRecDepth 100000 in
/-- goes up by bits -/
theorem metX7_up (l : Launch) (dC : Nat → ClassId) (dI : Nat → Nat → Nat) (dA : Nat → ClassId) (aa : Nat) (aaw : Nat) (sz : Nat) (naa : Int) (faa : Int → Int) (by_ : Int) (haa : OKw naa faa) (hby : 0 ≤ by_ ∧ by_ < 100000) (hsz : naa = 0 ∨ naa + by_ / 32 + 1 ≤ 36) : Met l yX7_up (ws_ yX7_up cX7_up 7 none) ({ frames := 2, cells := 0, slots := 0, locals := 80 }) (va_Pc [.ref aa, .int (I3 by_)] (fun U => U.heap.size = sz ∧ va_P (dC, dI) vwCl [(aa, .inr (2, [.ref aaw, .int (I3 naa)])), (aaw, .inl (dA 0, 36, .inl (iA faa)))] U.heap ∧ va_K (dC, dI) vwCl (tyA dA) U ∧ va_D (fun _ => True) [(aa, .inr (2, [.ref aaw, .int (I3 naa)])), (aaw, .inl (dA 0, 36, .inl (iA faa)))])) (QmetX7_up dC dI dA (va_A [(aa, .inr (2, [.ref aaw, .int (I3 naa)])), (aaw, .inl (dA 0, 36, .inl (iA faa)))] sz) aa aaw naa faa by_) 0 0 (va_A [(aa, .inr (2, [.ref aaw, .int (I3 naa)])), (aaw, .inl (dA 0, 36, .inl (iA faa)))] sz) := by
  refine Met.ofW (cc := cX7_up) (maxL := 7) (ret := none) (by decide) rfl ?_
  intro p e s m args below meth c s₁ B hml hv
  obtain ⟨rfl, hsz, hP, hK, hD0⟩ := hv
  have hx := B.exec
  have hb := B.bytes
  have hr := B.returns
  have hts := atoms_spec (ws := (ws_ yX7_up cX7_up 7 none)) B.pre
  have hts : ∀ w ∈ lw_all, w.before _ s = true := fun w h => hts w (List.mem_cons_of_mem _ h)
  have hown : s.vm.findClass RX7 = some m.cls := findClass_of_methodNamed B.named
  have hlocks := B.notSynchronized
  subst hsz
  have hD := hD0.self (sz := s.heap.size)
  generalize hAe : va_A [(aa, .inr (2, [.ref aaw, .int (I3 naa)])), (aaw, .inl (dA 0, 36, .inl (iA faa)))] s.heap.size = A at hD ⊢
  have hA : ∀ q : Nat, s.heap.size ≤ q → A q := fun q h => by rw [← hAe]; exact Or.inr h
  have hS : va_S A s.heap s.heap [] := va_S.rf
  have hP : va_P (dC, dI) vwCl [(aa, .inr (2, [.ref aaw, .int (I3 naa)])), (aaw, .inl (dA 0, 36, .inl (iA faa)))] s.heap := hP
  have hl := lv_entry ([.ref aa, .int (I3 by_)]) (n := 7) (Nat.le_of_ble_eq_true rfl)
  rw [lg_entry_eq]
  generalize (lg_sl ([.ref aa, .int (I3 by_)]) ++ List.replicate (7 - (lg_sl ([.ref aa, .int (I3 by_)])).length) Slot.unset).toArray = ls at hl ⊢
  have hl : lv_has ls 7 [(0, .ref aa), (1, .int (I3 by_))] := hl
  have cut_99 : ∀ (fuel_99 : Nat), ∀ (ws : Int) (k : Int) (W1 : Int → Int), (0 < naa) → (ws = by_ / 32) → (0 ≤ k ∧ k ≤ ws) → (Dg W1) → (∀ j : Int, 0 ≤ j → j < k → W1 j = 0) → (∀ j : Int, ws ≤ j → j < naa + ws + 1 → W1 j = ud (gW naa faa) 0 (by_ / 32) (by_ % 32) j) → ((ws - k).toNat < fuel_99) → ∀ (H : Heap) (locs : List Loc), va_P (dC, dI) vwCl [(aa, .inr (2, [.ref aaw, .int (I3 naa)])), (aaw, .inl (dA 0, 36, .inl (iA W1)))] H → va_D A [(aa, .inr (2, [.ref aaw, .int (I3 naa)])), (aaw, .inl (dA 0, 36, .inl (iA W1)))] → va_S A s.heap H locs → ∀ (ls : Array Slot), lv_has ls 7 [(0, .ref aa), (1, .int (I3 by_)), (2, .int (I3 ws)), (4, .int (I3 k))] → W p l e (headSpec (ws_ yX7_up cX7_up 7 none) ({ frames := 2, cells := 0, slots := 0, locals := 80 })).room s m ([.ref aa, .int (I3 by_)] : List Value).toArray below meth c H locs 0 0 (MQ below (QmetX7_up dC dI dA A aa aaw naa faa by_) ([.ref aa, .int (I3 by_)] : List Value).toArray s 0 0 A) (F0 m 99 ls []) := by
    intro fuel_99
    induction fuel_99 with
    | zero =>
      intro ws k W1 hpos hws hk hW1 hlo hhi hm
      exact absurd hm (Nat.not_lt_zero _)
    | succ fuel_99 ih_99 =>
      intro ws k W1 hpos hws hk hW1 hlo hhi hm_99 H locs hP hD hS ls hl
      obtain ⟨⟨hn0, hn36⟩, hDa, htop⟩ := id haa
      refine lv_iload hx hb dX7_up_99 (lv_at hl 3 rfl) ?_
      refine lv_iload_n hx hb dX7_up_101 rfl (lv_at hl 2 rfl) ?_
      refine ix_icmp_ge (tgt := 119) hx hb (by first | assumption | decide | (constructor <;> omega)) (by first | assumption | decide | (constructor <;> omega)) dX7_up_102 (by decide) (fun c_102 => ?_) (fun c_102 => ?_)
      · skip
        have hend := wu_end (W1 := W1) haa hW1 hby.1 (by omega) (fun j j1 j2 => by by_cases q : j < ws; (rw [hlo j j1 (by omega), ud_lo (by omega)]); exact hhi j (by omega) (by omega))
        refine lv_aload_n hx hb dX7_up_119 rfl (lv_at hl 0 rfl) ?_
        refine lv_dup hx hb dX7_up_120 rfl ?_
        refine va_get (D := (dC, dI)) (ci := 2) (v := .int (I3 naa)) (C := RX7) (T := TX7) (N := 2) hx hb hts in_X7 hown hK hP 0 rfl rfl 1 (by decide) (hts _ q137) (fun _ h9 => h9) rfl dX7_up_121 ?_
        refine lv_iload_n hx hb dX7_up_124 rfl (lv_at hl 2 rfl) ?_
        refine lv_iconst (v := I3 (1)) hx hb dX7_up_125 rfl ?_
        refine ix_iadd hx hb dX7_up_126 ?_
        refine ix_iadd hx hb dX7_up_127 ?_
        refine va_put (D := (dC, dI)) (ci := 2) (v := .int (I3 (naa + (ws + 1)))) (ty := .int) (C := RX7) (T := TX7) (N := 2) hx hb hts in_X7 tyX7 tyX7_ok nmX7 hown hK hP hD hS 0 rfl rfl 1 (by decide) (hts _ q137) (fun _ h9 => h9) rfl (by decide +kernel) rfl rfl (Nat.le_of_ble_eq_true rfl) dX7_up_128 (fun H locs hP hD hS => ?_)
        have hP : va_P (dC, dI) vwCl [(aa, .inr (2, [.ref aaw, .int (I3 (naa + (ws + 1)))])), (aaw, .inl (dA 0, 36, .inl (iA W1)))] H := hP
        have hD : va_D A [(aa, .inr (2, [.ref aaw, .int (I3 (naa + (ws + 1)))])), (aaw, .inl (dA 0, 36, .inl (iA W1)))] := hD
        refine lv_aload_n hx hb dX7_up_131 rfl (lv_at hl 0 rfl) ?_
        have h_1 : 0 ≤ (naa + (ws + 1)) ∧ (naa + (ws + 1)) ≤ 36 := by omega
        have h_2 : Dg W1 := by first | exact hW1 | exact hDa
        have hPc := hP.sub (ws' := [(aa, .inr (2, [.ref aaw, .int (I3 ((naa + (ws + 1))))])), (aaw, .inl (dA 0, 36, .inl (iA W1)))]) [0, 1] rfl
        have hDc := hD.sub (ws' := [(aa, .inr (2, [.ref aaw, .int (I3 ((naa + (ws + 1))))])), (aaw, .inl (dA 0, 36, .inl (iA W1)))]) [0, 1] (by decide) rfl
        have hFc := va_free (wc := [(aa, .inr (2, [.ref aaw, .int (I3 ((naa + (ws + 1))))])), (aaw, .inl (dA 0, 36, .inl (iA W1)))]) hD hS hA [0, 1] rfl
        refine va_callv (va_runV (As := []) (rest := []) ⟨hx, hb, hml, hown, hts⟩ (metX7_trim l dC dI dA aa aaw H.size (naa + (ws + 1)) W1 h_1 h_2) (cwV 0 hts (lw_V q221 q222 q223 q65 q224) rfl rfl rfl (by decide +kernel) ⟨Nat.le_of_ble_eq_true rfl, Nat.le_of_ble_eq_true rfl⟩) ⟨fun a U g mk q => by obtain ⟨q0, q1, qP, qK, qD⟩ := q; exact ⟨q0, q1, qP, va_K.moved (u := U) (U := U.calling g mk a) (Vm.Alike.refl U.vm) qK, qD⟩, va_recv hK hPc (ci := 2) (q0 := 0) rfl rfl, fun U hU hW => ⟨rfl, by rw [hU], by rw [hU]; exact hPc, va_K.moved hW.alike hK, hDc.weaken (fun _ _ _ _ => trivial)⟩⟩ rfl rfl hl.1 rfl (lv_room (Nat.le_of_ble_eq_true rfl)) dX7_up_132 ⟨Nat.le_of_ble_eq_true rfl, Nat.le_of_ble_eq_true rfl⟩) hS (fun q _ h => hFc q h) hFc (fun u t H1 locs ht hvm hw hB hz1 hk1 hS => ?_)
        obtain ⟨n1_132, rfl⟩ : ∃ z, z = u := ⟨_, rfl⟩
        obtain ⟨p0_132, p1_132, p2_132⟩ : (OKw n1_132 W1) ∧ (wN n1_132 W1 = wN (naa + (ws + 1)) W1) ∧ (n1_132 ≤ (naa + (ws + 1))) := hw
        obtain ⟨hP1, hK1, hD1⟩ := hB
        rw [ht] at hP1
        obtain ⟨hP, hD⟩ := va_join (wr := []) (w1 := [(aa, .inr (2, [.ref aaw, .int (I3 n1_132)])), (aaw, .inl (dA 0, 36, .inl (iA W1)))]) hP hD [0, 1] [] rfl rfl (by decide) (by decide) hk1 hFc hP1 hD1
        generalize H1 = H at hP hS ⊢
        have hP : va_P (dC, dI) vwCl [(aa, .inr (2, [.ref aaw, .int (I3 n1_132)])), (aaw, .inl (dA 0, 36, .inl (iA W1)))] H := hP
        have hD : va_D A [(aa, .inr (2, [.ref aaw, .int (I3 n1_132)])), (aaw, .inl (dA 0, 36, .inl (iA W1)))] := hD
        have o_3 : OKw n1_132 W1 := by first | exact p0_132 | exact haa
        have o_4 : wN n1_132 W1 = wN naa faa * 2 ^ by_.toNat := by first | (rw [p1_132]; subst hws; exact hend) | (rw [show naa = 0 by omega, wN_0, Nat.zero_mul])
        exact W.vret hx hb hr (fun t ht hW => ⟨⟨(n1_132, W1), rfl, ⟨o_3, o_4⟩, by rw [ht]; exact hP, va_K.moved hW.alike hK, hD⟩, hS.F ht⟩) hS.2.2 dX7_up_135
      · skip
        refine lv_aload_n hx hb dX7_up_105 rfl (lv_at hl 0 rfl) ?_
        refine va_get (D := (dC, dI)) (ci := 2) (v := .ref aaw) (C := RX7) (T := TX7) (N := 2) hx hb hts in_X7 hown hK hP 0 rfl rfl 0 (by decide) (hts _ q135) (fun _ h9 => h9) rfl dX7_up_106 ?_
        refine lv_iload hx hb dX7_up_109 (lv_at hl 3 rfl) ?_
        refine lv_iconst (v := I3 (0)) hx hb dX7_up_111 rfl ?_
        refine ix_iast hx hb hK hP hD hS 1 0 rfl rfl (Nat.le_of_ble_eq_true rfl) (by omega) dX7_up_112 (fun H locs hP hD hS => ?_)
        have hP : va_P (dC, dI) vwCl [(aa, .inr (2, [.ref aaw, .int (I3 naa)])), (aaw, .inl (dA 0, 36, .inl (iA (uZ W1 k 0))))] H := hP
        have hD : va_D A [(aa, .inr (2, [.ref aaw, .int (I3 naa)])), (aaw, .inl (dA 0, 36, .inl (iA (uZ W1 k 0))))] := hD
        refine lv_iinc (v := I3 (k + 1)) (lv' := [(4, .int (I3 (k + 1))), (0, .ref aa), (1, .int (I3 by_)), (2, .int (I3 ws))]) hx hb dX7_up_113 hl (k := 3) rfl (I3_add _ _) (by decide) rfl (fun ls hl => ?_)
        refine lv_goto (tgt := 99) hx hb dX7_up_116 (by decide) ?_
        have e_5 : 0 < naa := by first | assumption | omega | (constructor <;> omega)
        have e_6 : ws = by_ / 32 := by first | assumption | omega | (constructor <;> omega)
        have e_7 : 0 ≤ (k + 1) ∧ (k + 1) ≤ ws := by first | assumption | omega | (constructor <;> omega)
        have e_8 : Dg (uZ W1 k 0) := by exact Dg_uZ hW1 (by decide) (by decide)
        have e_9 : ∀ j : Int, 0 ≤ j → j < (k + 1) → (uZ W1 k 0) j = 0 := by intro j j1 j2; unfold uZ; split; rfl; exact hlo j j1 (by omega)
        have e_10 : ∀ j : Int, ws ≤ j → j < naa + ws + 1 → (uZ W1 k 0) j = ud (gW naa faa) 0 (by_ / 32) (by_ % 32) j := by intro j j1 j2; rw [uZ_n (by omega)]; exact hhi j j1 j2
        have e_11 : (ws - (k + 1)).toNat < fuel_99 := by omega
        exact ih_99 ws (k + 1) (uZ W1 k 0) e_5 e_6 e_7 e_8 e_9 e_10 e_11 _ _ hP hD hS ls (lv_sub hl [1, 2, 3, 0] rfl)
  have cut_33 : ∀ (fuel_33 : Nat), ∀ (ws : Int) (rs : Int) (k : Int) (W1 : Int → Int), (0 < naa) → (ws = by_ / 32) → (rs = by_ % 32) → (-1 ≤ k ∧ k ≤ naa) → (Dg W1) → (∀ j : Int, 0 ≤ j → j ≤ k → j < naa → W1 j = faa j) → (∀ j : Int, k + ws < j → j < naa + ws + 1 → W1 j = ud (gW naa faa) 0 (by_ / 32) (by_ % 32) j) → ((k + 1).toNat < fuel_33) → ∀ (H : Heap) (locs : List Loc), va_P (dC, dI) vwCl [(aa, .inr (2, [.ref aaw, .int (I3 naa)])), (aaw, .inl (dA 0, 36, .inl (iA W1)))] H → va_D A [(aa, .inr (2, [.ref aaw, .int (I3 naa)])), (aaw, .inl (dA 0, 36, .inl (iA W1)))] → va_S A s.heap H locs → ∀ (ls : Array Slot), lv_has ls 7 [(0, .ref aa), (1, .int (I3 by_)), (2, .int (I3 ws)), (3, .int (I3 rs)), (4, .int (I3 k))] → W p l e (headSpec (ws_ yX7_up cX7_up 7 none) ({ frames := 2, cells := 0, slots := 0, locals := 80 })).room s m ([.ref aa, .int (I3 by_)] : List Value).toArray below meth c H locs 0 0 (MQ below (QmetX7_up dC dI dA A aa aaw naa faa by_) ([.ref aa, .int (I3 by_)] : List Value).toArray s 0 0 A) (F0 m 33 ls []) := by
    intro fuel_33
    induction fuel_33 with
    | zero =>
      intro ws rs k W1 hpos hws hrs hk hW1 hs hU hm
      exact absurd hm (Nat.not_lt_zero _)
    | succ fuel_33 ih_33 =>
      intro ws rs k W1 hpos hws hrs hk hW1 hs hU hm_33 H locs hP hD hS ls hl
      obtain ⟨⟨hn0, hn36⟩, hDa, htop⟩ := id haa
      have hgA := gW_D (n := naa) hDa
      have cut_70 : ∀ (lo : Int), (0 ≤ k) → (lo = gW naa faa (k - 1)) → ∀ (H : Heap) (locs : List Loc), va_P (dC, dI) vwCl [(aa, .inr (2, [.ref aaw, .int (I3 naa)])), (aaw, .inl (dA 0, 36, .inl (iA W1)))] H → va_D A [(aa, .inr (2, [.ref aaw, .int (I3 naa)])), (aaw, .inl (dA 0, 36, .inl (iA W1)))] → va_S A s.heap H locs → ∀ (ls : Array Slot), lv_has ls 7 [(0, .ref aa), (1, .int (I3 by_)), (2, .int (I3 ws)), (3, .int (I3 rs)), (4, .int (I3 k))] → W p l e (headSpec (ws_ yX7_up cX7_up 7 none) ({ frames := 2, cells := 0, slots := 0, locals := 80 })).room s m ([.ref aa, .int (I3 by_)] : List Value).toArray below meth c H locs 0 0 (MQ below (QmetX7_up dC dI dA A aa aaw naa faa by_) ([.ref aa, .int (I3 by_)] : List Value).toArray s 0 0 A) (F0 m 70 ls [.long (L6 lo), .long (L6 (gW naa faa k * 4294967296))]) := by
        intro lo hk0 hlo H locs hP hD hS ls hl
        have hdg := hgA k
        refine ix_lor hx hb dX7_up_70 ?_
        refine ix_cl (y := lo + gW naa faa k * 4294967296) (by exact zor_hl (by rw [hlo]; exact hgA _) hdg) ?_
        refine lv_lstore (lv' := [(5, .long (L6 (lo + gW naa faa k * 4294967296))), (0, .ref aa), (1, .int (I3 by_)), (2, .int (I3 ws)), (3, .int (I3 rs)), (4, .int (I3 k))]) hx hb dX7_up_71 hl (by decide) rfl (fun ls hl => ?_)
        refine lv_aload_n hx hb dX7_up_73 rfl (lv_at hl 1 rfl) ?_
        refine va_get (D := (dC, dI)) (ci := 2) (v := .ref aaw) (C := RX7) (T := TX7) (N := 2) hx hb hts in_X7 hown hK hP 0 rfl rfl 0 (by decide) (hts _ q135) (fun _ h9 => h9) rfl dX7_up_74 ?_
        refine lv_iload hx hb dX7_up_77 (lv_at hl 5 rfl) ?_
        refine lv_iload_n hx hb dX7_up_79 rfl (lv_at hl 3 rfl) ?_
        refine ix_iadd hx hb dX7_up_80 ?_
        refine lv_lload hx hb dX7_up_81 (lv_at hl 0 rfl) ?_
        refine lv_iload_n hx hb dX7_up_83 rfl (lv_at hl 4 rfl) ?_
        refine ix_lshl hx hb (by first | decide | omega) dX7_up_84 ?_
        refine lv_bipush (v := I3 (32)) hx hb dX7_up_85 (by decide) ?_
        refine ix_lushr hx hb (by first | decide | omega) dX7_up_87 ?_
        refine ix_tl (y := ((lo + gW naa faa k * 4294967296) * 2 ^ (rs : Int).toNat) % 18446744073709551616 / 4294967296) rfl ?_
        refine ix_l2i hx hb dX7_up_88 ?_
        refine ix_ci (y := ud (gW naa faa) 0 (by_ / 32) (by_ % 32) (k + ws)) (by subst hws; subst hrs; rw [hlo]; exact congrArg I3 (wu_dig hgA (by omega) hk0 (by omega) (fun _ => if_neg (by omega)))) ?_
        refine ix_iast hx hb hK hP hD hS 1 0 rfl rfl (Nat.le_of_ble_eq_true rfl) (by omega) dX7_up_89 (fun H locs hP hD hS => ?_)
        have hP : va_P (dC, dI) vwCl [(aa, .inr (2, [.ref aaw, .int (I3 naa)])), (aaw, .inl (dA 0, 36, .inl (iA (uZ W1 (k + ws) (ud (gW naa faa) 0 (by_ / 32) (by_ % 32) (k + ws))))))] H := hP
        have hD : va_D A [(aa, .inr (2, [.ref aaw, .int (I3 naa)])), (aaw, .inl (dA 0, 36, .inl (iA (uZ W1 (k + ws) (ud (gW naa faa) 0 (by_ / 32) (by_ % 32) (k + ws))))))] := hD
        refine lv_iinc (v := I3 (k - 1)) (lv' := [(4, .int (I3 (k - 1))), (5, .long (L6 (lo + gW naa faa k * 4294967296))), (0, .ref aa), (1, .int (I3 by_)), (2, .int (I3 ws)), (3, .int (I3 rs))]) hx hb dX7_up_90 hl (k := 5) rfl ((I3_add _ _).trans (congrArg I3 (by omega))) (by decide) rfl (fun ls hl => ?_)
        refine lv_goto (tgt := 33) hx hb dX7_up_93 (by decide) ?_
        have hd9 := ud_D (g := gW naa faa) (ws := by_ / 32) (b := by_ % 32) (k + ws)
        have e_12 : 0 < naa := by first | assumption | omega | (constructor <;> omega)
        have e_13 : ws = by_ / 32 := by first | assumption | omega | (constructor <;> omega)
        have e_14 : rs = by_ % 32 := by first | assumption | omega | (constructor <;> omega)
        have e_15 : -1 ≤ (k - 1) ∧ (k - 1) ≤ naa := by first | assumption | omega | (constructor <;> omega)
        have e_16 : Dg (uZ W1 (k + ws) (ud (gW naa faa) 0 (by_ / 32) (by_ % 32) (k + ws))) := by exact Dg_uZ hW1 hd9.1 hd9.2
        have e_17 : ∀ j : Int, 0 ≤ j → j ≤ (k - 1) → j < naa → (uZ W1 (k + ws) (ud (gW naa faa) 0 (by_ / 32) (by_ % 32) (k + ws))) j = faa j := by intro j j1 j2 j3; rw [uZ_n (by omega)]; exact hs j j1 (by omega) j3
        have e_18 : ∀ j : Int, (k - 1) + ws < j → j < naa + ws + 1 → (uZ W1 (k + ws) (ud (gW naa faa) 0 (by_ / 32) (by_ % 32) (k + ws))) j = ud (gW naa faa) 0 (by_ / 32) (by_ % 32) j := by intro j j1 j2; unfold uZ; split; (rename_i q; rw [q]); exact hU j (by omega) j2
        have e_19 : ((k - 1) + 1).toNat < fuel_33 := by omega
        exact ih_33 ws rs (k - 1) (uZ W1 (k + ws) (ud (gW naa faa) 0 (by_ / 32) (by_ % 32) (k + ws))) e_12 e_13 e_14 e_15 e_16 e_17 e_18 e_19 _ _ hP hD hS ls (lv_sub hl [2, 3, 4, 5, 0] rfl)
      refine lv_iload hx hb dX7_up_33 (lv_at hl 4 rfl) ?_
      refine ix_if_lt (tgt := 96) hx hb (by first | assumption | decide | (constructor <;> omega)) dX7_up_35 (by decide) (fun c_35 => ?_) (fun c_35 => ?_)
      · skip
        refine lv_iconst (v := I3 (0)) hx hb dX7_up_96 rfl ?_
        refine lv_istore (lv' := [(4, .int (I3 0)), (0, .ref aa), (1, .int (I3 by_)), (2, .int (I3 ws)), (3, .int (I3 rs))]) hx hb dX7_up_97 hl (by decide) rfl (fun ls hl => ?_)
        have e_20 : 0 < naa := by first | assumption | omega | (constructor <;> omega)
        have e_21 : ws = by_ / 32 := by first | assumption | omega | (constructor <;> omega)
        have e_22 : 0 ≤ (0 : Int) ∧ (0 : Int) ≤ ws := by first | assumption | omega | (constructor <;> omega)
        have e_23 : Dg W1 := by first | assumption | omega | (constructor <;> omega)
        have e_24 : ∀ j : Int, 0 ≤ j → j < (0 : Int) → W1 j = 0 := by intro j j1 j2; omega
        have e_25 : ∀ j : Int, ws ≤ j → j < naa + ws + 1 → W1 j = ud (gW naa faa) 0 (by_ / 32) (by_ % 32) j := by intro j j1 j2; exact hU j (by omega) j2
        exact cut_99 ((ws - (0 : Int)).toNat + 1) ws 0 W1 e_20 e_21 e_22 e_23 e_24 e_25 (Nat.lt_succ_self _) _ _ hP hD hS ls (lv_sub hl [1, 2, 3, 0] rfl)
      · skip
        refine lv_aload_n hx hb dX7_up_38 rfl (lv_at hl 0 rfl) ?_
        refine lv_iload hx hb dX7_up_39 (lv_at hl 4 rfl) ?_
        have h_26 : 0 ≤ k ∧ k < 2147483648 := by first | assumption | omega | (constructor <;> omega)
        have h_27 : 0 ≤ naa ∧ naa ≤ 36 := by first | assumption | omega | (constructor <;> omega)
        have h_28 : Dg W1 := by first | assumption | omega | (constructor <;> omega)
        have hPc := hP.sub (ws' := [(aa, .inr (2, [.ref aaw, .int (I3 naa)])), (aaw, .inl (dA 0, 36, .inl (iA W1)))]) [0, 1] rfl
        have hDc := hD.sub (ws' := [(aa, .inr (2, [.ref aaw, .int (I3 naa)])), (aaw, .inl (dA 0, 36, .inl (iA W1)))]) [0, 1] (by decide) rfl
        have hFc := va_free (wc := [(aa, .inr (2, [.ref aaw, .int (I3 naa)])), (aaw, .inl (dA 0, 36, .inl (iA W1)))]) hD hS hA [0, 1] rfl
        refine va_calll (va_runV (As := [.int (I3 k)]) (rest := []) ⟨hx, hb, hml, hown, hts⟩ (metX7_at l dC dI dA aa aaw H.size naa W1 k h_26 h_27 h_28) (cwV 1 hts (lw_V q356 q358 qs6 q65 q359) rfl rfl rfl (by decide +kernel) ⟨Nat.le_of_ble_eq_true rfl, Nat.le_of_ble_eq_true rfl⟩) ⟨fun a U g mk q => by obtain ⟨q0, q1, qP, qK, qD⟩ := q; exact ⟨q0, q1, qP, va_K.moved (u := U) (U := U.calling g mk a) (Vm.Alike.refl U.vm) qK, qD⟩, va_recv hK hPc (ci := 2) (q0 := 0) rfl rfl, fun U hU hW => ⟨rfl, by rw [hU], by rw [hU]; exact hPc, va_K.moved hW.alike hK, hDc.weaken (fun _ _ _ _ => trivial)⟩⟩ rfl rfl hl.1 rfl (lv_room (Nat.le_of_ble_eq_true rfl)) dX7_up_41 ⟨Nat.le_of_ble_eq_true rfl, Nat.le_of_ble_eq_true rfl⟩) hS (fun q _ h => hFc q h) hFc (fun r_41 u t H1 locs ht hvm hw hB hz1 hk1 hS => ?_)
        obtain ⟨z_41, rfl⟩ : ∃ z, z = u := ⟨_, rfl⟩
        obtain ⟨rfl, p0_41, p1_41⟩ : r_41 = L6 z_41 ∧ (z_41 = gW naa W1 k) ∧ (0 ≤ z_41 ∧ z_41 < 4294967296) := hw
        obtain ⟨hP1, hK1, hD1⟩ := hB
        rw [ht] at hP1
        obtain ⟨hP, hD⟩ := va_join (wr := []) (w1 := [(aa, .inr (2, [.ref aaw, .int (I3 naa)])), (aaw, .inl (dA 0, 36, .inl (iA W1)))]) hP hD [0, 1] [] rfl rfl (by decide) (by decide) hk1 hFc hP1 hD1
        generalize H1 = H at hP hS ⊢
        have hP : va_P (dC, dI) vwCl [(aa, .inr (2, [.ref aaw, .int (I3 naa)])), (aaw, .inl (dA 0, 36, .inl (iA W1)))] H := hP
        have hD : va_D A [(aa, .inr (2, [.ref aaw, .int (I3 naa)])), (aaw, .inl (dA 0, 36, .inl (iA W1)))] := hD
        have e41 : z_41 = gW naa faa k := by rw [p0_41]; by_cases q : k < naa; (rw [gW_in (by omega), gW_in (by omega)]; exact hs k (by omega) (by omega) q); (rw [gW_out (by omega), gW_out (by omega)])
        refine lv_bipush (v := I3 (32)) hx hb dX7_up_44 (by decide) ?_
        refine ix_lshl hx hb (by first | decide | omega) dX7_up_46 ?_
        refine ix_tl (y := z_41 * 4294967296) rfl ?_
        refine ix_cl (y := gW naa faa k * 4294967296) (by rw [e41]) ?_
        refine lv_iload hx hb dX7_up_47 (lv_at hl 4 rfl) ?_
        refine ix_if_le (tgt := 69) hx hb (by first | assumption | decide | (constructor <;> omega)) dX7_up_49 (by decide) (fun c_49 => ?_) (fun c_49 => ?_)
        · skip
          refine lv_lconst (v := L6 0) hx hb dX7_up_69 (by decide) ?_
          have e_29 : 0 ≤ k := by first | assumption | omega | (constructor <;> omega)
          have e_30 : (0 : Int) = gW naa faa (k - 1) := by have q9 : k = 0 := (by omega); unfold gW; rw [if_neg (by omega)]
          exact cut_70 0 e_29 e_30 _ _ hP hD hS ls (lv_sub hl [0, 1, 2, 3, 4] rfl)
        · skip
          refine lv_aload_n hx hb dX7_up_52 rfl (lv_at hl 0 rfl) ?_
          refine va_get (D := (dC, dI)) (ci := 2) (v := .ref aaw) (C := RX7) (T := TX7) (N := 2) hx hb hts in_X7 hown hK hP 0 rfl rfl 0 (by decide) (hts _ q135) (fun _ h9 => h9) rfl dX7_up_53 ?_
          refine lv_iload hx hb dX7_up_56 (lv_at hl 4 rfl) ?_
          refine lv_iconst (v := I3 (1)) hx hb dX7_up_58 rfl ?_
          refine ix_isub hx hb dX7_up_59 ?_
          refine ix_iald hx hb hK hP 1 0 rfl rfl (Nat.le_of_ble_eq_true rfl) (by omega) dX7_up_60 ?_
          refine ix_i2ls hx hb dX7_up_61 ?_
          refine lv_ldc2 hx hb hown (hts _ q360) dX7_up_62 ?_
          refine ix_vl (x := (4294967295)) (by decide) ?_
          refine ix_landm hx hb 32 (by decide) (by decide) dX7_up_65 ?_
          refine ix_tl (y := (sm3 (W1 (k - 1))) % 4294967296) rfl ?_
          refine ix_tl (y := W1 (k - 1)) (by have := hW1 (k - 1); unfold sm3; omega) ?_
          refine lv_goto (tgt := 70) hx hb dX7_up_66 (by decide) ?_
          have e_31 : 0 ≤ k := by first | assumption | omega | (constructor <;> omega)
          have e_32 : (W1 (k - 1)) = gW naa faa (k - 1) := by rw [gW_in (by omega)]; have d9 := hDa (k - 1); have s9 := hs (k - 1) (by omega) (by omega) (by omega); omega
          exact cut_70 (W1 (k - 1)) e_31 e_32 _ _ hP hD hS ls (lv_sub hl [0, 1, 2, 3, 4] rfl)
  obtain ⟨⟨hn0, hn36⟩, hDa, htop⟩ := id haa
  refine lv_aload_n hx hb dX7_up_0 rfl (lv_at hl 0 rfl) ?_
  refine va_get (D := (dC, dI)) (ci := 2) (v := .int (I3 naa)) (C := RX7) (T := TX7) (N := 2) hx hb hts in_X7 hown hK hP 0 rfl rfl 1 (by decide) (hts _ q137) (fun _ h9 => h9) rfl dX7_up_1 ?_
  refine ix_if_le (tgt := 135) hx hb (by first | assumption | decide | (constructor <;> omega)) dX7_up_4 (by decide) (fun c_4 => ?_) (fun c_4 => ?_)
  · skip
    have o_33 : OKw naa faa := by first | exact p0_132 | exact haa
    have o_34 : wN naa faa = wN naa faa * 2 ^ by_.toNat := by first | (rw [p1_132]; subst hws; exact hend) | (rw [show naa = 0 by omega, wN_0, Nat.zero_mul])
    exact W.vret hx hb hr (fun t ht hW => ⟨⟨(naa, faa), rfl, ⟨o_33, o_34⟩, by rw [ht]; exact hP, va_K.moved hW.alike hK, hD⟩, hS.F ht⟩) hS.2.2 dX7_up_135
  · skip
    refine lv_iload_n hx hb dX7_up_7 rfl (lv_at hl 1 rfl) ?_
    refine lv_bipush (v := I3 (32)) hx hb dX7_up_8 (by decide) ?_
    refine ix_idiv hx hb (by constructor <;> omega) (by first | decide | (constructor <;> omega)) (by first | decide | omega) (by omega) dX7_up_10 ?_
    refine ix_ti (y := by_ / 32) (by exact Int.tdiv_eq_ediv_of_nonneg (by omega)) ?_
    refine lv_istore_n (lv' := [(2, .int (I3 (by_ / 32))), (0, .ref aa), (1, .int (I3 by_))]) hx hb dX7_up_11 rfl hl (by decide) rfl (fun ls hl => ?_)
    refine lv_iload_n hx hb dX7_up_12 rfl (lv_at hl 2 rfl) ?_
    refine lv_bipush (v := I3 (32)) hx hb dX7_up_13 (by decide) ?_
    refine ix_irem hx hb (by constructor <;> omega) (by first | decide | (constructor <;> omega)) (by first | decide | omega) (by omega) dX7_up_15 ?_
    refine ix_ti (y := by_ % 32) (by exact Int.tmod_eq_emod_of_nonneg (by omega)) ?_
    refine lv_istore_n (lv' := [(3, .int (I3 (by_ % 32))), (2, .int (I3 (by_ / 32))), (0, .ref aa), (1, .int (I3 by_))]) hx hb dX7_up_16 rfl hl (by decide) rfl (fun ls hl => ?_)
    refine lv_aload_n hx hb dX7_up_17 rfl (lv_at hl 2 rfl) ?_
    refine va_get (D := (dC, dI)) (ci := 2) (v := .ref aaw) (C := RX7) (T := TX7) (N := 2) hx hb hts in_X7 hown hK hP 0 rfl rfl 0 (by decide) (hts _ q135) (fun _ h9 => h9) rfl dX7_up_18 ?_
    refine lv_aload_n hx hb dX7_up_21 rfl (lv_at hl 2 rfl) ?_
    refine va_get (D := (dC, dI)) (ci := 2) (v := .int (I3 naa)) (C := RX7) (T := TX7) (N := 2) hx hb hts in_X7 hown hK hP 0 rfl rfl 1 (by decide) (hts _ q137) (fun _ h9 => h9) rfl dX7_up_22 ?_
    refine lv_iconst (v := I3 (0)) hx hb dX7_up_25 rfl ?_
    refine ix_iast hx hb hK hP hD hS 1 0 rfl rfl (Nat.le_of_ble_eq_true rfl) (by omega) dX7_up_26 (fun H locs hP hD hS => ?_)
    have hP : va_P (dC, dI) vwCl [(aa, .inr (2, [.ref aaw, .int (I3 naa)])), (aaw, .inl (dA 0, 36, .inl (iA (uZ faa naa 0))))] H := hP
    have hD : va_D A [(aa, .inr (2, [.ref aaw, .int (I3 naa)])), (aaw, .inl (dA 0, 36, .inl (iA (uZ faa naa 0))))] := hD
    refine lv_aload_n hx hb dX7_up_27 rfl (lv_at hl 2 rfl) ?_
    refine va_get (D := (dC, dI)) (ci := 2) (v := .int (I3 naa)) (C := RX7) (T := TX7) (N := 2) hx hb hts in_X7 hown hK hP 0 rfl rfl 1 (by decide) (hts _ q137) (fun _ h9 => h9) rfl dX7_up_28 ?_
    refine lv_istore (lv' := [(4, .int (I3 naa)), (3, .int (I3 (by_ % 32))), (2, .int (I3 (by_ / 32))), (0, .ref aa), (1, .int (I3 by_))]) hx hb dX7_up_31 hl (by decide) rfl (fun ls hl => ?_)
    have e_35 : 0 < naa := by first | assumption | omega | (constructor <;> omega)
    have e_36 : (by_ / 32) = by_ / 32 := by first | assumption | omega | (constructor <;> omega)
    have e_37 : (by_ % 32) = by_ % 32 := by first | assumption | omega | (constructor <;> omega)
    have e_38 : -1 ≤ naa ∧ naa ≤ naa := by first | assumption | omega | (constructor <;> omega)
    have e_39 : Dg (uZ faa naa 0) := by exact Dg_uZ hDa (by decide) (by decide)
    have e_40 : ∀ j : Int, 0 ≤ j → j ≤ naa → j < naa → (uZ faa naa 0) j = faa j := by intro j j1 j2 j3; rw [uZ_n (by omega)]
    have e_41 : ∀ j : Int, naa + (by_ / 32) < j → j < naa + (by_ / 32) + 1 → (uZ faa naa 0) j = ud (gW naa faa) 0 (by_ / 32) (by_ % 32) j := by intro j j1 j2; omega
    exact cut_33 ((naa + 1).toNat + 1) (by_ / 32) (by_ % 32) naa (uZ faa naa 0) e_35 e_36 e_37 e_38 e_39 e_40 e_41 (Nat.lt_succ_self _) _ _ hP hD hS ls (lv_sub hl [3, 4, 2, 1, 0] rfl)
abbrev BmetX7_down (dC : Nat → ClassId) (dI : Nat → Nat → Nat) (dA : Nat → ClassId) (A : Nat → Prop) (aa : Nat) (aaw : Nat) (naa : Int) (faa : Int → Int) (by_ : Int) : Int × (Int → Int) → State → Prop := fun u t => (fun (u : Int × (Int → Int)) => (fun (n1 : Int) (f1 : Int → Int) => va_P (dC, dI) vwCl [(aa, .inr (2, [.ref aaw, .int (I3 n1)])), (aaw, .inl (dA 0, 36, .inl (iA f1)))] t.heap ∧ va_K (dC, dI) vwCl (tyA dA) t ∧ va_D A [(aa, .inr (2, [.ref aaw, .int (I3 n1)])), (aaw, .inl (dA 0, 36, .inl (iA f1)))]) u.1 u.2) u
abbrev QmetX7_down (dC : Nat → ClassId) (dI : Nat → Nat → Nat) (dA : Nat → ClassId) (A : Nat → Prop) (aa : Nat) (aaw : Nat) (naa : Int) (faa : Int → Int) (by_ : Int) := va_Qv (fun (u : Int × (Int → Int)) => (fun (n1 : Int) (f1 : Int → Int) => (OKw n1 f1) ∧ (wN n1 f1 = wN naa faa / 2 ^ by_.toNat)) u.1 u.2) (BmetX7_down dC dI dA A aa aaw naa faa by_) A
set_option maxHeartbeats 4000000 in
set_option maxRecDepth 100000 in
/-- goes down by bits -/
theorem metX7_down (l : Launch) (dC : Nat → ClassId) (dI : Nat → Nat → Nat) (dA : Nat → ClassId) (aa : Nat) (aaw : Nat) (sz : Nat) (naa : Int) (faa : Int → Int) (by_ : Int) (haa : OKw naa faa) (hby : 0 ≤ by_ ∧ by_ < 100000) : Met l yX7_down (ws_ yX7_down cX7_down 6 none) ({ frames := 3, cells := 0, slots := 0, locals := 120 }) (va_Pc [.ref aa, .int (I3 by_)] (fun U => U.heap.size = sz ∧ va_P (dC, dI) vwCl [(aa, .inr (2, [.ref aaw, .int (I3 naa)])), (aaw, .inl (dA 0, 36, .inl (iA faa)))] U.heap ∧ va_K (dC, dI) vwCl (tyA dA) U ∧ va_D (fun _ => True) [(aa, .inr (2, [.ref aaw, .int (I3 naa)])), (aaw, .inl (dA 0, 36, .inl (iA faa)))])) (QmetX7_down dC dI dA (va_A [(aa, .inr (2, [.ref aaw, .int (I3 naa)])), (aaw, .inl (dA 0, 36, .inl (iA faa)))] sz) aa aaw naa faa by_) 0 0 (va_A [(aa, .inr (2, [.ref aaw, .int (I3 naa)])), (aaw, .inl (dA 0, 36, .inl (iA faa)))] sz) := by
  refine Met.ofW (cc := cX7_down) (maxL := 6) (ret := none) (by decide) rfl ?_
  intro p e s m args below meth c s₁ B hml hv
  obtain ⟨rfl, hsz, hP, hK, hD0⟩ := hv
  have hx := B.exec
  have hb := B.bytes
  have hr := B.returns
  have hts := atoms_spec (ws := (ws_ yX7_down cX7_down 6 none)) B.pre
  have hts : ∀ w ∈ lw_all, w.before _ s = true := fun w h => hts w (List.mem_cons_of_mem _ h)
  have hown : s.vm.findClass RX7 = some m.cls := findClass_of_methodNamed B.named
  have hlocks := B.notSynchronized
  subst hsz
  have hD := hD0.self (sz := s.heap.size)
  generalize hAe : va_A [(aa, .inr (2, [.ref aaw, .int (I3 naa)])), (aaw, .inl (dA 0, 36, .inl (iA faa)))] s.heap.size = A at hD ⊢
  have hA : ∀ q : Nat, s.heap.size ≤ q → A q := fun q h => by rw [← hAe]; exact Or.inr h
  have hS : va_S A s.heap s.heap [] := va_S.rf
  have hP : va_P (dC, dI) vwCl [(aa, .inr (2, [.ref aaw, .int (I3 naa)])), (aaw, .inl (dA 0, 36, .inl (iA faa)))] s.heap := hP
  have hl := lv_entry ([.ref aa, .int (I3 by_)]) (n := 6) (Nat.le_of_ble_eq_true rfl)
  rw [lg_entry_eq]
  generalize (lg_sl ([.ref aa, .int (I3 by_)]) ++ List.replicate (6 - (lg_sl ([.ref aa, .int (I3 by_)])).length) Slot.unset).toArray = ls at hl ⊢
  have hl : lv_has ls 6 [(0, .ref aa), (1, .int (I3 by_))] := hl
  have cut_19 : ∀ (fuel_19 : Nat), ∀ (ws : Int) (rs : Int) (k : Int) (W1 : Int → Int), (ws = by_ / 32) → (rs = by_ % 32) → (0 ≤ k ∧ (k ≤ naa - ws ∨ k = 0)) → (Dg W1) → (∀ j : Int, k ≤ j → W1 j = faa j) → (∀ j : Int, 0 ≤ j → j < k → W1 j = dd (gW naa faa) (by_ / 32) (by_ % 32) j) → ((naa - ws - k).toNat < fuel_19) → ∀ (H : Heap) (locs : List Loc), va_P (dC, dI) vwCl [(aa, .inr (2, [.ref aaw, .int (I3 naa)])), (aaw, .inl (dA 0, 36, .inl (iA W1)))] H → va_D A [(aa, .inr (2, [.ref aaw, .int (I3 naa)])), (aaw, .inl (dA 0, 36, .inl (iA W1)))] → va_S A s.heap H locs → ∀ (ls : Array Slot), lv_has ls 6 [(0, .ref aa), (1, .int (I3 by_)), (2, .int (I3 ws)), (3, .int (I3 rs)), (4, .int (I3 naa)), (5, .int (I3 k))] → W p l e (headSpec (ws_ yX7_down cX7_down 6 none) ({ frames := 3, cells := 0, slots := 0, locals := 120 })).room s m ([.ref aa, .int (I3 by_)] : List Value).toArray below meth c H locs 0 0 (MQ below (QmetX7_down dC dI dA A aa aaw naa faa by_) ([.ref aa, .int (I3 by_)] : List Value).toArray s 0 0 A) (F0 m 19 ls []) := by
    intro fuel_19
    induction fuel_19 with
    | zero =>
      intro ws rs k W1 hws hrs hk hW1 hs hU hm
      exact absurd hm (Nat.not_lt_zero _)
    | succ fuel_19 ih_19 =>
      intro ws rs k W1 hws hrs hk hW1 hs hU hm_19 H locs hP hD hS ls hl
      obtain ⟨⟨hn0, hn36⟩, hDa, htop⟩ := id haa
      have hgA := gW_D (n := naa) hDa
      refine lv_iload hx hb dX7_down_19 (lv_at hl 5 rfl) ?_
      refine lv_iload hx hb dX7_down_21 (lv_at hl 4 rfl) ?_
      refine lv_iload_n hx hb dX7_down_23 rfl (lv_at hl 2 rfl) ?_
      refine ix_isub hx hb dX7_down_24 ?_
      refine ix_icmp_ge (tgt := 66) hx hb (by first | assumption | decide | (constructor <;> omega)) (by first | assumption | decide | (constructor <;> omega)) dX7_down_25 (by decide) (fun c_25 => ?_) (fun c_25 => ?_)
      · skip
        refine lv_aload_n hx hb dX7_down_66 rfl (lv_at hl 0 rfl) ?_
        refine lv_iconst (v := I3 (0)) hx hb dX7_down_67 rfl ?_
        refine lv_iload hx hb dX7_down_68 (lv_at hl 4 rfl) ?_
        refine lv_iload_n hx hb dX7_down_70 rfl (lv_at hl 2 rfl) ?_
        refine ix_isub hx hb dX7_down_71 ?_
        have h_1 : In3 (0 : Int) := by first | assumption | omega | (constructor <;> omega)
        have h_2 : In3 (naa - ws) := by first | assumption | omega | (constructor <;> omega)
        have hPc := hP.sub (ws' := []) [] rfl
        have hDc := hD.sub (ws' := []) [] (by decide) rfl
        have hFc := va_free (wc := []) hD hS hA [] rfl
        refine va_calli (va_runS (As := [.int (I3 0), .int (I3 (naa - ws))]) (rest := [.ref aa]) ⟨hx, hb, hml, hown, hts⟩ (metJ7_max l dC dI dA H.size 0 (naa - ws) h_1 h_2) (va_cwS 2 hts (lw_S q361 q362 q76 q363) rfl rfl rfl (by decide +kernel) ⟨Nat.le_of_ble_eq_true rfl, Nat.le_of_ble_eq_true rfl⟩) ⟨fun a U g mk q => by obtain ⟨q0, q1, qP, qK, qD⟩ := q; exact ⟨q0, q1, qP, va_K.moved (u := U) (U := U.calling g mk a) (Vm.Alike.refl U.vm) qK, qD⟩, fun U hU hW => ⟨rfl, by rw [hU], by rw [hU]; exact hPc, va_K.moved hW.alike hK, hDc.weaken (fun _ _ _ _ => trivial)⟩⟩ rfl rfl hl.1 rfl (lv_room (Nat.le_of_ble_eq_true rfl)) dX7_down_72 ⟨Nat.le_of_ble_eq_true rfl, Nat.le_of_ble_eq_true rfl⟩) hS (fun q _ h => hFc q h) hFc (fun r_72 u t H1 locs ht hvm hw hB hz1 hk1 hS => ?_)
        obtain ⟨z_72, rfl⟩ : ∃ z, z = u := ⟨_, rfl⟩
        obtain ⟨rfl, p0_72⟩ : r_72 = I3 z_72 ∧ (((0 : Int) ≤ (naa - ws) → z_72 = (naa - ws)) ∧ ((naa - ws) ≤ (0 : Int) → z_72 = (0 : Int))) := hw
        obtain ⟨hP1, hK1, hD1⟩ := hB
        rw [ht] at hP1
        obtain ⟨hP, hD⟩ := va_join (wr := [(aa, .inr (2, [.ref aaw, .int (I3 naa)])), (aaw, .inl (dA 0, 36, .inl (iA W1)))]) (w1 := []) hP hD [] [0, 1] rfl rfl (by decide) (by decide) hk1 hFc hP1 hD1
        generalize H1 = H at hP hS ⊢
        have hP : va_P (dC, dI) vwCl [(aa, .inr (2, [.ref aaw, .int (I3 naa)])), (aaw, .inl (dA 0, 36, .inl (iA W1)))] H := hP
        have hD : va_D A [(aa, .inr (2, [.ref aaw, .int (I3 naa)])), (aaw, .inl (dA 0, 36, .inl (iA W1)))] := hD
        obtain ⟨mx1, mx2⟩ := p0_72
        have hend := wd_end (W1 := W1) haa hW1 hby.1 (fun j j1 j2 => hU j j1 (by omega))
        have hz72 : wN z_72 W1 = wN naa faa / 2 ^ by_.toNat := by subst hws; by_cases q : 0 ≤ naa - by_ / 32; (rw [mx1 q]; exact hend); (rw [mx2 (by omega), wN_0, ← hend, wN_neg (by omega)])
        refine va_put (D := (dC, dI)) (ci := 2) (v := .int (I3 z_72)) (ty := .int) (C := RX7) (T := TX7) (N := 2) hx hb hts in_X7 tyX7 tyX7_ok nmX7 hown hK hP hD hS 0 rfl rfl 1 (by decide) (hts _ q137) (fun _ h9 => h9) rfl (by decide +kernel) rfl rfl (Nat.le_of_ble_eq_true rfl) dX7_down_75 (fun H locs hP hD hS => ?_)
        have hP : va_P (dC, dI) vwCl [(aa, .inr (2, [.ref aaw, .int (I3 z_72)])), (aaw, .inl (dA 0, 36, .inl (iA W1)))] H := hP
        have hD : va_D A [(aa, .inr (2, [.ref aaw, .int (I3 z_72)])), (aaw, .inl (dA 0, 36, .inl (iA W1)))] := hD
        refine lv_aload_n hx hb dX7_down_78 rfl (lv_at hl 0 rfl) ?_
        have h_3 : 0 ≤ z_72 ∧ z_72 ≤ 36 := by omega
        have h_4 : Dg W1 := by exact hW1
        have hPc := hP.sub (ws' := [(aa, .inr (2, [.ref aaw, .int (I3 z_72)])), (aaw, .inl (dA 0, 36, .inl (iA W1)))]) [0, 1] rfl
        have hDc := hD.sub (ws' := [(aa, .inr (2, [.ref aaw, .int (I3 z_72)])), (aaw, .inl (dA 0, 36, .inl (iA W1)))]) [0, 1] (by decide) rfl
        have hFc := va_free (wc := [(aa, .inr (2, [.ref aaw, .int (I3 z_72)])), (aaw, .inl (dA 0, 36, .inl (iA W1)))]) hD hS hA [0, 1] rfl
        refine va_callv (va_runV (As := []) (rest := []) ⟨hx, hb, hml, hown, hts⟩ (metX7_trim l dC dI dA aa aaw H.size z_72 W1 h_3 h_4) (cwV 0 hts (lw_V q221 q222 q223 q65 q224) rfl rfl rfl (by decide +kernel) ⟨Nat.le_of_ble_eq_true rfl, Nat.le_of_ble_eq_true rfl⟩) ⟨fun a U g mk q => by obtain ⟨q0, q1, qP, qK, qD⟩ := q; exact ⟨q0, q1, qP, va_K.moved (u := U) (U := U.calling g mk a) (Vm.Alike.refl U.vm) qK, qD⟩, va_recv hK hPc (ci := 2) (q0 := 0) rfl rfl, fun U hU hW => ⟨rfl, by rw [hU], by rw [hU]; exact hPc, va_K.moved hW.alike hK, hDc.weaken (fun _ _ _ _ => trivial)⟩⟩ rfl rfl hl.1 rfl (lv_room (Nat.le_of_ble_eq_true rfl)) dX7_down_79 ⟨Nat.le_of_ble_eq_true rfl, Nat.le_of_ble_eq_true rfl⟩) hS (fun q _ h => hFc q h) hFc (fun u t H1 locs ht hvm hw hB hz1 hk1 hS => ?_)
        obtain ⟨n1_79, rfl⟩ : ∃ z, z = u := ⟨_, rfl⟩
        obtain ⟨p0_79, p1_79, p2_79⟩ : (OKw n1_79 W1) ∧ (wN n1_79 W1 = wN z_72 W1) ∧ (n1_79 ≤ z_72) := hw
        obtain ⟨hP1, hK1, hD1⟩ := hB
        rw [ht] at hP1
        obtain ⟨hP, hD⟩ := va_join (wr := []) (w1 := [(aa, .inr (2, [.ref aaw, .int (I3 n1_79)])), (aaw, .inl (dA 0, 36, .inl (iA W1)))]) hP hD [0, 1] [] rfl rfl (by decide) (by decide) hk1 hFc hP1 hD1
        generalize H1 = H at hP hS ⊢
        have hP : va_P (dC, dI) vwCl [(aa, .inr (2, [.ref aaw, .int (I3 n1_79)])), (aaw, .inl (dA 0, 36, .inl (iA W1)))] H := hP
        have hD : va_D A [(aa, .inr (2, [.ref aaw, .int (I3 n1_79)])), (aaw, .inl (dA 0, 36, .inl (iA W1)))] := hD
        have o_5 : OKw n1_79 W1 := by exact p0_79
        have o_6 : wN n1_79 W1 = wN naa faa / 2 ^ by_.toNat := by rw [p1_79]; exact hz72
        exact W.vret hx hb hr (fun t ht hW => ⟨⟨(n1_79, W1), rfl, ⟨o_5, o_6⟩, by rw [ht]; exact hP, va_K.moved hW.alike hK, hD⟩, hS.F ht⟩) hS.2.2 dX7_down_82
      · skip
        refine lv_aload_n hx hb dX7_down_28 rfl (lv_at hl 0 rfl) ?_
        refine va_get (D := (dC, dI)) (ci := 2) (v := .ref aaw) (C := RX7) (T := TX7) (N := 2) hx hb hts in_X7 hown hK hP 0 rfl rfl 0 (by decide) (hts _ q135) (fun _ h9 => h9) rfl dX7_down_29 ?_
        refine lv_iload hx hb dX7_down_32 (lv_at hl 5 rfl) ?_
        refine lv_aload_n hx hb dX7_down_34 rfl (lv_at hl 0 rfl) ?_
        refine lv_iload hx hb dX7_down_35 (lv_at hl 5 rfl) ?_
        refine lv_iload_n hx hb dX7_down_37 rfl (lv_at hl 2 rfl) ?_
        refine ix_iadd hx hb dX7_down_38 ?_
        refine lv_iconst (v := I3 (1)) hx hb dX7_down_39 rfl ?_
        refine ix_iadd hx hb dX7_down_40 ?_
        have h_7 : 0 ≤ ((k + ws) + 1) ∧ ((k + ws) + 1) < 2147483648 := by first | assumption | omega | (constructor <;> omega)
        have h_8 : 0 ≤ naa ∧ naa ≤ 36 := by first | assumption | omega | (constructor <;> omega)
        have h_9 : Dg W1 := by first | assumption | omega | (constructor <;> omega)
        have hPc := hP.sub (ws' := [(aa, .inr (2, [.ref aaw, .int (I3 naa)])), (aaw, .inl (dA 0, 36, .inl (iA W1)))]) [0, 1] rfl
        have hDc := hD.sub (ws' := [(aa, .inr (2, [.ref aaw, .int (I3 naa)])), (aaw, .inl (dA 0, 36, .inl (iA W1)))]) [0, 1] (by decide) rfl
        have hFc := va_free (wc := [(aa, .inr (2, [.ref aaw, .int (I3 naa)])), (aaw, .inl (dA 0, 36, .inl (iA W1)))]) hD hS hA [0, 1] rfl
        refine va_calll (va_runV (As := [.int (I3 ((k + ws) + 1))]) (rest := [.int (I3 k), .ref aaw]) ⟨hx, hb, hml, hown, hts⟩ (metX7_at l dC dI dA aa aaw H.size naa W1 ((k + ws) + 1) h_7 h_8 h_9) (cwV 1 hts (lw_V q356 q358 qs6 q65 q359) rfl rfl rfl (by decide +kernel) ⟨Nat.le_of_ble_eq_true rfl, Nat.le_of_ble_eq_true rfl⟩) ⟨fun a U g mk q => by obtain ⟨q0, q1, qP, qK, qD⟩ := q; exact ⟨q0, q1, qP, va_K.moved (u := U) (U := U.calling g mk a) (Vm.Alike.refl U.vm) qK, qD⟩, va_recv hK hPc (ci := 2) (q0 := 0) rfl rfl, fun U hU hW => ⟨rfl, by rw [hU], by rw [hU]; exact hPc, va_K.moved hW.alike hK, hDc.weaken (fun _ _ _ _ => trivial)⟩⟩ rfl rfl hl.1 rfl (lv_room (Nat.le_of_ble_eq_true rfl)) dX7_down_41 ⟨Nat.le_of_ble_eq_true rfl, Nat.le_of_ble_eq_true rfl⟩) hS (fun q _ h => hFc q h) hFc (fun r_41 u t H1 locs ht hvm hw hB hz1 hk1 hS => ?_)
        obtain ⟨z_41, rfl⟩ : ∃ z, z = u := ⟨_, rfl⟩
        obtain ⟨rfl, p0_41, p1_41⟩ : r_41 = L6 z_41 ∧ (z_41 = gW naa W1 ((k + ws) + 1)) ∧ (0 ≤ z_41 ∧ z_41 < 4294967296) := hw
        obtain ⟨hP1, hK1, hD1⟩ := hB
        rw [ht] at hP1
        obtain ⟨hP, hD⟩ := va_join (wr := []) (w1 := [(aa, .inr (2, [.ref aaw, .int (I3 naa)])), (aaw, .inl (dA 0, 36, .inl (iA W1)))]) hP hD [0, 1] [] rfl rfl (by decide) (by decide) hk1 hFc hP1 hD1
        generalize H1 = H at hP hS ⊢
        have hP : va_P (dC, dI) vwCl [(aa, .inr (2, [.ref aaw, .int (I3 naa)])), (aaw, .inl (dA 0, 36, .inl (iA W1)))] H := hP
        have hD : va_D A [(aa, .inr (2, [.ref aaw, .int (I3 naa)])), (aaw, .inl (dA 0, 36, .inl (iA W1)))] := hD
        have e41 : z_41 = gW naa faa (k + ws + 1) := by rw [p0_41]; by_cases q : k + ws + 1 < naa; (rw [gW_in (by omega), gW_in (by omega)]; exact hs _ (by omega)); (rw [gW_out (by omega), gW_out (by omega)])
        refine lv_bipush (v := I3 (32)) hx hb dX7_down_44 (by decide) ?_
        refine ix_lshl hx hb (by first | decide | omega) dX7_down_46 ?_
        refine ix_tl (y := z_41 * 4294967296) rfl ?_
        refine lv_aload_n hx hb dX7_down_47 rfl (lv_at hl 0 rfl) ?_
        refine lv_iload hx hb dX7_down_48 (lv_at hl 5 rfl) ?_
        refine lv_iload_n hx hb dX7_down_50 rfl (lv_at hl 2 rfl) ?_
        refine ix_iadd hx hb dX7_down_51 ?_
        have h_10 : 0 ≤ (k + ws) ∧ (k + ws) < 2147483648 := by first | assumption | omega | (constructor <;> omega)
        have h_11 : 0 ≤ naa ∧ naa ≤ 36 := by first | assumption | omega | (constructor <;> omega)
        have h_12 : Dg W1 := by first | assumption | omega | (constructor <;> omega)
        have hPc := hP.sub (ws' := [(aa, .inr (2, [.ref aaw, .int (I3 naa)])), (aaw, .inl (dA 0, 36, .inl (iA W1)))]) [0, 1] rfl
        have hDc := hD.sub (ws' := [(aa, .inr (2, [.ref aaw, .int (I3 naa)])), (aaw, .inl (dA 0, 36, .inl (iA W1)))]) [0, 1] (by decide) rfl
        have hFc := va_free (wc := [(aa, .inr (2, [.ref aaw, .int (I3 naa)])), (aaw, .inl (dA 0, 36, .inl (iA W1)))]) hD hS hA [0, 1] rfl
        refine va_calll (va_runV (As := [.int (I3 (k + ws))]) (rest := [.long (L6 (z_41 * 4294967296)), .int (I3 k), .ref aaw]) ⟨hx, hb, hml, hown, hts⟩ (metX7_at l dC dI dA aa aaw H.size naa W1 (k + ws) h_10 h_11 h_12) (cwV 1 hts (lw_V q356 q358 qs6 q65 q359) rfl rfl rfl (by decide +kernel) ⟨Nat.le_of_ble_eq_true rfl, Nat.le_of_ble_eq_true rfl⟩) ⟨fun a U g mk q => by obtain ⟨q0, q1, qP, qK, qD⟩ := q; exact ⟨q0, q1, qP, va_K.moved (u := U) (U := U.calling g mk a) (Vm.Alike.refl U.vm) qK, qD⟩, va_recv hK hPc (ci := 2) (q0 := 0) rfl rfl, fun U hU hW => ⟨rfl, by rw [hU], by rw [hU]; exact hPc, va_K.moved hW.alike hK, hDc.weaken (fun _ _ _ _ => trivial)⟩⟩ rfl rfl hl.1 rfl (lv_room (Nat.le_of_ble_eq_true rfl)) dX7_down_52 ⟨Nat.le_of_ble_eq_true rfl, Nat.le_of_ble_eq_true rfl⟩) hS (fun q _ h => hFc q h) hFc (fun r_52 u t H1 locs ht hvm hw hB hz1 hk1 hS => ?_)
        obtain ⟨z_52, rfl⟩ : ∃ z, z = u := ⟨_, rfl⟩
        obtain ⟨rfl, p0_52, p1_52⟩ : r_52 = L6 z_52 ∧ (z_52 = gW naa W1 (k + ws)) ∧ (0 ≤ z_52 ∧ z_52 < 4294967296) := hw
        obtain ⟨hP1, hK1, hD1⟩ := hB
        rw [ht] at hP1
        obtain ⟨hP, hD⟩ := va_join (wr := []) (w1 := [(aa, .inr (2, [.ref aaw, .int (I3 naa)])), (aaw, .inl (dA 0, 36, .inl (iA W1)))]) hP hD [0, 1] [] rfl rfl (by decide) (by decide) hk1 hFc hP1 hD1
        generalize H1 = H at hP hS ⊢
        have hP : va_P (dC, dI) vwCl [(aa, .inr (2, [.ref aaw, .int (I3 naa)])), (aaw, .inl (dA 0, 36, .inl (iA W1)))] H := hP
        have hD : va_D A [(aa, .inr (2, [.ref aaw, .int (I3 naa)])), (aaw, .inl (dA 0, 36, .inl (iA W1)))] := hD
        have e52 : z_52 = gW naa faa (k + ws) := by rw [p0_52]; by_cases q : k + ws < naa; (rw [gW_in (by omega), gW_in (by omega)]; exact hs _ (by omega)); (rw [gW_out (by omega), gW_out (by omega)])
        refine ix_lor hx hb dX7_down_55 ?_
        refine ix_cl (y := z_52 + z_41 * 4294967296) (by exact zor_hl p1_52 p1_41) ?_
        refine lv_iload_n hx hb dX7_down_56 rfl (lv_at hl 3 rfl) ?_
        refine ix_lushr hx hb (by first | decide | omega) dX7_down_57 ?_
        refine ix_l2i hx hb dX7_down_58 ?_
        refine ix_ci (y := dd (gW naa faa) (by_ / 32) (by_ % 32) k) (by subst hws; subst hrs; rw [e41, e52]; unfold dd; apply I3_congr; have hg1 := hgA (k + by_ / 32); have hg2 := hgA (k + by_ / 32 + 1); rw [Int.emod_eq_of_lt (a := gW naa faa (k + by_ / 32) + gW naa faa (k + by_ / 32 + 1) * 4294967296) (b := 18446744073709551616) (by omega) (by omega), Int.emod_emod_of_dvd _ (Int.dvd_refl _)]) ?_
        refine ix_iast hx hb hK hP hD hS 1 0 rfl rfl (Nat.le_of_ble_eq_true rfl) (by omega) dX7_down_59 (fun H locs hP hD hS => ?_)
        have hP : va_P (dC, dI) vwCl [(aa, .inr (2, [.ref aaw, .int (I3 naa)])), (aaw, .inl (dA 0, 36, .inl (iA (uZ W1 k (dd (gW naa faa) (by_ / 32) (by_ % 32) k)))))] H := hP
        have hD : va_D A [(aa, .inr (2, [.ref aaw, .int (I3 naa)])), (aaw, .inl (dA 0, 36, .inl (iA (uZ W1 k (dd (gW naa faa) (by_ / 32) (by_ % 32) k)))))] := hD
        refine lv_iinc (v := I3 (k + 1)) (lv' := [(5, .int (I3 (k + 1))), (0, .ref aa), (1, .int (I3 by_)), (2, .int (I3 ws)), (3, .int (I3 rs)), (4, .int (I3 naa))]) hx hb dX7_down_60 hl (k := 5) rfl (I3_add _ _) (by decide) rfl (fun ls hl => ?_)
        refine lv_goto (tgt := 19) hx hb dX7_down_63 (by decide) ?_
        have e_13 : ws = by_ / 32 := by first | assumption | omega | (constructor <;> omega)
        have e_14 : rs = by_ % 32 := by first | assumption | omega | (constructor <;> omega)
        have e_15 : 0 ≤ (k + 1) ∧ ((k + 1) ≤ naa - ws ∨ (k + 1) = 0) := by first | assumption | omega | (constructor <;> omega)
        have e_16 : Dg (uZ W1 k (dd (gW naa faa) (by_ / 32) (by_ % 32) k)) := by exact Dg_uZ hW1 (by unfold dd; omega) (by unfold dd; omega)
        have e_17 : ∀ j : Int, (k + 1) ≤ j → (uZ W1 k (dd (gW naa faa) (by_ / 32) (by_ % 32) k)) j = faa j := by intro j j1; rw [uZ_n (by omega)]; exact hs j (by omega)
        have e_18 : ∀ j : Int, 0 ≤ j → j < (k + 1) → (uZ W1 k (dd (gW naa faa) (by_ / 32) (by_ % 32) k)) j = dd (gW naa faa) (by_ / 32) (by_ % 32) j := by intro j j1 j2; unfold uZ; split; (rename_i q; rw [q]); exact hU j j1 (by omega)
        have e_19 : (naa - ws - (k + 1)).toNat < fuel_19 := by omega
        exact ih_19 ws rs (k + 1) (uZ W1 k (dd (gW naa faa) (by_ / 32) (by_ % 32) k)) e_13 e_14 e_15 e_16 e_17 e_18 e_19 _ _ hP hD hS ls (lv_sub hl [1, 2, 3, 4, 5, 0] rfl)
  obtain ⟨⟨hn0, hn36⟩, hDa, htop⟩ := id haa
  refine lv_iload_n hx hb dX7_down_0 rfl (lv_at hl 1 rfl) ?_
  refine lv_bipush (v := I3 (32)) hx hb dX7_down_1 (by decide) ?_
  refine ix_idiv hx hb (by constructor <;> omega) (by first | decide | (constructor <;> omega)) (by first | decide | omega) (by omega) dX7_down_3 ?_
  refine ix_ti (y := by_ / 32) (by exact Int.tdiv_eq_ediv_of_nonneg (by omega)) ?_
  refine lv_istore_n (lv' := [(2, .int (I3 (by_ / 32))), (0, .ref aa), (1, .int (I3 by_))]) hx hb dX7_down_4 rfl hl (by decide) rfl (fun ls hl => ?_)
  refine lv_iload_n hx hb dX7_down_5 rfl (lv_at hl 2 rfl) ?_
  refine lv_bipush (v := I3 (32)) hx hb dX7_down_6 (by decide) ?_
  refine ix_irem hx hb (by constructor <;> omega) (by first | decide | (constructor <;> omega)) (by first | decide | omega) (by omega) dX7_down_8 ?_
  refine ix_ti (y := by_ % 32) (by exact Int.tmod_eq_emod_of_nonneg (by omega)) ?_
  refine lv_istore_n (lv' := [(3, .int (I3 (by_ % 32))), (2, .int (I3 (by_ / 32))), (0, .ref aa), (1, .int (I3 by_))]) hx hb dX7_down_9 rfl hl (by decide) rfl (fun ls hl => ?_)
  refine lv_aload_n hx hb dX7_down_10 rfl (lv_at hl 2 rfl) ?_
  refine va_get (D := (dC, dI)) (ci := 2) (v := .int (I3 naa)) (C := RX7) (T := TX7) (N := 2) hx hb hts in_X7 hown hK hP 0 rfl rfl 1 (by decide) (hts _ q137) (fun _ h9 => h9) rfl dX7_down_11 ?_
  refine lv_istore (lv' := [(4, .int (I3 naa)), (3, .int (I3 (by_ % 32))), (2, .int (I3 (by_ / 32))), (0, .ref aa), (1, .int (I3 by_))]) hx hb dX7_down_14 hl (by decide) rfl (fun ls hl => ?_)
  refine lv_iconst (v := I3 (0)) hx hb dX7_down_16 rfl ?_
  refine lv_istore (lv' := [(5, .int (I3 0)), (4, .int (I3 naa)), (3, .int (I3 (by_ % 32))), (2, .int (I3 (by_ / 32))), (0, .ref aa), (1, .int (I3 by_))]) hx hb dX7_down_17 hl (by decide) rfl (fun ls hl => ?_)
  have e_20 : (by_ / 32) = by_ / 32 := by first | assumption | omega | (constructor <;> omega)
  have e_21 : (by_ % 32) = by_ % 32 := by first | assumption | omega | (constructor <;> omega)
  have e_22 : 0 ≤ (0 : Int) ∧ ((0 : Int) ≤ naa - (by_ / 32) ∨ (0 : Int) = 0) := by first | assumption | omega | (constructor <;> omega)
  have e_23 : Dg faa := by first | assumption | omega | (constructor <;> omega)
  have e_24 : ∀ j : Int, (0 : Int) ≤ j → faa j = faa j := by intro j j1; rfl
  have e_25 : ∀ j : Int, 0 ≤ j → j < (0 : Int) → faa j = dd (gW naa faa) (by_ / 32) (by_ % 32) j := by intro j j1 j2; omega
  exact cut_19 ((naa - (by_ / 32) - (0 : Int)).toNat + 1) (by_ / 32) (by_ % 32) 0 faa e_20 e_21 e_22 e_23 e_24 e_25 (Nat.lt_succ_self _) _ _ hP hD hS ls (lv_sub hl [4, 5, 3, 2, 1, 0] rfl)
