/-! wide numbers: divide -/
set_option maxRecDepth 100000
abbrev BmetX7_divide (dC : Nat → ClassId) (dI : Nat → Nat → Nat) (dA : Nat → ClassId) (A : Nat → Prop) (aa : Nat) (aaw : Nat) (bb : Nat) (bbw : Nat) (cc : Nat) (ccw : Nat) (ee : Nat) (eew : Nat) (naa : Int) (faa : Int → Int) (nbb : Int) (fbb : Int → Int) (ncc : Int) (fcc : Int → Int) (nee : Int) (fee : Int → Int) : Int × (Int → Int) × Int × (Int → Int) × Int × (Int → Int) → State → Prop := fun u t => (fun (u : Int × (Int → Int) × Int × (Int → Int) × Int × (Int → Int)) => (fun (n1 : Int) (f1 : Int → Int) (n2 : Int) (f2 : Int → Int) (n3 : Int) (f3 : Int → Int) => va_P (dC, dI) vwCl [(aa, .inr (2, [.ref aaw, .int (I3 n1)])), (aaw, .inl (dA 0, 36, .inl (iA f1))), (bb, .inr (2, [.ref bbw, .int (I3 nbb)])), (bbw, .inl (dA 0, 36, .inl (iA fbb))), (cc, .inr (2, [.ref ccw, .int (I3 n2)])), (ccw, .inl (dA 0, 36, .inl (iA f2))), (ee, .inr (2, [.ref eew, .int (I3 n3)])), (eew, .inl (dA 0, 36, .inl (iA f3)))] t.heap ∧ va_K (dC, dI) vwCl (tyA dA) t ∧ va_D A [(aa, .inr (2, [.ref aaw, .int (I3 n1)])), (aaw, .inl (dA 0, 36, .inl (iA f1))), (bb, .inr (2, [.ref bbw, .int (I3 nbb)])), (bbw, .inl (dA 0, 36, .inl (iA fbb))), (cc, .inr (2, [.ref ccw, .int (I3 n2)])), (ccw, .inl (dA 0, 36, .inl (iA f2))), (ee, .inr (2, [.ref eew, .int (I3 n3)])), (eew, .inl (dA 0, 36, .inl (iA f3)))]) u.1 u.2.1 u.2.2.1 u.2.2.2.1 u.2.2.2.2.1 u.2.2.2.2.2) u
abbrev QmetX7_divide (dC : Nat → ClassId) (dI : Nat → Nat → Nat) (dA : Nat → ClassId) (A : Nat → Prop) (aa : Nat) (aaw : Nat) (bb : Nat) (bbw : Nat) (cc : Nat) (ccw : Nat) (ee : Nat) (eew : Nat) (naa : Int) (faa : Int → Int) (nbb : Int) (fbb : Int → Int) (ncc : Int) (fcc : Int → Int) (nee : Int) (fee : Int → Int) := va_Qv (fun (u : Int × (Int → Int) × Int × (Int → Int) × Int × (Int → Int)) => (fun (n1 : Int) (f1 : Int → Int) (n2 : Int) (f2 : Int → Int) (n3 : Int) (f3 : Int → Int) => (OKw n1 f1) ∧ (wN n1 f1 = wN naa faa % wN nbb fbb) ∧ (OKw n2 f2) ∧ (wN n2 f2 = wN naa faa / wN nbb fbb) ∧ (Dg f3)) u.1 u.2.1 u.2.2.1 u.2.2.2.1 u.2.2.2.2.1 u.2.2.2.2.2) (BmetX7_divide dC dI dA A aa aaw bb bbw cc ccw ee eew naa faa nbb fbb ncc fcc nee fee) A
set_option maxHeartbeats 8000000 in
set_option maxRecDepth 100000 in
/-- divided: what is left stays, how often it goes comes to a third one -/
theorem metX7_divide (l : Launch) (dC : Nat → ClassId) (dI : Nat → Nat → Nat) (dA : Nat → ClassId) (aa : Nat) (aaw : Nat) (bb : Nat) (bbw : Nat) (cc : Nat) (ccw : Nat) (ee : Nat) (eew : Nat) (sz : Nat) (naa : Int) (faa : Int → Int) (nbb : Int) (fbb : Int → Int) (ncc : Int) (fcc : Int → Int) (nee : Int) (fee : Int → Int) (haa : OKw naa faa) (hbb : OKw nbb fbb) (hB0 : wN nbb fbb ≠ 0) (hDcx : Dg fcc) (hDe : Dg fee) (hsz : naa ≤ 35) : Met l yX7_divide (ws_ yX7_divide cX7_divide 6 none) ({ frames := 4, cells := 0, slots := 0, locals := 160 }) (va_Pc [.ref aa, .ref bb, .ref cc, .ref ee] (fun U => U.heap.size = sz ∧ va_P (dC, dI) vwCl [(aa, .inr (2, [.ref aaw, .int (I3 naa)])), (aaw, .inl (dA 0, 36, .inl (iA faa))), (bb, .inr (2, [.ref bbw, .int (I3 nbb)])), (bbw, .inl (dA 0, 36, .inl (iA fbb))), (cc, .inr (2, [.ref ccw, .int (I3 ncc)])), (ccw, .inl (dA 0, 36, .inl (iA fcc))), (ee, .inr (2, [.ref eew, .int (I3 nee)])), (eew, .inl (dA 0, 36, .inl (iA fee)))] U.heap ∧ va_K (dC, dI) vwCl (tyA dA) U ∧ va_D (fun _ => True) [(aa, .inr (2, [.ref aaw, .int (I3 naa)])), (aaw, .inl (dA 0, 36, .inl (iA faa))), (bb, .inr (2, [.ref bbw, .int (I3 nbb)])), (bbw, .inl (dA 0, 36, .inl (iA fbb))), (cc, .inr (2, [.ref ccw, .int (I3 ncc)])), (ccw, .inl (dA 0, 36, .inl (iA fcc))), (ee, .inr (2, [.ref eew, .int (I3 nee)])), (eew, .inl (dA 0, 36, .inl (iA fee)))])) (QmetX7_divide dC dI dA (va_A [(aa, .inr (2, [.ref aaw, .int (I3 naa)])), (aaw, .inl (dA 0, 36, .inl (iA faa))), (bb, .inr (2, [.ref bbw, .int (I3 nbb)])), (bbw, .inl (dA 0, 36, .inl (iA fbb))), (cc, .inr (2, [.ref ccw, .int (I3 ncc)])), (ccw, .inl (dA 0, 36, .inl (iA fcc))), (ee, .inr (2, [.ref eew, .int (I3 nee)])), (eew, .inl (dA 0, 36, .inl (iA fee)))] sz) aa aaw bb bbw cc ccw ee eew naa faa nbb fbb ncc fcc nee fee) 0 0 (va_A [(aa, .inr (2, [.ref aaw, .int (I3 naa)])), (aaw, .inl (dA 0, 36, .inl (iA faa))), (bb, .inr (2, [.ref bbw, .int (I3 nbb)])), (bbw, .inl (dA 0, 36, .inl (iA fbb))), (cc, .inr (2, [.ref ccw, .int (I3 ncc)])), (ccw, .inl (dA 0, 36, .inl (iA fcc))), (ee, .inr (2, [.ref eew, .int (I3 nee)])), (eew, .inl (dA 0, 36, .inl (iA fee)))] sz) := by
  refine Met.ofW (cc := cX7_divide) (maxL := 6) (ret := none) (by decide) rfl ?_
  intro p e s m args below meth c s₁ B hml hv
  obtain ⟨rfl, hsz, hP, hK, hD0⟩ := hv
  have hx := B.exec
  have hb := B.bytes
  have hr := B.returns
  have hts := atoms_spec (ws := (ws_ yX7_divide cX7_divide 6 none)) B.pre
  have hts : ∀ w ∈ lw_all, w.before _ s = true := fun w h => hts w (List.mem_cons_of_mem _ h)
  have hown : s.vm.findClass RX7 = some m.cls := findClass_of_methodNamed B.named
  have hlocks := B.notSynchronized
  subst hsz
  have hD := hD0.self (sz := s.heap.size)
  generalize hAe : va_A [(aa, .inr (2, [.ref aaw, .int (I3 naa)])), (aaw, .inl (dA 0, 36, .inl (iA faa))), (bb, .inr (2, [.ref bbw, .int (I3 nbb)])), (bbw, .inl (dA 0, 36, .inl (iA fbb))), (cc, .inr (2, [.ref ccw, .int (I3 ncc)])), (ccw, .inl (dA 0, 36, .inl (iA fcc))), (ee, .inr (2, [.ref eew, .int (I3 nee)])), (eew, .inl (dA 0, 36, .inl (iA fee)))] s.heap.size = A at hD ⊢
  have hA : ∀ q : Nat, s.heap.size ≤ q → A q := fun q h => by rw [← hAe]; exact Or.inr h
  have hS : va_S A s.heap s.heap [] := va_S.rf
  have hP : va_P (dC, dI) vwCl [(aa, .inr (2, [.ref aaw, .int (I3 naa)])), (aaw, .inl (dA 0, 36, .inl (iA faa))), (bb, .inr (2, [.ref bbw, .int (I3 nbb)])), (bbw, .inl (dA 0, 36, .inl (iA fbb))), (cc, .inr (2, [.ref ccw, .int (I3 ncc)])), (ccw, .inl (dA 0, 36, .inl (iA fcc))), (ee, .inr (2, [.ref eew, .int (I3 nee)])), (eew, .inl (dA 0, 36, .inl (iA fee)))] s.heap := hP
  have hl := lv_entry ([.ref aa, .ref bb, .ref cc, .ref ee]) (n := 6) (Nat.le_of_ble_eq_true rfl)
  rw [lg_entry_eq]
  generalize (lg_sl ([.ref aa, .ref bb, .ref cc, .ref ee]) ++ List.replicate (6 - (lg_sl ([.ref aa, .ref bb, .ref cc, .ref ee])).length) Slot.unset).toArray = ls at hl ⊢
  have hl : lv_has ls 6 [(0, .ref aa), (1, .ref bb), (2, .ref cc), (3, .ref ee)] := hl
  have cut_73 : ∀ (fuel_73 : Nat), ∀ (nq : Int) (k : Int) (n1 : Int) (f1 : Int → Int) (f2 : Int → Int) (n3 : Int) (f3 : Int → Int), (0 ≤ nq ∧ nq = ((bl (wN naa faa) : Nat) : Int) - ((bl (wN nbb fbb) : Nat) : Int)) → (nq / 32 + 1 ≤ 36) → (-1 ≤ k ∧ k ≤ nq) → (OKw n1 f1) → (OKw n3 f3) → (Dg f2) → (wN n3 f3 = wN nbb fbb * 2 ^ (k + 1).toNat / 2) → (wN (nq / 32 + 1) f2 * wN nbb fbb + wN n1 f1 = wN naa faa) → (wN (nq / 32 + 1) f2 % 2 ^ (k + 1).toNat = 0) → (wN n1 f1 < wN nbb fbb * 2 ^ (k + 1).toNat) → ((k + 1).toNat < fuel_73) → ∀ (H : Heap) (locs : List Loc), va_P (dC, dI) vwCl [(aa, .inr (2, [.ref aaw, .int (I3 n1)])), (aaw, .inl (dA 0, 36, .inl (iA f1))), (bb, .inr (2, [.ref bbw, .int (I3 nbb)])), (bbw, .inl (dA 0, 36, .inl (iA fbb))), (cc, .inr (2, [.ref ccw, .int (I3 (nq / 32 + 1))])), (ccw, .inl (dA 0, 36, .inl (iA f2))), (ee, .inr (2, [.ref eew, .int (I3 n3)])), (eew, .inl (dA 0, 36, .inl (iA f3)))] H → va_D A [(aa, .inr (2, [.ref aaw, .int (I3 n1)])), (aaw, .inl (dA 0, 36, .inl (iA f1))), (bb, .inr (2, [.ref bbw, .int (I3 nbb)])), (bbw, .inl (dA 0, 36, .inl (iA fbb))), (cc, .inr (2, [.ref ccw, .int (I3 (nq / 32 + 1))])), (ccw, .inl (dA 0, 36, .inl (iA f2))), (ee, .inr (2, [.ref eew, .int (I3 n3)])), (eew, .inl (dA 0, 36, .inl (iA f3)))] → va_S A s.heap H locs → ∀ (ls : Array Slot), lv_has ls 6 [(0, .ref aa), (1, .ref bb), (2, .ref cc), (3, .ref ee), (4, .int (I3 nq)), (5, .int (I3 k))] → W p l e (headSpec (ws_ yX7_divide cX7_divide 6 none) ({ frames := 4, cells := 0, slots := 0, locals := 160 })).room s m ([.ref aa, .ref bb, .ref cc, .ref ee] : List Value).toArray below meth c H locs 0 0 (MQ below (QmetX7_divide dC dI dA A aa aaw bb bbw cc ccw ee eew naa faa nbb fbb ncc fcc nee fee) ([.ref aa, .ref bb, .ref cc, .ref ee] : List Value).toArray s 0 0 A) (F0 m 73 ls []) := by
    intro fuel_73
    induction fuel_73 with
    | zero =>
      intro nq k n1 f1 f2 n3 f3 hnq hq36 hk h1 h3 hD2 hSh hQ hQm hR hm
      exact absurd hm (Nat.not_lt_zero _)
    | succ fuel_73 ih_73 =>
      intro nq k n1 f1 f2 n3 f3 hnq hq36 hk h1 h3 hD2 hSh hQ hQm hR hm_73 H locs hP hD hS ls hl
      obtain ⟨⟨hn0, hn36⟩, hDa, htop⟩ := id haa
      obtain ⟨⟨hm0, hm36⟩, hDb, htopb⟩ := id hbb
      have cut_111 : ∀ (n5 : Int) (f5 : Int → Int) (f6 : Int → Int), (0 ≤ k) → (wN n3 f3 = wN nbb fbb * 2 ^ k.toNat) → (OKw n5 f5) → (Dg f6) → (wN (nq / 32 + 1) f6 * wN nbb fbb + wN n5 f5 = wN naa faa) → (wN (nq / 32 + 1) f6 % 2 ^ k.toNat = 0) → (wN n5 f5 < wN nbb fbb * 2 ^ k.toNat) → ∀ (H : Heap) (locs : List Loc), va_P (dC, dI) vwCl [(aa, .inr (2, [.ref aaw, .int (I3 n5)])), (aaw, .inl (dA 0, 36, .inl (iA f5))), (bb, .inr (2, [.ref bbw, .int (I3 nbb)])), (bbw, .inl (dA 0, 36, .inl (iA fbb))), (cc, .inr (2, [.ref ccw, .int (I3 (nq / 32 + 1))])), (ccw, .inl (dA 0, 36, .inl (iA f6))), (ee, .inr (2, [.ref eew, .int (I3 n3)])), (eew, .inl (dA 0, 36, .inl (iA f3)))] H → va_D A [(aa, .inr (2, [.ref aaw, .int (I3 n5)])), (aaw, .inl (dA 0, 36, .inl (iA f5))), (bb, .inr (2, [.ref bbw, .int (I3 nbb)])), (bbw, .inl (dA 0, 36, .inl (iA fbb))), (cc, .inr (2, [.ref ccw, .int (I3 (nq / 32 + 1))])), (ccw, .inl (dA 0, 36, .inl (iA f6))), (ee, .inr (2, [.ref eew, .int (I3 n3)])), (eew, .inl (dA 0, 36, .inl (iA f3)))] → va_S A s.heap H locs → ∀ (ls : Array Slot), lv_has ls 6 [(0, .ref aa), (1, .ref bb), (2, .ref cc), (3, .ref ee), (4, .int (I3 nq)), (5, .int (I3 k))] → W p l e (headSpec (ws_ yX7_divide cX7_divide 6 none) ({ frames := 4, cells := 0, slots := 0, locals := 160 })).room s m ([.ref aa, .ref bb, .ref cc, .ref ee] : List Value).toArray below meth c H locs 0 0 (MQ below (QmetX7_divide dC dI dA A aa aaw bb bbw cc ccw ee eew naa faa nbb fbb ncc fcc nee fee) ([.ref aa, .ref bb, .ref cc, .ref ee] : List Value).toArray s 0 0 A) (F0 m 111 ls []) := by
        intro n5 f5 f6 hk0 hSk h5 hD6 hQ5 hQm5 hR5 H locs hP hD hS ls hl
        refine lv_aload_n hx hb dX7_divide_111 rfl (lv_at hl 3 rfl) ?_
        refine lv_iconst (v := I3 (1)) hx hb dX7_divide_112 rfl ?_
        have h_1 : OKw n3 f3 := by exact h3
        have h_2 : 0 ≤ (1 : Int) ∧ (1 : Int) < 100000 := by decide
        have hPc := hP.sub (ws' := [(ee, .inr (2, [.ref eew, .int (I3 n3)])), (eew, .inl (dA 0, 36, .inl (iA f3)))]) [6, 7] rfl
        have hDc := hD.sub (ws' := [(ee, .inr (2, [.ref eew, .int (I3 n3)])), (eew, .inl (dA 0, 36, .inl (iA f3)))]) [6, 7] (by decide) rfl
        have hFc := va_free (wc := [(ee, .inr (2, [.ref eew, .int (I3 n3)])), (eew, .inl (dA 0, 36, .inl (iA f3)))]) hD hS hA [6, 7] rfl
        refine va_callv (va_runV (As := [.int (I3 1)]) (rest := []) ⟨hx, hb, hml, hown, hts⟩ (metX7_down l dC dI dA ee eew H.size n3 f3 1 h_1 h_2) (cwV 1 hts (lw_V q398 q353 q354 q65 q355) rfl rfl rfl (by decide +kernel) ⟨Nat.le_of_ble_eq_true rfl, Nat.le_of_ble_eq_true rfl⟩) ⟨fun a U g mk q => by obtain ⟨q0, q1, qP, qK, qD⟩ := q; exact ⟨q0, q1, qP, va_K.moved (u := U) (U := U.calling g mk a) (Vm.Alike.refl U.vm) qK, qD⟩, va_recv hK hPc (ci := 2) (q0 := 0) rfl rfl, fun U hU hW => ⟨rfl, by rw [hU], by rw [hU]; exact hPc, va_K.moved hW.alike hK, hDc.weaken (fun _ _ _ _ => trivial)⟩⟩ rfl rfl hl.1 rfl (lv_room (Nat.le_of_ble_eq_true rfl)) dX7_divide_113 ⟨Nat.le_of_ble_eq_true rfl, Nat.le_of_ble_eq_true rfl⟩) hS (fun q _ h => hFc q h) hFc (fun u t H1 locs ht hvm hw hB hz1 hk1 hS => ?_)
        obtain ⟨n1_113, f1_113⟩ := u
        obtain ⟨p0_113, p1_113⟩ : (OKw n1_113 f1_113) ∧ (wN n1_113 f1_113 = wN n3 f3 / 2 ^ (1 : Int).toNat) := hw
        obtain ⟨hP1, hK1, hD1⟩ := hB
        rw [ht] at hP1
        obtain ⟨hP, hD⟩ := va_join (wr := [(aa, .inr (2, [.ref aaw, .int (I3 n5)])), (aaw, .inl (dA 0, 36, .inl (iA f5))), (bb, .inr (2, [.ref bbw, .int (I3 nbb)])), (bbw, .inl (dA 0, 36, .inl (iA fbb))), (cc, .inr (2, [.ref ccw, .int (I3 (nq / 32 + 1))])), (ccw, .inl (dA 0, 36, .inl (iA f6)))]) (w1 := [(ee, .inr (2, [.ref eew, .int (I3 n1_113)])), (eew, .inl (dA 0, 36, .inl (iA f1_113)))]) hP hD [6, 7] [0, 1, 2, 3, 4, 5] rfl rfl (by decide) (by decide) hk1 hFc hP1 hD1
        generalize H1 = H at hP hS ⊢
        have hP : va_P (dC, dI) vwCl [(aa, .inr (2, [.ref aaw, .int (I3 n5)])), (aaw, .inl (dA 0, 36, .inl (iA f5))), (bb, .inr (2, [.ref bbw, .int (I3 nbb)])), (bbw, .inl (dA 0, 36, .inl (iA fbb))), (cc, .inr (2, [.ref ccw, .int (I3 (nq / 32 + 1))])), (ccw, .inl (dA 0, 36, .inl (iA f6))), (ee, .inr (2, [.ref eew, .int (I3 n1_113)])), (eew, .inl (dA 0, 36, .inl (iA f1_113)))] H := hP
        have hD : va_D A [(aa, .inr (2, [.ref aaw, .int (I3 n5)])), (aaw, .inl (dA 0, 36, .inl (iA f5))), (bb, .inr (2, [.ref bbw, .int (I3 nbb)])), (bbw, .inl (dA 0, 36, .inl (iA fbb))), (cc, .inr (2, [.ref ccw, .int (I3 (nq / 32 + 1))])), (ccw, .inl (dA 0, 36, .inl (iA f6))), (ee, .inr (2, [.ref eew, .int (I3 n1_113)])), (eew, .inl (dA 0, 36, .inl (iA f1_113)))] := hD
        refine lv_iinc (v := I3 (k - 1)) (lv' := [(5, .int (I3 (k - 1))), (0, .ref aa), (1, .ref bb), (2, .ref cc), (3, .ref ee), (4, .int (I3 nq))]) hx hb dX7_divide_116 hl (k := 5) rfl ((I3_add _ _).trans (congrArg I3 (by omega))) (by decide) rfl (fun ls hl => ?_)
        refine lv_goto (tgt := 73) hx hb dX7_divide_119 (by decide) ?_
        have e_3 : 0 ≤ nq ∧ nq = ((bl (wN naa faa) : Nat) : Int) - ((bl (wN nbb fbb) : Nat) : Int) := by first | assumption | omega | (constructor <;> omega)
        have e_4 : nq / 32 + 1 ≤ 36 := by first | assumption | omega | (constructor <;> omega)
        have e_5 : -1 ≤ (k - 1) ∧ (k - 1) ≤ nq := by first | assumption | omega | (constructor <;> omega)
        have e_6 : OKw n5 f5 := by first | assumption | omega | (constructor <;> omega)
        have e_7 : OKw n1_113 f1_113 := by first | assumption | omega | (constructor <;> omega)
        have e_8 : Dg f6 := by first | assumption | omega | (constructor <;> omega)
        have e_9 : wN n1_113 f1_113 = wN nbb fbb * 2 ^ ((k - 1) + 1).toNat / 2 := by rw [p1_113, show (1 : Int).toNat = 1 from rfl, Nat.pow_one, hSk, show k - 1 + 1 = k by omega]
        have e_10 : wN (nq / 32 + 1) f6 * wN nbb fbb + wN n5 f5 = wN naa faa := by exact hQ5
        have e_11 : wN (nq / 32 + 1) f6 % 2 ^ ((k - 1) + 1).toNat = 0 := by rw [show k - 1 + 1 = k by omega]; exact hQm5
        have e_12 : wN n5 f5 < wN nbb fbb * 2 ^ ((k - 1) + 1).toNat := by rw [show k - 1 + 1 = k by omega]; exact hR5
        have e_13 : ((k - 1) + 1).toNat < fuel_73 := by omega
        exact ih_73 nq (k - 1) n5 f5 f6 n1_113 f1_113 e_3 e_4 e_5 e_6 e_7 e_8 e_9 e_10 e_11 e_12 e_13 _ _ hP hD hS ls (lv_sub hl [1, 2, 3, 4, 5, 0] rfl)
      refine lv_iload hx hb dX7_divide_73 (lv_at hl 5 rfl) ?_
      refine ix_if_lt (tgt := 122) hx hb (by first | assumption | decide | (constructor <;> omega)) dX7_divide_75 (by decide) (fun c_75 => ?_) (fun c_75 => ?_)
      · skip
        refine lv_aload_n hx hb dX7_divide_122 rfl (lv_at hl 2 rfl) ?_
        have h_14 : 0 ≤ (nq / 32 + 1) ∧ (nq / 32 + 1) ≤ 36 := by omega
        have h_15 : Dg f2 := by exact hD2
        have hPc := hP.sub (ws' := [(cc, .inr (2, [.ref ccw, .int (I3 ((nq / 32 + 1)))])), (ccw, .inl (dA 0, 36, .inl (iA f2)))]) [4, 5] rfl
        have hDc := hD.sub (ws' := [(cc, .inr (2, [.ref ccw, .int (I3 ((nq / 32 + 1)))])), (ccw, .inl (dA 0, 36, .inl (iA f2)))]) [4, 5] (by decide) rfl
        have hFc := va_free (wc := [(cc, .inr (2, [.ref ccw, .int (I3 ((nq / 32 + 1)))])), (ccw, .inl (dA 0, 36, .inl (iA f2)))]) hD hS hA [4, 5] rfl
        refine va_callv (va_runV (As := []) (rest := []) ⟨hx, hb, hml, hown, hts⟩ (metX7_trim l dC dI dA cc ccw H.size (nq / 32 + 1) f2 h_14 h_15) (cwV 0 hts (lw_V q221 q222 q223 q65 q224) rfl rfl rfl (by decide +kernel) ⟨Nat.le_of_ble_eq_true rfl, Nat.le_of_ble_eq_true rfl⟩) ⟨fun a U g mk q => by obtain ⟨q0, q1, qP, qK, qD⟩ := q; exact ⟨q0, q1, qP, va_K.moved (u := U) (U := U.calling g mk a) (Vm.Alike.refl U.vm) qK, qD⟩, va_recv hK hPc (ci := 2) (q0 := 0) rfl rfl, fun U hU hW => ⟨rfl, by rw [hU], by rw [hU]; exact hPc, va_K.moved hW.alike hK, hDc.weaken (fun _ _ _ _ => trivial)⟩⟩ rfl rfl hl.1 rfl (lv_room (Nat.le_of_ble_eq_true rfl)) dX7_divide_123 ⟨Nat.le_of_ble_eq_true rfl, Nat.le_of_ble_eq_true rfl⟩) hS (fun q _ h => hFc q h) hFc (fun u t H1 locs ht hvm hw hB hz1 hk1 hS => ?_)
        obtain ⟨n1_123, rfl⟩ : ∃ z, z = u := ⟨_, rfl⟩
        obtain ⟨p0_123, p1_123, p2_123⟩ : (OKw n1_123 f2) ∧ (wN n1_123 f2 = wN (nq / 32 + 1) f2) ∧ (n1_123 ≤ (nq / 32 + 1)) := hw
        obtain ⟨hP1, hK1, hD1⟩ := hB
        rw [ht] at hP1
        obtain ⟨hP, hD⟩ := va_join (wr := [(aa, .inr (2, [.ref aaw, .int (I3 n1)])), (aaw, .inl (dA 0, 36, .inl (iA f1))), (bb, .inr (2, [.ref bbw, .int (I3 nbb)])), (bbw, .inl (dA 0, 36, .inl (iA fbb))), (ee, .inr (2, [.ref eew, .int (I3 n3)])), (eew, .inl (dA 0, 36, .inl (iA f3)))]) (w1 := [(cc, .inr (2, [.ref ccw, .int (I3 n1_123)])), (ccw, .inl (dA 0, 36, .inl (iA f2)))]) hP hD [4, 5] [0, 1, 2, 3, 6, 7] rfl rfl (by decide) (by decide) hk1 hFc hP1 hD1
        generalize H1 = H at hP hS ⊢
        have hP := hP.sub (ws' := [(aa, .inr (2, [.ref aaw, .int (I3 n1)])), (aaw, .inl (dA 0, 36, .inl (iA f1))), (bb, .inr (2, [.ref bbw, .int (I3 nbb)])), (bbw, .inl (dA 0, 36, .inl (iA fbb))), (cc, .inr (2, [.ref ccw, .int (I3 n1_123)])), (ccw, .inl (dA 0, 36, .inl (iA f2))), (ee, .inr (2, [.ref eew, .int (I3 n3)])), (eew, .inl (dA 0, 36, .inl (iA f3)))]) [0, 1, 2, 3, 6, 7, 4, 5] rfl
        have hD := hD.sub (ws' := [(aa, .inr (2, [.ref aaw, .int (I3 n1)])), (aaw, .inl (dA 0, 36, .inl (iA f1))), (bb, .inr (2, [.ref bbw, .int (I3 nbb)])), (bbw, .inl (dA 0, 36, .inl (iA fbb))), (cc, .inr (2, [.ref ccw, .int (I3 n1_123)])), (ccw, .inl (dA 0, 36, .inl (iA f2))), (ee, .inr (2, [.ref eew, .int (I3 n3)])), (eew, .inl (dA 0, 36, .inl (iA f3)))]) [0, 1, 2, 3, 6, 7, 4, 5] (by decide) rfl
        have hend := qd_end hB0 hQ (by rw [show k + 1 = 0 by omega] at hR; simpa using hR)
        have o_16 : OKw n1 f1 := by first | assumption | omega | (constructor <;> omega)
        have o_17 : wN n1 f1 = wN naa faa % wN nbb fbb := by exact hend.2
        have o_18 : OKw n1_123 f2 := by first | assumption | omega | (constructor <;> omega)
        have o_19 : wN n1_123 f2 = wN naa faa / wN nbb fbb := by rw [p1_123]; exact hend.1
        have o_20 : Dg f3 := by exact h3.2.1
        exact W.vret hx hb hr (fun t ht hW => ⟨⟨(n1, f1, n1_123, f2, n3, f3), rfl, ⟨o_16, o_17, o_18, o_19, o_20⟩, by rw [ht]; exact hP, va_K.moved hW.alike hK, hD⟩, hS.F ht⟩) hS.2.2 dX7_divide_126
      · skip
        have hSk : wN n3 f3 = wN nbb fbb * 2 ^ k.toNat := by rw [hSh]; exact sh_1 (by omega)
        refine lv_aload_n hx hb dX7_divide_78 rfl (lv_at hl 0 rfl) ?_
        refine lv_aload_n hx hb dX7_divide_79 rfl (lv_at hl 3 rfl) ?_
        have h_21 : OKw n1 f1 := by exact h1
        have h_22 : OKw n3 f3 := by exact h3
        have hPc := hP.sub (ws' := [(aa, .inr (2, [.ref aaw, .int (I3 n1)])), (aaw, .inl (dA 0, 36, .inl (iA f1))), (ee, .inr (2, [.ref eew, .int (I3 n3)])), (eew, .inl (dA 0, 36, .inl (iA f3)))]) [0, 1, 6, 7] rfl
        have hDc := hD.sub (ws' := [(aa, .inr (2, [.ref aaw, .int (I3 n1)])), (aaw, .inl (dA 0, 36, .inl (iA f1))), (ee, .inr (2, [.ref eew, .int (I3 n3)])), (eew, .inl (dA 0, 36, .inl (iA f3)))]) [0, 1, 6, 7] (by decide) rfl
        have hFc := va_free (wc := [(aa, .inr (2, [.ref aaw, .int (I3 n1)])), (aaw, .inl (dA 0, 36, .inl (iA f1))), (ee, .inr (2, [.ref eew, .int (I3 n3)])), (eew, .inl (dA 0, 36, .inl (iA f3)))]) hD hS hA [0, 1, 6, 7] rfl
        refine va_calli (va_runV (As := [.ref ee]) (rest := []) ⟨hx, hb, hml, hown, hts⟩ (metX7_compare l dC dI dA aa aaw ee eew H.size n1 f1 n3 f3 h_21 h_22) (cwV 1 hts (lw_V q396 q365 q366 q65 q367) rfl rfl rfl (by decide +kernel) ⟨Nat.le_of_ble_eq_true rfl, Nat.le_of_ble_eq_true rfl⟩) ⟨fun a U g mk q => by obtain ⟨q0, q1, qP, qK, qD⟩ := q; exact ⟨q0, q1, qP, va_K.moved (u := U) (U := U.calling g mk a) (Vm.Alike.refl U.vm) qK, qD⟩, va_recv hK hPc (ci := 2) (q0 := 0) rfl rfl, fun U hU hW => ⟨rfl, by rw [hU], by rw [hU]; exact hPc, va_K.moved hW.alike hK, hDc.weaken (fun _ _ _ _ => trivial)⟩⟩ rfl rfl hl.1 rfl (lv_room (Nat.le_of_ble_eq_true rfl)) dX7_divide_80 ⟨Nat.le_of_ble_eq_true rfl, Nat.le_of_ble_eq_true rfl⟩) hS (fun q _ h => hFc q h) hFc (fun r_80 u t H1 locs ht hvm hw hB hz1 hk1 hS => ?_)
        obtain ⟨z_80, rfl⟩ : ∃ z, z = u := ⟨_, rfl⟩
        obtain ⟨rfl, p0_80⟩ : r_80 = I3 z_80 ∧ (z_80 = cmpN (wN n1 f1) (wN n3 f3)) := hw
        obtain ⟨hP1, hK1, hD1⟩ := hB
        rw [ht] at hP1
        obtain ⟨hP, hD⟩ := va_join (wr := [(bb, .inr (2, [.ref bbw, .int (I3 nbb)])), (bbw, .inl (dA 0, 36, .inl (iA fbb))), (cc, .inr (2, [.ref ccw, .int (I3 (nq / 32 + 1))])), (ccw, .inl (dA 0, 36, .inl (iA f2)))]) (w1 := [(aa, .inr (2, [.ref aaw, .int (I3 n1)])), (aaw, .inl (dA 0, 36, .inl (iA f1))), (ee, .inr (2, [.ref eew, .int (I3 n3)])), (eew, .inl (dA 0, 36, .inl (iA f3)))]) hP hD [0, 1, 6, 7] [2, 3, 4, 5] rfl rfl (by decide) (by decide) hk1 hFc hP1 hD1
        generalize H1 = H at hP hS ⊢
        have hP := hP.sub (ws' := [(aa, .inr (2, [.ref aaw, .int (I3 n1)])), (aaw, .inl (dA 0, 36, .inl (iA f1))), (bb, .inr (2, [.ref bbw, .int (I3 nbb)])), (bbw, .inl (dA 0, 36, .inl (iA fbb))), (cc, .inr (2, [.ref ccw, .int (I3 (nq / 32 + 1))])), (ccw, .inl (dA 0, 36, .inl (iA f2))), (ee, .inr (2, [.ref eew, .int (I3 n3)])), (eew, .inl (dA 0, 36, .inl (iA f3)))]) [4, 5, 0, 1, 2, 3, 6, 7] rfl
        have hD := hD.sub (ws' := [(aa, .inr (2, [.ref aaw, .int (I3 n1)])), (aaw, .inl (dA 0, 36, .inl (iA f1))), (bb, .inr (2, [.ref bbw, .int (I3 nbb)])), (bbw, .inl (dA 0, 36, .inl (iA fbb))), (cc, .inr (2, [.ref ccw, .int (I3 (nq / 32 + 1))])), (ccw, .inl (dA 0, 36, .inl (iA f2))), (ee, .inr (2, [.ref eew, .int (I3 n3)])), (eew, .inl (dA 0, 36, .inl (iA f3)))]) [4, 5, 0, 1, 2, 3, 6, 7] (by decide) rfl
        have y_80 := cmpN3 p0_80
        refine ix_if_lt (tgt := 111) hx hb (by first | assumption | decide | (constructor <;> omega)) dX7_divide_83 (by decide) (fun c_83 => ?_) (fun c_83 => ?_)
        · skip
          have e_23 : 0 ≤ k := by first | assumption | omega | (constructor <;> omega)
          have e_24 : wN n3 f3 = wN nbb fbb * 2 ^ k.toNat := by first | assumption | omega | (constructor <;> omega)
          have e_25 : OKw n1 f1 := by first | assumption | omega | (constructor <;> omega)
          have e_26 : Dg f2 := by exact hD2
          have e_27 : wN (nq / 32 + 1) f2 * wN nbb fbb + wN n1 f1 = wN naa faa := by exact hQ
          have e_28 : wN (nq / 32 + 1) f2 % 2 ^ k.toNat = 0 := by exact qd_lo (by omega) hQm
          have e_29 : wN n1 f1 < wN nbb fbb * 2 ^ k.toNat := by rw [← hSk]; rcases cmpN3 p0_80 with ⟨q, q2⟩ | ⟨q, q2⟩ | ⟨q, q2⟩ <;> omega
          exact cut_111 n1 f1 f2 e_23 e_24 e_25 e_26 e_27 e_28 e_29 _ _ hP hD hS ls (lv_sub hl [0, 1, 2, 3, 4, 5] rfl)
        · skip
          have hge : wN n3 f3 ≤ wN n1 f1 := by omega
          have hqd := qd_hi (by omega) hQ hQm hR (by rw [← hSk]; exact hge)
          have hwq := wq_dig hD2 (n := nq / 32 + 1) (k := k) (by omega) hQm
          refine lv_aload_n hx hb dX7_divide_86 rfl (lv_at hl 0 rfl) ?_
          refine lv_aload_n hx hb dX7_divide_87 rfl (lv_at hl 3 rfl) ?_
          have h_30 : OKw n1 f1 := by exact h1
          have h_31 : OKw n3 f3 := by exact h3
          have h_32 : wN n3 f3 ≤ wN n1 f1 := by exact hge
          have hPc := hP.sub (ws' := [(aa, .inr (2, [.ref aaw, .int (I3 n1)])), (aaw, .inl (dA 0, 36, .inl (iA f1))), (ee, .inr (2, [.ref eew, .int (I3 n3)])), (eew, .inl (dA 0, 36, .inl (iA f3)))]) [0, 1, 6, 7] rfl
          have hDc := hD.sub (ws' := [(aa, .inr (2, [.ref aaw, .int (I3 n1)])), (aaw, .inl (dA 0, 36, .inl (iA f1))), (ee, .inr (2, [.ref eew, .int (I3 n3)])), (eew, .inl (dA 0, 36, .inl (iA f3)))]) [0, 1, 6, 7] (by decide) rfl
          have hFc := va_free (wc := [(aa, .inr (2, [.ref aaw, .int (I3 n1)])), (aaw, .inl (dA 0, 36, .inl (iA f1))), (ee, .inr (2, [.ref eew, .int (I3 n3)])), (eew, .inl (dA 0, 36, .inl (iA f3)))]) hD hS hA [0, 1, 6, 7] rfl
          refine va_callv (va_runV (As := [.ref ee]) (rest := []) ⟨hx, hb, hml, hown, hts⟩ (metX7_subtract l dC dI dA aa aaw ee eew H.size n1 f1 n3 f3 h_30 h_31 h_32) (cwV 1 hts (lw_V q397 q376 q377 q65 q378) rfl rfl rfl (by decide +kernel) ⟨Nat.le_of_ble_eq_true rfl, Nat.le_of_ble_eq_true rfl⟩) ⟨fun a U g mk q => by obtain ⟨q0, q1, qP, qK, qD⟩ := q; exact ⟨q0, q1, qP, va_K.moved (u := U) (U := U.calling g mk a) (Vm.Alike.refl U.vm) qK, qD⟩, va_recv hK hPc (ci := 2) (q0 := 0) rfl rfl, fun U hU hW => ⟨rfl, by rw [hU], by rw [hU]; exact hPc, va_K.moved hW.alike hK, hDc.weaken (fun _ _ _ _ => trivial)⟩⟩ rfl rfl hl.1 rfl (lv_room (Nat.le_of_ble_eq_true rfl)) dX7_divide_88 ⟨Nat.le_of_ble_eq_true rfl, Nat.le_of_ble_eq_true rfl⟩) hS (fun q _ h => hFc q h) hFc (fun u t H1 locs ht hvm hw hB hz1 hk1 hS => ?_)
          obtain ⟨n1_88, f1_88⟩ := u
          obtain ⟨p0_88, p1_88⟩ : (OKw n1_88 f1_88) ∧ (wN n1_88 f1_88 = wN n1 f1 - wN n3 f3) := hw
          obtain ⟨hP1, hK1, hD1⟩ := hB
          rw [ht] at hP1
          obtain ⟨hP, hD⟩ := va_join (wr := [(bb, .inr (2, [.ref bbw, .int (I3 nbb)])), (bbw, .inl (dA 0, 36, .inl (iA fbb))), (cc, .inr (2, [.ref ccw, .int (I3 (nq / 32 + 1))])), (ccw, .inl (dA 0, 36, .inl (iA f2)))]) (w1 := [(aa, .inr (2, [.ref aaw, .int (I3 n1_88)])), (aaw, .inl (dA 0, 36, .inl (iA f1_88))), (ee, .inr (2, [.ref eew, .int (I3 n3)])), (eew, .inl (dA 0, 36, .inl (iA f3)))]) hP hD [0, 1, 6, 7] [2, 3, 4, 5] rfl rfl (by decide) (by decide) hk1 hFc hP1 hD1
          generalize H1 = H at hP hS ⊢
          have hP := hP.sub (ws' := [(aa, .inr (2, [.ref aaw, .int (I3 n1_88)])), (aaw, .inl (dA 0, 36, .inl (iA f1_88))), (bb, .inr (2, [.ref bbw, .int (I3 nbb)])), (bbw, .inl (dA 0, 36, .inl (iA fbb))), (cc, .inr (2, [.ref ccw, .int (I3 (nq / 32 + 1))])), (ccw, .inl (dA 0, 36, .inl (iA f2))), (ee, .inr (2, [.ref eew, .int (I3 n3)])), (eew, .inl (dA 0, 36, .inl (iA f3)))]) [4, 5, 0, 1, 2, 3, 6, 7] rfl
          have hD := hD.sub (ws' := [(aa, .inr (2, [.ref aaw, .int (I3 n1_88)])), (aaw, .inl (dA 0, 36, .inl (iA f1_88))), (bb, .inr (2, [.ref bbw, .int (I3 nbb)])), (bbw, .inl (dA 0, 36, .inl (iA fbb))), (cc, .inr (2, [.ref ccw, .int (I3 (nq / 32 + 1))])), (ccw, .inl (dA 0, 36, .inl (iA f2))), (ee, .inr (2, [.ref eew, .int (I3 n3)])), (eew, .inl (dA 0, 36, .inl (iA f3)))]) [4, 5, 0, 1, 2, 3, 6, 7] (by decide) rfl
          refine lv_aload_n hx hb dX7_divide_91 rfl (lv_at hl 2 rfl) ?_
          refine va_get (D := (dC, dI)) (ci := 2) (v := .ref ccw) (C := RX7) (T := TX7) (N := 2) hx hb hts in_X7 hown hK hP 4 rfl rfl 0 (by decide) (hts _ q135) (fun _ h9 => h9) rfl dX7_divide_92 ?_
          refine lv_iload hx hb dX7_divide_95 (lv_at hl 5 rfl) ?_
          refine lv_bipush (v := I3 (32)) hx hb dX7_divide_97 (by decide) ?_
          refine ix_idiv hx hb (by constructor <;> omega) (by first | decide | (constructor <;> omega)) (by first | decide | omega) (by omega) dX7_divide_99 ?_
          refine ix_ti (y := k / 32) (by exact Int.tdiv_eq_ediv_of_nonneg (by omega)) ?_
          refine lv_dup2_11 hx hb dX7_divide_100 rfl rfl ?_
          refine ix_iald hx hb hK hP 5 0 rfl rfl (Nat.le_of_ble_eq_true rfl) (by omega) dX7_divide_101 ?_
          refine lv_iconst (v := I3 (1)) hx hb dX7_divide_102 rfl ?_
          refine lv_iload hx hb dX7_divide_103 (lv_at hl 5 rfl) ?_
          refine lv_bipush (v := I3 (32)) hx hb dX7_divide_105 (by decide) ?_
          refine ix_irem hx hb (by constructor <;> omega) (by first | decide | (constructor <;> omega)) (by first | decide | omega) (by omega) dX7_divide_107 ?_
          refine ix_ti (y := k % 32) (by exact Int.tmod_eq_emod_of_nonneg (by omega)) ?_
          refine ix_ishl hx hb (by first | decide | omega) dX7_divide_108 ?_
          refine ix_ior hx hb dX7_divide_109 ?_
          refine ix_ci (y := f2 (k / 32) + 2 ^ (k % 32).toNat) (by exact hwq.1) ?_
          refine ix_iast hx hb hK hP hD hS 5 0 rfl rfl (Nat.le_of_ble_eq_true rfl) (by omega) dX7_divide_110 (fun H locs hP hD hS => ?_)
          have hP : va_P (dC, dI) vwCl [(aa, .inr (2, [.ref aaw, .int (I3 n1_88)])), (aaw, .inl (dA 0, 36, .inl (iA f1_88))), (bb, .inr (2, [.ref bbw, .int (I3 nbb)])), (bbw, .inl (dA 0, 36, .inl (iA fbb))), (cc, .inr (2, [.ref ccw, .int (I3 (nq / 32 + 1))])), (ccw, .inl (dA 0, 36, .inl (iA (uZ f2 (k / 32) (f2 (k / 32) + 2 ^ (k % 32).toNat))))), (ee, .inr (2, [.ref eew, .int (I3 n3)])), (eew, .inl (dA 0, 36, .inl (iA f3)))] H := hP
          have hD : va_D A [(aa, .inr (2, [.ref aaw, .int (I3 n1_88)])), (aaw, .inl (dA 0, 36, .inl (iA f1_88))), (bb, .inr (2, [.ref bbw, .int (I3 nbb)])), (bbw, .inl (dA 0, 36, .inl (iA fbb))), (cc, .inr (2, [.ref ccw, .int (I3 (nq / 32 + 1))])), (ccw, .inl (dA 0, 36, .inl (iA (uZ f2 (k / 32) (f2 (k / 32) + 2 ^ (k % 32).toNat))))), (ee, .inr (2, [.ref eew, .int (I3 n3)])), (eew, .inl (dA 0, 36, .inl (iA f3)))] := hD
          have e_33 : 0 ≤ k := by first | assumption | omega | (constructor <;> omega)
          have e_34 : wN n3 f3 = wN nbb fbb * 2 ^ k.toNat := by first | assumption | omega | (constructor <;> omega)
          have e_35 : OKw n1_88 f1_88 := by first | assumption | omega | (constructor <;> omega)
          have e_36 : Dg (uZ f2 (k / 32) (f2 (k / 32) + 2 ^ (k % 32).toNat)) := by exact Dg_uZ hD2 (by have := hD2 (k / 32); have := ppos (k % 32).toNat; omega) hwq.2.1
          have e_37 : wN (nq / 32 + 1) (uZ f2 (k / 32) (f2 (k / 32) + 2 ^ (k % 32).toNat)) * wN nbb fbb + wN n1_88 f1_88 = wN naa faa := by rw [hwq.2.2, p1_88, hSk]; exact hqd.1
          have e_38 : wN (nq / 32 + 1) (uZ f2 (k / 32) (f2 (k / 32) + 2 ^ (k % 32).toNat)) % 2 ^ k.toNat = 0 := by rw [hwq.2.2]; exact hqd.2.1
          have e_39 : wN n1_88 f1_88 < wN nbb fbb * 2 ^ k.toNat := by rw [p1_88, hSk]; exact hqd.2.2
          exact cut_111 n1_88 f1_88 (uZ f2 (k / 32) (f2 (k / 32) + 2 ^ (k % 32).toNat)) e_33 e_34 e_35 e_36 e_37 e_38 e_39 _ _ hP hD hS ls (lv_sub hl [0, 1, 2, 3, 4, 5] rfl)
  have cut_46 : ∀ (fuel_46 : Nat), ∀ (nq : Int) (k : Int) (f2 : Int → Int) (n3 : Int) (f3 : Int → Int), (0 ≤ nq ∧ nq = ((bl (wN naa faa) : Nat) : Int) - ((bl (wN nbb fbb) : Nat) : Int)) → (nq / 32 + 1 ≤ 36) → (0 ≤ k ∧ k ≤ nq / 32 + 1) → (Dg f2) → (∀ j : Int, 0 ≤ j → j < k → f2 j = 0) → (OKw n3 f3) → (wN n3 f3 = wN nbb fbb * 2 ^ nq.toNat) → ((nq / 32 + 1 - k).toNat < fuel_46) → ∀ (H : Heap) (locs : List Loc), va_P (dC, dI) vwCl [(aa, .inr (2, [.ref aaw, .int (I3 naa)])), (aaw, .inl (dA 0, 36, .inl (iA faa))), (bb, .inr (2, [.ref bbw, .int (I3 nbb)])), (bbw, .inl (dA 0, 36, .inl (iA fbb))), (cc, .inr (2, [.ref ccw, .int (I3 (nq / 32 + 1))])), (ccw, .inl (dA 0, 36, .inl (iA f2))), (ee, .inr (2, [.ref eew, .int (I3 n3)])), (eew, .inl (dA 0, 36, .inl (iA f3)))] H → va_D A [(aa, .inr (2, [.ref aaw, .int (I3 naa)])), (aaw, .inl (dA 0, 36, .inl (iA faa))), (bb, .inr (2, [.ref bbw, .int (I3 nbb)])), (bbw, .inl (dA 0, 36, .inl (iA fbb))), (cc, .inr (2, [.ref ccw, .int (I3 (nq / 32 + 1))])), (ccw, .inl (dA 0, 36, .inl (iA f2))), (ee, .inr (2, [.ref eew, .int (I3 n3)])), (eew, .inl (dA 0, 36, .inl (iA f3)))] → va_S A s.heap H locs → ∀ (ls : Array Slot), lv_has ls 6 [(0, .ref aa), (1, .ref bb), (2, .ref cc), (3, .ref ee), (4, .int (I3 nq)), (5, .int (I3 k))] → W p l e (headSpec (ws_ yX7_divide cX7_divide 6 none) ({ frames := 4, cells := 0, slots := 0, locals := 160 })).room s m ([.ref aa, .ref bb, .ref cc, .ref ee] : List Value).toArray below meth c H locs 0 0 (MQ below (QmetX7_divide dC dI dA A aa aaw bb bbw cc ccw ee eew naa faa nbb fbb ncc fcc nee fee) ([.ref aa, .ref bb, .ref cc, .ref ee] : List Value).toArray s 0 0 A) (F0 m 46 ls []) := by
    intro fuel_46
    induction fuel_46 with
    | zero =>
      intro nq k f2 n3 f3 hnq hq36 hk hD2 hz0 h3 hSn hm
      exact absurd hm (Nat.not_lt_zero _)
    | succ fuel_46 ih_46 =>
      intro nq k f2 n3 f3 hnq hq36 hk hD2 hz0 h3 hSn hm_46 H locs hP hD hS ls hl
      obtain ⟨⟨hn0, hn36⟩, hDa, htop⟩ := id haa
      obtain ⟨⟨hm0, hm36⟩, hDb, htopb⟩ := id hbb
      refine lv_iload hx hb dX7_divide_46 (lv_at hl 5 rfl) ?_
      refine lv_aload_n hx hb dX7_divide_48 rfl (lv_at hl 2 rfl) ?_
      refine va_get (D := (dC, dI)) (ci := 2) (v := .int (I3 (nq / 32 + 1))) (C := RX7) (T := TX7) (N := 2) hx hb hts in_X7 hown hK hP 4 rfl rfl 1 (by decide) (hts _ q137) (fun _ h9 => h9) rfl dX7_divide_49 ?_
      refine ix_icmp_ge (tgt := 69) hx hb (by first | assumption | decide | (constructor <;> omega)) (by first | assumption | decide | (constructor <;> omega)) dX7_divide_52 (by decide) (fun c_52 => ?_) (fun c_52 => ?_)
      · skip
        refine lv_iload hx hb dX7_divide_69 (lv_at hl 4 rfl) ?_
        refine lv_istore (lv' := [(5, .int (I3 nq)), (0, .ref aa), (1, .ref bb), (2, .ref cc), (3, .ref ee), (4, .int (I3 nq))]) hx hb dX7_divide_71 hl (by decide) rfl (fun ls hl => ?_)
        have e_40 : 0 ≤ nq ∧ nq = ((bl (wN naa faa) : Nat) : Int) - ((bl (wN nbb fbb) : Nat) : Int) := by first | assumption | omega | (constructor <;> omega)
        have e_41 : nq / 32 + 1 ≤ 36 := by first | assumption | omega | (constructor <;> omega)
        have e_42 : -1 ≤ nq ∧ nq ≤ nq := by first | assumption | omega | (constructor <;> omega)
        have e_43 : OKw naa faa := by first | assumption | omega | (constructor <;> omega)
        have e_44 : OKw n3 f3 := by first | assumption | omega | (constructor <;> omega)
        have e_45 : Dg f2 := by first | assumption | omega | (constructor <;> omega)
        have e_46 : wN n3 f3 = wN nbb fbb * 2 ^ (nq + 1).toNat / 2 := by rw [hSn, sh_1 hnq.1]
        have e_47 : wN (nq / 32 + 1) f2 * wN nbb fbb + wN naa faa = wN naa faa := by rw [w0_N (fun j j1 j2 => hz0 j j1 (by omega)), Nat.zero_mul, Nat.zero_add]
        have e_48 : wN (nq / 32 + 1) f2 % 2 ^ (nq + 1).toNat = 0 := by rw [w0_N (fun j j1 j2 => hz0 j j1 (by omega))]; exact Nat.zero_mod _
        have e_49 : wN naa faa < wN nbb fbb * 2 ^ (nq + 1).toNat := by exact qd_0 hB0 hnq.1 hnq.2
        exact cut_73 ((nq + 1).toNat + 1) nq nq naa faa f2 n3 f3 e_40 e_41 e_42 e_43 e_44 e_45 e_46 e_47 e_48 e_49 (Nat.lt_succ_self _) _ _ hP hD hS ls (lv_sub hl [1, 2, 3, 4, 5, 0] rfl)
      · skip
        refine lv_aload_n hx hb dX7_divide_55 rfl (lv_at hl 2 rfl) ?_
        refine va_get (D := (dC, dI)) (ci := 2) (v := .ref ccw) (C := RX7) (T := TX7) (N := 2) hx hb hts in_X7 hown hK hP 4 rfl rfl 0 (by decide) (hts _ q135) (fun _ h9 => h9) rfl dX7_divide_56 ?_
        refine lv_iload hx hb dX7_divide_59 (lv_at hl 5 rfl) ?_
        refine lv_iconst (v := I3 (0)) hx hb dX7_divide_61 rfl ?_
        refine ix_iast hx hb hK hP hD hS 5 0 rfl rfl (Nat.le_of_ble_eq_true rfl) (by omega) dX7_divide_62 (fun H locs hP hD hS => ?_)
        have hP : va_P (dC, dI) vwCl [(aa, .inr (2, [.ref aaw, .int (I3 naa)])), (aaw, .inl (dA 0, 36, .inl (iA faa))), (bb, .inr (2, [.ref bbw, .int (I3 nbb)])), (bbw, .inl (dA 0, 36, .inl (iA fbb))), (cc, .inr (2, [.ref ccw, .int (I3 (nq / 32 + 1))])), (ccw, .inl (dA 0, 36, .inl (iA (uZ f2 k 0)))), (ee, .inr (2, [.ref eew, .int (I3 n3)])), (eew, .inl (dA 0, 36, .inl (iA f3)))] H := hP
        have hD : va_D A [(aa, .inr (2, [.ref aaw, .int (I3 naa)])), (aaw, .inl (dA 0, 36, .inl (iA faa))), (bb, .inr (2, [.ref bbw, .int (I3 nbb)])), (bbw, .inl (dA 0, 36, .inl (iA fbb))), (cc, .inr (2, [.ref ccw, .int (I3 (nq / 32 + 1))])), (ccw, .inl (dA 0, 36, .inl (iA (uZ f2 k 0)))), (ee, .inr (2, [.ref eew, .int (I3 n3)])), (eew, .inl (dA 0, 36, .inl (iA f3)))] := hD
        refine lv_iinc (v := I3 (k + 1)) (lv' := [(5, .int (I3 (k + 1))), (0, .ref aa), (1, .ref bb), (2, .ref cc), (3, .ref ee), (4, .int (I3 nq))]) hx hb dX7_divide_63 hl (k := 5) rfl (I3_add _ _) (by decide) rfl (fun ls hl => ?_)
        refine lv_goto (tgt := 46) hx hb dX7_divide_66 (by decide) ?_
        have e_50 : 0 ≤ nq ∧ nq = ((bl (wN naa faa) : Nat) : Int) - ((bl (wN nbb fbb) : Nat) : Int) := by first | assumption | omega | (constructor <;> omega)
        have e_51 : nq / 32 + 1 ≤ 36 := by first | assumption | omega | (constructor <;> omega)
        have e_52 : 0 ≤ (k + 1) ∧ (k + 1) ≤ nq / 32 + 1 := by first | assumption | omega | (constructor <;> omega)
        have e_53 : Dg (uZ f2 k 0) := by exact Dg_uZ hD2 (by decide) (by decide)
        have e_54 : ∀ j : Int, 0 ≤ j → j < (k + 1) → (uZ f2 k 0) j = 0 := by intro j j1 j2; unfold uZ; split; rfl; exact hz0 j j1 (by omega)
        have e_55 : OKw n3 f3 := by first | assumption | omega | (constructor <;> omega)
        have e_56 : wN n3 f3 = wN nbb fbb * 2 ^ nq.toNat := by first | assumption | omega | (constructor <;> omega)
        have e_57 : (nq / 32 + 1 - (k + 1)).toNat < fuel_46 := by omega
        exact ih_46 nq (k + 1) (uZ f2 k 0) n3 f3 e_50 e_51 e_52 e_53 e_54 e_55 e_56 e_57 _ _ hP hD hS ls (lv_sub hl [1, 2, 3, 4, 5, 0] rfl)
  obtain ⟨⟨hn0, hn36⟩, hDa, htop⟩ := id haa
  obtain ⟨⟨hm0, hm36⟩, hDb, htopb⟩ := id hbb
  refine lv_aload_n hx hb dX7_divide_0 rfl (lv_at hl 0 rfl) ?_
  have h_58 : OKw naa faa := by first | assumption | omega | (constructor <;> omega)
  have hPc := hP.sub (ws' := [(aa, .inr (2, [.ref aaw, .int (I3 naa)])), (aaw, .inl (dA 0, 36, .inl (iA faa)))]) [0, 1] rfl
  have hDc := hD.sub (ws' := [(aa, .inr (2, [.ref aaw, .int (I3 naa)])), (aaw, .inl (dA 0, 36, .inl (iA faa)))]) [0, 1] (by decide) rfl
  have hFc := va_free (wc := [(aa, .inr (2, [.ref aaw, .int (I3 naa)])), (aaw, .inl (dA 0, 36, .inl (iA faa)))]) hD hS hA [0, 1] rfl
  refine va_calli (va_runV (As := []) (rest := []) ⟨hx, hb, hml, hown, hts⟩ (metX7_bits l dC dI dA aa aaw s.heap.size naa faa h_58) (cwV 0 hts (lw_V q387 q388 q389 q65 q390) rfl rfl rfl (by decide +kernel) ⟨Nat.le_of_ble_eq_true rfl, Nat.le_of_ble_eq_true rfl⟩) ⟨fun a U g mk q => by obtain ⟨q0, q1, qP, qK, qD⟩ := q; exact ⟨q0, q1, qP, va_K.moved (u := U) (U := U.calling g mk a) (Vm.Alike.refl U.vm) qK, qD⟩, va_recv hK hPc (ci := 2) (q0 := 0) rfl rfl, fun U hU hW => ⟨rfl, by rw [hU], by rw [hU]; exact hPc, va_K.moved hW.alike hK, hDc.weaken (fun _ _ _ _ => trivial)⟩⟩ rfl rfl hl.1 rfl (lv_room (Nat.le_of_ble_eq_true rfl)) dX7_divide_1 ⟨Nat.le_of_ble_eq_true rfl, Nat.le_of_ble_eq_true rfl⟩) hS (fun q _ h => hFc q h) hFc (fun r_1 u t H1 locs ht hvm hw hB hz1 hk1 hS => ?_)
  obtain ⟨z_1, rfl⟩ : ∃ z, z = u := ⟨_, rfl⟩
  obtain ⟨rfl, p0_1, p1_1⟩ : r_1 = I3 z_1 ∧ (z_1 = ((bl (wN naa faa) : Nat) : Int)) ∧ (0 ≤ z_1 ∧ z_1 ≤ 1152) := hw
  obtain ⟨hP1, hK1, hD1⟩ := hB
  rw [ht] at hP1
  obtain ⟨hP, hD⟩ := va_join (wr := [(bb, .inr (2, [.ref bbw, .int (I3 nbb)])), (bbw, .inl (dA 0, 36, .inl (iA fbb))), (cc, .inr (2, [.ref ccw, .int (I3 ncc)])), (ccw, .inl (dA 0, 36, .inl (iA fcc))), (ee, .inr (2, [.ref eew, .int (I3 nee)])), (eew, .inl (dA 0, 36, .inl (iA fee)))]) (w1 := [(aa, .inr (2, [.ref aaw, .int (I3 naa)])), (aaw, .inl (dA 0, 36, .inl (iA faa)))]) hP hD [0, 1] [2, 3, 4, 5, 6, 7] rfl rfl (by decide) (by decide) hk1 hFc hP1 hD1
  generalize H1 = H at hP hS ⊢
  have hP := hP.sub (ws' := [(aa, .inr (2, [.ref aaw, .int (I3 naa)])), (aaw, .inl (dA 0, 36, .inl (iA faa))), (bb, .inr (2, [.ref bbw, .int (I3 nbb)])), (bbw, .inl (dA 0, 36, .inl (iA fbb))), (cc, .inr (2, [.ref ccw, .int (I3 ncc)])), (ccw, .inl (dA 0, 36, .inl (iA fcc))), (ee, .inr (2, [.ref eew, .int (I3 nee)])), (eew, .inl (dA 0, 36, .inl (iA fee)))]) [6, 7, 0, 1, 2, 3, 4, 5] rfl
  have hD := hD.sub (ws' := [(aa, .inr (2, [.ref aaw, .int (I3 naa)])), (aaw, .inl (dA 0, 36, .inl (iA faa))), (bb, .inr (2, [.ref bbw, .int (I3 nbb)])), (bbw, .inl (dA 0, 36, .inl (iA fbb))), (cc, .inr (2, [.ref ccw, .int (I3 ncc)])), (ccw, .inl (dA 0, 36, .inl (iA fcc))), (ee, .inr (2, [.ref eew, .int (I3 nee)])), (eew, .inl (dA 0, 36, .inl (iA fee)))]) [6, 7, 0, 1, 2, 3, 4, 5] (by decide) rfl
  refine lv_aload_n hx hb dX7_divide_4 rfl (lv_at hl 1 rfl) ?_
  have h_59 : OKw nbb fbb := by first | assumption | omega | (constructor <;> omega)
  have hPc := hP.sub (ws' := [(bb, .inr (2, [.ref bbw, .int (I3 nbb)])), (bbw, .inl (dA 0, 36, .inl (iA fbb)))]) [2, 3] rfl
  have hDc := hD.sub (ws' := [(bb, .inr (2, [.ref bbw, .int (I3 nbb)])), (bbw, .inl (dA 0, 36, .inl (iA fbb)))]) [2, 3] (by decide) rfl
  have hFc := va_free (wc := [(bb, .inr (2, [.ref bbw, .int (I3 nbb)])), (bbw, .inl (dA 0, 36, .inl (iA fbb)))]) hD hS hA [2, 3] rfl
  refine va_calli (va_runV (As := []) (rest := [.int (I3 z_1)]) ⟨hx, hb, hml, hown, hts⟩ (metX7_bits l dC dI dA bb bbw H.size nbb fbb h_59) (cwV 0 hts (lw_V q387 q388 q389 q65 q390) rfl rfl rfl (by decide +kernel) ⟨Nat.le_of_ble_eq_true rfl, Nat.le_of_ble_eq_true rfl⟩) ⟨fun a U g mk q => by obtain ⟨q0, q1, qP, qK, qD⟩ := q; exact ⟨q0, q1, qP, va_K.moved (u := U) (U := U.calling g mk a) (Vm.Alike.refl U.vm) qK, qD⟩, va_recv hK hPc (ci := 2) (q0 := 0) rfl rfl, fun U hU hW => ⟨rfl, by rw [hU], by rw [hU]; exact hPc, va_K.moved hW.alike hK, hDc.weaken (fun _ _ _ _ => trivial)⟩⟩ rfl rfl hl.1 rfl (lv_room (Nat.le_of_ble_eq_true rfl)) dX7_divide_5 ⟨Nat.le_of_ble_eq_true rfl, Nat.le_of_ble_eq_true rfl⟩) hS (fun q _ h => hFc q h) hFc (fun r_5 u t H1 locs ht hvm hw hB hz1 hk1 hS => ?_)
  obtain ⟨z_5, rfl⟩ : ∃ z, z = u := ⟨_, rfl⟩
  obtain ⟨rfl, p0_5, p1_5⟩ : r_5 = I3 z_5 ∧ (z_5 = ((bl (wN nbb fbb) : Nat) : Int)) ∧ (0 ≤ z_5 ∧ z_5 ≤ 1152) := hw
  obtain ⟨hP1, hK1, hD1⟩ := hB
  rw [ht] at hP1
  obtain ⟨hP, hD⟩ := va_join (wr := [(aa, .inr (2, [.ref aaw, .int (I3 naa)])), (aaw, .inl (dA 0, 36, .inl (iA faa))), (cc, .inr (2, [.ref ccw, .int (I3 ncc)])), (ccw, .inl (dA 0, 36, .inl (iA fcc))), (ee, .inr (2, [.ref eew, .int (I3 nee)])), (eew, .inl (dA 0, 36, .inl (iA fee)))]) (w1 := [(bb, .inr (2, [.ref bbw, .int (I3 nbb)])), (bbw, .inl (dA 0, 36, .inl (iA fbb)))]) hP hD [2, 3] [0, 1, 4, 5, 6, 7] rfl rfl (by decide) (by decide) hk1 hFc hP1 hD1
  generalize H1 = H at hP hS ⊢
  have hP := hP.sub (ws' := [(aa, .inr (2, [.ref aaw, .int (I3 naa)])), (aaw, .inl (dA 0, 36, .inl (iA faa))), (bb, .inr (2, [.ref bbw, .int (I3 nbb)])), (bbw, .inl (dA 0, 36, .inl (iA fbb))), (cc, .inr (2, [.ref ccw, .int (I3 ncc)])), (ccw, .inl (dA 0, 36, .inl (iA fcc))), (ee, .inr (2, [.ref eew, .int (I3 nee)])), (eew, .inl (dA 0, 36, .inl (iA fee)))]) [0, 1, 6, 7, 2, 3, 4, 5] rfl
  have hD := hD.sub (ws' := [(aa, .inr (2, [.ref aaw, .int (I3 naa)])), (aaw, .inl (dA 0, 36, .inl (iA faa))), (bb, .inr (2, [.ref bbw, .int (I3 nbb)])), (bbw, .inl (dA 0, 36, .inl (iA fbb))), (cc, .inr (2, [.ref ccw, .int (I3 ncc)])), (ccw, .inl (dA 0, 36, .inl (iA fcc))), (ee, .inr (2, [.ref eew, .int (I3 nee)])), (eew, .inl (dA 0, 36, .inl (iA fee)))]) [0, 1, 6, 7, 2, 3, 4, 5] (by decide) rfl
  refine ix_isub hx hb dX7_divide_8 ?_
  refine ix_ni (fun nq enq => ?_)
  refine lv_istore (lv' := [(4, .int (I3 nq)), (0, .ref aa), (1, .ref bb), (2, .ref cc), (3, .ref ee)]) hx hb dX7_divide_9 hl (by decide) rfl (fun ls hl => ?_)
  refine lv_aload_n hx hb dX7_divide_11 rfl (lv_at hl 3 rfl) ?_
  refine lv_iconst (v := I3 (0)) hx hb dX7_divide_12 rfl ?_
  refine va_put (D := (dC, dI)) (ci := 2) (v := .int (I3 0)) (ty := .int) (C := RX7) (T := TX7) (N := 2) hx hb hts in_X7 tyX7 tyX7_ok nmX7 hown hK hP hD hS 4 rfl rfl 1 (by decide) (hts _ q137) (fun _ h9 => h9) rfl (by decide +kernel) rfl rfl (Nat.le_of_ble_eq_true rfl) dX7_divide_13 (fun H locs hP hD hS => ?_)
  have hP : va_P (dC, dI) vwCl [(aa, .inr (2, [.ref aaw, .int (I3 naa)])), (aaw, .inl (dA 0, 36, .inl (iA faa))), (bb, .inr (2, [.ref bbw, .int (I3 nbb)])), (bbw, .inl (dA 0, 36, .inl (iA fbb))), (cc, .inr (2, [.ref ccw, .int (I3 0)])), (ccw, .inl (dA 0, 36, .inl (iA fcc))), (ee, .inr (2, [.ref eew, .int (I3 nee)])), (eew, .inl (dA 0, 36, .inl (iA fee)))] H := hP
  have hD : va_D A [(aa, .inr (2, [.ref aaw, .int (I3 naa)])), (aaw, .inl (dA 0, 36, .inl (iA faa))), (bb, .inr (2, [.ref bbw, .int (I3 nbb)])), (bbw, .inl (dA 0, 36, .inl (iA fbb))), (cc, .inr (2, [.ref ccw, .int (I3 0)])), (ccw, .inl (dA 0, 36, .inl (iA fcc))), (ee, .inr (2, [.ref eew, .int (I3 nee)])), (eew, .inl (dA 0, 36, .inl (iA fee)))] := hD
  refine lv_iload hx hb dX7_divide_16 (lv_at hl 0 rfl) ?_
  refine ix_if_ge (tgt := 22) hx hb (by first | assumption | decide | (constructor <;> omega)) dX7_divide_18 (by decide) (fun c_18 => ?_) (fun c_18 => ?_)
  · skip
    have q1_ := wN_bl haa
    have q2_ := bl_pos hB0
    have hb9 := wN_sz hbb (b := bl (wN nbb fbb)) (Nat.le_refl _)
    have hb8 := bl_w hDb (show 0 < nbb by apply Classical.byContradiction; intro q; exact hB0 (by rw [show nbb = 0 by omega]; rfl)) (htopb (by apply Classical.byContradiction; intro q; exact hB0 (by rw [show nbb = 0 by omega]; rfl)))
    have hb7 := bl_pos (x := (fbb (nbb - 1)).toNat) (by have := hDb (nbb - 1); have := htopb (by apply Classical.byContradiction; intro q; exact hB0 (by rw [show nbb = 0 by omega]; rfl)); omega)
    have hup : nbb + nq / 32 + 1 ≤ 36 ∧ nq / 32 + 1 ≤ 36 ∧ nq < 100000 := by omega
    refine lv_aload_n hx hb dX7_divide_22 rfl (lv_at hl 4 rfl) ?_
    refine lv_aload_n hx hb dX7_divide_23 rfl (lv_at hl 2 rfl) ?_
    have h_60 : Dg fee := by first | assumption | omega | (constructor <;> omega)
    have h_61 : OKw nbb fbb := by first | assumption | omega | (constructor <;> omega)
    have hPc := hP.sub (ws' := [(ee, .inr (2, [.ref eew, .int (I3 nee)])), (eew, .inl (dA 0, 36, .inl (iA fee))), (bb, .inr (2, [.ref bbw, .int (I3 nbb)])), (bbw, .inl (dA 0, 36, .inl (iA fbb)))]) [6, 7, 2, 3] rfl
    have hDc := hD.sub (ws' := [(ee, .inr (2, [.ref eew, .int (I3 nee)])), (eew, .inl (dA 0, 36, .inl (iA fee))), (bb, .inr (2, [.ref bbw, .int (I3 nbb)])), (bbw, .inl (dA 0, 36, .inl (iA fbb)))]) [6, 7, 2, 3] (by decide) rfl
    have hFc := va_free (wc := [(ee, .inr (2, [.ref eew, .int (I3 nee)])), (eew, .inl (dA 0, 36, .inl (iA fee))), (bb, .inr (2, [.ref bbw, .int (I3 nbb)])), (bbw, .inl (dA 0, 36, .inl (iA fbb)))]) hD hS hA [6, 7, 2, 3] rfl
    refine va_callr (va_runV (As := [.ref bb]) (rest := []) ⟨hx, hb, hml, hown, hts⟩ (metX7_set_2 l dC dI dA ee eew bb bbw H.size nee fee nbb fbb h_60 h_61) (cwV 1 hts (lw_V q394 q335 q336 q65 q337) rfl rfl rfl (by decide +kernel) ⟨Nat.le_of_ble_eq_true rfl, Nat.le_of_ble_eq_true rfl⟩) ⟨fun a U g mk q => by obtain ⟨q0, q1, qP, qK, qD⟩ := q; exact ⟨q0, q1, qP, va_K.moved (u := U) (U := U.calling g mk a) (Vm.Alike.refl U.vm) qK, qD⟩, va_recv hK hPc (ci := 2) (q0 := 0) rfl rfl, fun U hU hW => ⟨rfl, by rw [hU], by rw [hU]; exact hPc, va_K.moved hW.alike hK, hDc.weaken (fun _ _ _ _ => trivial)⟩⟩ rfl rfl hl.1 rfl (lv_room (Nat.le_of_ble_eq_true rfl)) dX7_divide_24 ⟨Nat.le_of_ble_eq_true rfl, Nat.le_of_ble_eq_true rfl⟩) hS (fun q _ h => hFc q h) hFc (fun u ra_24 t H1 locs ht hvm hw hB hz1 hk1 hS => ?_)
    obtain ⟨n1_24, f1_24⟩ := u
    obtain ⟨p0_24, p1_24⟩ : (OKw n1_24 f1_24) ∧ (wN n1_24 f1_24 = wN nbb fbb) := hw
    obtain ⟨hra_24, hP1, hK1, hD1⟩ := hB
    subst ra_24
    rw [ht] at hP1
    obtain ⟨hP, hD⟩ := va_join (wr := [(aa, .inr (2, [.ref aaw, .int (I3 naa)])), (aaw, .inl (dA 0, 36, .inl (iA faa))), (cc, .inr (2, [.ref ccw, .int (I3 0)])), (ccw, .inl (dA 0, 36, .inl (iA fcc)))]) (w1 := [(ee, .inr (2, [.ref eew, .int (I3 n1_24)])), (eew, .inl (dA 0, 36, .inl (iA f1_24))), (bb, .inr (2, [.ref bbw, .int (I3 nbb)])), (bbw, .inl (dA 0, 36, .inl (iA fbb)))]) hP hD [6, 7, 2, 3] [0, 1, 4, 5] rfl rfl (by decide) (by decide) hk1 hFc hP1 hD1
    generalize H1 = H at hP hS ⊢
    have hP := hP.sub (ws' := [(aa, .inr (2, [.ref aaw, .int (I3 naa)])), (aaw, .inl (dA 0, 36, .inl (iA faa))), (bb, .inr (2, [.ref bbw, .int (I3 nbb)])), (bbw, .inl (dA 0, 36, .inl (iA fbb))), (cc, .inr (2, [.ref ccw, .int (I3 0)])), (ccw, .inl (dA 0, 36, .inl (iA fcc))), (ee, .inr (2, [.ref eew, .int (I3 n1_24)])), (eew, .inl (dA 0, 36, .inl (iA f1_24)))]) [0, 1, 6, 7, 2, 3, 4, 5] rfl
    have hD := hD.sub (ws' := [(aa, .inr (2, [.ref aaw, .int (I3 naa)])), (aaw, .inl (dA 0, 36, .inl (iA faa))), (bb, .inr (2, [.ref bbw, .int (I3 nbb)])), (bbw, .inl (dA 0, 36, .inl (iA fbb))), (cc, .inr (2, [.ref ccw, .int (I3 0)])), (ccw, .inl (dA 0, 36, .inl (iA fcc))), (ee, .inr (2, [.ref eew, .int (I3 n1_24)])), (eew, .inl (dA 0, 36, .inl (iA f1_24)))]) [0, 1, 6, 7, 2, 3, 4, 5] (by decide) rfl
    refine lv_iload hx hb dX7_divide_27 (lv_at hl 0 rfl) ?_
    have h_62 : OKw n1_24 f1_24 := by exact p0_24
    have h_63 : 0 ≤ nq ∧ nq < 100000 := by omega
    have h_64 : n1_24 = 0 ∨ n1_24 + nq / 32 + 1 ≤ 36 := by have hb10 := wN_sz p0_24 (b := bl (wN nbb fbb)) (by rw [p1_24]; exact Nat.le_refl _); omega
    have hPc := hP.sub (ws' := [(ee, .inr (2, [.ref eew, .int (I3 n1_24)])), (eew, .inl (dA 0, 36, .inl (iA f1_24)))]) [6, 7] rfl
    have hDc := hD.sub (ws' := [(ee, .inr (2, [.ref eew, .int (I3 n1_24)])), (eew, .inl (dA 0, 36, .inl (iA f1_24)))]) [6, 7] (by decide) rfl
    have hFc := va_free (wc := [(ee, .inr (2, [.ref eew, .int (I3 n1_24)])), (eew, .inl (dA 0, 36, .inl (iA f1_24)))]) hD hS hA [6, 7] rfl
    refine va_callv (va_runV (As := [.int (I3 nq)]) (rest := []) ⟨hx, hb, hml, hown, hts⟩ (metX7_up l dC dI dA ee eew H.size n1_24 f1_24 nq h_62 h_63 h_64) (cwV 1 hts (lw_V q395 q380 q381 q65 q382) rfl rfl rfl (by decide +kernel) ⟨Nat.le_of_ble_eq_true rfl, Nat.le_of_ble_eq_true rfl⟩) ⟨fun a U g mk q => by obtain ⟨q0, q1, qP, qK, qD⟩ := q; exact ⟨q0, q1, qP, va_K.moved (u := U) (U := U.calling g mk a) (Vm.Alike.refl U.vm) qK, qD⟩, va_recv hK hPc (ci := 2) (q0 := 0) rfl rfl, fun U hU hW => ⟨rfl, by rw [hU], by rw [hU]; exact hPc, va_K.moved hW.alike hK, hDc.weaken (fun _ _ _ _ => trivial)⟩⟩ rfl rfl hl.1 rfl (lv_room (Nat.le_of_ble_eq_true rfl)) dX7_divide_29 ⟨Nat.le_of_ble_eq_true rfl, Nat.le_of_ble_eq_true rfl⟩) hS (fun q _ h => hFc q h) hFc (fun u t H1 locs ht hvm hw hB hz1 hk1 hS => ?_)
    obtain ⟨n1_29, f1_29⟩ := u
    obtain ⟨p0_29, p1_29⟩ : (OKw n1_29 f1_29) ∧ (wN n1_29 f1_29 = wN n1_24 f1_24 * 2 ^ nq.toNat) := hw
    obtain ⟨hP1, hK1, hD1⟩ := hB
    rw [ht] at hP1
    obtain ⟨hP, hD⟩ := va_join (wr := [(aa, .inr (2, [.ref aaw, .int (I3 naa)])), (aaw, .inl (dA 0, 36, .inl (iA faa))), (bb, .inr (2, [.ref bbw, .int (I3 nbb)])), (bbw, .inl (dA 0, 36, .inl (iA fbb))), (cc, .inr (2, [.ref ccw, .int (I3 0)])), (ccw, .inl (dA 0, 36, .inl (iA fcc)))]) (w1 := [(ee, .inr (2, [.ref eew, .int (I3 n1_29)])), (eew, .inl (dA 0, 36, .inl (iA f1_29)))]) hP hD [6, 7] [0, 1, 2, 3, 4, 5] rfl rfl (by decide) (by decide) hk1 hFc hP1 hD1
    generalize H1 = H at hP hS ⊢
    have hP : va_P (dC, dI) vwCl [(aa, .inr (2, [.ref aaw, .int (I3 naa)])), (aaw, .inl (dA 0, 36, .inl (iA faa))), (bb, .inr (2, [.ref bbw, .int (I3 nbb)])), (bbw, .inl (dA 0, 36, .inl (iA fbb))), (cc, .inr (2, [.ref ccw, .int (I3 0)])), (ccw, .inl (dA 0, 36, .inl (iA fcc))), (ee, .inr (2, [.ref eew, .int (I3 n1_29)])), (eew, .inl (dA 0, 36, .inl (iA f1_29)))] H := hP
    have hD : va_D A [(aa, .inr (2, [.ref aaw, .int (I3 naa)])), (aaw, .inl (dA 0, 36, .inl (iA faa))), (bb, .inr (2, [.ref bbw, .int (I3 nbb)])), (bbw, .inl (dA 0, 36, .inl (iA fbb))), (cc, .inr (2, [.ref ccw, .int (I3 0)])), (ccw, .inl (dA 0, 36, .inl (iA fcc))), (ee, .inr (2, [.ref eew, .int (I3 n1_29)])), (eew, .inl (dA 0, 36, .inl (iA f1_29)))] := hD
    rw [p1_24] at p1_29
    refine lv_aload_n hx hb dX7_divide_32 rfl (lv_at hl 3 rfl) ?_
    refine lv_iload hx hb dX7_divide_33 (lv_at hl 0 rfl) ?_
    refine lv_bipush (v := I3 (32)) hx hb dX7_divide_35 (by decide) ?_
    refine ix_idiv hx hb (by constructor <;> omega) (by first | decide | (constructor <;> omega)) (by first | decide | omega) (by omega) dX7_divide_37 ?_
    refine ix_ti (y := nq / 32) (by exact Int.tdiv_eq_ediv_of_nonneg (by omega)) ?_
    refine lv_iconst (v := I3 (1)) hx hb dX7_divide_38 rfl ?_
    refine ix_iadd hx hb dX7_divide_39 ?_
    refine va_put (D := (dC, dI)) (ci := 2) (v := .int (I3 ((nq / 32) + 1))) (ty := .int) (C := RX7) (T := TX7) (N := 2) hx hb hts in_X7 tyX7 tyX7_ok nmX7 hown hK hP hD hS 4 rfl rfl 1 (by decide) (hts _ q137) (fun _ h9 => h9) rfl (by decide +kernel) rfl rfl (Nat.le_of_ble_eq_true rfl) dX7_divide_40 (fun H locs hP hD hS => ?_)
    have hP : va_P (dC, dI) vwCl [(aa, .inr (2, [.ref aaw, .int (I3 naa)])), (aaw, .inl (dA 0, 36, .inl (iA faa))), (bb, .inr (2, [.ref bbw, .int (I3 nbb)])), (bbw, .inl (dA 0, 36, .inl (iA fbb))), (cc, .inr (2, [.ref ccw, .int (I3 ((nq / 32) + 1))])), (ccw, .inl (dA 0, 36, .inl (iA fcc))), (ee, .inr (2, [.ref eew, .int (I3 n1_29)])), (eew, .inl (dA 0, 36, .inl (iA f1_29)))] H := hP
    have hD : va_D A [(aa, .inr (2, [.ref aaw, .int (I3 naa)])), (aaw, .inl (dA 0, 36, .inl (iA faa))), (bb, .inr (2, [.ref bbw, .int (I3 nbb)])), (bbw, .inl (dA 0, 36, .inl (iA fbb))), (cc, .inr (2, [.ref ccw, .int (I3 ((nq / 32) + 1))])), (ccw, .inl (dA 0, 36, .inl (iA fcc))), (ee, .inr (2, [.ref eew, .int (I3 n1_29)])), (eew, .inl (dA 0, 36, .inl (iA f1_29)))] := hD
    refine lv_iconst (v := I3 (0)) hx hb dX7_divide_43 rfl ?_
    refine lv_istore (lv' := [(5, .int (I3 0)), (4, .int (I3 nq)), (0, .ref aa), (1, .ref bb), (2, .ref cc), (3, .ref ee)]) hx hb dX7_divide_44 hl (by decide) rfl (fun ls hl => ?_)
    have e_65 : 0 ≤ nq ∧ nq = ((bl (wN naa faa) : Nat) : Int) - ((bl (wN nbb fbb) : Nat) : Int) := by first | assumption | omega | (constructor <;> omega)
    have e_66 : nq / 32 + 1 ≤ 36 := by first | assumption | omega | (constructor <;> omega)
    have e_67 : 0 ≤ (0 : Int) ∧ (0 : Int) ≤ nq / 32 + 1 := by first | assumption | omega | (constructor <;> omega)
    have e_68 : Dg fcc := by first | assumption | omega | (constructor <;> omega)
    have e_69 : ∀ j : Int, 0 ≤ j → j < (0 : Int) → fcc j = 0 := by intro j j1 j2; omega
    have e_70 : OKw n1_29 f1_29 := by first | assumption | omega | (constructor <;> omega)
    have e_71 : wN n1_29 f1_29 = wN nbb fbb * 2 ^ nq.toNat := by first | assumption | omega | (constructor <;> omega)
    exact cut_46 ((nq / 32 + 1 - (0 : Int)).toNat + 1) nq 0 fcc n1_29 f1_29 e_65 e_66 e_67 e_68 e_69 e_70 e_71 (Nat.lt_succ_self _) _ _ hP hD hS ls (lv_sub hl [2, 3, 4, 5, 1, 0] rfl)
  · skip
    have o_72 : OKw naa faa := by first | assumption | omega | (constructor <;> omega)
    have o_73 : wN naa faa = wN naa faa % wN nbb fbb := by exact (Nat.mod_eq_of_lt (bl_lt (by omega))).symm
    have o_74 : OKw (0 : Int) fcc := by exact ⟨by omega, hDcx, fun q => by omega⟩
    have o_75 : wN (0 : Int) fcc = wN naa faa / wN nbb fbb := by rw [wN_0]; exact (Nat.div_eq_of_lt (bl_lt (by omega))).symm
    have o_76 : Dg fee := by first | assumption | omega | (constructor <;> omega)
    exact W.vret hx hb hr (fun t ht hW => ⟨⟨(naa, faa, 0, fcc, nee, fee), rfl, ⟨o_72, o_73, o_74, o_75, o_76⟩, by rw [ht]; exact hP, va_K.moved hW.alike hK, hD⟩, hS.F ht⟩) hS.2.2 dX7_divide_21
