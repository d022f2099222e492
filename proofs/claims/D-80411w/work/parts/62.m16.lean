/-! the model: round -/
set_option maxRecDepth 100000
abbrev BmetX8_round (dC : Nat → ClassId) (dI : Nat → Nat → Nat) (dA : Nat → ClassId) (A : Nat → Prop) (am : Nat) (as_ : Nat) (av : Nat) (aw : Nat) (th : Int) (mn : Int) (sm : Int) (wd : Int) (lp : Int) (mp : Int) (re : Int) (SG : Int → Int) (VL : Int → Int) (wf : Int → Int) (its : Int) (dr : Int) : Int × (Int → Int) → State → Prop := fun u t => (fun (u : Int × (Int → Int)) => (fun (z : Int) (W1 : Int → Int) => va_P (dC, dI) vwCl [(am, .inr (0, [.int (I3 th), .int (I3 mn), .ref as_, .ref av, .ref aw, .int (I3 sm), .int (I3 wd), .int (I3 lp), .int (I3 mp), .int (I3 re)])), (as_, .inl (dA 0, 60, .inl (iA SG))), (av, .inl (dA 1, 960, .inr (.inl (lA VL)))), (aw, .inl (dA 1, 1024, .inr (.inl (lA W1))))] t.heap ∧ va_K (dC, dI) vwCl (tyA dA) t ∧ va_D A [(am, .inr (0, [.int (I3 th), .int (I3 mn), .ref as_, .ref av, .ref aw, .int (I3 sm), .int (I3 wd), .int (I3 lp), .int (I3 mp), .int (I3 re)])), (as_, .inl (dA 0, 60, .inl (iA SG))), (av, .inl (dA 1, 960, .inr (.inl (lA VL)))), (aw, .inl (dA 1, 1024, .inr (.inl (lA W1))))]) u.1 u.2) u
abbrev QmetX8_round (dC : Nat → ClassId) (dI : Nat → Nat → Nat) (dA : Nat → ClassId) (A : Nat → Prop) (am : Nat) (as_ : Nat) (av : Nat) (aw : Nat) (th : Int) (mn : Int) (sm : Int) (wd : Int) (lp : Int) (mp : Int) (re : Int) (SG : Int → Int) (VL : Int → Int) (wf : Int → Int) (its : Int) (dr : Int) := va_Ql (fun (rt_ : Int64) => fun (u : Int × (Int → Int)) => (fun (z : Int) (W1 : Int → Int) => rt_ = L6 z ∧ (Dg W1) ∧ (∃ q : Int, RQ wd lp (rv wf 2) (rv wf 3) q ∧ z = encS (2 ^ (wd - 1).toNat) lp mp (upS dr its (nS (rv wf 2) q) (dS (rv wf 3) q)) q (infS dr its))) u.1 u.2) (BmetX8_round dC dI dA A am as_ av aw th mn sm wd lp mp re SG VL wf its dr) A
set_option maxHeartbeats 16000000 in
set_option maxRecDepth 100000 in
/-- round -/
theorem metX8_round (l : Launch) (dC : Nat → ClassId) (dI : Nat → Nat → Nat) (dA : Nat → ClassId) (am : Nat) (as_ : Nat) (av : Nat) (aw : Nat) (sz : Nat) (th : Int) (mn : Int) (sm : Int) (wd : Int) (lp : Int) (mp : Int) (re : Int) (SG : Int → Int) (VL : Int → Int) (wf : Int → Int) (its : Int) (dr : Int) (hW : Dg wf) (hFM : FM wd lp mp) (hP2 : rv wf 2 ≠ 0) (hQ2 : rv wf 3 ≠ 0) (hszP : bl (rv wf 2) ≤ 1900) (hszQ : bl (rv wf 3) ≤ 1900) (hits : In3 its) (hdr : 0 ≤ dr ∧ dr ≤ 3) : Met l yX8_round (ws_ yX8_round cX8_round 10 (some .long)) ({ frames := 3, cells := 0, slots := 0, locals := 120 }) (va_Pc [.ref am, .int (I3 its), .int (I3 dr)] (fun U => U.heap.size = sz ∧ va_P (dC, dI) vwCl [(am, .inr (0, [.int (I3 th), .int (I3 mn), .ref as_, .ref av, .ref aw, .int (I3 sm), .int (I3 wd), .int (I3 lp), .int (I3 mp), .int (I3 re)])), (as_, .inl (dA 0, 60, .inl (iA SG))), (av, .inl (dA 1, 960, .inr (.inl (lA VL)))), (aw, .inl (dA 1, 1024, .inr (.inl (lA wf))))] U.heap ∧ va_K (dC, dI) vwCl (tyA dA) U ∧ va_D (fun _ => True) [(am, .inr (0, [.int (I3 th), .int (I3 mn), .ref as_, .ref av, .ref aw, .int (I3 sm), .int (I3 wd), .int (I3 lp), .int (I3 mp), .int (I3 re)])), (as_, .inl (dA 0, 60, .inl (iA SG))), (av, .inl (dA 1, 960, .inr (.inl (lA VL)))), (aw, .inl (dA 1, 1024, .inr (.inl (lA wf))))])) (QmetX8_round dC dI dA (va_A [(am, .inr (0, [.int (I3 th), .int (I3 mn), .ref as_, .ref av, .ref aw, .int (I3 sm), .int (I3 wd), .int (I3 lp), .int (I3 mp), .int (I3 re)])), (as_, .inl (dA 0, 60, .inl (iA SG))), (av, .inl (dA 1, 960, .inr (.inl (lA VL)))), (aw, .inl (dA 1, 1024, .inr (.inl (lA wf))))] sz) am as_ av aw th mn sm wd lp mp re SG VL wf its dr) 0 0 (va_A [(am, .inr (0, [.int (I3 th), .int (I3 mn), .ref as_, .ref av, .ref aw, .int (I3 sm), .int (I3 wd), .int (I3 lp), .int (I3 mp), .int (I3 re)])), (as_, .inl (dA 0, 60, .inl (iA SG))), (av, .inl (dA 1, 960, .inr (.inl (lA VL)))), (aw, .inl (dA 1, 1024, .inr (.inl (lA wf))))] sz) := by
  refine Met.ofW (cc := cX8_round) (maxL := 10) (ret := (some .long)) (by decide) rfl ?_
  intro p e s m args below meth c s₁ B hml hv
  obtain ⟨rfl, hsz, hP, hK, hD0⟩ := hv
  have hx := B.exec
  have hb := B.bytes
  have hr := B.returns
  have hts := atoms_spec (ws := (ws_ yX8_round cX8_round 10 (some .long))) B.pre
  have hts : ∀ w ∈ lw_all, w.before _ s = true := fun w h => hts w (List.mem_cons_of_mem _ h)
  have hown : s.vm.findClass RX8 = some m.cls := findClass_of_methodNamed B.named
  have hlocks := B.notSynchronized
  subst hsz
  have hD := hD0.self (sz := s.heap.size)
  generalize hAe : va_A [(am, .inr (0, [.int (I3 th), .int (I3 mn), .ref as_, .ref av, .ref aw, .int (I3 sm), .int (I3 wd), .int (I3 lp), .int (I3 mp), .int (I3 re)])), (as_, .inl (dA 0, 60, .inl (iA SG))), (av, .inl (dA 1, 960, .inr (.inl (lA VL)))), (aw, .inl (dA 1, 1024, .inr (.inl (lA wf))))] s.heap.size = A at hD ⊢
  have hA : ∀ q : Nat, s.heap.size ≤ q → A q := fun q h => by rw [← hAe]; exact Or.inr h
  have hS : va_S A s.heap s.heap [] := va_S.rf
  have hP : va_P (dC, dI) vwCl [(am, .inr (0, [.int (I3 th), .int (I3 mn), .ref as_, .ref av, .ref aw, .int (I3 sm), .int (I3 wd), .int (I3 lp), .int (I3 mp), .int (I3 re)])), (as_, .inl (dA 0, 60, .inl (iA SG))), (av, .inl (dA 1, 960, .inr (.inl (lA VL)))), (aw, .inl (dA 1, 1024, .inr (.inl (lA wf))))] s.heap := hP
  have hl := lv_entry ([.ref am, .int (I3 its), .int (I3 dr)]) (n := 10) (Nat.le_of_ble_eq_true rfl)
  rw [lg_entry_eq]
  generalize (lg_sl ([.ref am, .int (I3 its), .int (I3 dr)]) ++ List.replicate (10 - (lg_sl ([.ref am, .int (I3 its), .int (I3 dr)])).length) Slot.unset).toArray = ls at hl ⊢
  have hl : lv_has ls 10 [(0, .ref am), (1, .int (I3 its)), (2, .int (I3 dr))] := hl
  have cut_326 : ∀ (ti : Int) (m2 : Int) (b : Int) (W5 : Int → Int), (RQ wd lp (rv wf 2) (rv wf 3) b) → (-2000 ≤ b ∧ b ≤ 2100) → (ti = infS dr its) → (ti = 0 ∨ ti = 1) → (m2 = upS dr its (nS (rv wf 2) b) (dS (rv wf 3) b)) → (0 ≤ m2 ∧ m2 ≤ 2 ^ wd.toNat) → (Dg W5) → ∀ (H : Heap) (locs : List Loc), va_P (dC, dI) vwCl [(am, .inr (0, [.int (I3 th), .int (I3 mn), .ref as_, .ref av, .ref aw, .int (I3 sm), .int (I3 wd), .int (I3 lp), .int (I3 mp), .int (I3 re)])), (as_, .inl (dA 0, 60, .inl (iA SG))), (av, .inl (dA 1, 960, .inr (.inl (lA VL)))), (aw, .inl (dA 1, 1024, .inr (.inl (lA W5))))] H → va_D A [(am, .inr (0, [.int (I3 th), .int (I3 mn), .ref as_, .ref av, .ref aw, .int (I3 sm), .int (I3 wd), .int (I3 lp), .int (I3 mp), .int (I3 re)])), (as_, .inl (dA 0, 60, .inl (iA SG))), (av, .inl (dA 1, 960, .inr (.inl (lA VL)))), (aw, .inl (dA 1, 1024, .inr (.inl (lA W5))))] → va_S A s.heap H locs → ∀ (ls : Array Slot), lv_has ls 10 [(0, .ref am), (1, .int (I3 its)), (2, .int (I3 dr)), (3, .int (I3 b)), (4, .long (L6 m2))] → W p l e (headSpec (ws_ yX8_round cX8_round 10 (some .long)) ({ frames := 3, cells := 0, slots := 0, locals := 120 })).room s m ([.ref am, .int (I3 its), .int (I3 dr)] : List Value).toArray below meth c H locs 0 0 (MQ below (QmetX8_round dC dI dA A am as_ av aw th mn sm wd lp mp re SG VL wf its dr) ([.ref am, .int (I3 its), .int (I3 dr)] : List Value).toArray s 0 0 A) (F0 m 326 ls [.int (I3 ti)]) := by
    intro ti m2 b W5 hRQ hbr hti hti2 hm2 hm2r hW5 H locs hP hD hS ls hl
    obtain ⟨hT2, hT⟩ := FM_T hFM
    have hTp := ppos (wd - 1).toNat
    have hw1 : 1 ≤ wd ∧ wd ≤ 53 ∧ -1074 ≤ lp ∧ lp ≤ -149 ∧ mp ≤ 971 ∧ 104 ≤ mp := by omega
    have i_wd : In3 wd := ⟨by omega, by omega⟩
    have i_lp : In3 lp := ⟨by omega, by omega⟩
    have i_it : In3 its := hits
    have i_dr : In3 dr := ⟨by omega, by omega⟩
    have hmlt : ((mS (rv wf 2) (rv wf 3) b : Nat) : Int) < 2 ^ wd.toNat := by have h := hRQ.2.1; have h2 := pw_cast wd.toNat; omega
    have i_b : In3 b := ⟨by omega, by omega⟩
    refine lv_istore (lv' := [(9, .int (I3 ti)), (0, .ref am), (1, .int (I3 its)), (2, .int (I3 dr)), (3, .int (I3 b)), (4, .long (L6 m2))]) hx hb dX8_round_326 hl (by decide) rfl (fun ls hl => ?_)
    refine lv_aload_n hx hb dX8_round_328 rfl (lv_at hl 1 rfl) ?_
    refine lv_lload hx hb dX8_round_329 (lv_at hl 5 rfl) ?_
    refine lv_iload_n hx hb dX8_round_331 rfl (lv_at hl 4 rfl) ?_
    refine lv_iload hx hb dX8_round_332 (lv_at hl 0 rfl) ?_
    have h_1 : FM wd lp mp := by exact hFM
    have h_2 : 0 ≤ m2 ∧ m2 ≤ 2 ^ wd.toNat := by exact hm2r
    have h_3 : lp ≤ b ∧ b ≤ 100000 := by exact ⟨hRQ.1, by omega⟩
    have h_4 : ti = 0 ∨ ti = 1 := by exact hti2
    have hPc := hP.sub (ws' := [(am, .inr (0, [.int (I3 th), .int (I3 mn), .ref as_, .ref av, .ref aw, .int (I3 sm), .int (I3 wd), .int (I3 lp), .int (I3 mp), .int (I3 re)])), (as_, .inl (dA 0, 60, .inl (iA SG))), (av, .inl (dA 1, 960, .inr (.inl (lA VL)))), (aw, .inl (dA 1, 1024, .inr (.inl (lA W5))))]) [0, 1, 2, 3] rfl
    have hDc := hD.sub (ws' := [(am, .inr (0, [.int (I3 th), .int (I3 mn), .ref as_, .ref av, .ref aw, .int (I3 sm), .int (I3 wd), .int (I3 lp), .int (I3 mp), .int (I3 re)])), (as_, .inl (dA 0, 60, .inl (iA SG))), (av, .inl (dA 1, 960, .inr (.inl (lA VL)))), (aw, .inl (dA 1, 1024, .inr (.inl (lA W5))))]) [0, 1, 2, 3] (by decide) rfl
    have hFc := va_free (wc := [(am, .inr (0, [.int (I3 th), .int (I3 mn), .ref as_, .ref av, .ref aw, .int (I3 sm), .int (I3 wd), .int (I3 lp), .int (I3 mp), .int (I3 re)])), (as_, .inl (dA 0, 60, .inl (iA SG))), (av, .inl (dA 1, 960, .inr (.inl (lA VL)))), (aw, .inl (dA 1, 1024, .inr (.inl (lA W5))))]) hD hS hA [0, 1, 2, 3] rfl
    refine va_calll (va_runV (As := [.long (L6 m2), .int (I3 b), .int (I3 ti)]) (rest := []) ⟨hx, hb, hml, hown, hts⟩ (metX8_encode l dC dI dA am as_ av aw H.size th mn sm wd lp mp re SG VL W5 m2 b ti h_1 h_2 h_3 h_4) (cwV 3 hts (lw_V q1149 q1151 qs49 q66 q1152) rfl rfl rfl (by decide +kernel) ⟨Nat.le_of_ble_eq_true rfl, Nat.le_of_ble_eq_true rfl⟩) ⟨fun a U g mk q => by obtain ⟨q0, q1, qP, qK, qD⟩ := q; exact ⟨q0, q1, qP, va_K.moved (u := U) (U := U.calling g mk a) (Vm.Alike.refl U.vm) qK, qD⟩, va_recv hK hPc (ci := 0) (q0 := 0) rfl rfl, fun U hU hW => ⟨rfl, by rw [hU], by rw [hU]; exact hPc, va_K.moved hW.alike hK, hDc.weaken (fun _ _ _ _ => trivial)⟩⟩ rfl rfl hl.1 rfl (lv_room (Nat.le_of_ble_eq_true rfl)) dX8_round_334 ⟨Nat.le_of_ble_eq_true rfl, Nat.le_of_ble_eq_true rfl⟩) hS (fun q _ h => hFc q h) hFc (fun r_334 u t H1 locs ht hvm hw hB hz1 hk1 hS => ?_)
    obtain ⟨z_334, rfl⟩ : ∃ z, z = u := ⟨_, rfl⟩
    obtain ⟨rfl, p0_334⟩ : r_334 = L6 z_334 ∧ (z_334 = encS (2 ^ (wd - 1).toNat) lp mp m2 b ti) := hw
    obtain ⟨hP1, hK1, hD1⟩ := hB
    rw [ht] at hP1
    obtain ⟨hP, hD⟩ := va_join (wr := []) (w1 := [(am, .inr (0, [.int (I3 th), .int (I3 mn), .ref as_, .ref av, .ref aw, .int (I3 sm), .int (I3 wd), .int (I3 lp), .int (I3 mp), .int (I3 re)])), (as_, .inl (dA 0, 60, .inl (iA SG))), (av, .inl (dA 1, 960, .inr (.inl (lA VL)))), (aw, .inl (dA 1, 1024, .inr (.inl (lA W5))))]) hP hD [0, 1, 2, 3] [] rfl rfl (by decide) (by decide) hk1 hFc hP1 hD1
    generalize H1 = H at hP hS ⊢
    have hP : va_P (dC, dI) vwCl [(am, .inr (0, [.int (I3 th), .int (I3 mn), .ref as_, .ref av, .ref aw, .int (I3 sm), .int (I3 wd), .int (I3 lp), .int (I3 mp), .int (I3 re)])), (as_, .inl (dA 0, 60, .inl (iA SG))), (av, .inl (dA 1, 960, .inr (.inl (lA VL)))), (aw, .inl (dA 1, 1024, .inr (.inl (lA W5))))] H := hP
    have hD : va_D A [(am, .inr (0, [.int (I3 th), .int (I3 mn), .ref as_, .ref av, .ref aw, .int (I3 sm), .int (I3 wd), .int (I3 lp), .int (I3 mp), .int (I3 re)])), (as_, .inl (dA 0, 60, .inl (iA SG))), (av, .inl (dA 1, 960, .inr (.inl (lA VL)))), (aw, .inl (dA 1, 1024, .inr (.inl (lA W5))))] := hD
    have o_5 : Dg W5 := by first | assumption | omega | (constructor <;> omega)
    have o_6 : ∃ q : Int, RQ wd lp (rv wf 2) (rv wf 3) q ∧ z_334 = encS (2 ^ (wd - 1).toNat) lp mp (upS dr its (nS (rv wf 2) q) (dS (rv wf 3) q)) q (infS dr its) := by exact ⟨b, hRQ, by rw [← hm2, ← hti]; exact p0_334⟩
    exact W.lret (v := L6 z_334) hx hb hr (fun t ht hW => ⟨⟨L6 z_334, (z_334, W5), rfl, ⟨rfl, ⟨o_5, o_6⟩⟩, by rw [ht]; exact hP, va_K.moved hW.alike hK, hD⟩, hS.F ht⟩) hS.2.2 dX8_round_337
  have cut_296 : ∀ (ic : Int) (mm : Int) (b : Int) (W5 : Int → Int), (RQ wd lp (rv wf 2) (rv wf 3) b) → (-2000 ≤ b ∧ b ≤ 2100) → (mm = ((mS (rv wf 2) (rv wf 3) b : Nat) : Int)) → (ic = if goS dr its (nS (rv wf 2) b) (dS (rv wf 3) b) ∧ (nS (rv wf 2) b) % (dS (rv wf 3) b) ≠ 0 then 1 else 0) → (ic = 0 ∨ ic = 1) → (Dg W5) → ∀ (H : Heap) (locs : List Loc), va_P (dC, dI) vwCl [(am, .inr (0, [.int (I3 th), .int (I3 mn), .ref as_, .ref av, .ref aw, .int (I3 sm), .int (I3 wd), .int (I3 lp), .int (I3 mp), .int (I3 re)])), (as_, .inl (dA 0, 60, .inl (iA SG))), (av, .inl (dA 1, 960, .inr (.inl (lA VL)))), (aw, .inl (dA 1, 1024, .inr (.inl (lA W5))))] H → va_D A [(am, .inr (0, [.int (I3 th), .int (I3 mn), .ref as_, .ref av, .ref aw, .int (I3 sm), .int (I3 wd), .int (I3 lp), .int (I3 mp), .int (I3 re)])), (as_, .inl (dA 0, 60, .inl (iA SG))), (av, .inl (dA 1, 960, .inr (.inl (lA VL)))), (aw, .inl (dA 1, 1024, .inr (.inl (lA W5))))] → va_S A s.heap H locs → ∀ (ls : Array Slot), lv_has ls 10 [(0, .ref am), (1, .int (I3 its)), (2, .int (I3 dr)), (3, .int (I3 b))] → W p l e (headSpec (ws_ yX8_round cX8_round 10 (some .long)) ({ frames := 3, cells := 0, slots := 0, locals := 120 })).room s m ([.ref am, .int (I3 its), .int (I3 dr)] : List Value).toArray below meth c H locs 0 0 (MQ below (QmetX8_round dC dI dA A am as_ av aw th mn sm wd lp mp re SG VL wf its dr) ([.ref am, .int (I3 its), .int (I3 dr)] : List Value).toArray s 0 0 A) (F0 m 296 ls [.long (L6 ic), .long (L6 mm)]) := by
    intro ic mm b W5 hRQ hbr hm hic hic2 hW5 H locs hP hD hS ls hl
    obtain ⟨hT2, hT⟩ := FM_T hFM
    have hTp := ppos (wd - 1).toNat
    have hw1 : 1 ≤ wd ∧ wd ≤ 53 ∧ -1074 ≤ lp ∧ lp ≤ -149 ∧ mp ≤ 971 ∧ 104 ≤ mp := by omega
    have i_wd : In3 wd := ⟨by omega, by omega⟩
    have i_lp : In3 lp := ⟨by omega, by omega⟩
    have i_it : In3 its := hits
    have i_dr : In3 dr := ⟨by omega, by omega⟩
    have hmlt : ((mS (rv wf 2) (rv wf 3) b : Nat) : Int) < 2 ^ wd.toNat := by have h := hRQ.2.1; have h2 := pw_cast wd.toNat; omega
    have i_b : In3 b := ⟨by omega, by omega⟩
    refine ix_ladd hx hb dX8_round_296 ?_
    refine lv_lstore (lv' := [(4, .long (L6 (mm + ic))), (0, .ref am), (1, .int (I3 its)), (2, .int (I3 dr)), (3, .int (I3 b))]) hx hb dX8_round_297 hl (by decide) rfl (fun ls hl => ?_)
    refine lv_iload_n hx hb dX8_round_299 rfl (lv_at hl 3 rfl) ?_
    refine ix_if_eq (tgt := 321) hx hb (by first | assumption | decide | (constructor <;> omega)) dX8_round_300 (by decide) (fun c_300 => ?_) (fun c_300 => ?_)
    · skip
      refine lv_iconst (v := I3 (1)) hx hb dX8_round_321 rfl ?_
      refine lv_goto (tgt := 326) hx hb dX8_round_322 (by decide) ?_
      have e_7 : RQ wd lp (rv wf 2) (rv wf 3) b := by first | assumption | omega | (constructor <;> omega)
      have e_8 : -2000 ≤ b ∧ b ≤ 2100 := by first | assumption | omega | (constructor <;> omega)
      have e_9 : (1 : Int) = infS dr its := by unfold infS; first | (rw [if_pos (by omega)]; done) | (rw [if_neg (by omega)]; done)
      have e_10 : (1 : Int) = 0 ∨ (1 : Int) = 1 := by first | assumption | omega | (constructor <;> omega)
      have e_11 : (mm + ic) = upS dr its (nS (rv wf 2) b) (dS (rv wf 3) b) := by rw [hm, hic]; rfl
      have e_12 : 0 ≤ (mm + ic) ∧ (mm + ic) ≤ 2 ^ wd.toNat := by first | assumption | omega | (constructor <;> omega)
      have e_13 : Dg W5 := by first | assumption | omega | (constructor <;> omega)
      exact cut_326 1 (mm + ic) b W5 e_7 e_8 e_9 e_10 e_11 e_12 e_13 _ _ hP hD hS ls (lv_sub hl [1, 2, 3, 4, 0] rfl)
    · skip
      refine lv_iload_n hx hb dX8_round_303 rfl (lv_at hl 3 rfl) ?_
      refine lv_iconst (v := I3 (1)) hx hb dX8_round_304 rfl ?_
      refine ix_icmp_ne (tgt := 312) hx hb (by first | assumption | decide | (constructor <;> omega)) (by first | assumption | decide | (constructor <;> omega)) dX8_round_305 (by decide) (fun c_305 => ?_) (fun c_305 => ?_)
      · skip
        refine lv_iload_n hx hb dX8_round_312 rfl (lv_at hl 3 rfl) ?_
        refine lv_iconst (v := I3 (2)) hx hb dX8_round_313 rfl ?_
        refine ix_icmp_ne (tgt := 325) hx hb (by first | assumption | decide | (constructor <;> omega)) (by first | assumption | decide | (constructor <;> omega)) dX8_round_314 (by decide) (fun c_314 => ?_) (fun c_314 => ?_)
        · skip
          refine lv_iconst (v := I3 (0)) hx hb dX8_round_325 rfl ?_
          have e_14 : RQ wd lp (rv wf 2) (rv wf 3) b := by first | assumption | omega | (constructor <;> omega)
          have e_15 : -2000 ≤ b ∧ b ≤ 2100 := by first | assumption | omega | (constructor <;> omega)
          have e_16 : (0 : Int) = infS dr its := by unfold infS; first | (rw [if_pos (by omega)]; done) | (rw [if_neg (by omega)]; done)
          have e_17 : (0 : Int) = 0 ∨ (0 : Int) = 1 := by first | assumption | omega | (constructor <;> omega)
          have e_18 : (mm + ic) = upS dr its (nS (rv wf 2) b) (dS (rv wf 3) b) := by rw [hm, hic]; rfl
          have e_19 : 0 ≤ (mm + ic) ∧ (mm + ic) ≤ 2 ^ wd.toNat := by first | assumption | omega | (constructor <;> omega)
          have e_20 : Dg W5 := by first | assumption | omega | (constructor <;> omega)
          exact cut_326 0 (mm + ic) b W5 e_14 e_15 e_16 e_17 e_18 e_19 e_20 _ _ hP hD hS ls (lv_sub hl [1, 2, 3, 4, 0] rfl)
        · skip
          refine lv_iload_n hx hb dX8_round_317 rfl (lv_at hl 2 rfl) ?_
          refine ix_if_ge (tgt := 325) hx hb (by first | assumption | decide | (constructor <;> omega)) dX8_round_318 (by decide) (fun c_318 => ?_) (fun c_318 => ?_)
          · skip
            refine lv_iconst (v := I3 (0)) hx hb dX8_round_325 rfl ?_
            have e_21 : RQ wd lp (rv wf 2) (rv wf 3) b := by first | assumption | omega | (constructor <;> omega)
            have e_22 : -2000 ≤ b ∧ b ≤ 2100 := by first | assumption | omega | (constructor <;> omega)
            have e_23 : (0 : Int) = infS dr its := by unfold infS; first | (rw [if_pos (by omega)]; done) | (rw [if_neg (by omega)]; done)
            have e_24 : (0 : Int) = 0 ∨ (0 : Int) = 1 := by first | assumption | omega | (constructor <;> omega)
            have e_25 : (mm + ic) = upS dr its (nS (rv wf 2) b) (dS (rv wf 3) b) := by rw [hm, hic]; rfl
            have e_26 : 0 ≤ (mm + ic) ∧ (mm + ic) ≤ 2 ^ wd.toNat := by first | assumption | omega | (constructor <;> omega)
            have e_27 : Dg W5 := by first | assumption | omega | (constructor <;> omega)
            exact cut_326 0 (mm + ic) b W5 e_21 e_22 e_23 e_24 e_25 e_26 e_27 _ _ hP hD hS ls (lv_sub hl [1, 2, 3, 4, 0] rfl)
          · skip
            refine lv_iconst (v := I3 (1)) hx hb dX8_round_321 rfl ?_
            refine lv_goto (tgt := 326) hx hb dX8_round_322 (by decide) ?_
            have e_28 : RQ wd lp (rv wf 2) (rv wf 3) b := by first | assumption | omega | (constructor <;> omega)
            have e_29 : -2000 ≤ b ∧ b ≤ 2100 := by first | assumption | omega | (constructor <;> omega)
            have e_30 : (1 : Int) = infS dr its := by unfold infS; first | (rw [if_pos (by omega)]; done) | (rw [if_neg (by omega)]; done)
            have e_31 : (1 : Int) = 0 ∨ (1 : Int) = 1 := by first | assumption | omega | (constructor <;> omega)
            have e_32 : (mm + ic) = upS dr its (nS (rv wf 2) b) (dS (rv wf 3) b) := by rw [hm, hic]; rfl
            have e_33 : 0 ≤ (mm + ic) ∧ (mm + ic) ≤ 2 ^ wd.toNat := by first | assumption | omega | (constructor <;> omega)
            have e_34 : Dg W5 := by first | assumption | omega | (constructor <;> omega)
            exact cut_326 1 (mm + ic) b W5 e_28 e_29 e_30 e_31 e_32 e_33 e_34 _ _ hP hD hS ls (lv_sub hl [1, 2, 3, 4, 0] rfl)
      · skip
        refine lv_iload_n hx hb dX8_round_308 rfl (lv_at hl 2 rfl) ?_
        refine ix_if_gt (tgt := 321) hx hb (by first | assumption | decide | (constructor <;> omega)) dX8_round_309 (by decide) (fun c_309 => ?_) (fun c_309 => ?_)
        · skip
          refine lv_iconst (v := I3 (1)) hx hb dX8_round_321 rfl ?_
          refine lv_goto (tgt := 326) hx hb dX8_round_322 (by decide) ?_
          have e_35 : RQ wd lp (rv wf 2) (rv wf 3) b := by first | assumption | omega | (constructor <;> omega)
          have e_36 : -2000 ≤ b ∧ b ≤ 2100 := by first | assumption | omega | (constructor <;> omega)
          have e_37 : (1 : Int) = infS dr its := by unfold infS; first | (rw [if_pos (by omega)]; done) | (rw [if_neg (by omega)]; done)
          have e_38 : (1 : Int) = 0 ∨ (1 : Int) = 1 := by first | assumption | omega | (constructor <;> omega)
          have e_39 : (mm + ic) = upS dr its (nS (rv wf 2) b) (dS (rv wf 3) b) := by rw [hm, hic]; rfl
          have e_40 : 0 ≤ (mm + ic) ∧ (mm + ic) ≤ 2 ^ wd.toNat := by first | assumption | omega | (constructor <;> omega)
          have e_41 : Dg W5 := by first | assumption | omega | (constructor <;> omega)
          exact cut_326 1 (mm + ic) b W5 e_35 e_36 e_37 e_38 e_39 e_40 e_41 _ _ hP hD hS ls (lv_sub hl [1, 2, 3, 4, 0] rfl)
        · skip
          refine lv_iload_n hx hb dX8_round_312 rfl (lv_at hl 3 rfl) ?_
          refine lv_iconst (v := I3 (2)) hx hb dX8_round_313 rfl ?_
          refine ix_icmp_ne (tgt := 325) hx hb (by first | assumption | decide | (constructor <;> omega)) (by first | assumption | decide | (constructor <;> omega)) dX8_round_314 (by decide) (fun c_314 => ?_) (fun c_314 => ?_)
          · skip
            refine lv_iconst (v := I3 (0)) hx hb dX8_round_325 rfl ?_
            have e_42 : RQ wd lp (rv wf 2) (rv wf 3) b := by first | assumption | omega | (constructor <;> omega)
            have e_43 : -2000 ≤ b ∧ b ≤ 2100 := by first | assumption | omega | (constructor <;> omega)
            have e_44 : (0 : Int) = infS dr its := by unfold infS; first | (rw [if_pos (by omega)]; done) | (rw [if_neg (by omega)]; done)
            have e_45 : (0 : Int) = 0 ∨ (0 : Int) = 1 := by first | assumption | omega | (constructor <;> omega)
            have e_46 : (mm + ic) = upS dr its (nS (rv wf 2) b) (dS (rv wf 3) b) := by rw [hm, hic]; rfl
            have e_47 : 0 ≤ (mm + ic) ∧ (mm + ic) ≤ 2 ^ wd.toNat := by first | assumption | omega | (constructor <;> omega)
            have e_48 : Dg W5 := by first | assumption | omega | (constructor <;> omega)
            exact cut_326 0 (mm + ic) b W5 e_42 e_43 e_44 e_45 e_46 e_47 e_48 _ _ hP hD hS ls (lv_sub hl [1, 2, 3, 4, 0] rfl)
          · skip
            refine lv_iload_n hx hb dX8_round_317 rfl (lv_at hl 2 rfl) ?_
            refine ix_if_ge (tgt := 325) hx hb (by first | assumption | decide | (constructor <;> omega)) dX8_round_318 (by decide) (fun c_318 => ?_) (fun c_318 => ?_)
            · skip
              refine lv_iconst (v := I3 (0)) hx hb dX8_round_325 rfl ?_
              have e_49 : RQ wd lp (rv wf 2) (rv wf 3) b := by first | assumption | omega | (constructor <;> omega)
              have e_50 : -2000 ≤ b ∧ b ≤ 2100 := by first | assumption | omega | (constructor <;> omega)
              have e_51 : (0 : Int) = infS dr its := by unfold infS; first | (rw [if_pos (by omega)]; done) | (rw [if_neg (by omega)]; done)
              have e_52 : (0 : Int) = 0 ∨ (0 : Int) = 1 := by first | assumption | omega | (constructor <;> omega)
              have e_53 : (mm + ic) = upS dr its (nS (rv wf 2) b) (dS (rv wf 3) b) := by rw [hm, hic]; rfl
              have e_54 : 0 ≤ (mm + ic) ∧ (mm + ic) ≤ 2 ^ wd.toNat := by first | assumption | omega | (constructor <;> omega)
              have e_55 : Dg W5 := by first | assumption | omega | (constructor <;> omega)
              exact cut_326 0 (mm + ic) b W5 e_49 e_50 e_51 e_52 e_53 e_54 e_55 _ _ hP hD hS ls (lv_sub hl [1, 2, 3, 4, 0] rfl)
            · skip
              refine lv_iconst (v := I3 (1)) hx hb dX8_round_321 rfl ?_
              refine lv_goto (tgt := 326) hx hb dX8_round_322 (by decide) ?_
              have e_56 : RQ wd lp (rv wf 2) (rv wf 3) b := by first | assumption | omega | (constructor <;> omega)
              have e_57 : -2000 ≤ b ∧ b ≤ 2100 := by first | assumption | omega | (constructor <;> omega)
              have e_58 : (1 : Int) = infS dr its := by unfold infS; first | (rw [if_pos (by omega)]; done) | (rw [if_neg (by omega)]; done)
              have e_59 : (1 : Int) = 0 ∨ (1 : Int) = 1 := by first | assumption | omega | (constructor <;> omega)
              have e_60 : (mm + ic) = upS dr its (nS (rv wf 2) b) (dS (rv wf 3) b) := by rw [hm, hic]; rfl
              have e_61 : 0 ≤ (mm + ic) ∧ (mm + ic) ≤ 2 ^ wd.toNat := by first | assumption | omega | (constructor <;> omega)
              have e_62 : Dg W5 := by first | assumption | omega | (constructor <;> omega)
              exact cut_326 1 (mm + ic) b W5 e_56 e_57 e_58 e_59 e_60 e_61 e_62 _ _ hP hD hS ls (lv_sub hl [1, 2, 3, 4, 0] rfl)
  have cut_279 : ∀ (gu : Int) (rs : Int) (mm : Int) (b : Int) (W5 : Int → Int), (RQ wd lp (rv wf 2) (rv wf 3) b) → (-2000 ≤ b ∧ b ≤ 2100) → (mm = ((mS (rv wf 2) (rv wf 3) b : Nat) : Int)) → ((rs = 1 ∧ (nS (rv wf 2) b) % (dS (rv wf 3) b) ≠ 0) ∨ (rs = 0 ∧ (nS (rv wf 2) b) % (dS (rv wf 3) b) = 0)) → ((gu = 1 ∧ goS dr its (nS (rv wf 2) b) (dS (rv wf 3) b)) ∨ (gu = 0 ∧ ¬ goS dr its (nS (rv wf 2) b) (dS (rv wf 3) b))) → (Dg W5) → ∀ (H : Heap) (locs : List Loc), va_P (dC, dI) vwCl [(am, .inr (0, [.int (I3 th), .int (I3 mn), .ref as_, .ref av, .ref aw, .int (I3 sm), .int (I3 wd), .int (I3 lp), .int (I3 mp), .int (I3 re)])), (as_, .inl (dA 0, 60, .inl (iA SG))), (av, .inl (dA 1, 960, .inr (.inl (lA VL)))), (aw, .inl (dA 1, 1024, .inr (.inl (lA W5))))] H → va_D A [(am, .inr (0, [.int (I3 th), .int (I3 mn), .ref as_, .ref av, .ref aw, .int (I3 sm), .int (I3 wd), .int (I3 lp), .int (I3 mp), .int (I3 re)])), (as_, .inl (dA 0, 60, .inl (iA SG))), (av, .inl (dA 1, 960, .inr (.inl (lA VL)))), (aw, .inl (dA 1, 1024, .inr (.inl (lA W5))))] → va_S A s.heap H locs → ∀ (ls : Array Slot), lv_has ls 10 [(0, .ref am), (1, .int (I3 its)), (2, .int (I3 dr)), (3, .int (I3 b)), (4, .long (L6 mm)), (7, .int (I3 rs)), (8, .int (I3 gu))] → W p l e (headSpec (ws_ yX8_round cX8_round 10 (some .long)) ({ frames := 3, cells := 0, slots := 0, locals := 120 })).room s m ([.ref am, .int (I3 its), .int (I3 dr)] : List Value).toArray below meth c H locs 0 0 (MQ below (QmetX8_round dC dI dA A am as_ av aw th mn sm wd lp mp re SG VL wf its dr) ([.ref am, .int (I3 its), .int (I3 dr)] : List Value).toArray s 0 0 A) (F0 m 279 ls []) := by
    intro gu rs mm b W5 hRQ hbr hm hrs hgu hW5 H locs hP hD hS ls hl
    obtain ⟨hT2, hT⟩ := FM_T hFM
    have hTp := ppos (wd - 1).toNat
    have hw1 : 1 ≤ wd ∧ wd ≤ 53 ∧ -1074 ≤ lp ∧ lp ≤ -149 ∧ mp ≤ 971 ∧ 104 ≤ mp := by omega
    have i_wd : In3 wd := ⟨by omega, by omega⟩
    have i_lp : In3 lp := ⟨by omega, by omega⟩
    have i_it : In3 its := hits
    have i_dr : In3 dr := ⟨by omega, by omega⟩
    have hmlt : ((mS (rv wf 2) (rv wf 3) b : Nat) : Int) < 2 ^ wd.toNat := by have h := hRQ.2.1; have h2 := pw_cast wd.toNat; omega
    have i_b : In3 b := ⟨by omega, by omega⟩
    refine lv_lload hx hb dX8_round_279 (lv_at hl 4 rfl) ?_
    refine lv_iload hx hb dX8_round_281 (lv_at hl 6 rfl) ?_
    refine ix_if_eq (tgt := 295) hx hb (by first | assumption | decide | (constructor <;> omega)) dX8_round_283 (by decide) (fun c_283 => ?_) (fun c_283 => ?_)
    · skip
      refine lv_lconst (v := L6 0) hx hb dX8_round_295 (by decide) ?_
      have e_63 : RQ wd lp (rv wf 2) (rv wf 3) b := by first | assumption | omega | (constructor <;> omega)
      have e_64 : -2000 ≤ b ∧ b ≤ 2100 := by first | assumption | omega | (constructor <;> omega)
      have e_65 : mm = ((mS (rv wf 2) (rv wf 3) b : Nat) : Int) := by first | assumption | omega | (constructor <;> omega)
      have e_66 : (0 : Int) = if goS dr its (nS (rv wf 2) b) (dS (rv wf 3) b) ∧ (nS (rv wf 2) b) % (dS (rv wf 3) b) ≠ 0 then 1 else 0 := by rw [if_neg (fun h => absurd h.1 (by rcases hgu with ⟨g1, g2⟩ | ⟨g1, g2⟩; omega; exact g2))]
      have e_67 : (0 : Int) = 0 ∨ (0 : Int) = 1 := by first | assumption | omega | (constructor <;> omega)
      have e_68 : Dg W5 := by first | assumption | omega | (constructor <;> omega)
      exact cut_296 0 mm b W5 e_63 e_64 e_65 e_66 e_67 e_68 _ _ hP hD hS ls (lv_sub hl [0, 1, 2, 3] rfl)
    · skip
      refine lv_iload hx hb dX8_round_286 (lv_at hl 5 rfl) ?_
      refine ix_if_eq (tgt := 295) hx hb (by first | assumption | decide | (constructor <;> omega)) dX8_round_288 (by decide) (fun c_288 => ?_) (fun c_288 => ?_)
      · skip
        refine lv_lconst (v := L6 0) hx hb dX8_round_295 (by decide) ?_
        have e_69 : RQ wd lp (rv wf 2) (rv wf 3) b := by first | assumption | omega | (constructor <;> omega)
        have e_70 : -2000 ≤ b ∧ b ≤ 2100 := by first | assumption | omega | (constructor <;> omega)
        have e_71 : mm = ((mS (rv wf 2) (rv wf 3) b : Nat) : Int) := by first | assumption | omega | (constructor <;> omega)
        have e_72 : (0 : Int) = if goS dr its (nS (rv wf 2) b) (dS (rv wf 3) b) ∧ (nS (rv wf 2) b) % (dS (rv wf 3) b) ≠ 0 then 1 else 0 := by rw [if_neg (fun h => h.2 (by omega))]
        have e_73 : (0 : Int) = 0 ∨ (0 : Int) = 1 := by first | assumption | omega | (constructor <;> omega)
        have e_74 : Dg W5 := by first | assumption | omega | (constructor <;> omega)
        exact cut_296 0 mm b W5 e_69 e_70 e_71 e_72 e_73 e_74 _ _ hP hD hS ls (lv_sub hl [0, 1, 2, 3] rfl)
      · skip
        refine lv_lconst (v := L6 1) hx hb dX8_round_291 (by decide) ?_
        refine lv_goto (tgt := 296) hx hb dX8_round_292 (by decide) ?_
        have e_75 : RQ wd lp (rv wf 2) (rv wf 3) b := by first | assumption | omega | (constructor <;> omega)
        have e_76 : -2000 ≤ b ∧ b ≤ 2100 := by first | assumption | omega | (constructor <;> omega)
        have e_77 : mm = ((mS (rv wf 2) (rv wf 3) b : Nat) : Int) := by first | assumption | omega | (constructor <;> omega)
        have e_78 : (1 : Int) = if goS dr its (nS (rv wf 2) b) (dS (rv wf 3) b) ∧ (nS (rv wf 2) b) % (dS (rv wf 3) b) ≠ 0 then 1 else 0 := by rw [if_pos ⟨by rcases hgu with ⟨g1, g2⟩ | ⟨g1, g2⟩; exact g2; omega, by omega⟩]
        have e_79 : (1 : Int) = 0 ∨ (1 : Int) = 1 := by first | assumption | omega | (constructor <;> omega)
        have e_80 : Dg W5 := by first | assumption | omega | (constructor <;> omega)
        exact cut_296 1 mm b W5 e_75 e_76 e_77 e_78 e_79 e_80 _ _ hP hD hS ls (lv_sub hl [0, 1, 2, 3] rfl)
  have cut_230 : ∀ (gd : Int) (rs : Int) (mm : Int) (b : Int) (W5 : Int → Int), (RQ wd lp (rv wf 2) (rv wf 3) b) → (-2000 ≤ b ∧ b ≤ 2100) → (mm = ((mS (rv wf 2) (rv wf 3) b : Nat) : Int)) → ((rs = 1 ∧ (nS (rv wf 2) b) % (dS (rv wf 3) b) ≠ 0) ∨ (rs = 0 ∧ (nS (rv wf 2) b) % (dS (rv wf 3) b) = 0)) → ((gd = 1 ∧ ((dr = 1 ∧ 0 < its) ∨ (dr = 2 ∧ its < 0))) ∨ (gd = 0 ∧ ¬ ((dr = 1 ∧ 0 < its) ∨ (dr = 2 ∧ its < 0)))) → (Dg W5) → (rv W5 6 = (dS (rv wf 3) b)) → (rv W5 8 = (nS (rv wf 2) b) % (dS (rv wf 3) b)) → (2 * (dS (rv wf 3) b) < BN) → ∀ (H : Heap) (locs : List Loc), va_P (dC, dI) vwCl [(am, .inr (0, [.int (I3 th), .int (I3 mn), .ref as_, .ref av, .ref aw, .int (I3 sm), .int (I3 wd), .int (I3 lp), .int (I3 mp), .int (I3 re)])), (as_, .inl (dA 0, 60, .inl (iA SG))), (av, .inl (dA 1, 960, .inr (.inl (lA VL)))), (aw, .inl (dA 1, 1024, .inr (.inl (lA W5))))] H → va_D A [(am, .inr (0, [.int (I3 th), .int (I3 mn), .ref as_, .ref av, .ref aw, .int (I3 sm), .int (I3 wd), .int (I3 lp), .int (I3 mp), .int (I3 re)])), (as_, .inl (dA 0, 60, .inl (iA SG))), (av, .inl (dA 1, 960, .inr (.inl (lA VL)))), (aw, .inl (dA 1, 1024, .inr (.inl (lA W5))))] → va_S A s.heap H locs → ∀ (ls : Array Slot), lv_has ls 10 [(0, .ref am), (1, .int (I3 its)), (2, .int (I3 dr)), (3, .int (I3 b)), (4, .long (L6 mm)), (7, .int (I3 rs))] → W p l e (headSpec (ws_ yX8_round cX8_round 10 (some .long)) ({ frames := 3, cells := 0, slots := 0, locals := 120 })).room s m ([.ref am, .int (I3 its), .int (I3 dr)] : List Value).toArray below meth c H locs 0 0 (MQ below (QmetX8_round dC dI dA A am as_ av aw th mn sm wd lp mp re SG VL wf its dr) ([.ref am, .int (I3 its), .int (I3 dr)] : List Value).toArray s 0 0 A) (F0 m 230 ls [.int (I3 gd)]) := by
    intro gd rs mm b W5 hRQ hbr hm hrs hgd hW5 k6 k8 hd2 H locs hP hD hS ls hl
    obtain ⟨hT2, hT⟩ := FM_T hFM
    have hTp := ppos (wd - 1).toNat
    have hw1 : 1 ≤ wd ∧ wd ≤ 53 ∧ -1074 ≤ lp ∧ lp ≤ -149 ∧ mp ≤ 971 ∧ 104 ≤ mp := by omega
    have i_wd : In3 wd := ⟨by omega, by omega⟩
    have i_lp : In3 lp := ⟨by omega, by omega⟩
    have i_it : In3 its := hits
    have i_dr : In3 dr := ⟨by omega, by omega⟩
    have hmlt : ((mS (rv wf 2) (rv wf 3) b : Nat) : Int) < 2 ^ wd.toNat := by have h := hRQ.2.1; have h2 := pw_cast wd.toNat; omega
    have i_b : In3 b := ⟨by omega, by omega⟩
    refine lv_istore (lv' := [(8, .int (I3 gd)), (0, .ref am), (1, .int (I3 its)), (2, .int (I3 dr)), (3, .int (I3 b)), (4, .long (L6 mm)), (7, .int (I3 rs))]) hx hb dX8_round_230 hl (by decide) rfl (fun ls hl => ?_)
    refine lv_iload_n hx hb dX8_round_232 rfl (lv_at hl 3 rfl) ?_
    refine ix_if_ne (tgt := 279) hx hb (by first | assumption | decide | (constructor <;> omega)) dX8_round_233 (by decide) (fun c_233 => ?_) (fun c_233 => ?_)
    · skip
      have e_81 : RQ wd lp (rv wf 2) (rv wf 3) b := by first | assumption | omega | (constructor <;> omega)
      have e_82 : -2000 ≤ b ∧ b ≤ 2100 := by first | assumption | omega | (constructor <;> omega)
      have e_83 : mm = ((mS (rv wf 2) (rv wf 3) b : Nat) : Int) := by first | assumption | omega | (constructor <;> omega)
      have e_84 : (rs = 1 ∧ (nS (rv wf 2) b) % (dS (rv wf 3) b) ≠ 0) ∨ (rs = 0 ∧ (nS (rv wf 2) b) % (dS (rv wf 3) b) = 0) := by first | assumption | omega | (constructor <;> omega)
      have e_85 : (gd = 1 ∧ goS dr its (nS (rv wf 2) b) (dS (rv wf 3) b)) ∨ (gd = 0 ∧ ¬ goS dr its (nS (rv wf 2) b) (dS (rv wf 3) b)) := by rcases hgd with ⟨g1, g2⟩ | ⟨g1, g2⟩; exact Or.inl ⟨g1, by unfold goS; omega⟩; exact Or.inr ⟨g1, by unfold goS; omega⟩
      have e_86 : Dg W5 := by first | assumption | omega | (constructor <;> omega)
      exact cut_279 gd rs mm b W5 e_81 e_82 e_83 e_84 e_85 e_86 _ _ hP hD hS ls (lv_sub hl [1, 2, 3, 4, 5, 6, 0] rfl)
    · skip
      refine lv_aload_n hx hb dX8_round_236 rfl (lv_at hl 1 rfl) ?_
      refine lv_bipush (v := I3 (8)) hx hb dX8_round_237 (by decide) ?_
      refine lv_iconst (v := I3 (1)) hx hb dX8_round_239 rfl ?_
      have h_87 : 0 ≤ (8 : Int) ∧ (8 : Int) < 16 := by decide
      have h_88 : 0 ≤ (1 : Int) ∧ (1 : Int) < 2048 := by decide
      have h_89 : Dg W5 := by first | assumption | omega | (constructor <;> omega)
      have hPc := hP.sub (ws' := [(am, .inr (0, [.int (I3 th), .int (I3 mn), .ref as_, .ref av, .ref aw, .int (I3 sm), .int (I3 wd), .int (I3 lp), .int (I3 mp), .int (I3 re)])), (as_, .inl (dA 0, 60, .inl (iA SG))), (av, .inl (dA 1, 960, .inr (.inl (lA VL)))), (aw, .inl (dA 1, 1024, .inr (.inl (lA W5))))]) [0, 1, 2, 3] rfl
      have hDc := hD.sub (ws' := [(am, .inr (0, [.int (I3 th), .int (I3 mn), .ref as_, .ref av, .ref aw, .int (I3 sm), .int (I3 wd), .int (I3 lp), .int (I3 mp), .int (I3 re)])), (as_, .inl (dA 0, 60, .inl (iA SG))), (av, .inl (dA 1, 960, .inr (.inl (lA VL)))), (aw, .inl (dA 1, 1024, .inr (.inl (lA W5))))]) [0, 1, 2, 3] (by decide) rfl
      have hFc := va_free (wc := [(am, .inr (0, [.int (I3 th), .int (I3 mn), .ref as_, .ref av, .ref aw, .int (I3 sm), .int (I3 wd), .int (I3 lp), .int (I3 mp), .int (I3 re)])), (as_, .inl (dA 0, 60, .inl (iA SG))), (av, .inl (dA 1, 960, .inr (.inl (lA VL)))), (aw, .inl (dA 1, 1024, .inr (.inl (lA W5))))]) hD hS hA [0, 1, 2, 3] rfl
      refine va_callv (va_runV (As := [.int (I3 8), .int (I3 1)]) (rest := []) ⟨hx, hb, hml, hown, hts⟩ (metX8_up l dC dI dA am as_ av aw H.size th mn sm wd lp mp re SG VL W5 8 1 h_87 h_88 h_89) (cwV 2 hts (lw_V q1000 q1002 qs30 q66 q1003) rfl rfl rfl (by decide +kernel) ⟨Nat.le_of_ble_eq_true rfl, Nat.le_of_ble_eq_true rfl⟩) ⟨fun a U g mk q => by obtain ⟨q0, q1, qP, qK, qD⟩ := q; exact ⟨q0, q1, qP, va_K.moved (u := U) (U := U.calling g mk a) (Vm.Alike.refl U.vm) qK, qD⟩, va_recv hK hPc (ci := 0) (q0 := 0) rfl rfl, fun U hU hW => ⟨rfl, by rw [hU], by rw [hU]; exact hPc, va_K.moved hW.alike hK, hDc.weaken (fun _ _ _ _ => trivial)⟩⟩ rfl rfl hl.1 rfl (lv_room (Nat.le_of_ble_eq_true rfl)) dX8_round_240 ⟨Nat.le_of_ble_eq_true rfl, Nat.le_of_ble_eq_true rfl⟩) hS (fun q _ h => hFc q h) hFc (fun u t H1 locs ht hvm hw hB hz1 hk1 hS => ?_)
      obtain ⟨W1_240, rfl⟩ : ∃ z, z = u := ⟨_, rfl⟩
      obtain ⟨p0_240, p1_240, p2_240⟩ : (Dg W1_240) ∧ (Fr W5 W1_240 (8 : Int)) ∧ (rv W1_240 (8 : Int) = rv W5 (8 : Int) * 2 ^ (1 : Int).toNat % BN) := hw
      obtain ⟨hP1, hK1, hD1⟩ := hB
      rw [ht] at hP1
      obtain ⟨hP, hD⟩ := va_join (wr := []) (w1 := [(am, .inr (0, [.int (I3 th), .int (I3 mn), .ref as_, .ref av, .ref aw, .int (I3 sm), .int (I3 wd), .int (I3 lp), .int (I3 mp), .int (I3 re)])), (as_, .inl (dA 0, 60, .inl (iA SG))), (av, .inl (dA 1, 960, .inr (.inl (lA VL)))), (aw, .inl (dA 1, 1024, .inr (.inl (lA W1_240))))]) hP hD [0, 1, 2, 3] [] rfl rfl (by decide) (by decide) hk1 hFc hP1 hD1
      generalize H1 = H at hP hS ⊢
      have hP : va_P (dC, dI) vwCl [(am, .inr (0, [.int (I3 th), .int (I3 mn), .ref as_, .ref av, .ref aw, .int (I3 sm), .int (I3 wd), .int (I3 lp), .int (I3 mp), .int (I3 re)])), (as_, .inl (dA 0, 60, .inl (iA SG))), (av, .inl (dA 1, 960, .inr (.inl (lA VL)))), (aw, .inl (dA 1, 1024, .inr (.inl (lA W1_240))))] H := hP
      have hD : va_D A [(am, .inr (0, [.int (I3 th), .int (I3 mn), .ref as_, .ref av, .ref aw, .int (I3 sm), .int (I3 wd), .int (I3 lp), .int (I3 mp), .int (I3 re)])), (as_, .inl (dA 0, 60, .inl (iA SG))), (av, .inl (dA 1, 960, .inr (.inl (lA VL)))), (aw, .inl (dA 1, 1024, .inr (.inl (lA W1_240))))] := hD
      have h8 : rv W1_240 8 = nS (rv wf 2) b % dS (rv wf 3) b * 2 := by rw [p2_240, k8]; exact mod_BN (by have h := Nat.mod_lt (nS (rv wf 2) b) (dS_pos hQ2 b); rw [show (2 : Nat) ^ (1 : Int).toNat = 2 from rfl]; omega)
      have h6 : rv W1_240 6 = dS (rv wf 3) b := (Fr_rv p1_240 (by decide)).trans k6
      refine lv_aload_n hx hb dX8_round_243 rfl (lv_at hl 1 rfl) ?_
      refine lv_bipush (v := I3 (8)) hx hb dX8_round_244 (by decide) ?_
      refine lv_bipush (v := I3 (6)) hx hb dX8_round_246 (by decide) ?_
      have h_90 : 0 ≤ (8 : Int) ∧ (8 : Int) < 16 := by decide
      have h_91 : 0 ≤ (6 : Int) ∧ (6 : Int) < 16 := by decide
      have h_92 : Dg W1_240 := by first | assumption | omega | (constructor <;> omega)
      have hPc := hP.sub (ws' := [(am, .inr (0, [.int (I3 th), .int (I3 mn), .ref as_, .ref av, .ref aw, .int (I3 sm), .int (I3 wd), .int (I3 lp), .int (I3 mp), .int (I3 re)])), (as_, .inl (dA 0, 60, .inl (iA SG))), (av, .inl (dA 1, 960, .inr (.inl (lA VL)))), (aw, .inl (dA 1, 1024, .inr (.inl (lA W1_240))))]) [0, 1, 2, 3] rfl
      have hDc := hD.sub (ws' := [(am, .inr (0, [.int (I3 th), .int (I3 mn), .ref as_, .ref av, .ref aw, .int (I3 sm), .int (I3 wd), .int (I3 lp), .int (I3 mp), .int (I3 re)])), (as_, .inl (dA 0, 60, .inl (iA SG))), (av, .inl (dA 1, 960, .inr (.inl (lA VL)))), (aw, .inl (dA 1, 1024, .inr (.inl (lA W1_240))))]) [0, 1, 2, 3] (by decide) rfl
      have hFc := va_free (wc := [(am, .inr (0, [.int (I3 th), .int (I3 mn), .ref as_, .ref av, .ref aw, .int (I3 sm), .int (I3 wd), .int (I3 lp), .int (I3 mp), .int (I3 re)])), (as_, .inl (dA 0, 60, .inl (iA SG))), (av, .inl (dA 1, 960, .inr (.inl (lA VL)))), (aw, .inl (dA 1, 1024, .inr (.inl (lA W1_240))))]) hD hS hA [0, 1, 2, 3] rfl
      refine va_calli (va_runV (As := [.int (I3 8), .int (I3 6)]) (rest := []) ⟨hx, hb, hml, hown, hts⟩ (metX8_compare l dC dI dA am as_ av aw H.size th mn sm wd lp mp re SG VL W1_240 8 6 h_90 h_91 h_92) (cwV 2 hts (lw_V q988 q990 qs27 q66 q991) rfl rfl rfl (by decide +kernel) ⟨Nat.le_of_ble_eq_true rfl, Nat.le_of_ble_eq_true rfl⟩) ⟨fun a U g mk q => by obtain ⟨q0, q1, qP, qK, qD⟩ := q; exact ⟨q0, q1, qP, va_K.moved (u := U) (U := U.calling g mk a) (Vm.Alike.refl U.vm) qK, qD⟩, va_recv hK hPc (ci := 0) (q0 := 0) rfl rfl, fun U hU hW => ⟨rfl, by rw [hU], by rw [hU]; exact hPc, va_K.moved hW.alike hK, hDc.weaken (fun _ _ _ _ => trivial)⟩⟩ rfl rfl hl.1 rfl (lv_room (Nat.le_of_ble_eq_true rfl)) dX8_round_248 ⟨Nat.le_of_ble_eq_true rfl, Nat.le_of_ble_eq_true rfl⟩) hS (fun q _ h => hFc q h) hFc (fun r_248 u t H1 locs ht hvm hw hB hz1 hk1 hS => ?_)
      obtain ⟨z_248, rfl⟩ : ∃ z, z = u := ⟨_, rfl⟩
      obtain ⟨rfl, p0_248⟩ : r_248 = I3 z_248 ∧ (z_248 = cmpN (rv W1_240 (8 : Int)) (rv W1_240 (6 : Int))) := hw
      obtain ⟨hP1, hK1, hD1⟩ := hB
      rw [ht] at hP1
      obtain ⟨hP, hD⟩ := va_join (wr := []) (w1 := [(am, .inr (0, [.int (I3 th), .int (I3 mn), .ref as_, .ref av, .ref aw, .int (I3 sm), .int (I3 wd), .int (I3 lp), .int (I3 mp), .int (I3 re)])), (as_, .inl (dA 0, 60, .inl (iA SG))), (av, .inl (dA 1, 960, .inr (.inl (lA VL)))), (aw, .inl (dA 1, 1024, .inr (.inl (lA W1_240))))]) hP hD [0, 1, 2, 3] [] rfl rfl (by decide) (by decide) hk1 hFc hP1 hD1
      generalize H1 = H at hP hS ⊢
      have hP : va_P (dC, dI) vwCl [(am, .inr (0, [.int (I3 th), .int (I3 mn), .ref as_, .ref av, .ref aw, .int (I3 sm), .int (I3 wd), .int (I3 lp), .int (I3 mp), .int (I3 re)])), (as_, .inl (dA 0, 60, .inl (iA SG))), (av, .inl (dA 1, 960, .inr (.inl (lA VL)))), (aw, .inl (dA 1, 1024, .inr (.inl (lA W1_240))))] H := hP
      have hD : va_D A [(am, .inr (0, [.int (I3 th), .int (I3 mn), .ref as_, .ref av, .ref aw, .int (I3 sm), .int (I3 wd), .int (I3 lp), .int (I3 mp), .int (I3 re)])), (as_, .inl (dA 0, 60, .inl (iA SG))), (av, .inl (dA 1, 960, .inr (.inl (lA VL)))), (aw, .inl (dA 1, 1024, .inr (.inl (lA W1_240))))] := hD
      have q3 := cmpN3 p0_248
      rw [h8, h6] at q3
      have i_z : In3 z_248 := ⟨by omega, by omega⟩
      have hms : mS (rv wf 2) (rv wf 3) b = nS (rv wf 2) b / dS (rv wf 3) b := rfl
      refine lv_istore (lv' := [(9, .int (I3 z_248)), (8, .int (I3 gd)), (0, .ref am), (1, .int (I3 its)), (2, .int (I3 dr)), (3, .int (I3 b)), (4, .long (L6 mm)), (7, .int (I3 rs))]) hx hb dX8_round_251 hl (by decide) rfl (fun ls hl => ?_)
      refine lv_iload hx hb dX8_round_253 (lv_at hl 0 rfl) ?_
      refine ix_if_gt (tgt := 272) hx hb (by first | assumption | decide | (constructor <;> omega)) dX8_round_255 (by decide) (fun c_255 => ?_) (fun c_255 => ?_)
      · skip
        refine lv_iconst (v := I3 (1)) hx hb dX8_round_272 rfl ?_
        refine lv_goto (tgt := 277) hx hb dX8_round_273 (by decide) ?_
        refine lv_istore (lv' := [(8, .int (I3 1)), (9, .int (I3 z_248)), (0, .ref am), (1, .int (I3 its)), (2, .int (I3 dr)), (3, .int (I3 b)), (4, .long (L6 mm)), (7, .int (I3 rs))]) hx hb dX8_round_277 hl (by decide) rfl (fun ls hl => ?_)
        have e_93 : RQ wd lp (rv wf 2) (rv wf 3) b := by first | assumption | omega | (constructor <;> omega)
        have e_94 : -2000 ≤ b ∧ b ≤ 2100 := by first | assumption | omega | (constructor <;> omega)
        have e_95 : mm = ((mS (rv wf 2) (rv wf 3) b : Nat) : Int) := by first | assumption | omega | (constructor <;> omega)
        have e_96 : (rs = 1 ∧ (nS (rv wf 2) b) % (dS (rv wf 3) b) ≠ 0) ∨ (rs = 0 ∧ (nS (rv wf 2) b) % (dS (rv wf 3) b) = 0) := by first | assumption | omega | (constructor <;> omega)
        have e_97 : ((1 : Int) = 1 ∧ goS dr its (nS (rv wf 2) b) (dS (rv wf 3) b)) ∨ ((1 : Int) = 0 ∧ ¬ goS dr its (nS (rv wf 2) b) (dS (rv wf 3) b)) := by first | (refine Or.inl ⟨rfl, ?_⟩; unfold goS; omega) | (refine Or.inr ⟨rfl, ?_⟩; unfold goS; omega)
        have e_98 : Dg W1_240 := by first | assumption | omega | (constructor <;> omega)
        exact cut_279 1 rs mm b W1_240 e_93 e_94 e_95 e_96 e_97 e_98 _ _ hP hD hS ls (lv_sub hl [2, 3, 4, 5, 6, 7, 0] rfl)
      · skip
        refine lv_iload hx hb dX8_round_258 (lv_at hl 0 rfl) ?_
        refine ix_if_ne (tgt := 276) hx hb (by first | assumption | decide | (constructor <;> omega)) dX8_round_260 (by decide) (fun c_260 => ?_) (fun c_260 => ?_)
        · skip
          refine lv_iconst (v := I3 (0)) hx hb dX8_round_276 rfl ?_
          refine lv_istore (lv' := [(8, .int (I3 0)), (9, .int (I3 z_248)), (0, .ref am), (1, .int (I3 its)), (2, .int (I3 dr)), (3, .int (I3 b)), (4, .long (L6 mm)), (7, .int (I3 rs))]) hx hb dX8_round_277 hl (by decide) rfl (fun ls hl => ?_)
          have e_99 : RQ wd lp (rv wf 2) (rv wf 3) b := by first | assumption | omega | (constructor <;> omega)
          have e_100 : -2000 ≤ b ∧ b ≤ 2100 := by first | assumption | omega | (constructor <;> omega)
          have e_101 : mm = ((mS (rv wf 2) (rv wf 3) b : Nat) : Int) := by first | assumption | omega | (constructor <;> omega)
          have e_102 : (rs = 1 ∧ (nS (rv wf 2) b) % (dS (rv wf 3) b) ≠ 0) ∨ (rs = 0 ∧ (nS (rv wf 2) b) % (dS (rv wf 3) b) = 0) := by first | assumption | omega | (constructor <;> omega)
          have e_103 : ((0 : Int) = 1 ∧ goS dr its (nS (rv wf 2) b) (dS (rv wf 3) b)) ∨ ((0 : Int) = 0 ∧ ¬ goS dr its (nS (rv wf 2) b) (dS (rv wf 3) b)) := by first | (refine Or.inl ⟨rfl, ?_⟩; unfold goS; omega) | (refine Or.inr ⟨rfl, ?_⟩; unfold goS; omega)
          have e_104 : Dg W1_240 := by first | assumption | omega | (constructor <;> omega)
          exact cut_279 0 rs mm b W1_240 e_99 e_100 e_101 e_102 e_103 e_104 _ _ hP hD hS ls (lv_sub hl [2, 3, 4, 5, 6, 7, 0] rfl)
        · skip
          refine lv_lload hx hb dX8_round_263 (lv_at hl 6 rfl) ?_
          refine lv_lconst (v := L6 1) hx hb dX8_round_265 (by decide) ?_
          refine ix_landm hx hb 1 (by decide) (by decide) dX8_round_266 ?_
          refine ix_tl (y := mm % 2) rfl ?_
          refine lv_lconst (v := L6 1) hx hb dX8_round_267 (by decide) ?_
          refine ix_lcmp_ne (tgt := 276) hx hb (by constructor <;> omega) (by first | assumption | decide | (constructor <;> omega)) dX8_round_268 dX8_round_269 (by decide) (fun c_268 => ?_) (fun c_268 => ?_)
          · skip
            refine lv_iconst (v := I3 (0)) hx hb dX8_round_276 rfl ?_
            refine lv_istore (lv' := [(8, .int (I3 0)), (9, .int (I3 z_248)), (0, .ref am), (1, .int (I3 its)), (2, .int (I3 dr)), (3, .int (I3 b)), (4, .long (L6 mm)), (7, .int (I3 rs))]) hx hb dX8_round_277 hl (by decide) rfl (fun ls hl => ?_)
            have e_105 : RQ wd lp (rv wf 2) (rv wf 3) b := by first | assumption | omega | (constructor <;> omega)
            have e_106 : -2000 ≤ b ∧ b ≤ 2100 := by first | assumption | omega | (constructor <;> omega)
            have e_107 : mm = ((mS (rv wf 2) (rv wf 3) b : Nat) : Int) := by first | assumption | omega | (constructor <;> omega)
            have e_108 : (rs = 1 ∧ (nS (rv wf 2) b) % (dS (rv wf 3) b) ≠ 0) ∨ (rs = 0 ∧ (nS (rv wf 2) b) % (dS (rv wf 3) b) = 0) := by first | assumption | omega | (constructor <;> omega)
            have e_109 : ((0 : Int) = 1 ∧ goS dr its (nS (rv wf 2) b) (dS (rv wf 3) b)) ∨ ((0 : Int) = 0 ∧ ¬ goS dr its (nS (rv wf 2) b) (dS (rv wf 3) b)) := by first | (refine Or.inl ⟨rfl, ?_⟩; unfold goS; omega) | (refine Or.inr ⟨rfl, ?_⟩; unfold goS; omega)
            have e_110 : Dg W1_240 := by first | assumption | omega | (constructor <;> omega)
            exact cut_279 0 rs mm b W1_240 e_105 e_106 e_107 e_108 e_109 e_110 _ _ hP hD hS ls (lv_sub hl [2, 3, 4, 5, 6, 7, 0] rfl)
          · skip
            refine lv_iconst (v := I3 (1)) hx hb dX8_round_272 rfl ?_
            refine lv_goto (tgt := 277) hx hb dX8_round_273 (by decide) ?_
            refine lv_istore (lv' := [(8, .int (I3 1)), (9, .int (I3 z_248)), (0, .ref am), (1, .int (I3 its)), (2, .int (I3 dr)), (3, .int (I3 b)), (4, .long (L6 mm)), (7, .int (I3 rs))]) hx hb dX8_round_277 hl (by decide) rfl (fun ls hl => ?_)
            have e_111 : RQ wd lp (rv wf 2) (rv wf 3) b := by first | assumption | omega | (constructor <;> omega)
            have e_112 : -2000 ≤ b ∧ b ≤ 2100 := by first | assumption | omega | (constructor <;> omega)
            have e_113 : mm = ((mS (rv wf 2) (rv wf 3) b : Nat) : Int) := by first | assumption | omega | (constructor <;> omega)
            have e_114 : (rs = 1 ∧ (nS (rv wf 2) b) % (dS (rv wf 3) b) ≠ 0) ∨ (rs = 0 ∧ (nS (rv wf 2) b) % (dS (rv wf 3) b) = 0) := by first | assumption | omega | (constructor <;> omega)
            have e_115 : ((1 : Int) = 1 ∧ goS dr its (nS (rv wf 2) b) (dS (rv wf 3) b)) ∨ ((1 : Int) = 0 ∧ ¬ goS dr its (nS (rv wf 2) b) (dS (rv wf 3) b)) := by first | (refine Or.inl ⟨rfl, ?_⟩; unfold goS; omega) | (refine Or.inr ⟨rfl, ?_⟩; unfold goS; omega)
            have e_116 : Dg W1_240 := by first | assumption | omega | (constructor <;> omega)
            exact cut_279 1 rs mm b W1_240 e_111 e_112 e_113 e_114 e_115 e_116 _ _ hP hD hS ls (lv_sub hl [2, 3, 4, 5, 6, 7, 0] rfl)
  have cut_191 : ∀ (mm : Int) (b : Int) (mr : Int) (W5 : Int → Int), (RQ wd lp (rv wf 2) (rv wf 3) b) → (-2000 ≤ b ∧ b ≤ 2100) → (mm = ((mS (rv wf 2) (rv wf 3) b : Nat) : Int)) → (Dg W5) → (rv W5 6 = (dS (rv wf 3) b)) → (rv W5 8 = (nS (rv wf 2) b) % (dS (rv wf 3) b)) → (2 * (dS (rv wf 3) b) < BN) → ∀ (H : Heap) (locs : List Loc), va_P (dC, dI) vwCl [(am, .inr (0, [.int (I3 th), .int (I3 mn), .ref as_, .ref av, .ref aw, .int (I3 sm), .int (I3 wd), .int (I3 lp), .int (I3 mp), .int (I3 re)])), (as_, .inl (dA 0, 60, .inl (iA SG))), (av, .inl (dA 1, 960, .inr (.inl (lA VL)))), (aw, .inl (dA 1, 1024, .inr (.inl (lA W5))))] H → va_D A [(am, .inr (0, [.int (I3 th), .int (I3 mn), .ref as_, .ref av, .ref aw, .int (I3 sm), .int (I3 wd), .int (I3 lp), .int (I3 mp), .int (I3 re)])), (as_, .inl (dA 0, 60, .inl (iA SG))), (av, .inl (dA 1, 960, .inr (.inl (lA VL)))), (aw, .inl (dA 1, 1024, .inr (.inl (lA W5))))] → va_S A s.heap H locs → ∀ (ls : Array Slot), lv_has ls 10 [(0, .ref am), (1, .int (I3 its)), (2, .int (I3 dr)), (3, .int (I3 b)), (4, .long (L6 mm)), (6, .int (I3 mr))] → W p l e (headSpec (ws_ yX8_round cX8_round 10 (some .long)) ({ frames := 3, cells := 0, slots := 0, locals := 120 })).room s m ([.ref am, .int (I3 its), .int (I3 dr)] : List Value).toArray below meth c H locs 0 0 (MQ below (QmetX8_round dC dI dA A am as_ av aw th mn sm wd lp mp re SG VL wf its dr) ([.ref am, .int (I3 its), .int (I3 dr)] : List Value).toArray s 0 0 A) (F0 m 191 ls []) := by
    intro mm b mr W5 hRQ hbr hm hW5 k6 k8 hd2 H locs hP hD hS ls hl
    obtain ⟨hT2, hT⟩ := FM_T hFM
    have hTp := ppos (wd - 1).toNat
    have hw1 : 1 ≤ wd ∧ wd ≤ 53 ∧ -1074 ≤ lp ∧ lp ≤ -149 ∧ mp ≤ 971 ∧ 104 ≤ mp := by omega
    have i_wd : In3 wd := ⟨by omega, by omega⟩
    have i_lp : In3 lp := ⟨by omega, by omega⟩
    have i_it : In3 its := hits
    have i_dr : In3 dr := ⟨by omega, by omega⟩
    have hmlt : ((mS (rv wf 2) (rv wf 3) b : Nat) : Int) < 2 ^ wd.toNat := by have h := hRQ.2.1; have h2 := pw_cast wd.toNat; omega
    have i_b : In3 b := ⟨by omega, by omega⟩
    refine lv_aload_n hx hb dX8_round_191 rfl (lv_at hl 0 rfl) ?_
    refine lv_bipush (v := I3 (8)) hx hb dX8_round_192 (by decide) ?_
    have h_117 : 0 ≤ (8 : Int) ∧ (8 : Int) < 16 := by decide
    have h_118 : Dg W5 := by first | assumption | omega | (constructor <;> omega)
    have hPc := hP.sub (ws' := [(am, .inr (0, [.int (I3 th), .int (I3 mn), .ref as_, .ref av, .ref aw, .int (I3 sm), .int (I3 wd), .int (I3 lp), .int (I3 mp), .int (I3 re)])), (as_, .inl (dA 0, 60, .inl (iA SG))), (av, .inl (dA 1, 960, .inr (.inl (lA VL)))), (aw, .inl (dA 1, 1024, .inr (.inl (lA W5))))]) [0, 1, 2, 3] rfl
    have hDc := hD.sub (ws' := [(am, .inr (0, [.int (I3 th), .int (I3 mn), .ref as_, .ref av, .ref aw, .int (I3 sm), .int (I3 wd), .int (I3 lp), .int (I3 mp), .int (I3 re)])), (as_, .inl (dA 0, 60, .inl (iA SG))), (av, .inl (dA 1, 960, .inr (.inl (lA VL)))), (aw, .inl (dA 1, 1024, .inr (.inl (lA W5))))]) [0, 1, 2, 3] (by decide) rfl
    have hFc := va_free (wc := [(am, .inr (0, [.int (I3 th), .int (I3 mn), .ref as_, .ref av, .ref aw, .int (I3 sm), .int (I3 wd), .int (I3 lp), .int (I3 mp), .int (I3 re)])), (as_, .inl (dA 0, 60, .inl (iA SG))), (av, .inl (dA 1, 960, .inr (.inl (lA VL)))), (aw, .inl (dA 1, 1024, .inr (.inl (lA W5))))]) hD hS hA [0, 1, 2, 3] rfl
    refine va_calli (va_runV (As := [.int (I3 8)]) (rest := []) ⟨hx, hb, hml, hown, hts⟩ (metX8_isZero l dC dI dA am as_ av aw H.size th mn sm wd lp mp re SG VL W5 8 h_117 h_118) (cwV 1 hts (lw_V q968 q970 qs22 q66 q971) rfl rfl rfl (by decide +kernel) ⟨Nat.le_of_ble_eq_true rfl, Nat.le_of_ble_eq_true rfl⟩) ⟨fun a U g mk q => by obtain ⟨q0, q1, qP, qK, qD⟩ := q; exact ⟨q0, q1, qP, va_K.moved (u := U) (U := U.calling g mk a) (Vm.Alike.refl U.vm) qK, qD⟩, va_recv hK hPc (ci := 0) (q0 := 0) rfl rfl, fun U hU hW => ⟨rfl, by rw [hU], by rw [hU]; exact hPc, va_K.moved hW.alike hK, hDc.weaken (fun _ _ _ _ => trivial)⟩⟩ rfl rfl hl.1 rfl (lv_room (Nat.le_of_ble_eq_true rfl)) dX8_round_194 ⟨Nat.le_of_ble_eq_true rfl, Nat.le_of_ble_eq_true rfl⟩) hS (fun q _ h => hFc q h) hFc (fun r_194 u t H1 locs ht hvm hw hB hz1 hk1 hS => ?_)
    obtain ⟨z_194, rfl⟩ : ∃ z, z = u := ⟨_, rfl⟩
    obtain ⟨rfl, p0_194⟩ : r_194 = I3 z_194 ∧ (z_194 = if rv W5 (8 : Int) = 0 then 1 else 0) := hw
    obtain ⟨hP1, hK1, hD1⟩ := hB
    rw [ht] at hP1
    obtain ⟨hP, hD⟩ := va_join (wr := []) (w1 := [(am, .inr (0, [.int (I3 th), .int (I3 mn), .ref as_, .ref av, .ref aw, .int (I3 sm), .int (I3 wd), .int (I3 lp), .int (I3 mp), .int (I3 re)])), (as_, .inl (dA 0, 60, .inl (iA SG))), (av, .inl (dA 1, 960, .inr (.inl (lA VL)))), (aw, .inl (dA 1, 1024, .inr (.inl (lA W5))))]) hP hD [0, 1, 2, 3] [] rfl rfl (by decide) (by decide) hk1 hFc hP1 hD1
    generalize H1 = H at hP hS ⊢
    have hP : va_P (dC, dI) vwCl [(am, .inr (0, [.int (I3 th), .int (I3 mn), .ref as_, .ref av, .ref aw, .int (I3 sm), .int (I3 wd), .int (I3 lp), .int (I3 mp), .int (I3 re)])), (as_, .inl (dA 0, 60, .inl (iA SG))), (av, .inl (dA 1, 960, .inr (.inl (lA VL)))), (aw, .inl (dA 1, 1024, .inr (.inl (lA W5))))] H := hP
    have hD : va_D A [(am, .inr (0, [.int (I3 th), .int (I3 mn), .ref as_, .ref av, .ref aw, .int (I3 sm), .int (I3 wd), .int (I3 lp), .int (I3 mp), .int (I3 re)])), (as_, .inl (dA 0, 60, .inl (iA SG))), (av, .inl (dA 1, 960, .inr (.inl (lA VL)))), (aw, .inl (dA 1, 1024, .inr (.inl (lA W5))))] := hD
    have y_194 := b01 p0_194
    rw [k8] at y_194
    refine ix_if_ne (tgt := 204) hx hb (by first | assumption | decide | (constructor <;> omega)) dX8_round_197 (by decide) (fun c_197 => ?_) (fun c_197 => ?_)
    · skip
      refine lv_iconst (v := I3 (0)) hx hb dX8_round_204 rfl ?_
      refine lv_istore (lv' := [(7, .int (I3 0)), (0, .ref am), (1, .int (I3 its)), (2, .int (I3 dr)), (3, .int (I3 b)), (4, .long (L6 mm)), (6, .int (I3 mr))]) hx hb dX8_round_205 hl (by decide) rfl (fun ls hl => ?_)
      refine lv_iload_n hx hb dX8_round_207 rfl (lv_at hl 3 rfl) ?_
      refine lv_iconst (v := I3 (1)) hx hb dX8_round_208 rfl ?_
      refine ix_icmp_ne (tgt := 216) hx hb (by first | assumption | decide | (constructor <;> omega)) (by first | assumption | decide | (constructor <;> omega)) dX8_round_209 (by decide) (fun c_209 => ?_) (fun c_209 => ?_)
      · skip
        refine lv_iload_n hx hb dX8_round_216 rfl (lv_at hl 3 rfl) ?_
        refine lv_iconst (v := I3 (2)) hx hb dX8_round_217 rfl ?_
        refine ix_icmp_ne (tgt := 229) hx hb (by first | assumption | decide | (constructor <;> omega)) (by first | assumption | decide | (constructor <;> omega)) dX8_round_218 (by decide) (fun c_218 => ?_) (fun c_218 => ?_)
        · skip
          refine lv_iconst (v := I3 (0)) hx hb dX8_round_229 rfl ?_
          have e_119 : RQ wd lp (rv wf 2) (rv wf 3) b := by first | assumption | omega | (constructor <;> omega)
          have e_120 : -2000 ≤ b ∧ b ≤ 2100 := by first | assumption | omega | (constructor <;> omega)
          have e_121 : mm = ((mS (rv wf 2) (rv wf 3) b : Nat) : Int) := by first | assumption | omega | (constructor <;> omega)
          have e_122 : ((0 : Int) = 1 ∧ (nS (rv wf 2) b) % (dS (rv wf 3) b) ≠ 0) ∨ ((0 : Int) = 0 ∧ (nS (rv wf 2) b) % (dS (rv wf 3) b) = 0) := by first | assumption | omega | (constructor <;> omega)
          have e_123 : ((0 : Int) = 1 ∧ ((dr = 1 ∧ 0 < its) ∨ (dr = 2 ∧ its < 0))) ∨ ((0 : Int) = 0 ∧ ¬ ((dr = 1 ∧ 0 < its) ∨ (dr = 2 ∧ its < 0))) := by first | exact Or.inl ⟨rfl, by omega⟩ | exact Or.inr ⟨rfl, by omega⟩
          have e_124 : Dg W5 := by first | assumption | omega | (constructor <;> omega)
          have e_125 : rv W5 6 = (dS (rv wf 3) b) := by first | assumption | omega | (constructor <;> omega)
          have e_126 : rv W5 8 = (nS (rv wf 2) b) % (dS (rv wf 3) b) := by first | assumption | omega | (constructor <;> omega)
          have e_127 : 2 * (dS (rv wf 3) b) < BN := by first | assumption | omega | (constructor <;> omega)
          exact cut_230 0 0 mm b W5 e_119 e_120 e_121 e_122 e_123 e_124 e_125 e_126 e_127 _ _ hP hD hS ls (lv_sub hl [1, 2, 3, 4, 5, 0] rfl)
        · skip
          refine lv_iload_n hx hb dX8_round_221 rfl (lv_at hl 2 rfl) ?_
          refine ix_if_ge (tgt := 229) hx hb (by first | assumption | decide | (constructor <;> omega)) dX8_round_222 (by decide) (fun c_222 => ?_) (fun c_222 => ?_)
          · skip
            refine lv_iconst (v := I3 (0)) hx hb dX8_round_229 rfl ?_
            have e_128 : RQ wd lp (rv wf 2) (rv wf 3) b := by first | assumption | omega | (constructor <;> omega)
            have e_129 : -2000 ≤ b ∧ b ≤ 2100 := by first | assumption | omega | (constructor <;> omega)
            have e_130 : mm = ((mS (rv wf 2) (rv wf 3) b : Nat) : Int) := by first | assumption | omega | (constructor <;> omega)
            have e_131 : ((0 : Int) = 1 ∧ (nS (rv wf 2) b) % (dS (rv wf 3) b) ≠ 0) ∨ ((0 : Int) = 0 ∧ (nS (rv wf 2) b) % (dS (rv wf 3) b) = 0) := by first | assumption | omega | (constructor <;> omega)
            have e_132 : ((0 : Int) = 1 ∧ ((dr = 1 ∧ 0 < its) ∨ (dr = 2 ∧ its < 0))) ∨ ((0 : Int) = 0 ∧ ¬ ((dr = 1 ∧ 0 < its) ∨ (dr = 2 ∧ its < 0))) := by first | exact Or.inl ⟨rfl, by omega⟩ | exact Or.inr ⟨rfl, by omega⟩
            have e_133 : Dg W5 := by first | assumption | omega | (constructor <;> omega)
            have e_134 : rv W5 6 = (dS (rv wf 3) b) := by first | assumption | omega | (constructor <;> omega)
            have e_135 : rv W5 8 = (nS (rv wf 2) b) % (dS (rv wf 3) b) := by first | assumption | omega | (constructor <;> omega)
            have e_136 : 2 * (dS (rv wf 3) b) < BN := by first | assumption | omega | (constructor <;> omega)
            exact cut_230 0 0 mm b W5 e_128 e_129 e_130 e_131 e_132 e_133 e_134 e_135 e_136 _ _ hP hD hS ls (lv_sub hl [1, 2, 3, 4, 5, 0] rfl)
          · skip
            refine lv_iconst (v := I3 (1)) hx hb dX8_round_225 rfl ?_
            refine lv_goto (tgt := 230) hx hb dX8_round_226 (by decide) ?_
            have e_137 : RQ wd lp (rv wf 2) (rv wf 3) b := by first | assumption | omega | (constructor <;> omega)
            have e_138 : -2000 ≤ b ∧ b ≤ 2100 := by first | assumption | omega | (constructor <;> omega)
            have e_139 : mm = ((mS (rv wf 2) (rv wf 3) b : Nat) : Int) := by first | assumption | omega | (constructor <;> omega)
            have e_140 : ((0 : Int) = 1 ∧ (nS (rv wf 2) b) % (dS (rv wf 3) b) ≠ 0) ∨ ((0 : Int) = 0 ∧ (nS (rv wf 2) b) % (dS (rv wf 3) b) = 0) := by first | assumption | omega | (constructor <;> omega)
            have e_141 : ((1 : Int) = 1 ∧ ((dr = 1 ∧ 0 < its) ∨ (dr = 2 ∧ its < 0))) ∨ ((1 : Int) = 0 ∧ ¬ ((dr = 1 ∧ 0 < its) ∨ (dr = 2 ∧ its < 0))) := by first | exact Or.inl ⟨rfl, by omega⟩ | exact Or.inr ⟨rfl, by omega⟩
            have e_142 : Dg W5 := by first | assumption | omega | (constructor <;> omega)
            have e_143 : rv W5 6 = (dS (rv wf 3) b) := by first | assumption | omega | (constructor <;> omega)
            have e_144 : rv W5 8 = (nS (rv wf 2) b) % (dS (rv wf 3) b) := by first | assumption | omega | (constructor <;> omega)
            have e_145 : 2 * (dS (rv wf 3) b) < BN := by first | assumption | omega | (constructor <;> omega)
            exact cut_230 1 0 mm b W5 e_137 e_138 e_139 e_140 e_141 e_142 e_143 e_144 e_145 _ _ hP hD hS ls (lv_sub hl [1, 2, 3, 4, 5, 0] rfl)
      · skip
        refine lv_iload_n hx hb dX8_round_212 rfl (lv_at hl 2 rfl) ?_
        refine ix_if_gt (tgt := 225) hx hb (by first | assumption | decide | (constructor <;> omega)) dX8_round_213 (by decide) (fun c_213 => ?_) (fun c_213 => ?_)
        · skip
          refine lv_iconst (v := I3 (1)) hx hb dX8_round_225 rfl ?_
          refine lv_goto (tgt := 230) hx hb dX8_round_226 (by decide) ?_
          have e_146 : RQ wd lp (rv wf 2) (rv wf 3) b := by first | assumption | omega | (constructor <;> omega)
          have e_147 : -2000 ≤ b ∧ b ≤ 2100 := by first | assumption | omega | (constructor <;> omega)
          have e_148 : mm = ((mS (rv wf 2) (rv wf 3) b : Nat) : Int) := by first | assumption | omega | (constructor <;> omega)
          have e_149 : ((0 : Int) = 1 ∧ (nS (rv wf 2) b) % (dS (rv wf 3) b) ≠ 0) ∨ ((0 : Int) = 0 ∧ (nS (rv wf 2) b) % (dS (rv wf 3) b) = 0) := by first | assumption | omega | (constructor <;> omega)
          have e_150 : ((1 : Int) = 1 ∧ ((dr = 1 ∧ 0 < its) ∨ (dr = 2 ∧ its < 0))) ∨ ((1 : Int) = 0 ∧ ¬ ((dr = 1 ∧ 0 < its) ∨ (dr = 2 ∧ its < 0))) := by first | exact Or.inl ⟨rfl, by omega⟩ | exact Or.inr ⟨rfl, by omega⟩
          have e_151 : Dg W5 := by first | assumption | omega | (constructor <;> omega)
          have e_152 : rv W5 6 = (dS (rv wf 3) b) := by first | assumption | omega | (constructor <;> omega)
          have e_153 : rv W5 8 = (nS (rv wf 2) b) % (dS (rv wf 3) b) := by first | assumption | omega | (constructor <;> omega)
          have e_154 : 2 * (dS (rv wf 3) b) < BN := by first | assumption | omega | (constructor <;> omega)
          exact cut_230 1 0 mm b W5 e_146 e_147 e_148 e_149 e_150 e_151 e_152 e_153 e_154 _ _ hP hD hS ls (lv_sub hl [1, 2, 3, 4, 5, 0] rfl)
        · skip
          refine lv_iload_n hx hb dX8_round_216 rfl (lv_at hl 3 rfl) ?_
          refine lv_iconst (v := I3 (2)) hx hb dX8_round_217 rfl ?_
          refine ix_icmp_ne (tgt := 229) hx hb (by first | assumption | decide | (constructor <;> omega)) (by first | assumption | decide | (constructor <;> omega)) dX8_round_218 (by decide) (fun c_218 => ?_) (fun c_218 => ?_)
          · skip
            refine lv_iconst (v := I3 (0)) hx hb dX8_round_229 rfl ?_
            have e_155 : RQ wd lp (rv wf 2) (rv wf 3) b := by first | assumption | omega | (constructor <;> omega)
            have e_156 : -2000 ≤ b ∧ b ≤ 2100 := by first | assumption | omega | (constructor <;> omega)
            have e_157 : mm = ((mS (rv wf 2) (rv wf 3) b : Nat) : Int) := by first | assumption | omega | (constructor <;> omega)
            have e_158 : ((0 : Int) = 1 ∧ (nS (rv wf 2) b) % (dS (rv wf 3) b) ≠ 0) ∨ ((0 : Int) = 0 ∧ (nS (rv wf 2) b) % (dS (rv wf 3) b) = 0) := by first | assumption | omega | (constructor <;> omega)
            have e_159 : ((0 : Int) = 1 ∧ ((dr = 1 ∧ 0 < its) ∨ (dr = 2 ∧ its < 0))) ∨ ((0 : Int) = 0 ∧ ¬ ((dr = 1 ∧ 0 < its) ∨ (dr = 2 ∧ its < 0))) := by first | exact Or.inl ⟨rfl, by omega⟩ | exact Or.inr ⟨rfl, by omega⟩
            have e_160 : Dg W5 := by first | assumption | omega | (constructor <;> omega)
            have e_161 : rv W5 6 = (dS (rv wf 3) b) := by first | assumption | omega | (constructor <;> omega)
            have e_162 : rv W5 8 = (nS (rv wf 2) b) % (dS (rv wf 3) b) := by first | assumption | omega | (constructor <;> omega)
            have e_163 : 2 * (dS (rv wf 3) b) < BN := by first | assumption | omega | (constructor <;> omega)
            exact cut_230 0 0 mm b W5 e_155 e_156 e_157 e_158 e_159 e_160 e_161 e_162 e_163 _ _ hP hD hS ls (lv_sub hl [1, 2, 3, 4, 5, 0] rfl)
          · skip
            refine lv_iload_n hx hb dX8_round_221 rfl (lv_at hl 2 rfl) ?_
            refine ix_if_ge (tgt := 229) hx hb (by first | assumption | decide | (constructor <;> omega)) dX8_round_222 (by decide) (fun c_222 => ?_) (fun c_222 => ?_)
            · skip
              refine lv_iconst (v := I3 (0)) hx hb dX8_round_229 rfl ?_
              have e_164 : RQ wd lp (rv wf 2) (rv wf 3) b := by first | assumption | omega | (constructor <;> omega)
              have e_165 : -2000 ≤ b ∧ b ≤ 2100 := by first | assumption | omega | (constructor <;> omega)
              have e_166 : mm = ((mS (rv wf 2) (rv wf 3) b : Nat) : Int) := by first | assumption | omega | (constructor <;> omega)
              have e_167 : ((0 : Int) = 1 ∧ (nS (rv wf 2) b) % (dS (rv wf 3) b) ≠ 0) ∨ ((0 : Int) = 0 ∧ (nS (rv wf 2) b) % (dS (rv wf 3) b) = 0) := by first | assumption | omega | (constructor <;> omega)
              have e_168 : ((0 : Int) = 1 ∧ ((dr = 1 ∧ 0 < its) ∨ (dr = 2 ∧ its < 0))) ∨ ((0 : Int) = 0 ∧ ¬ ((dr = 1 ∧ 0 < its) ∨ (dr = 2 ∧ its < 0))) := by first | exact Or.inl ⟨rfl, by omega⟩ | exact Or.inr ⟨rfl, by omega⟩
              have e_169 : Dg W5 := by first | assumption | omega | (constructor <;> omega)
              have e_170 : rv W5 6 = (dS (rv wf 3) b) := by first | assumption | omega | (constructor <;> omega)
              have e_171 : rv W5 8 = (nS (rv wf 2) b) % (dS (rv wf 3) b) := by first | assumption | omega | (constructor <;> omega)
              have e_172 : 2 * (dS (rv wf 3) b) < BN := by first | assumption | omega | (constructor <;> omega)
              exact cut_230 0 0 mm b W5 e_164 e_165 e_166 e_167 e_168 e_169 e_170 e_171 e_172 _ _ hP hD hS ls (lv_sub hl [1, 2, 3, 4, 5, 0] rfl)
            · skip
              refine lv_iconst (v := I3 (1)) hx hb dX8_round_225 rfl ?_
              refine lv_goto (tgt := 230) hx hb dX8_round_226 (by decide) ?_
              have e_173 : RQ wd lp (rv wf 2) (rv wf 3) b := by first | assumption | omega | (constructor <;> omega)
              have e_174 : -2000 ≤ b ∧ b ≤ 2100 := by first | assumption | omega | (constructor <;> omega)
              have e_175 : mm = ((mS (rv wf 2) (rv wf 3) b : Nat) : Int) := by first | assumption | omega | (constructor <;> omega)
              have e_176 : ((0 : Int) = 1 ∧ (nS (rv wf 2) b) % (dS (rv wf 3) b) ≠ 0) ∨ ((0 : Int) = 0 ∧ (nS (rv wf 2) b) % (dS (rv wf 3) b) = 0) := by first | assumption | omega | (constructor <;> omega)
              have e_177 : ((1 : Int) = 1 ∧ ((dr = 1 ∧ 0 < its) ∨ (dr = 2 ∧ its < 0))) ∨ ((1 : Int) = 0 ∧ ¬ ((dr = 1 ∧ 0 < its) ∨ (dr = 2 ∧ its < 0))) := by first | exact Or.inl ⟨rfl, by omega⟩ | exact Or.inr ⟨rfl, by omega⟩
              have e_178 : Dg W5 := by first | assumption | omega | (constructor <;> omega)
              have e_179 : rv W5 6 = (dS (rv wf 3) b) := by first | assumption | omega | (constructor <;> omega)
              have e_180 : rv W5 8 = (nS (rv wf 2) b) % (dS (rv wf 3) b) := by first | assumption | omega | (constructor <;> omega)
              have e_181 : 2 * (dS (rv wf 3) b) < BN := by first | assumption | omega | (constructor <;> omega)
              exact cut_230 1 0 mm b W5 e_173 e_174 e_175 e_176 e_177 e_178 e_179 e_180 e_181 _ _ hP hD hS ls (lv_sub hl [1, 2, 3, 4, 5, 0] rfl)
    · skip
      refine lv_iconst (v := I3 (1)) hx hb dX8_round_200 rfl ?_
      refine lv_goto (tgt := 205) hx hb dX8_round_201 (by decide) ?_
      refine lv_istore (lv' := [(7, .int (I3 1)), (0, .ref am), (1, .int (I3 its)), (2, .int (I3 dr)), (3, .int (I3 b)), (4, .long (L6 mm)), (6, .int (I3 mr))]) hx hb dX8_round_205 hl (by decide) rfl (fun ls hl => ?_)
      refine lv_iload_n hx hb dX8_round_207 rfl (lv_at hl 3 rfl) ?_
      refine lv_iconst (v := I3 (1)) hx hb dX8_round_208 rfl ?_
      refine ix_icmp_ne (tgt := 216) hx hb (by first | assumption | decide | (constructor <;> omega)) (by first | assumption | decide | (constructor <;> omega)) dX8_round_209 (by decide) (fun c_209 => ?_) (fun c_209 => ?_)
      · skip
        refine lv_iload_n hx hb dX8_round_216 rfl (lv_at hl 3 rfl) ?_
        refine lv_iconst (v := I3 (2)) hx hb dX8_round_217 rfl ?_
        refine ix_icmp_ne (tgt := 229) hx hb (by first | assumption | decide | (constructor <;> omega)) (by first | assumption | decide | (constructor <;> omega)) dX8_round_218 (by decide) (fun c_218 => ?_) (fun c_218 => ?_)
        · skip
          refine lv_iconst (v := I3 (0)) hx hb dX8_round_229 rfl ?_
          have e_182 : RQ wd lp (rv wf 2) (rv wf 3) b := by first | assumption | omega | (constructor <;> omega)
          have e_183 : -2000 ≤ b ∧ b ≤ 2100 := by first | assumption | omega | (constructor <;> omega)
          have e_184 : mm = ((mS (rv wf 2) (rv wf 3) b : Nat) : Int) := by first | assumption | omega | (constructor <;> omega)
          have e_185 : ((1 : Int) = 1 ∧ (nS (rv wf 2) b) % (dS (rv wf 3) b) ≠ 0) ∨ ((1 : Int) = 0 ∧ (nS (rv wf 2) b) % (dS (rv wf 3) b) = 0) := by first | assumption | omega | (constructor <;> omega)
          have e_186 : ((0 : Int) = 1 ∧ ((dr = 1 ∧ 0 < its) ∨ (dr = 2 ∧ its < 0))) ∨ ((0 : Int) = 0 ∧ ¬ ((dr = 1 ∧ 0 < its) ∨ (dr = 2 ∧ its < 0))) := by first | exact Or.inl ⟨rfl, by omega⟩ | exact Or.inr ⟨rfl, by omega⟩
          have e_187 : Dg W5 := by first | assumption | omega | (constructor <;> omega)
          have e_188 : rv W5 6 = (dS (rv wf 3) b) := by first | assumption | omega | (constructor <;> omega)
          have e_189 : rv W5 8 = (nS (rv wf 2) b) % (dS (rv wf 3) b) := by first | assumption | omega | (constructor <;> omega)
          have e_190 : 2 * (dS (rv wf 3) b) < BN := by first | assumption | omega | (constructor <;> omega)
          exact cut_230 0 1 mm b W5 e_182 e_183 e_184 e_185 e_186 e_187 e_188 e_189 e_190 _ _ hP hD hS ls (lv_sub hl [1, 2, 3, 4, 5, 0] rfl)
        · skip
          refine lv_iload_n hx hb dX8_round_221 rfl (lv_at hl 2 rfl) ?_
          refine ix_if_ge (tgt := 229) hx hb (by first | assumption | decide | (constructor <;> omega)) dX8_round_222 (by decide) (fun c_222 => ?_) (fun c_222 => ?_)
          · skip
            refine lv_iconst (v := I3 (0)) hx hb dX8_round_229 rfl ?_
            have e_191 : RQ wd lp (rv wf 2) (rv wf 3) b := by first | assumption | omega | (constructor <;> omega)
            have e_192 : -2000 ≤ b ∧ b ≤ 2100 := by first | assumption | omega | (constructor <;> omega)
            have e_193 : mm = ((mS (rv wf 2) (rv wf 3) b : Nat) : Int) := by first | assumption | omega | (constructor <;> omega)
            have e_194 : ((1 : Int) = 1 ∧ (nS (rv wf 2) b) % (dS (rv wf 3) b) ≠ 0) ∨ ((1 : Int) = 0 ∧ (nS (rv wf 2) b) % (dS (rv wf 3) b) = 0) := by first | assumption | omega | (constructor <;> omega)
            have e_195 : ((0 : Int) = 1 ∧ ((dr = 1 ∧ 0 < its) ∨ (dr = 2 ∧ its < 0))) ∨ ((0 : Int) = 0 ∧ ¬ ((dr = 1 ∧ 0 < its) ∨ (dr = 2 ∧ its < 0))) := by first | exact Or.inl ⟨rfl, by omega⟩ | exact Or.inr ⟨rfl, by omega⟩
            have e_196 : Dg W5 := by first | assumption | omega | (constructor <;> omega)
            have e_197 : rv W5 6 = (dS (rv wf 3) b) := by first | assumption | omega | (constructor <;> omega)
            have e_198 : rv W5 8 = (nS (rv wf 2) b) % (dS (rv wf 3) b) := by first | assumption | omega | (constructor <;> omega)
            have e_199 : 2 * (dS (rv wf 3) b) < BN := by first | assumption | omega | (constructor <;> omega)
            exact cut_230 0 1 mm b W5 e_191 e_192 e_193 e_194 e_195 e_196 e_197 e_198 e_199 _ _ hP hD hS ls (lv_sub hl [1, 2, 3, 4, 5, 0] rfl)
          · skip
            refine lv_iconst (v := I3 (1)) hx hb dX8_round_225 rfl ?_
            refine lv_goto (tgt := 230) hx hb dX8_round_226 (by decide) ?_
            have e_200 : RQ wd lp (rv wf 2) (rv wf 3) b := by first | assumption | omega | (constructor <;> omega)
            have e_201 : -2000 ≤ b ∧ b ≤ 2100 := by first | assumption | omega | (constructor <;> omega)
            have e_202 : mm = ((mS (rv wf 2) (rv wf 3) b : Nat) : Int) := by first | assumption | omega | (constructor <;> omega)
            have e_203 : ((1 : Int) = 1 ∧ (nS (rv wf 2) b) % (dS (rv wf 3) b) ≠ 0) ∨ ((1 : Int) = 0 ∧ (nS (rv wf 2) b) % (dS (rv wf 3) b) = 0) := by first | assumption | omega | (constructor <;> omega)
            have e_204 : ((1 : Int) = 1 ∧ ((dr = 1 ∧ 0 < its) ∨ (dr = 2 ∧ its < 0))) ∨ ((1 : Int) = 0 ∧ ¬ ((dr = 1 ∧ 0 < its) ∨ (dr = 2 ∧ its < 0))) := by first | exact Or.inl ⟨rfl, by omega⟩ | exact Or.inr ⟨rfl, by omega⟩
            have e_205 : Dg W5 := by first | assumption | omega | (constructor <;> omega)
            have e_206 : rv W5 6 = (dS (rv wf 3) b) := by first | assumption | omega | (constructor <;> omega)
            have e_207 : rv W5 8 = (nS (rv wf 2) b) % (dS (rv wf 3) b) := by first | assumption | omega | (constructor <;> omega)
            have e_208 : 2 * (dS (rv wf 3) b) < BN := by first | assumption | omega | (constructor <;> omega)
            exact cut_230 1 1 mm b W5 e_200 e_201 e_202 e_203 e_204 e_205 e_206 e_207 e_208 _ _ hP hD hS ls (lv_sub hl [1, 2, 3, 4, 5, 0] rfl)
      · skip
        refine lv_iload_n hx hb dX8_round_212 rfl (lv_at hl 2 rfl) ?_
        refine ix_if_gt (tgt := 225) hx hb (by first | assumption | decide | (constructor <;> omega)) dX8_round_213 (by decide) (fun c_213 => ?_) (fun c_213 => ?_)
        · skip
          refine lv_iconst (v := I3 (1)) hx hb dX8_round_225 rfl ?_
          refine lv_goto (tgt := 230) hx hb dX8_round_226 (by decide) ?_
          have e_209 : RQ wd lp (rv wf 2) (rv wf 3) b := by first | assumption | omega | (constructor <;> omega)
          have e_210 : -2000 ≤ b ∧ b ≤ 2100 := by first | assumption | omega | (constructor <;> omega)
          have e_211 : mm = ((mS (rv wf 2) (rv wf 3) b : Nat) : Int) := by first | assumption | omega | (constructor <;> omega)
          have e_212 : ((1 : Int) = 1 ∧ (nS (rv wf 2) b) % (dS (rv wf 3) b) ≠ 0) ∨ ((1 : Int) = 0 ∧ (nS (rv wf 2) b) % (dS (rv wf 3) b) = 0) := by first | assumption | omega | (constructor <;> omega)
          have e_213 : ((1 : Int) = 1 ∧ ((dr = 1 ∧ 0 < its) ∨ (dr = 2 ∧ its < 0))) ∨ ((1 : Int) = 0 ∧ ¬ ((dr = 1 ∧ 0 < its) ∨ (dr = 2 ∧ its < 0))) := by first | exact Or.inl ⟨rfl, by omega⟩ | exact Or.inr ⟨rfl, by omega⟩
          have e_214 : Dg W5 := by first | assumption | omega | (constructor <;> omega)
          have e_215 : rv W5 6 = (dS (rv wf 3) b) := by first | assumption | omega | (constructor <;> omega)
          have e_216 : rv W5 8 = (nS (rv wf 2) b) % (dS (rv wf 3) b) := by first | assumption | omega | (constructor <;> omega)
          have e_217 : 2 * (dS (rv wf 3) b) < BN := by first | assumption | omega | (constructor <;> omega)
          exact cut_230 1 1 mm b W5 e_209 e_210 e_211 e_212 e_213 e_214 e_215 e_216 e_217 _ _ hP hD hS ls (lv_sub hl [1, 2, 3, 4, 5, 0] rfl)
        · skip
          refine lv_iload_n hx hb dX8_round_216 rfl (lv_at hl 3 rfl) ?_
          refine lv_iconst (v := I3 (2)) hx hb dX8_round_217 rfl ?_
          refine ix_icmp_ne (tgt := 229) hx hb (by first | assumption | decide | (constructor <;> omega)) (by first | assumption | decide | (constructor <;> omega)) dX8_round_218 (by decide) (fun c_218 => ?_) (fun c_218 => ?_)
          · skip
            refine lv_iconst (v := I3 (0)) hx hb dX8_round_229 rfl ?_
            have e_218 : RQ wd lp (rv wf 2) (rv wf 3) b := by first | assumption | omega | (constructor <;> omega)
            have e_219 : -2000 ≤ b ∧ b ≤ 2100 := by first | assumption | omega | (constructor <;> omega)
            have e_220 : mm = ((mS (rv wf 2) (rv wf 3) b : Nat) : Int) := by first | assumption | omega | (constructor <;> omega)
            have e_221 : ((1 : Int) = 1 ∧ (nS (rv wf 2) b) % (dS (rv wf 3) b) ≠ 0) ∨ ((1 : Int) = 0 ∧ (nS (rv wf 2) b) % (dS (rv wf 3) b) = 0) := by first | assumption | omega | (constructor <;> omega)
            have e_222 : ((0 : Int) = 1 ∧ ((dr = 1 ∧ 0 < its) ∨ (dr = 2 ∧ its < 0))) ∨ ((0 : Int) = 0 ∧ ¬ ((dr = 1 ∧ 0 < its) ∨ (dr = 2 ∧ its < 0))) := by first | exact Or.inl ⟨rfl, by omega⟩ | exact Or.inr ⟨rfl, by omega⟩
            have e_223 : Dg W5 := by first | assumption | omega | (constructor <;> omega)
            have e_224 : rv W5 6 = (dS (rv wf 3) b) := by first | assumption | omega | (constructor <;> omega)
            have e_225 : rv W5 8 = (nS (rv wf 2) b) % (dS (rv wf 3) b) := by first | assumption | omega | (constructor <;> omega)
            have e_226 : 2 * (dS (rv wf 3) b) < BN := by first | assumption | omega | (constructor <;> omega)
            exact cut_230 0 1 mm b W5 e_218 e_219 e_220 e_221 e_222 e_223 e_224 e_225 e_226 _ _ hP hD hS ls (lv_sub hl [1, 2, 3, 4, 5, 0] rfl)
          · skip
            refine lv_iload_n hx hb dX8_round_221 rfl (lv_at hl 2 rfl) ?_
            refine ix_if_ge (tgt := 229) hx hb (by first | assumption | decide | (constructor <;> omega)) dX8_round_222 (by decide) (fun c_222 => ?_) (fun c_222 => ?_)
            · skip
              refine lv_iconst (v := I3 (0)) hx hb dX8_round_229 rfl ?_
              have e_227 : RQ wd lp (rv wf 2) (rv wf 3) b := by first | assumption | omega | (constructor <;> omega)
              have e_228 : -2000 ≤ b ∧ b ≤ 2100 := by first | assumption | omega | (constructor <;> omega)
              have e_229 : mm = ((mS (rv wf 2) (rv wf 3) b : Nat) : Int) := by first | assumption | omega | (constructor <;> omega)
              have e_230 : ((1 : Int) = 1 ∧ (nS (rv wf 2) b) % (dS (rv wf 3) b) ≠ 0) ∨ ((1 : Int) = 0 ∧ (nS (rv wf 2) b) % (dS (rv wf 3) b) = 0) := by first | assumption | omega | (constructor <;> omega)
              have e_231 : ((0 : Int) = 1 ∧ ((dr = 1 ∧ 0 < its) ∨ (dr = 2 ∧ its < 0))) ∨ ((0 : Int) = 0 ∧ ¬ ((dr = 1 ∧ 0 < its) ∨ (dr = 2 ∧ its < 0))) := by first | exact Or.inl ⟨rfl, by omega⟩ | exact Or.inr ⟨rfl, by omega⟩
              have e_232 : Dg W5 := by first | assumption | omega | (constructor <;> omega)
              have e_233 : rv W5 6 = (dS (rv wf 3) b) := by first | assumption | omega | (constructor <;> omega)
              have e_234 : rv W5 8 = (nS (rv wf 2) b) % (dS (rv wf 3) b) := by first | assumption | omega | (constructor <;> omega)
              have e_235 : 2 * (dS (rv wf 3) b) < BN := by first | assumption | omega | (constructor <;> omega)
              exact cut_230 0 1 mm b W5 e_227 e_228 e_229 e_230 e_231 e_232 e_233 e_234 e_235 _ _ hP hD hS ls (lv_sub hl [1, 2, 3, 4, 5, 0] rfl)
            · skip
              refine lv_iconst (v := I3 (1)) hx hb dX8_round_225 rfl ?_
              refine lv_goto (tgt := 230) hx hb dX8_round_226 (by decide) ?_
              have e_236 : RQ wd lp (rv wf 2) (rv wf 3) b := by first | assumption | omega | (constructor <;> omega)
              have e_237 : -2000 ≤ b ∧ b ≤ 2100 := by first | assumption | omega | (constructor <;> omega)
              have e_238 : mm = ((mS (rv wf 2) (rv wf 3) b : Nat) : Int) := by first | assumption | omega | (constructor <;> omega)
              have e_239 : ((1 : Int) = 1 ∧ (nS (rv wf 2) b) % (dS (rv wf 3) b) ≠ 0) ∨ ((1 : Int) = 0 ∧ (nS (rv wf 2) b) % (dS (rv wf 3) b) = 0) := by first | assumption | omega | (constructor <;> omega)
              have e_240 : ((1 : Int) = 1 ∧ ((dr = 1 ∧ 0 < its) ∨ (dr = 2 ∧ its < 0))) ∨ ((1 : Int) = 0 ∧ ¬ ((dr = 1 ∧ 0 < its) ∨ (dr = 2 ∧ its < 0))) := by first | exact Or.inl ⟨rfl, by omega⟩ | exact Or.inr ⟨rfl, by omega⟩
              have e_241 : Dg W5 := by first | assumption | omega | (constructor <;> omega)
              have e_242 : rv W5 6 = (dS (rv wf 3) b) := by first | assumption | omega | (constructor <;> omega)
              have e_243 : rv W5 8 = (nS (rv wf 2) b) % (dS (rv wf 3) b) := by first | assumption | omega | (constructor <;> omega)
              have e_244 : 2 * (dS (rv wf 3) b) < BN := by first | assumption | omega | (constructor <;> omega)
              exact cut_230 1 1 mm b W5 e_236 e_237 e_238 e_239 e_240 e_241 e_242 e_243 e_244 _ _ hP hD hS ls (lv_sub hl [1, 2, 3, 4, 5, 0] rfl)
  have cut_40 : ∀ (fuel_40 : Nat), ∀ (mr : Int) (mm : Int) (b : Int) (W1 : Int → Int), (-2000 ≤ b ∧ b ≤ 2100) → (mr = 0 ∨ mr = 1) → (RdI wd lp (rv wf 2) (rv wf 3) b mr) → (Dg W1) → (rv W1 2 = rv wf 2) → (rv W1 3 = rv wf 3) → (mr = 0 → mm = ((mS (rv wf 2) (rv wf 3) b : Nat) : Int) ∧ rv W1 6 = (dS (rv wf 3) b) ∧ rv W1 8 = (nS (rv wf 2) b) % (dS (rv wf 3) b) ∧ 2 * (dS (rv wf 3) b) < BN) → ((if mr = 0 then 0 else b0S wd lp (rv wf 2) (rv wf 3) + 2 - b).toNat < fuel_40) → ∀ (H : Heap) (locs : List Loc), va_P (dC, dI) vwCl [(am, .inr (0, [.int (I3 th), .int (I3 mn), .ref as_, .ref av, .ref aw, .int (I3 sm), .int (I3 wd), .int (I3 lp), .int (I3 mp), .int (I3 re)])), (as_, .inl (dA 0, 60, .inl (iA SG))), (av, .inl (dA 1, 960, .inr (.inl (lA VL)))), (aw, .inl (dA 1, 1024, .inr (.inl (lA W1))))] H → va_D A [(am, .inr (0, [.int (I3 th), .int (I3 mn), .ref as_, .ref av, .ref aw, .int (I3 sm), .int (I3 wd), .int (I3 lp), .int (I3 mp), .int (I3 re)])), (as_, .inl (dA 0, 60, .inl (iA SG))), (av, .inl (dA 1, 960, .inr (.inl (lA VL)))), (aw, .inl (dA 1, 1024, .inr (.inl (lA W1))))] → va_S A s.heap H locs → ∀ (ls : Array Slot), lv_has ls 10 [(0, .ref am), (1, .int (I3 its)), (2, .int (I3 dr)), (3, .int (I3 b)), (4, .long (L6 mm)), (6, .int (I3 mr))] → W p l e (headSpec (ws_ yX8_round cX8_round 10 (some .long)) ({ frames := 3, cells := 0, slots := 0, locals := 120 })).room s m ([.ref am, .int (I3 its), .int (I3 dr)] : List Value).toArray below meth c H locs 0 0 (MQ below (QmetX8_round dC dI dA A am as_ av aw th mn sm wd lp mp re SG VL wf its dr) ([.ref am, .int (I3 its), .int (I3 dr)] : List Value).toArray s 0 0 A) (F0 m 40 ls []) := by
    intro fuel_40
    induction fuel_40 with
    | zero =>
      intro mr mm b W1 hbr hmr hR hW1 f2 f3 h0 hm
      exact absurd hm (Nat.not_lt_zero _)
    | succ fuel_40 ih_40 =>
      intro mr mm b W1 hbr hmr hR hW1 f2 f3 h0 hm_40 H locs hP hD hS ls hl
      obtain ⟨hT2, hT⟩ := FM_T hFM
      have hTp := ppos (wd - 1).toNat
      have hw1 : 1 ≤ wd ∧ wd ≤ 53 ∧ -1074 ≤ lp ∧ lp ≤ -149 ∧ mp ≤ 971 ∧ 104 ≤ mp := by omega
      have i_wd : In3 wd := ⟨by omega, by omega⟩
      have i_lp : In3 lp := ⟨by omega, by omega⟩
      have i_it : In3 its := hits
      have i_dr : In3 dr := ⟨by omega, by omega⟩
      have i_b : In3 b := ⟨by omega, by omega⟩
      have i_mr : In3 mr := by omega
      have hs : mr = 1 → _ := fun q => RdI_s (b := b) hP2 hQ2 hw1.1 (by rw [q] at hR; exact hR)
      have hbb : mr = 1 → b ≤ b0S wd lp (rv wf 2) (rv wf 3) + 1 := fun q => by rcases hR with ⟨-, h⟩ | ⟨-, h, -⟩ | ⟨h, -⟩ <;> omega
      have cut_154 : ∀ (mq : Int) (W6 : Int → Int), (mr = 1) → ((mq = 1 ∧ ¬ bl (mS (rv wf 2) (rv wf 3) b) ≤ wd.toNat) ∨ (mq = 0 ∧ bl (mS (rv wf 2) (rv wf 3) b) ≤ wd.toNat)) → (Dg W6) → (rv W6 2 = rv wf 2) → (rv W6 3 = rv wf 3) → (rv W6 6 = (dS (rv wf 3) b)) → (rv W6 7 = mS (rv wf 2) (rv wf 3) b) → (rv W6 8 = (nS (rv wf 2) b) % (dS (rv wf 3) b)) → (2 * (dS (rv wf 3) b) < BN) → ∀ (H : Heap) (locs : List Loc), va_P (dC, dI) vwCl [(am, .inr (0, [.int (I3 th), .int (I3 mn), .ref as_, .ref av, .ref aw, .int (I3 sm), .int (I3 wd), .int (I3 lp), .int (I3 mp), .int (I3 re)])), (as_, .inl (dA 0, 60, .inl (iA SG))), (av, .inl (dA 1, 960, .inr (.inl (lA VL)))), (aw, .inl (dA 1, 1024, .inr (.inl (lA W6))))] H → va_D A [(am, .inr (0, [.int (I3 th), .int (I3 mn), .ref as_, .ref av, .ref aw, .int (I3 sm), .int (I3 wd), .int (I3 lp), .int (I3 mp), .int (I3 re)])), (as_, .inl (dA 0, 60, .inl (iA SG))), (av, .inl (dA 1, 960, .inr (.inl (lA VL)))), (aw, .inl (dA 1, 1024, .inr (.inl (lA W6))))] → va_S A s.heap H locs → ∀ (ls : Array Slot), lv_has ls 10 [(0, .ref am), (1, .int (I3 its)), (2, .int (I3 dr)), (3, .int (I3 b)), (4, .long (L6 (sm6 ((mS (rv wf 2) (rv wf 3) b : Nat) : Int))))] → W p l e (headSpec (ws_ yX8_round cX8_round 10 (some .long)) ({ frames := 3, cells := 0, slots := 0, locals := 120 })).room s m ([.ref am, .int (I3 its), .int (I3 dr)] : List Value).toArray below meth c H locs 0 0 (MQ below (QmetX8_round dC dI dA A am as_ av aw th mn sm wd lp mp re SG VL wf its dr) ([.ref am, .int (I3 its), .int (I3 dr)] : List Value).toArray s 0 0 A) (F0 m 154 ls [.int (I3 mq)]) := by
        intro mq W6 hm1 hmq hW6 g2 g3 g6 g7 g8 hd2 H locs hP hD hS ls hl
        obtain ⟨s1, s2, s3, s4, s5, s6⟩ := hs hm1
        have hb1 := hbb hm1
        refine lv_istore (lv' := [(6, .int (I3 mq)), (0, .ref am), (1, .int (I3 its)), (2, .int (I3 dr)), (3, .int (I3 b)), (4, .long (L6 (sm6 ((mS (rv wf 2) (rv wf 3) b : Nat) : Int))))]) hx hb dX8_round_154 hl (by decide) rfl (fun ls hl => ?_)
        refine lv_aload_n hx hb dX8_round_156 rfl (lv_at hl 1 rfl) ?_
        refine lv_bipush (v := I3 (7)) hx hb dX8_round_157 (by decide) ?_
        have h_245 : 0 ≤ (7 : Int) ∧ (7 : Int) < 16 := by decide
        have h_246 : Dg W6 := by first | assumption | omega | (constructor <;> omega)
        have hPc := hP.sub (ws' := [(am, .inr (0, [.int (I3 th), .int (I3 mn), .ref as_, .ref av, .ref aw, .int (I3 sm), .int (I3 wd), .int (I3 lp), .int (I3 mp), .int (I3 re)])), (as_, .inl (dA 0, 60, .inl (iA SG))), (av, .inl (dA 1, 960, .inr (.inl (lA VL)))), (aw, .inl (dA 1, 1024, .inr (.inl (lA W6))))]) [0, 1, 2, 3] rfl
        have hDc := hD.sub (ws' := [(am, .inr (0, [.int (I3 th), .int (I3 mn), .ref as_, .ref av, .ref aw, .int (I3 sm), .int (I3 wd), .int (I3 lp), .int (I3 mp), .int (I3 re)])), (as_, .inl (dA 0, 60, .inl (iA SG))), (av, .inl (dA 1, 960, .inr (.inl (lA VL)))), (aw, .inl (dA 1, 1024, .inr (.inl (lA W6))))]) [0, 1, 2, 3] (by decide) rfl
        have hFc := va_free (wc := [(am, .inr (0, [.int (I3 th), .int (I3 mn), .ref as_, .ref av, .ref aw, .int (I3 sm), .int (I3 wd), .int (I3 lp), .int (I3 mp), .int (I3 re)])), (as_, .inl (dA 0, 60, .inl (iA SG))), (av, .inl (dA 1, 960, .inr (.inl (lA VL)))), (aw, .inl (dA 1, 1024, .inr (.inl (lA W6))))]) hD hS hA [0, 1, 2, 3] rfl
        refine va_calli (va_runV (As := [.int (I3 7)]) (rest := []) ⟨hx, hb, hml, hown, hts⟩ (metX8_length l dC dI dA am as_ av aw H.size th mn sm wd lp mp re SG VL W6 7 h_245 h_246) (cwV 1 hts (lw_V q1008 q1010 qs32 q66 q1011) rfl rfl rfl (by decide +kernel) ⟨Nat.le_of_ble_eq_true rfl, Nat.le_of_ble_eq_true rfl⟩) ⟨fun a U g mk q => by obtain ⟨q0, q1, qP, qK, qD⟩ := q; exact ⟨q0, q1, qP, va_K.moved (u := U) (U := U.calling g mk a) (Vm.Alike.refl U.vm) qK, qD⟩, va_recv hK hPc (ci := 0) (q0 := 0) rfl rfl, fun U hU hW => ⟨rfl, by rw [hU], by rw [hU]; exact hPc, va_K.moved hW.alike hK, hDc.weaken (fun _ _ _ _ => trivial)⟩⟩ rfl rfl hl.1 rfl (lv_room (Nat.le_of_ble_eq_true rfl)) dX8_round_159 ⟨Nat.le_of_ble_eq_true rfl, Nat.le_of_ble_eq_true rfl⟩) hS (fun q _ h => hFc q h) hFc (fun r_159 u t H1 locs ht hvm hw hB hz1 hk1 hS => ?_)
        obtain ⟨z_159, rfl⟩ : ∃ z, z = u := ⟨_, rfl⟩
        obtain ⟨rfl, p0_159⟩ : r_159 = I3 z_159 ∧ (z_159 = ((bl (rv W6 (7 : Int)) : Nat) : Int)) := hw
        obtain ⟨hP1, hK1, hD1⟩ := hB
        rw [ht] at hP1
        obtain ⟨hP, hD⟩ := va_join (wr := []) (w1 := [(am, .inr (0, [.int (I3 th), .int (I3 mn), .ref as_, .ref av, .ref aw, .int (I3 sm), .int (I3 wd), .int (I3 lp), .int (I3 mp), .int (I3 re)])), (as_, .inl (dA 0, 60, .inl (iA SG))), (av, .inl (dA 1, 960, .inr (.inl (lA VL)))), (aw, .inl (dA 1, 1024, .inr (.inl (lA W6))))]) hP hD [0, 1, 2, 3] [] rfl rfl (by decide) (by decide) hk1 hFc hP1 hD1
        generalize H1 = H at hP hS ⊢
        have hP : va_P (dC, dI) vwCl [(am, .inr (0, [.int (I3 th), .int (I3 mn), .ref as_, .ref av, .ref aw, .int (I3 sm), .int (I3 wd), .int (I3 lp), .int (I3 mp), .int (I3 re)])), (as_, .inl (dA 0, 60, .inl (iA SG))), (av, .inl (dA 1, 960, .inr (.inl (lA VL)))), (aw, .inl (dA 1, 1024, .inr (.inl (lA W6))))] H := hP
        have hD : va_D A [(am, .inr (0, [.int (I3 th), .int (I3 mn), .ref as_, .ref av, .ref aw, .int (I3 sm), .int (I3 wd), .int (I3 lp), .int (I3 mp), .int (I3 re)])), (as_, .inl (dA 0, 60, .inl (iA SG))), (av, .inl (dA 1, 960, .inr (.inl (lA VL)))), (aw, .inl (dA 1, 1024, .inr (.inl (lA W6))))] := hD
        rw [g7] at p0_159
        have hb159 : bl (mS (rv wf 2) (rv wf 3) b) ≤ 2048 := by rw [← g7]; exact bl_le.mpr (rv_lt hW6 7)
        refine lv_aload_n hx hb dX8_round_162 rfl (lv_at hl 1 rfl) ?_
        refine va_get (D := (dC, dI)) (ci := 0) (v := .int (I3 wd)) (C := RX8) (T := TX8) (N := 10) hx hb hts in_X8 hown hK hP 0 rfl rfl 6 (by decide) (hts _ q919) (fun _ h9 => h9) rfl dX8_round_163 ?_
        refine ix_icmp_le (tgt := 175) hx hb (by first | assumption | decide | (constructor <;> omega)) (by first | assumption | decide | (constructor <;> omega)) dX8_round_166 (by decide) (fun c_166 => ?_) (fun c_166 => ?_)
        · skip
          refine lv_iload hx hb dX8_round_175 (lv_at hl 0 rfl) ?_
          refine ix_if_eq (tgt := 186) hx hb (by first | assumption | decide | (constructor <;> omega)) dX8_round_177 (by decide) (fun c_177 => ?_) (fun c_177 => ?_)
          · skip
            refine lv_iload_n hx hb dX8_round_186 rfl (lv_at hl 4 rfl) ?_
            refine lv_istore_n (lv' := [(3, .int (I3 b)), (6, .int (I3 mq)), (0, .ref am), (1, .int (I3 its)), (2, .int (I3 dr)), (4, .long (L6 (sm6 ((mS (rv wf 2) (rv wf 3) b : Nat) : Int))))]) hx hb dX8_round_187 rfl hl (by decide) rfl (fun ls hl => ?_)
            refine lv_goto (tgt := 40) hx hb dX8_round_188 (by decide) ?_
            have hbl2 : bl (mS (rv wf 2) (rv wf 3) b) ≤ wd.toNat := by omega
            have hR2 := s1 hbl2
            have hlt2 : ((mS (rv wf 2) (rv wf 3) b : Nat) : Int) < 2 ^ wd.toNat := by have h := hR2.2.1; have h2 := pw_cast wd.toNat; omega
            have e_247 : -2000 ≤ b ∧ b ≤ 2100 := by first | assumption | omega | (constructor <;> omega)
            have e_248 : mq = 0 ∨ mq = 1 := by first | assumption | omega | (constructor <;> omega)
            have e_249 : RdI wd lp (rv wf 2) (rv wf 3) b mq := by exact Or.inr (Or.inr ⟨by omega, hR2⟩)
            have e_250 : Dg W6 := by first | assumption | omega | (constructor <;> omega)
            have e_251 : rv W6 2 = rv wf 2 := by exact g2
            have e_252 : rv W6 3 = rv wf 3 := by exact g3
            have e_253 : mq = 0 → (sm6 ((mS (rv wf 2) (rv wf 3) b : Nat) : Int)) = ((mS (rv wf 2) (rv wf 3) b : Nat) : Int) ∧ rv W6 6 = (dS (rv wf 3) b) ∧ rv W6 8 = (nS (rv wf 2) b) % (dS (rv wf 3) b) ∧ 2 * (dS (rv wf 3) b) < BN := by intro q; exact ⟨sm6_id (by constructor <;> omega), g6, g8, hd2⟩
            have e_254 : (if mq = 0 then 0 else b0S wd lp (rv wf 2) (rv wf 3) + 2 - b).toNat < fuel_40 := by rw [if_neg (by omega)] at hm_40; rw [if_pos (by omega)]; omega
            exact ih_40 mq (sm6 ((mS (rv wf 2) (rv wf 3) b : Nat) : Int)) b W6 e_247 e_248 e_249 e_250 e_251 e_252 e_253 e_254 _ _ hP hD hS ls (lv_sub hl [2, 3, 4, 0, 5, 1] rfl)
          · skip
            refine lv_iload_n hx hb dX8_round_180 rfl (lv_at hl 4 rfl) ?_
            refine lv_iconst (v := I3 (1)) hx hb dX8_round_181 rfl ?_
            refine ix_isub hx hb dX8_round_182 ?_
            refine lv_goto (tgt := 187) hx hb dX8_round_183 (by decide) ?_
            refine lv_istore_n (lv' := [(3, .int (I3 (b - 1))), (6, .int (I3 mq)), (0, .ref am), (1, .int (I3 its)), (2, .int (I3 dr)), (4, .long (L6 (sm6 ((mS (rv wf 2) (rv wf 3) b : Nat) : Int))))]) hx hb dX8_round_187 rfl hl (by decide) rfl (fun ls hl => ?_)
            refine lv_goto (tgt := 40) hx hb dX8_round_188 (by decide) ?_
            have e_255 : -2000 ≤ (b - 1) ∧ (b - 1) ≤ 2100 := by exfalso; omega
            have e_256 : mq = 0 ∨ mq = 1 := by exfalso; omega
            have e_257 : RdI wd lp (rv wf 2) (rv wf 3) (b - 1) mq := by exfalso; omega
            have e_258 : Dg W6 := by exfalso; omega
            have e_259 : rv W6 2 = rv wf 2 := by exfalso; omega
            have e_260 : rv W6 3 = rv wf 3 := by exfalso; omega
            have e_261 : mq = 0 → (sm6 ((mS (rv wf 2) (rv wf 3) b : Nat) : Int)) = ((mS (rv wf 2) (rv wf 3) (b - 1) : Nat) : Int) ∧ rv W6 6 = (dS (rv wf 3) (b - 1)) ∧ rv W6 8 = (nS (rv wf 2) (b - 1)) % (dS (rv wf 3) (b - 1)) ∧ 2 * (dS (rv wf 3) (b - 1)) < BN := by exfalso; omega
            have e_262 : (if mq = 0 then 0 else b0S wd lp (rv wf 2) (rv wf 3) + 2 - (b - 1)).toNat < fuel_40 := by exfalso; omega
            exact ih_40 mq (sm6 ((mS (rv wf 2) (rv wf 3) b : Nat) : Int)) (b - 1) W6 e_255 e_256 e_257 e_258 e_259 e_260 e_261 e_262 _ _ hP hD hS ls (lv_sub hl [2, 3, 4, 0, 5, 1] rfl)
        · skip
          refine lv_iload_n hx hb dX8_round_169 rfl (lv_at hl 4 rfl) ?_
          refine lv_iconst (v := I3 (1)) hx hb dX8_round_170 rfl ?_
          refine ix_iadd hx hb dX8_round_171 ?_
          refine lv_goto (tgt := 187) hx hb dX8_round_172 (by decide) ?_
          refine lv_istore_n (lv' := [(3, .int (I3 (b + 1))), (6, .int (I3 mq)), (0, .ref am), (1, .int (I3 its)), (2, .int (I3 dr)), (4, .long (L6 (sm6 ((mS (rv wf 2) (rv wf 3) b : Nat) : Int))))]) hx hb dX8_round_187 rfl hl (by decide) rfl (fun ls hl => ?_)
          refine lv_goto (tgt := 40) hx hb dX8_round_188 (by decide) ?_
          have hb := s2 (by omega)
          have e_263 : -2000 ≤ (b + 1) ∧ (b + 1) ≤ 2100 := by first | assumption | omega | (constructor <;> omega)
          have e_264 : mq = 0 ∨ mq = 1 := by first | assumption | omega | (constructor <;> omega)
          have e_265 : RdI wd lp (rv wf 2) (rv wf 3) (b + 1) mq := by rcases hmq with ⟨h1, h2⟩ | ⟨h1, h2⟩; exact Or.inr (Or.inl ⟨h1, by rw [hb], by rw [← hb]; exact h2⟩); exfalso; omega
          have e_266 : Dg W6 := by first | assumption | omega | (constructor <;> omega)
          have e_267 : rv W6 2 = rv wf 2 := by exact g2
          have e_268 : rv W6 3 = rv wf 3 := by exact g3
          have e_269 : mq = 0 → (sm6 ((mS (rv wf 2) (rv wf 3) b : Nat) : Int)) = ((mS (rv wf 2) (rv wf 3) (b + 1) : Nat) : Int) ∧ rv W6 6 = (dS (rv wf 3) (b + 1)) ∧ rv W6 8 = (nS (rv wf 2) (b + 1)) % (dS (rv wf 3) (b + 1)) ∧ 2 * (dS (rv wf 3) (b + 1)) < BN := by intro q; exfalso; omega
          have e_270 : (if mq = 0 then 0 else b0S wd lp (rv wf 2) (rv wf 3) + 2 - (b + 1)).toNat < fuel_40 := by rw [if_neg (by omega)] at hm_40; rw [if_neg (by omega)]; omega
          exact ih_40 mq (sm6 ((mS (rv wf 2) (rv wf 3) b : Nat) : Int)) (b + 1) W6 e_263 e_264 e_265 e_266 e_267 e_268 e_269 e_270 _ _ hP hD hS ls (lv_sub hl [2, 3, 4, 0, 5, 1] rfl)
      have cut_82 : ∀ (W7 : Int → Int), (mr = 1) → (Dg W7) → (rv W7 2 = rv wf 2) → (rv W7 3 = rv wf 3) → (rv W7 5 = (nS (rv wf 2) b)) → (rv W7 6 = (dS (rv wf 3) b)) → (2 * (dS (rv wf 3) b) < BN) → ∀ (H : Heap) (locs : List Loc), va_P (dC, dI) vwCl [(am, .inr (0, [.int (I3 th), .int (I3 mn), .ref as_, .ref av, .ref aw, .int (I3 sm), .int (I3 wd), .int (I3 lp), .int (I3 mp), .int (I3 re)])), (as_, .inl (dA 0, 60, .inl (iA SG))), (av, .inl (dA 1, 960, .inr (.inl (lA VL)))), (aw, .inl (dA 1, 1024, .inr (.inl (lA W7))))] H → va_D A [(am, .inr (0, [.int (I3 th), .int (I3 mn), .ref as_, .ref av, .ref aw, .int (I3 sm), .int (I3 wd), .int (I3 lp), .int (I3 mp), .int (I3 re)])), (as_, .inl (dA 0, 60, .inl (iA SG))), (av, .inl (dA 1, 960, .inr (.inl (lA VL)))), (aw, .inl (dA 1, 1024, .inr (.inl (lA W7))))] → va_S A s.heap H locs → ∀ (ls : Array Slot), lv_has ls 10 [(0, .ref am), (1, .int (I3 its)), (2, .int (I3 dr)), (3, .int (I3 b)), (6, .int (I3 mr))] → W p l e (headSpec (ws_ yX8_round cX8_round 10 (some .long)) ({ frames := 3, cells := 0, slots := 0, locals := 120 })).room s m ([.ref am, .int (I3 its), .int (I3 dr)] : List Value).toArray below meth c H locs 0 0 (MQ below (QmetX8_round dC dI dA A am as_ av aw th mn sm wd lp mp re SG VL wf its dr) ([.ref am, .int (I3 its), .int (I3 dr)] : List Value).toArray s 0 0 A) (F0 m 82 ls []) := by
        intro W7 hm1 hW7 e2 e3 e5 e6 hd2 H locs hP hD hS ls hl
        obtain ⟨s1, s2, s3, s4, s5, s6⟩ := hs hm1
        have hb1 := hbb hm1
        refine lv_aload_n hx hb dX8_round_82 rfl (lv_at hl 0 rfl) ?_
        refine lv_iconst (v := I3 (5)) hx hb dX8_round_83 rfl ?_
        refine lv_bipush (v := I3 (6)) hx hb dX8_round_84 (by decide) ?_
        refine lv_bipush (v := I3 (7)) hx hb dX8_round_86 (by decide) ?_
        refine lv_bipush (v := I3 (8)) hx hb dX8_round_88 (by decide) ?_
        have h_271 : 0 ≤ (5 : Int) ∧ (5 : Int) < 16 := by decide
        have h_272 : 0 ≤ (6 : Int) ∧ (6 : Int) < 16 := by decide
        have h_273 : 0 ≤ (7 : Int) ∧ (7 : Int) < 16 := by decide
        have h_274 : 0 ≤ (8 : Int) ∧ (8 : Int) < 16 := by decide
        have h_275 : (5 : Int) ≠ (7 : Int) := by decide
        have h_276 : (5 : Int) ≠ (8 : Int) := by decide
        have h_277 : (6 : Int) ≠ (7 : Int) := by decide
        have h_278 : (6 : Int) ≠ (8 : Int) := by decide
        have h_279 : (7 : Int) ≠ (8 : Int) := by decide
        have h_280 : rv W7 (6 : Int) ≠ 0 := by rw [e6]; exact Nat.ne_of_gt (dS_pos hQ2 b)
        have h_281 : 2 * rv W7 (6 : Int) ≤ BN := by rw [e6]; omega
        have h_282 : Dg W7 := by first | assumption | omega | (constructor <;> omega)
        have hPc := hP.sub (ws' := [(am, .inr (0, [.int (I3 th), .int (I3 mn), .ref as_, .ref av, .ref aw, .int (I3 sm), .int (I3 wd), .int (I3 lp), .int (I3 mp), .int (I3 re)])), (as_, .inl (dA 0, 60, .inl (iA SG))), (av, .inl (dA 1, 960, .inr (.inl (lA VL)))), (aw, .inl (dA 1, 1024, .inr (.inl (lA W7))))]) [0, 1, 2, 3] rfl
        have hDc := hD.sub (ws' := [(am, .inr (0, [.int (I3 th), .int (I3 mn), .ref as_, .ref av, .ref aw, .int (I3 sm), .int (I3 wd), .int (I3 lp), .int (I3 mp), .int (I3 re)])), (as_, .inl (dA 0, 60, .inl (iA SG))), (av, .inl (dA 1, 960, .inr (.inl (lA VL)))), (aw, .inl (dA 1, 1024, .inr (.inl (lA W7))))]) [0, 1, 2, 3] (by decide) rfl
        have hFc := va_free (wc := [(am, .inr (0, [.int (I3 th), .int (I3 mn), .ref as_, .ref av, .ref aw, .int (I3 sm), .int (I3 wd), .int (I3 lp), .int (I3 mp), .int (I3 re)])), (as_, .inl (dA 0, 60, .inl (iA SG))), (av, .inl (dA 1, 960, .inr (.inl (lA VL)))), (aw, .inl (dA 1, 1024, .inr (.inl (lA W7))))]) hD hS hA [0, 1, 2, 3] rfl
        refine va_callv (va_runV (As := [.int (I3 5), .int (I3 6), .int (I3 7), .int (I3 8)]) (rest := []) ⟨hx, hb, hml, hown, hts⟩ (metX8_divide l dC dI dA am as_ av aw H.size th mn sm wd lp mp re SG VL W7 5 6 7 8 h_271 h_272 h_273 h_274 h_275 h_276 h_277 h_278 h_279 h_280 h_281 h_282) (cwV 4 hts (lw_V q1004 q1006 qs31 q66 q1007) rfl rfl rfl (by decide +kernel) ⟨Nat.le_of_ble_eq_true rfl, Nat.le_of_ble_eq_true rfl⟩) ⟨fun a U g mk q => by obtain ⟨q0, q1, qP, qK, qD⟩ := q; exact ⟨q0, q1, qP, va_K.moved (u := U) (U := U.calling g mk a) (Vm.Alike.refl U.vm) qK, qD⟩, va_recv hK hPc (ci := 0) (q0 := 0) rfl rfl, fun U hU hW => ⟨rfl, by rw [hU], by rw [hU]; exact hPc, va_K.moved hW.alike hK, hDc.weaken (fun _ _ _ _ => trivial)⟩⟩ rfl rfl hl.1 rfl (lv_room (Nat.le_of_ble_eq_true rfl)) dX8_round_90 ⟨Nat.le_of_ble_eq_true rfl, Nat.le_of_ble_eq_true rfl⟩) hS (fun q _ h => hFc q h) hFc (fun u t H1 locs ht hvm hw hB hz1 hk1 hS => ?_)
        obtain ⟨W1_90, rfl⟩ : ∃ z, z = u := ⟨_, rfl⟩
        obtain ⟨p0_90, p1_90, p2_90, p3_90⟩ : (Dg W1_90) ∧ (Fr2 W7 W1_90 (7 : Int) (8 : Int)) ∧ (rv W1_90 (7 : Int) = rv W7 (5 : Int) / rv W7 (6 : Int)) ∧ (rv W1_90 (8 : Int) = rv W7 (5 : Int) % rv W7 (6 : Int)) := hw
        obtain ⟨hP1, hK1, hD1⟩ := hB
        rw [ht] at hP1
        obtain ⟨hP, hD⟩ := va_join (wr := []) (w1 := [(am, .inr (0, [.int (I3 th), .int (I3 mn), .ref as_, .ref av, .ref aw, .int (I3 sm), .int (I3 wd), .int (I3 lp), .int (I3 mp), .int (I3 re)])), (as_, .inl (dA 0, 60, .inl (iA SG))), (av, .inl (dA 1, 960, .inr (.inl (lA VL)))), (aw, .inl (dA 1, 1024, .inr (.inl (lA W1_90))))]) hP hD [0, 1, 2, 3] [] rfl rfl (by decide) (by decide) hk1 hFc hP1 hD1
        generalize H1 = H at hP hS ⊢
        have hP : va_P (dC, dI) vwCl [(am, .inr (0, [.int (I3 th), .int (I3 mn), .ref as_, .ref av, .ref aw, .int (I3 sm), .int (I3 wd), .int (I3 lp), .int (I3 mp), .int (I3 re)])), (as_, .inl (dA 0, 60, .inl (iA SG))), (av, .inl (dA 1, 960, .inr (.inl (lA VL)))), (aw, .inl (dA 1, 1024, .inr (.inl (lA W1_90))))] H := hP
        have hD : va_D A [(am, .inr (0, [.int (I3 th), .int (I3 mn), .ref as_, .ref av, .ref aw, .int (I3 sm), .int (I3 wd), .int (I3 lp), .int (I3 mp), .int (I3 re)])), (as_, .inl (dA 0, 60, .inl (iA SG))), (av, .inl (dA 1, 960, .inr (.inl (lA VL)))), (aw, .inl (dA 1, 1024, .inr (.inl (lA W1_90))))] := hD
        have d7 : rv W1_90 7 = mS (rv wf 2) (rv wf 3) b := by rw [p2_90, e5, e6]; rfl
        have d8 : rv W1_90 8 = nS (rv wf 2) b % dS (rv wf 3) b := by rw [p3_90, e5, e6]
        have d6 : rv W1_90 6 = dS (rv wf 3) b := (Fr2_rv p1_90 (by decide) (by decide)).trans e6
        have d2 : rv W1_90 2 = rv wf 2 := (Fr2_rv p1_90 (by decide) (by decide)).trans e2
        have d3 : rv W1_90 3 = rv wf 3 := (Fr2_rv p1_90 (by decide) (by decide)).trans e3
        have g448 := p0_90 448
        have g449 := p0_90 449
        refine lv_aload_n hx hb dX8_round_93 rfl (lv_at hl 0 rfl) ?_
        refine va_get (D := (dC, dI)) (ci := 0) (v := .ref aw) (C := RX8) (T := TX8) (N := 10) hx hb hts in_X8 hown hK hP 0 rfl rfl 4 (by decide) (hts _ q917) (fun _ h9 => h9) rfl dX8_round_94 ?_
        refine lv_sipush (v := I3 (448)) hx hb dX8_round_97 (by decide) ?_
        refine ix_lald hx hb hK hP 3 1 rfl rfl (Nat.le_of_ble_eq_true rfl) (by omega) dX8_round_100 ?_
        refine lv_aload_n hx hb dX8_round_101 rfl (lv_at hl 0 rfl) ?_
        refine va_get (D := (dC, dI)) (ci := 0) (v := .ref aw) (C := RX8) (T := TX8) (N := 10) hx hb hts in_X8 hown hK hP 0 rfl rfl 4 (by decide) (hts _ q917) (fun _ h9 => h9) rfl dX8_round_102 ?_
        refine lv_sipush (v := I3 (449)) hx hb dX8_round_105 (by decide) ?_
        refine ix_lald hx hb hK hP 3 1 rfl rfl (Nat.le_of_ble_eq_true rfl) (by omega) dX8_round_108 ?_
        refine lv_bipush (v := I3 (32)) hx hb dX8_round_109 (by decide) ?_
        refine ix_lshl hx hb (by first | decide | omega) dX8_round_111 ?_
        refine ix_tl (y := (W1_90 449) * 4294967296) rfl ?_
        refine ix_lor hx hb dX8_round_112 ?_
        refine ix_tl (y := sm6 ((mS (rv wf 2) (rv wf 3) b : Nat) : Int)) (by rw [zor6_w g448 g449, ← d7]; exact lo64 p0_90 7) ?_
        refine lv_lstore (lv' := [(4, .long (L6 (sm6 ((mS (rv wf 2) (rv wf 3) b : Nat) : Int)))), (0, .ref am), (1, .int (I3 its)), (2, .int (I3 dr)), (3, .int (I3 b)), (6, .int (I3 mr))]) hx hb dX8_round_113 hl (by decide) rfl (fun ls hl => ?_)
        refine lv_aload_n hx hb dX8_round_115 rfl (lv_at hl 1 rfl) ?_
        refine lv_bipush (v := I3 (7)) hx hb dX8_round_116 (by decide) ?_
        have h_283 : 0 ≤ (7 : Int) ∧ (7 : Int) < 16 := by decide
        have h_284 : Dg W1_90 := by first | assumption | omega | (constructor <;> omega)
        have hPc := hP.sub (ws' := [(am, .inr (0, [.int (I3 th), .int (I3 mn), .ref as_, .ref av, .ref aw, .int (I3 sm), .int (I3 wd), .int (I3 lp), .int (I3 mp), .int (I3 re)])), (as_, .inl (dA 0, 60, .inl (iA SG))), (av, .inl (dA 1, 960, .inr (.inl (lA VL)))), (aw, .inl (dA 1, 1024, .inr (.inl (lA W1_90))))]) [0, 1, 2, 3] rfl
        have hDc := hD.sub (ws' := [(am, .inr (0, [.int (I3 th), .int (I3 mn), .ref as_, .ref av, .ref aw, .int (I3 sm), .int (I3 wd), .int (I3 lp), .int (I3 mp), .int (I3 re)])), (as_, .inl (dA 0, 60, .inl (iA SG))), (av, .inl (dA 1, 960, .inr (.inl (lA VL)))), (aw, .inl (dA 1, 1024, .inr (.inl (lA W1_90))))]) [0, 1, 2, 3] (by decide) rfl
        have hFc := va_free (wc := [(am, .inr (0, [.int (I3 th), .int (I3 mn), .ref as_, .ref av, .ref aw, .int (I3 sm), .int (I3 wd), .int (I3 lp), .int (I3 mp), .int (I3 re)])), (as_, .inl (dA 0, 60, .inl (iA SG))), (av, .inl (dA 1, 960, .inr (.inl (lA VL)))), (aw, .inl (dA 1, 1024, .inr (.inl (lA W1_90))))]) hD hS hA [0, 1, 2, 3] rfl
        refine va_calli (va_runV (As := [.int (I3 7)]) (rest := []) ⟨hx, hb, hml, hown, hts⟩ (metX8_length l dC dI dA am as_ av aw H.size th mn sm wd lp mp re SG VL W1_90 7 h_283 h_284) (cwV 1 hts (lw_V q1008 q1010 qs32 q66 q1011) rfl rfl rfl (by decide +kernel) ⟨Nat.le_of_ble_eq_true rfl, Nat.le_of_ble_eq_true rfl⟩) ⟨fun a U g mk q => by obtain ⟨q0, q1, qP, qK, qD⟩ := q; exact ⟨q0, q1, qP, va_K.moved (u := U) (U := U.calling g mk a) (Vm.Alike.refl U.vm) qK, qD⟩, va_recv hK hPc (ci := 0) (q0 := 0) rfl rfl, fun U hU hW => ⟨rfl, by rw [hU], by rw [hU]; exact hPc, va_K.moved hW.alike hK, hDc.weaken (fun _ _ _ _ => trivial)⟩⟩ rfl rfl hl.1 rfl (lv_room (Nat.le_of_ble_eq_true rfl)) dX8_round_118 ⟨Nat.le_of_ble_eq_true rfl, Nat.le_of_ble_eq_true rfl⟩) hS (fun q _ h => hFc q h) hFc (fun r_118 u t H1 locs ht hvm hw hB hz1 hk1 hS => ?_)
        obtain ⟨z_118, rfl⟩ : ∃ z, z = u := ⟨_, rfl⟩
        obtain ⟨rfl, p0_118⟩ : r_118 = I3 z_118 ∧ (z_118 = ((bl (rv W1_90 (7 : Int)) : Nat) : Int)) := hw
        obtain ⟨hP1, hK1, hD1⟩ := hB
        rw [ht] at hP1
        obtain ⟨hP, hD⟩ := va_join (wr := []) (w1 := [(am, .inr (0, [.int (I3 th), .int (I3 mn), .ref as_, .ref av, .ref aw, .int (I3 sm), .int (I3 wd), .int (I3 lp), .int (I3 mp), .int (I3 re)])), (as_, .inl (dA 0, 60, .inl (iA SG))), (av, .inl (dA 1, 960, .inr (.inl (lA VL)))), (aw, .inl (dA 1, 1024, .inr (.inl (lA W1_90))))]) hP hD [0, 1, 2, 3] [] rfl rfl (by decide) (by decide) hk1 hFc hP1 hD1
        generalize H1 = H at hP hS ⊢
        have hP : va_P (dC, dI) vwCl [(am, .inr (0, [.int (I3 th), .int (I3 mn), .ref as_, .ref av, .ref aw, .int (I3 sm), .int (I3 wd), .int (I3 lp), .int (I3 mp), .int (I3 re)])), (as_, .inl (dA 0, 60, .inl (iA SG))), (av, .inl (dA 1, 960, .inr (.inl (lA VL)))), (aw, .inl (dA 1, 1024, .inr (.inl (lA W1_90))))] H := hP
        have hD : va_D A [(am, .inr (0, [.int (I3 th), .int (I3 mn), .ref as_, .ref av, .ref aw, .int (I3 sm), .int (I3 wd), .int (I3 lp), .int (I3 mp), .int (I3 re)])), (as_, .inl (dA 0, 60, .inl (iA SG))), (av, .inl (dA 1, 960, .inr (.inl (lA VL)))), (aw, .inl (dA 1, 1024, .inr (.inl (lA W1_90))))] := hD
        rw [d7] at p0_118
        have hb118 : bl (mS (rv wf 2) (rv wf 3) b) ≤ 2048 := by rw [← d7]; exact bl_le.mpr (rv_lt p0_90 7)
        refine lv_aload_n hx hb dX8_round_121 rfl (lv_at hl 1 rfl) ?_
        refine va_get (D := (dC, dI)) (ci := 0) (v := .int (I3 wd)) (C := RX8) (T := TX8) (N := 10) hx hb hts in_X8 hown hK hP 0 rfl rfl 6 (by decide) (hts _ q919) (fun _ h9 => h9) rfl dX8_round_122 ?_
        refine ix_icmp_gt (tgt := 149) hx hb (by first | assumption | decide | (constructor <;> omega)) (by first | assumption | decide | (constructor <;> omega)) dX8_round_125 (by decide) (fun c_125 => ?_) (fun c_125 => ?_)
        · skip
          refine lv_iconst (v := I3 (1)) hx hb dX8_round_149 rfl ?_
          refine lv_goto (tgt := 154) hx hb dX8_round_150 (by decide) ?_
          have e_285 : mr = 1 := by first | assumption | omega | (constructor <;> omega)
          have e_286 : ((1 : Int) = 1 ∧ ¬ bl (mS (rv wf 2) (rv wf 3) b) ≤ wd.toNat) ∨ ((1 : Int) = 0 ∧ bl (mS (rv wf 2) (rv wf 3) b) ≤ wd.toNat) := by exact Or.inl ⟨rfl, by omega⟩
          have e_287 : Dg W1_90 := by first | assumption | omega | (constructor <;> omega)
          have e_288 : rv W1_90 2 = rv wf 2 := by exact d2
          have e_289 : rv W1_90 3 = rv wf 3 := by exact d3
          have e_290 : rv W1_90 6 = (dS (rv wf 3) b) := by exact d6
          have e_291 : rv W1_90 7 = mS (rv wf 2) (rv wf 3) b := by exact d7
          have e_292 : rv W1_90 8 = (nS (rv wf 2) b) % (dS (rv wf 3) b) := by exact d8
          have e_293 : 2 * (dS (rv wf 3) b) < BN := by first | assumption | omega | (constructor <;> omega)
          exact cut_154 1 W1_90 e_285 e_286 e_287 e_288 e_289 e_290 e_291 e_292 e_293 _ _ hP hD hS ls (lv_sub hl [1, 2, 3, 4, 0] rfl)
        · skip
          refine lv_aload_n hx hb dX8_round_128 rfl (lv_at hl 1 rfl) ?_
          refine lv_bipush (v := I3 (7)) hx hb dX8_round_129 (by decide) ?_
          have h_294 : 0 ≤ (7 : Int) ∧ (7 : Int) < 16 := by decide
          have h_295 : Dg W1_90 := by first | assumption | omega | (constructor <;> omega)
          have hPc := hP.sub (ws' := [(am, .inr (0, [.int (I3 th), .int (I3 mn), .ref as_, .ref av, .ref aw, .int (I3 sm), .int (I3 wd), .int (I3 lp), .int (I3 mp), .int (I3 re)])), (as_, .inl (dA 0, 60, .inl (iA SG))), (av, .inl (dA 1, 960, .inr (.inl (lA VL)))), (aw, .inl (dA 1, 1024, .inr (.inl (lA W1_90))))]) [0, 1, 2, 3] rfl
          have hDc := hD.sub (ws' := [(am, .inr (0, [.int (I3 th), .int (I3 mn), .ref as_, .ref av, .ref aw, .int (I3 sm), .int (I3 wd), .int (I3 lp), .int (I3 mp), .int (I3 re)])), (as_, .inl (dA 0, 60, .inl (iA SG))), (av, .inl (dA 1, 960, .inr (.inl (lA VL)))), (aw, .inl (dA 1, 1024, .inr (.inl (lA W1_90))))]) [0, 1, 2, 3] (by decide) rfl
          have hFc := va_free (wc := [(am, .inr (0, [.int (I3 th), .int (I3 mn), .ref as_, .ref av, .ref aw, .int (I3 sm), .int (I3 wd), .int (I3 lp), .int (I3 mp), .int (I3 re)])), (as_, .inl (dA 0, 60, .inl (iA SG))), (av, .inl (dA 1, 960, .inr (.inl (lA VL)))), (aw, .inl (dA 1, 1024, .inr (.inl (lA W1_90))))]) hD hS hA [0, 1, 2, 3] rfl
          refine va_calli (va_runV (As := [.int (I3 7)]) (rest := []) ⟨hx, hb, hml, hown, hts⟩ (metX8_length l dC dI dA am as_ av aw H.size th mn sm wd lp mp re SG VL W1_90 7 h_294 h_295) (cwV 1 hts (lw_V q1008 q1010 qs32 q66 q1011) rfl rfl rfl (by decide +kernel) ⟨Nat.le_of_ble_eq_true rfl, Nat.le_of_ble_eq_true rfl⟩) ⟨fun a U g mk q => by obtain ⟨q0, q1, qP, qK, qD⟩ := q; exact ⟨q0, q1, qP, va_K.moved (u := U) (U := U.calling g mk a) (Vm.Alike.refl U.vm) qK, qD⟩, va_recv hK hPc (ci := 0) (q0 := 0) rfl rfl, fun U hU hW => ⟨rfl, by rw [hU], by rw [hU]; exact hPc, va_K.moved hW.alike hK, hDc.weaken (fun _ _ _ _ => trivial)⟩⟩ rfl rfl hl.1 rfl (lv_room (Nat.le_of_ble_eq_true rfl)) dX8_round_131 ⟨Nat.le_of_ble_eq_true rfl, Nat.le_of_ble_eq_true rfl⟩) hS (fun q _ h => hFc q h) hFc (fun r_131 u t H1 locs ht hvm hw hB hz1 hk1 hS => ?_)
          obtain ⟨z_131, rfl⟩ : ∃ z, z = u := ⟨_, rfl⟩
          obtain ⟨rfl, p0_131⟩ : r_131 = I3 z_131 ∧ (z_131 = ((bl (rv W1_90 (7 : Int)) : Nat) : Int)) := hw
          obtain ⟨hP1, hK1, hD1⟩ := hB
          rw [ht] at hP1
          obtain ⟨hP, hD⟩ := va_join (wr := []) (w1 := [(am, .inr (0, [.int (I3 th), .int (I3 mn), .ref as_, .ref av, .ref aw, .int (I3 sm), .int (I3 wd), .int (I3 lp), .int (I3 mp), .int (I3 re)])), (as_, .inl (dA 0, 60, .inl (iA SG))), (av, .inl (dA 1, 960, .inr (.inl (lA VL)))), (aw, .inl (dA 1, 1024, .inr (.inl (lA W1_90))))]) hP hD [0, 1, 2, 3] [] rfl rfl (by decide) (by decide) hk1 hFc hP1 hD1
          generalize H1 = H at hP hS ⊢
          have hP : va_P (dC, dI) vwCl [(am, .inr (0, [.int (I3 th), .int (I3 mn), .ref as_, .ref av, .ref aw, .int (I3 sm), .int (I3 wd), .int (I3 lp), .int (I3 mp), .int (I3 re)])), (as_, .inl (dA 0, 60, .inl (iA SG))), (av, .inl (dA 1, 960, .inr (.inl (lA VL)))), (aw, .inl (dA 1, 1024, .inr (.inl (lA W1_90))))] H := hP
          have hD : va_D A [(am, .inr (0, [.int (I3 th), .int (I3 mn), .ref as_, .ref av, .ref aw, .int (I3 sm), .int (I3 wd), .int (I3 lp), .int (I3 mp), .int (I3 re)])), (as_, .inl (dA 0, 60, .inl (iA SG))), (av, .inl (dA 1, 960, .inr (.inl (lA VL)))), (aw, .inl (dA 1, 1024, .inr (.inl (lA W1_90))))] := hD
          rw [d7] at p0_131
          refine lv_aload_n hx hb dX8_round_134 rfl (lv_at hl 1 rfl) ?_
          refine va_get (D := (dC, dI)) (ci := 0) (v := .int (I3 wd)) (C := RX8) (T := TX8) (N := 10) hx hb hts in_X8 hown hK hP 0 rfl rfl 6 (by decide) (hts _ q919) (fun _ h9 => h9) rfl dX8_round_135 ?_
          refine ix_icmp_ge (tgt := 153) hx hb (by first | assumption | decide | (constructor <;> omega)) (by first | assumption | decide | (constructor <;> omega)) dX8_round_138 (by decide) (fun c_138 => ?_) (fun c_138 => ?_)
          · skip
            refine lv_iconst (v := I3 (0)) hx hb dX8_round_153 rfl ?_
            have e_296 : mr = 1 := by first | assumption | omega | (constructor <;> omega)
            have e_297 : ((0 : Int) = 1 ∧ ¬ bl (mS (rv wf 2) (rv wf 3) b) ≤ wd.toNat) ∨ ((0 : Int) = 0 ∧ bl (mS (rv wf 2) (rv wf 3) b) ≤ wd.toNat) := by exact Or.inr ⟨rfl, by omega⟩
            have e_298 : Dg W1_90 := by first | assumption | omega | (constructor <;> omega)
            have e_299 : rv W1_90 2 = rv wf 2 := by exact d2
            have e_300 : rv W1_90 3 = rv wf 3 := by exact d3
            have e_301 : rv W1_90 6 = (dS (rv wf 3) b) := by exact d6
            have e_302 : rv W1_90 7 = mS (rv wf 2) (rv wf 3) b := by exact d7
            have e_303 : rv W1_90 8 = (nS (rv wf 2) b) % (dS (rv wf 3) b) := by exact d8
            have e_304 : 2 * (dS (rv wf 3) b) < BN := by first | assumption | omega | (constructor <;> omega)
            exact cut_154 0 W1_90 e_296 e_297 e_298 e_299 e_300 e_301 e_302 e_303 e_304 _ _ hP hD hS ls (lv_sub hl [1, 2, 3, 4, 0] rfl)
          · skip
            refine lv_iload_n hx hb dX8_round_141 rfl (lv_at hl 4 rfl) ?_
            refine lv_aload_n hx hb dX8_round_142 rfl (lv_at hl 1 rfl) ?_
            refine va_get (D := (dC, dI)) (ci := 0) (v := .int (I3 lp)) (C := RX8) (T := TX8) (N := 10) hx hb hts in_X8 hown hK hP 0 rfl rfl 7 (by decide) (hts _ q920) (fun _ h9 => h9) rfl dX8_round_143 ?_
            refine ix_icmp_le (tgt := 153) hx hb (by first | assumption | decide | (constructor <;> omega)) (by first | assumption | decide | (constructor <;> omega)) dX8_round_146 (by decide) (fun c_146 => ?_) (fun c_146 => ?_)
            · skip
              refine lv_iconst (v := I3 (0)) hx hb dX8_round_153 rfl ?_
              have e_305 : mr = 1 := by first | assumption | omega | (constructor <;> omega)
              have e_306 : ((0 : Int) = 1 ∧ ¬ bl (mS (rv wf 2) (rv wf 3) b) ≤ wd.toNat) ∨ ((0 : Int) = 0 ∧ bl (mS (rv wf 2) (rv wf 3) b) ≤ wd.toNat) := by exact Or.inr ⟨rfl, by omega⟩
              have e_307 : Dg W1_90 := by first | assumption | omega | (constructor <;> omega)
              have e_308 : rv W1_90 2 = rv wf 2 := by exact d2
              have e_309 : rv W1_90 3 = rv wf 3 := by exact d3
              have e_310 : rv W1_90 6 = (dS (rv wf 3) b) := by exact d6
              have e_311 : rv W1_90 7 = mS (rv wf 2) (rv wf 3) b := by exact d7
              have e_312 : rv W1_90 8 = (nS (rv wf 2) b) % (dS (rv wf 3) b) := by exact d8
              have e_313 : 2 * (dS (rv wf 3) b) < BN := by first | assumption | omega | (constructor <;> omega)
              exact cut_154 0 W1_90 e_305 e_306 e_307 e_308 e_309 e_310 e_311 e_312 e_313 _ _ hP hD hS ls (lv_sub hl [1, 2, 3, 4, 0] rfl)
            · skip
              refine lv_iconst (v := I3 (1)) hx hb dX8_round_149 rfl ?_
              refine lv_goto (tgt := 154) hx hb dX8_round_150 (by decide) ?_
              have e_314 : mr = 1 := by first | assumption | omega | (constructor <;> omega)
              have e_315 : ((1 : Int) = 1 ∧ ¬ bl (mS (rv wf 2) (rv wf 3) b) ≤ wd.toNat) ∨ ((1 : Int) = 0 ∧ bl (mS (rv wf 2) (rv wf 3) b) ≤ wd.toNat) := by exfalso; have h9 := (RQ_bl hw1.1 (s1 (by omega))).2; omega
              have e_316 : Dg W1_90 := by first | assumption | omega | (constructor <;> omega)
              have e_317 : rv W1_90 2 = rv wf 2 := by exact d2
              have e_318 : rv W1_90 3 = rv wf 3 := by exact d3
              have e_319 : rv W1_90 6 = (dS (rv wf 3) b) := by exact d6
              have e_320 : rv W1_90 7 = mS (rv wf 2) (rv wf 3) b := by exact d7
              have e_321 : rv W1_90 8 = (nS (rv wf 2) b) % (dS (rv wf 3) b) := by exact d8
              have e_322 : 2 * (dS (rv wf 3) b) < BN := by first | assumption | omega | (constructor <;> omega)
              exact cut_154 1 W1_90 e_314 e_315 e_316 e_317 e_318 e_319 e_320 e_321 e_322 _ _ hP hD hS ls (lv_sub hl [1, 2, 3, 4, 0] rfl)
      refine lv_iload hx hb dX8_round_40 (lv_at hl 5 rfl) ?_
      refine ix_if_eq (tgt := 191) hx hb (by first | assumption | decide | (constructor <;> omega)) dX8_round_42 (by decide) (fun c_42 => ?_) (fun c_42 => ?_)
      · skip
        obtain ⟨q1, q2, q3, q4⟩ := h0 (by omega)
        have e_323 : RQ wd lp (rv wf 2) (rv wf 3) b := by rcases hR with ⟨h1, -⟩ | ⟨h1, -⟩ | ⟨-, h2⟩; omega; omega; exact h2
        have e_324 : -2000 ≤ b ∧ b ≤ 2100 := by first | assumption | omega | (constructor <;> omega)
        have e_325 : mm = ((mS (rv wf 2) (rv wf 3) b : Nat) : Int) := by exact q1
        have e_326 : Dg W1 := by first | assumption | omega | (constructor <;> omega)
        have e_327 : rv W1 6 = (dS (rv wf 3) b) := by exact q2
        have e_328 : rv W1 8 = (nS (rv wf 2) b) % (dS (rv wf 3) b) := by exact q3
        have e_329 : 2 * (dS (rv wf 3) b) < BN := by exact q4
        exact cut_191 mm b mr W1 e_323 e_324 e_325 e_326 e_327 e_328 e_329 _ _ hP hD hS ls (lv_sub hl [0, 1, 2, 3, 4, 5] rfl)
      · skip
        have hm1 : mr = 1 := by omega
        obtain ⟨s1, s2, s3, s4, s5, s6⟩ := hs hm1
        have hdd : 2 * dS (rv wf 3) b < BN := dS_lt (P := rv wf 2) (wd := wd) (by omega) (by omega) (by omega) (by omega)
        have hnn : nS (rv wf 2) b < BN := nS_lt (Q := rv wf 3) (wd := wd) (by omega) (by omega) (by omega)
        refine lv_aload_n hx hb dX8_round_45 rfl (lv_at hl 0 rfl) ?_
        refine lv_iconst (v := I3 (2)) hx hb dX8_round_46 rfl ?_
        refine lv_iconst (v := I3 (5)) hx hb dX8_round_47 rfl ?_
        have h_330 : 0 ≤ (2 : Int) ∧ (2 : Int) < 16 := by decide
        have h_331 : 0 ≤ (5 : Int) ∧ (5 : Int) < 16 := by decide
        have h_332 : (2 : Int) ≠ (5 : Int) := by decide
        have h_333 : Dg W1 := by first | assumption | omega | (constructor <;> omega)
        have hPc := hP.sub (ws' := [(am, .inr (0, [.int (I3 th), .int (I3 mn), .ref as_, .ref av, .ref aw, .int (I3 sm), .int (I3 wd), .int (I3 lp), .int (I3 mp), .int (I3 re)])), (as_, .inl (dA 0, 60, .inl (iA SG))), (av, .inl (dA 1, 960, .inr (.inl (lA VL)))), (aw, .inl (dA 1, 1024, .inr (.inl (lA W1))))]) [0, 1, 2, 3] rfl
        have hDc := hD.sub (ws' := [(am, .inr (0, [.int (I3 th), .int (I3 mn), .ref as_, .ref av, .ref aw, .int (I3 sm), .int (I3 wd), .int (I3 lp), .int (I3 mp), .int (I3 re)])), (as_, .inl (dA 0, 60, .inl (iA SG))), (av, .inl (dA 1, 960, .inr (.inl (lA VL)))), (aw, .inl (dA 1, 1024, .inr (.inl (lA W1))))]) [0, 1, 2, 3] (by decide) rfl
        have hFc := va_free (wc := [(am, .inr (0, [.int (I3 th), .int (I3 mn), .ref as_, .ref av, .ref aw, .int (I3 sm), .int (I3 wd), .int (I3 lp), .int (I3 mp), .int (I3 re)])), (as_, .inl (dA 0, 60, .inl (iA SG))), (av, .inl (dA 1, 960, .inr (.inl (lA VL)))), (aw, .inl (dA 1, 1024, .inr (.inl (lA W1))))]) hD hS hA [0, 1, 2, 3] rfl
        refine va_callv (va_runV (As := [.int (I3 2), .int (I3 5)]) (rest := []) ⟨hx, hb, hml, hown, hts⟩ (metX8_copy l dC dI dA am as_ av aw H.size th mn sm wd lp mp re SG VL W1 2 5 h_330 h_331 h_332 h_333) (cwV 2 hts (lw_V q976 q978 qs24 q66 q979) rfl rfl rfl (by decide +kernel) ⟨Nat.le_of_ble_eq_true rfl, Nat.le_of_ble_eq_true rfl⟩) ⟨fun a U g mk q => by obtain ⟨q0, q1, qP, qK, qD⟩ := q; exact ⟨q0, q1, qP, va_K.moved (u := U) (U := U.calling g mk a) (Vm.Alike.refl U.vm) qK, qD⟩, va_recv hK hPc (ci := 0) (q0 := 0) rfl rfl, fun U hU hW => ⟨rfl, by rw [hU], by rw [hU]; exact hPc, va_K.moved hW.alike hK, hDc.weaken (fun _ _ _ _ => trivial)⟩⟩ rfl rfl hl.1 rfl (lv_room (Nat.le_of_ble_eq_true rfl)) dX8_round_48 ⟨Nat.le_of_ble_eq_true rfl, Nat.le_of_ble_eq_true rfl⟩) hS (fun q _ h => hFc q h) hFc (fun u t H1 locs ht hvm hw hB hz1 hk1 hS => ?_)
        obtain ⟨W1_48, rfl⟩ : ∃ z, z = u := ⟨_, rfl⟩
        obtain ⟨p0_48, p1_48, p2_48⟩ : (Dg W1_48) ∧ (Fr W1 W1_48 (5 : Int)) ∧ (rv W1_48 (5 : Int) = rv W1 (2 : Int)) := hw
        obtain ⟨hP1, hK1, hD1⟩ := hB
        rw [ht] at hP1
        obtain ⟨hP, hD⟩ := va_join (wr := []) (w1 := [(am, .inr (0, [.int (I3 th), .int (I3 mn), .ref as_, .ref av, .ref aw, .int (I3 sm), .int (I3 wd), .int (I3 lp), .int (I3 mp), .int (I3 re)])), (as_, .inl (dA 0, 60, .inl (iA SG))), (av, .inl (dA 1, 960, .inr (.inl (lA VL)))), (aw, .inl (dA 1, 1024, .inr (.inl (lA W1_48))))]) hP hD [0, 1, 2, 3] [] rfl rfl (by decide) (by decide) hk1 hFc hP1 hD1
        generalize H1 = H at hP hS ⊢
        have hP : va_P (dC, dI) vwCl [(am, .inr (0, [.int (I3 th), .int (I3 mn), .ref as_, .ref av, .ref aw, .int (I3 sm), .int (I3 wd), .int (I3 lp), .int (I3 mp), .int (I3 re)])), (as_, .inl (dA 0, 60, .inl (iA SG))), (av, .inl (dA 1, 960, .inr (.inl (lA VL)))), (aw, .inl (dA 1, 1024, .inr (.inl (lA W1_48))))] H := hP
        have hD : va_D A [(am, .inr (0, [.int (I3 th), .int (I3 mn), .ref as_, .ref av, .ref aw, .int (I3 sm), .int (I3 wd), .int (I3 lp), .int (I3 mp), .int (I3 re)])), (as_, .inl (dA 0, 60, .inl (iA SG))), (av, .inl (dA 1, 960, .inr (.inl (lA VL)))), (aw, .inl (dA 1, 1024, .inr (.inl (lA W1_48))))] := hD
        refine lv_aload_n hx hb dX8_round_51 rfl (lv_at hl 0 rfl) ?_
        refine lv_iconst (v := I3 (3)) hx hb dX8_round_52 rfl ?_
        refine lv_bipush (v := I3 (6)) hx hb dX8_round_53 (by decide) ?_
        have h_334 : 0 ≤ (3 : Int) ∧ (3 : Int) < 16 := by decide
        have h_335 : 0 ≤ (6 : Int) ∧ (6 : Int) < 16 := by decide
        have h_336 : (3 : Int) ≠ (6 : Int) := by decide
        have h_337 : Dg W1_48 := by first | assumption | omega | (constructor <;> omega)
        have hPc := hP.sub (ws' := [(am, .inr (0, [.int (I3 th), .int (I3 mn), .ref as_, .ref av, .ref aw, .int (I3 sm), .int (I3 wd), .int (I3 lp), .int (I3 mp), .int (I3 re)])), (as_, .inl (dA 0, 60, .inl (iA SG))), (av, .inl (dA 1, 960, .inr (.inl (lA VL)))), (aw, .inl (dA 1, 1024, .inr (.inl (lA W1_48))))]) [0, 1, 2, 3] rfl
        have hDc := hD.sub (ws' := [(am, .inr (0, [.int (I3 th), .int (I3 mn), .ref as_, .ref av, .ref aw, .int (I3 sm), .int (I3 wd), .int (I3 lp), .int (I3 mp), .int (I3 re)])), (as_, .inl (dA 0, 60, .inl (iA SG))), (av, .inl (dA 1, 960, .inr (.inl (lA VL)))), (aw, .inl (dA 1, 1024, .inr (.inl (lA W1_48))))]) [0, 1, 2, 3] (by decide) rfl
        have hFc := va_free (wc := [(am, .inr (0, [.int (I3 th), .int (I3 mn), .ref as_, .ref av, .ref aw, .int (I3 sm), .int (I3 wd), .int (I3 lp), .int (I3 mp), .int (I3 re)])), (as_, .inl (dA 0, 60, .inl (iA SG))), (av, .inl (dA 1, 960, .inr (.inl (lA VL)))), (aw, .inl (dA 1, 1024, .inr (.inl (lA W1_48))))]) hD hS hA [0, 1, 2, 3] rfl
        refine va_callv (va_runV (As := [.int (I3 3), .int (I3 6)]) (rest := []) ⟨hx, hb, hml, hown, hts⟩ (metX8_copy l dC dI dA am as_ av aw H.size th mn sm wd lp mp re SG VL W1_48 3 6 h_334 h_335 h_336 h_337) (cwV 2 hts (lw_V q976 q978 qs24 q66 q979) rfl rfl rfl (by decide +kernel) ⟨Nat.le_of_ble_eq_true rfl, Nat.le_of_ble_eq_true rfl⟩) ⟨fun a U g mk q => by obtain ⟨q0, q1, qP, qK, qD⟩ := q; exact ⟨q0, q1, qP, va_K.moved (u := U) (U := U.calling g mk a) (Vm.Alike.refl U.vm) qK, qD⟩, va_recv hK hPc (ci := 0) (q0 := 0) rfl rfl, fun U hU hW => ⟨rfl, by rw [hU], by rw [hU]; exact hPc, va_K.moved hW.alike hK, hDc.weaken (fun _ _ _ _ => trivial)⟩⟩ rfl rfl hl.1 rfl (lv_room (Nat.le_of_ble_eq_true rfl)) dX8_round_55 ⟨Nat.le_of_ble_eq_true rfl, Nat.le_of_ble_eq_true rfl⟩) hS (fun q _ h => hFc q h) hFc (fun u t H1 locs ht hvm hw hB hz1 hk1 hS => ?_)
        obtain ⟨W1_55, rfl⟩ : ∃ z, z = u := ⟨_, rfl⟩
        obtain ⟨p0_55, p1_55, p2_55⟩ : (Dg W1_55) ∧ (Fr W1_48 W1_55 (6 : Int)) ∧ (rv W1_55 (6 : Int) = rv W1_48 (3 : Int)) := hw
        obtain ⟨hP1, hK1, hD1⟩ := hB
        rw [ht] at hP1
        obtain ⟨hP, hD⟩ := va_join (wr := []) (w1 := [(am, .inr (0, [.int (I3 th), .int (I3 mn), .ref as_, .ref av, .ref aw, .int (I3 sm), .int (I3 wd), .int (I3 lp), .int (I3 mp), .int (I3 re)])), (as_, .inl (dA 0, 60, .inl (iA SG))), (av, .inl (dA 1, 960, .inr (.inl (lA VL)))), (aw, .inl (dA 1, 1024, .inr (.inl (lA W1_55))))]) hP hD [0, 1, 2, 3] [] rfl rfl (by decide) (by decide) hk1 hFc hP1 hD1
        generalize H1 = H at hP hS ⊢
        have hP : va_P (dC, dI) vwCl [(am, .inr (0, [.int (I3 th), .int (I3 mn), .ref as_, .ref av, .ref aw, .int (I3 sm), .int (I3 wd), .int (I3 lp), .int (I3 mp), .int (I3 re)])), (as_, .inl (dA 0, 60, .inl (iA SG))), (av, .inl (dA 1, 960, .inr (.inl (lA VL)))), (aw, .inl (dA 1, 1024, .inr (.inl (lA W1_55))))] H := hP
        have hD : va_D A [(am, .inr (0, [.int (I3 th), .int (I3 mn), .ref as_, .ref av, .ref aw, .int (I3 sm), .int (I3 wd), .int (I3 lp), .int (I3 mp), .int (I3 re)])), (as_, .inl (dA 0, 60, .inl (iA SG))), (av, .inl (dA 1, 960, .inr (.inl (lA VL)))), (aw, .inl (dA 1, 1024, .inr (.inl (lA W1_55))))] := hD
        have a5 : rv W1_55 5 = rv wf 2 := (Fr_rv p1_55 (by decide)).trans (p2_48.trans f2)
        have a6 : rv W1_55 6 = rv wf 3 := p2_55.trans ((Fr_rv p1_48 (by decide)).trans f3)
        have a2 : rv W1_55 2 = rv wf 2 := (Fr_rv p1_55 (by decide)).trans ((Fr_rv p1_48 (by decide)).trans f2)
        have a3 : rv W1_55 3 = rv wf 3 := (Fr_rv p1_55 (by decide)).trans ((Fr_rv p1_48 (by decide)).trans f3)
        refine lv_aload_n hx hb dX8_round_58 rfl (lv_at hl 0 rfl) ?_
        refine lv_iload_n hx hb dX8_round_59 rfl (lv_at hl 3 rfl) ?_
        refine ix_if_le (tgt := 68) hx hb (by first | assumption | decide | (constructor <;> omega)) dX8_round_60 (by decide) (fun c_60 => ?_) (fun c_60 => ?_)
        · skip
          refine lv_iconst (v := I3 (5)) hx hb dX8_round_68 rfl ?_
          refine lv_iload_n hx hb dX8_round_69 rfl (lv_at hl 3 rfl) ?_
          refine ix_if_le (tgt := 77) hx hb (by first | assumption | decide | (constructor <;> omega)) dX8_round_70 (by decide) (fun c_70 => ?_) (fun c_70 => ?_)
          · skip
            refine lv_iload_n hx hb dX8_round_77 rfl (lv_at hl 3 rfl) ?_
            refine ix_ineg hx hb dX8_round_78 ?_
            have h_338 : 0 ≤ (5 : Int) ∧ (5 : Int) < 16 := by decide
            have h_339 : 0 ≤ (-b) ∧ (-b) < 2048 := by first | assumption | omega | (constructor <;> omega)
            have h_340 : Dg W1_55 := by first | assumption | omega | (constructor <;> omega)
            have hPc := hP.sub (ws' := [(am, .inr (0, [.int (I3 th), .int (I3 mn), .ref as_, .ref av, .ref aw, .int (I3 sm), .int (I3 wd), .int (I3 lp), .int (I3 mp), .int (I3 re)])), (as_, .inl (dA 0, 60, .inl (iA SG))), (av, .inl (dA 1, 960, .inr (.inl (lA VL)))), (aw, .inl (dA 1, 1024, .inr (.inl (lA W1_55))))]) [0, 1, 2, 3] rfl
            have hDc := hD.sub (ws' := [(am, .inr (0, [.int (I3 th), .int (I3 mn), .ref as_, .ref av, .ref aw, .int (I3 sm), .int (I3 wd), .int (I3 lp), .int (I3 mp), .int (I3 re)])), (as_, .inl (dA 0, 60, .inl (iA SG))), (av, .inl (dA 1, 960, .inr (.inl (lA VL)))), (aw, .inl (dA 1, 1024, .inr (.inl (lA W1_55))))]) [0, 1, 2, 3] (by decide) rfl
            have hFc := va_free (wc := [(am, .inr (0, [.int (I3 th), .int (I3 mn), .ref as_, .ref av, .ref aw, .int (I3 sm), .int (I3 wd), .int (I3 lp), .int (I3 mp), .int (I3 re)])), (as_, .inl (dA 0, 60, .inl (iA SG))), (av, .inl (dA 1, 960, .inr (.inl (lA VL)))), (aw, .inl (dA 1, 1024, .inr (.inl (lA W1_55))))]) hD hS hA [0, 1, 2, 3] rfl
            refine va_callv (va_runV (As := [.int (I3 5), .int (I3 (-b))]) (rest := []) ⟨hx, hb, hml, hown, hts⟩ (metX8_up l dC dI dA am as_ av aw H.size th mn sm wd lp mp re SG VL W1_55 5 (-b) h_338 h_339 h_340) (cwV 2 hts (lw_V q1000 q1002 qs30 q66 q1003) rfl rfl rfl (by decide +kernel) ⟨Nat.le_of_ble_eq_true rfl, Nat.le_of_ble_eq_true rfl⟩) ⟨fun a U g mk q => by obtain ⟨q0, q1, qP, qK, qD⟩ := q; exact ⟨q0, q1, qP, va_K.moved (u := U) (U := U.calling g mk a) (Vm.Alike.refl U.vm) qK, qD⟩, va_recv hK hPc (ci := 0) (q0 := 0) rfl rfl, fun U hU hW => ⟨rfl, by rw [hU], by rw [hU]; exact hPc, va_K.moved hW.alike hK, hDc.weaken (fun _ _ _ _ => trivial)⟩⟩ rfl rfl hl.1 rfl (lv_room (Nat.le_of_ble_eq_true rfl)) dX8_round_79 ⟨Nat.le_of_ble_eq_true rfl, Nat.le_of_ble_eq_true rfl⟩) hS (fun q _ h => hFc q h) hFc (fun u t H1 locs ht hvm hw hB hz1 hk1 hS => ?_)
            obtain ⟨W1_79, rfl⟩ : ∃ z, z = u := ⟨_, rfl⟩
            obtain ⟨p0_79, p1_79, p2_79⟩ : (Dg W1_79) ∧ (Fr W1_55 W1_79 (5 : Int)) ∧ (rv W1_79 (5 : Int) = rv W1_55 (5 : Int) * 2 ^ (-b).toNat % BN) := hw
            obtain ⟨hP1, hK1, hD1⟩ := hB
            rw [ht] at hP1
            obtain ⟨hP, hD⟩ := va_join (wr := []) (w1 := [(am, .inr (0, [.int (I3 th), .int (I3 mn), .ref as_, .ref av, .ref aw, .int (I3 sm), .int (I3 wd), .int (I3 lp), .int (I3 mp), .int (I3 re)])), (as_, .inl (dA 0, 60, .inl (iA SG))), (av, .inl (dA 1, 960, .inr (.inl (lA VL)))), (aw, .inl (dA 1, 1024, .inr (.inl (lA W1_79))))]) hP hD [0, 1, 2, 3] [] rfl rfl (by decide) (by decide) hk1 hFc hP1 hD1
            generalize H1 = H at hP hS ⊢
            have hP : va_P (dC, dI) vwCl [(am, .inr (0, [.int (I3 th), .int (I3 mn), .ref as_, .ref av, .ref aw, .int (I3 sm), .int (I3 wd), .int (I3 lp), .int (I3 mp), .int (I3 re)])), (as_, .inl (dA 0, 60, .inl (iA SG))), (av, .inl (dA 1, 960, .inr (.inl (lA VL)))), (aw, .inl (dA 1, 1024, .inr (.inl (lA W1_79))))] H := hP
            have hD : va_D A [(am, .inr (0, [.int (I3 th), .int (I3 mn), .ref as_, .ref av, .ref aw, .int (I3 sm), .int (I3 wd), .int (I3 lp), .int (I3 mp), .int (I3 re)])), (as_, .inl (dA 0, 60, .inl (iA SG))), (av, .inl (dA 1, 960, .inr (.inl (lA VL)))), (aw, .inl (dA 1, 1024, .inr (.inl (lA W1_79))))] := hD
            have e_341 : mr = 1 := by first | assumption | omega | (constructor <;> omega)
            have e_342 : Dg W1_79 := by first | assumption | omega | (constructor <;> omega)
            have e_343 : rv W1_79 2 = rv wf 2 := by rw [Fr_rv p1_79 (by decide)]; exact a2
            have e_344 : rv W1_79 3 = rv wf 3 := by rw [Fr_rv p1_79 (by decide)]; exact a3
            have e_345 : rv W1_79 5 = (nS (rv wf 2) b) := by first | (rw [p2_79, a5]; exact mod_BN hnn) | (rw [Fr_rv p1_79 (by decide), a5]; unfold nS; rw [show (-b).toNat = 0 by omega, Nat.pow_zero, Nat.mul_one])
            have e_346 : rv W1_79 6 = (dS (rv wf 3) b) := by first | (rw [p2_79, a6]; exact mod_BN (show dS (rv wf 3) b < BN by omega)) | (rw [Fr_rv p1_79 (by decide), a6]; unfold dS; rw [show b.toNat = 0 by omega, Nat.pow_zero, Nat.mul_one])
            have e_347 : 2 * (dS (rv wf 3) b) < BN := by exact hdd
            exact cut_82 W1_79 e_341 e_342 e_343 e_344 e_345 e_346 e_347 _ _ hP hD hS ls (lv_sub hl [0, 1, 2, 3, 5] rfl)
          · skip
            omega
        · skip
          refine lv_bipush (v := I3 (6)) hx hb dX8_round_63 (by decide) ?_
          refine lv_goto (tgt := 69) hx hb dX8_round_65 (by decide) ?_
          refine lv_iload_n hx hb dX8_round_69 rfl (lv_at hl 3 rfl) ?_
          refine ix_if_le (tgt := 77) hx hb (by first | assumption | decide | (constructor <;> omega)) dX8_round_70 (by decide) (fun c_70 => ?_) (fun c_70 => ?_)
          · skip
            omega
          · skip
            refine lv_iload_n hx hb dX8_round_73 rfl (lv_at hl 3 rfl) ?_
            refine lv_goto (tgt := 79) hx hb dX8_round_74 (by decide) ?_
            have h_348 : 0 ≤ (6 : Int) ∧ (6 : Int) < 16 := by decide
            have h_349 : 0 ≤ b ∧ b < 2048 := by first | assumption | omega | (constructor <;> omega)
            have h_350 : Dg W1_55 := by first | assumption | omega | (constructor <;> omega)
            have hPc := hP.sub (ws' := [(am, .inr (0, [.int (I3 th), .int (I3 mn), .ref as_, .ref av, .ref aw, .int (I3 sm), .int (I3 wd), .int (I3 lp), .int (I3 mp), .int (I3 re)])), (as_, .inl (dA 0, 60, .inl (iA SG))), (av, .inl (dA 1, 960, .inr (.inl (lA VL)))), (aw, .inl (dA 1, 1024, .inr (.inl (lA W1_55))))]) [0, 1, 2, 3] rfl
            have hDc := hD.sub (ws' := [(am, .inr (0, [.int (I3 th), .int (I3 mn), .ref as_, .ref av, .ref aw, .int (I3 sm), .int (I3 wd), .int (I3 lp), .int (I3 mp), .int (I3 re)])), (as_, .inl (dA 0, 60, .inl (iA SG))), (av, .inl (dA 1, 960, .inr (.inl (lA VL)))), (aw, .inl (dA 1, 1024, .inr (.inl (lA W1_55))))]) [0, 1, 2, 3] (by decide) rfl
            have hFc := va_free (wc := [(am, .inr (0, [.int (I3 th), .int (I3 mn), .ref as_, .ref av, .ref aw, .int (I3 sm), .int (I3 wd), .int (I3 lp), .int (I3 mp), .int (I3 re)])), (as_, .inl (dA 0, 60, .inl (iA SG))), (av, .inl (dA 1, 960, .inr (.inl (lA VL)))), (aw, .inl (dA 1, 1024, .inr (.inl (lA W1_55))))]) hD hS hA [0, 1, 2, 3] rfl
            refine va_callv (va_runV (As := [.int (I3 6), .int (I3 b)]) (rest := []) ⟨hx, hb, hml, hown, hts⟩ (metX8_up l dC dI dA am as_ av aw H.size th mn sm wd lp mp re SG VL W1_55 6 b h_348 h_349 h_350) (cwV 2 hts (lw_V q1000 q1002 qs30 q66 q1003) rfl rfl rfl (by decide +kernel) ⟨Nat.le_of_ble_eq_true rfl, Nat.le_of_ble_eq_true rfl⟩) ⟨fun a U g mk q => by obtain ⟨q0, q1, qP, qK, qD⟩ := q; exact ⟨q0, q1, qP, va_K.moved (u := U) (U := U.calling g mk a) (Vm.Alike.refl U.vm) qK, qD⟩, va_recv hK hPc (ci := 0) (q0 := 0) rfl rfl, fun U hU hW => ⟨rfl, by rw [hU], by rw [hU]; exact hPc, va_K.moved hW.alike hK, hDc.weaken (fun _ _ _ _ => trivial)⟩⟩ rfl rfl hl.1 rfl (lv_room (Nat.le_of_ble_eq_true rfl)) dX8_round_79 ⟨Nat.le_of_ble_eq_true rfl, Nat.le_of_ble_eq_true rfl⟩) hS (fun q _ h => hFc q h) hFc (fun u t H1 locs ht hvm hw hB hz1 hk1 hS => ?_)
            obtain ⟨W1_79, rfl⟩ : ∃ z, z = u := ⟨_, rfl⟩
            obtain ⟨p0_79, p1_79, p2_79⟩ : (Dg W1_79) ∧ (Fr W1_55 W1_79 (6 : Int)) ∧ (rv W1_79 (6 : Int) = rv W1_55 (6 : Int) * 2 ^ b.toNat % BN) := hw
            obtain ⟨hP1, hK1, hD1⟩ := hB
            rw [ht] at hP1
            obtain ⟨hP, hD⟩ := va_join (wr := []) (w1 := [(am, .inr (0, [.int (I3 th), .int (I3 mn), .ref as_, .ref av, .ref aw, .int (I3 sm), .int (I3 wd), .int (I3 lp), .int (I3 mp), .int (I3 re)])), (as_, .inl (dA 0, 60, .inl (iA SG))), (av, .inl (dA 1, 960, .inr (.inl (lA VL)))), (aw, .inl (dA 1, 1024, .inr (.inl (lA W1_79))))]) hP hD [0, 1, 2, 3] [] rfl rfl (by decide) (by decide) hk1 hFc hP1 hD1
            generalize H1 = H at hP hS ⊢
            have hP : va_P (dC, dI) vwCl [(am, .inr (0, [.int (I3 th), .int (I3 mn), .ref as_, .ref av, .ref aw, .int (I3 sm), .int (I3 wd), .int (I3 lp), .int (I3 mp), .int (I3 re)])), (as_, .inl (dA 0, 60, .inl (iA SG))), (av, .inl (dA 1, 960, .inr (.inl (lA VL)))), (aw, .inl (dA 1, 1024, .inr (.inl (lA W1_79))))] H := hP
            have hD : va_D A [(am, .inr (0, [.int (I3 th), .int (I3 mn), .ref as_, .ref av, .ref aw, .int (I3 sm), .int (I3 wd), .int (I3 lp), .int (I3 mp), .int (I3 re)])), (as_, .inl (dA 0, 60, .inl (iA SG))), (av, .inl (dA 1, 960, .inr (.inl (lA VL)))), (aw, .inl (dA 1, 1024, .inr (.inl (lA W1_79))))] := hD
            have e_351 : mr = 1 := by first | assumption | omega | (constructor <;> omega)
            have e_352 : Dg W1_79 := by first | assumption | omega | (constructor <;> omega)
            have e_353 : rv W1_79 2 = rv wf 2 := by rw [Fr_rv p1_79 (by decide)]; exact a2
            have e_354 : rv W1_79 3 = rv wf 3 := by rw [Fr_rv p1_79 (by decide)]; exact a3
            have e_355 : rv W1_79 5 = (nS (rv wf 2) b) := by first | (rw [p2_79, a5]; exact mod_BN hnn) | (rw [Fr_rv p1_79 (by decide), a5]; unfold nS; rw [show (-b).toNat = 0 by omega, Nat.pow_zero, Nat.mul_one])
            have e_356 : rv W1_79 6 = (dS (rv wf 3) b) := by first | (rw [p2_79, a6]; exact mod_BN (show dS (rv wf 3) b < BN by omega)) | (rw [Fr_rv p1_79 (by decide), a6]; unfold dS; rw [show b.toNat = 0 by omega, Nat.pow_zero, Nat.mul_one])
            have e_357 : 2 * (dS (rv wf 3) b) < BN := by exact hdd
            exact cut_82 W1_79 e_351 e_352 e_353 e_354 e_355 e_356 e_357 _ _ hP hD hS ls (lv_sub hl [0, 1, 2, 3, 5] rfl)
  obtain ⟨hT2, hT⟩ := FM_T hFM
  have hTp := ppos (wd - 1).toNat
  have hw1 : 1 ≤ wd ∧ wd ≤ 53 ∧ -1074 ≤ lp ∧ lp ≤ -149 ∧ mp ≤ 971 ∧ 104 ≤ mp := by omega
  have i_wd : In3 wd := ⟨by omega, by omega⟩
  have i_lp : In3 lp := ⟨by omega, by omega⟩
  have i_it : In3 its := hits
  have i_dr : In3 dr := ⟨by omega, by omega⟩
  refine lv_aload_n hx hb dX8_round_0 rfl (lv_at hl 0 rfl) ?_
  refine lv_iconst (v := I3 (2)) hx hb dX8_round_1 rfl ?_
  have h_358 : 0 ≤ (2 : Int) ∧ (2 : Int) < 16 := by decide
  have h_359 : Dg wf := by first | assumption | omega | (constructor <;> omega)
  have hPc := hP.sub (ws' := [(am, .inr (0, [.int (I3 th), .int (I3 mn), .ref as_, .ref av, .ref aw, .int (I3 sm), .int (I3 wd), .int (I3 lp), .int (I3 mp), .int (I3 re)])), (as_, .inl (dA 0, 60, .inl (iA SG))), (av, .inl (dA 1, 960, .inr (.inl (lA VL)))), (aw, .inl (dA 1, 1024, .inr (.inl (lA wf))))]) [0, 1, 2, 3] rfl
  have hDc := hD.sub (ws' := [(am, .inr (0, [.int (I3 th), .int (I3 mn), .ref as_, .ref av, .ref aw, .int (I3 sm), .int (I3 wd), .int (I3 lp), .int (I3 mp), .int (I3 re)])), (as_, .inl (dA 0, 60, .inl (iA SG))), (av, .inl (dA 1, 960, .inr (.inl (lA VL)))), (aw, .inl (dA 1, 1024, .inr (.inl (lA wf))))]) [0, 1, 2, 3] (by decide) rfl
  have hFc := va_free (wc := [(am, .inr (0, [.int (I3 th), .int (I3 mn), .ref as_, .ref av, .ref aw, .int (I3 sm), .int (I3 wd), .int (I3 lp), .int (I3 mp), .int (I3 re)])), (as_, .inl (dA 0, 60, .inl (iA SG))), (av, .inl (dA 1, 960, .inr (.inl (lA VL)))), (aw, .inl (dA 1, 1024, .inr (.inl (lA wf))))]) hD hS hA [0, 1, 2, 3] rfl
  refine va_calli (va_runV (As := [.int (I3 2)]) (rest := []) ⟨hx, hb, hml, hown, hts⟩ (metX8_length l dC dI dA am as_ av aw s.heap.size th mn sm wd lp mp re SG VL wf 2 h_358 h_359) (cwV 1 hts (lw_V q1008 q1010 qs32 q66 q1011) rfl rfl rfl (by decide +kernel) ⟨Nat.le_of_ble_eq_true rfl, Nat.le_of_ble_eq_true rfl⟩) ⟨fun a U g mk q => by obtain ⟨q0, q1, qP, qK, qD⟩ := q; exact ⟨q0, q1, qP, va_K.moved (u := U) (U := U.calling g mk a) (Vm.Alike.refl U.vm) qK, qD⟩, va_recv hK hPc (ci := 0) (q0 := 0) rfl rfl, fun U hU hW => ⟨rfl, by rw [hU], by rw [hU]; exact hPc, va_K.moved hW.alike hK, hDc.weaken (fun _ _ _ _ => trivial)⟩⟩ rfl rfl hl.1 rfl (lv_room (Nat.le_of_ble_eq_true rfl)) dX8_round_2 ⟨Nat.le_of_ble_eq_true rfl, Nat.le_of_ble_eq_true rfl⟩) hS (fun q _ h => hFc q h) hFc (fun r_2 u t H1 locs ht hvm hw hB hz1 hk1 hS => ?_)
  obtain ⟨z_2, rfl⟩ : ∃ z, z = u := ⟨_, rfl⟩
  obtain ⟨rfl, p0_2⟩ : r_2 = I3 z_2 ∧ (z_2 = ((bl (rv wf (2 : Int)) : Nat) : Int)) := hw
  obtain ⟨hP1, hK1, hD1⟩ := hB
  rw [ht] at hP1
  obtain ⟨hP, hD⟩ := va_join (wr := []) (w1 := [(am, .inr (0, [.int (I3 th), .int (I3 mn), .ref as_, .ref av, .ref aw, .int (I3 sm), .int (I3 wd), .int (I3 lp), .int (I3 mp), .int (I3 re)])), (as_, .inl (dA 0, 60, .inl (iA SG))), (av, .inl (dA 1, 960, .inr (.inl (lA VL)))), (aw, .inl (dA 1, 1024, .inr (.inl (lA wf))))]) hP hD [0, 1, 2, 3] [] rfl rfl (by decide) (by decide) hk1 hFc hP1 hD1
  generalize H1 = H at hP hS ⊢
  have hP : va_P (dC, dI) vwCl [(am, .inr (0, [.int (I3 th), .int (I3 mn), .ref as_, .ref av, .ref aw, .int (I3 sm), .int (I3 wd), .int (I3 lp), .int (I3 mp), .int (I3 re)])), (as_, .inl (dA 0, 60, .inl (iA SG))), (av, .inl (dA 1, 960, .inr (.inl (lA VL)))), (aw, .inl (dA 1, 1024, .inr (.inl (lA wf))))] H := hP
  have hD : va_D A [(am, .inr (0, [.int (I3 th), .int (I3 mn), .ref as_, .ref av, .ref aw, .int (I3 sm), .int (I3 wd), .int (I3 lp), .int (I3 mp), .int (I3 re)])), (as_, .inl (dA 0, 60, .inl (iA SG))), (av, .inl (dA 1, 960, .inr (.inl (lA VL)))), (aw, .inl (dA 1, 1024, .inr (.inl (lA wf))))] := hD
  refine lv_aload_n hx hb dX8_round_5 rfl (lv_at hl 0 rfl) ?_
  refine lv_iconst (v := I3 (3)) hx hb dX8_round_6 rfl ?_
  have h_360 : 0 ≤ (3 : Int) ∧ (3 : Int) < 16 := by decide
  have h_361 : Dg wf := by first | assumption | omega | (constructor <;> omega)
  have hPc := hP.sub (ws' := [(am, .inr (0, [.int (I3 th), .int (I3 mn), .ref as_, .ref av, .ref aw, .int (I3 sm), .int (I3 wd), .int (I3 lp), .int (I3 mp), .int (I3 re)])), (as_, .inl (dA 0, 60, .inl (iA SG))), (av, .inl (dA 1, 960, .inr (.inl (lA VL)))), (aw, .inl (dA 1, 1024, .inr (.inl (lA wf))))]) [0, 1, 2, 3] rfl
  have hDc := hD.sub (ws' := [(am, .inr (0, [.int (I3 th), .int (I3 mn), .ref as_, .ref av, .ref aw, .int (I3 sm), .int (I3 wd), .int (I3 lp), .int (I3 mp), .int (I3 re)])), (as_, .inl (dA 0, 60, .inl (iA SG))), (av, .inl (dA 1, 960, .inr (.inl (lA VL)))), (aw, .inl (dA 1, 1024, .inr (.inl (lA wf))))]) [0, 1, 2, 3] (by decide) rfl
  have hFc := va_free (wc := [(am, .inr (0, [.int (I3 th), .int (I3 mn), .ref as_, .ref av, .ref aw, .int (I3 sm), .int (I3 wd), .int (I3 lp), .int (I3 mp), .int (I3 re)])), (as_, .inl (dA 0, 60, .inl (iA SG))), (av, .inl (dA 1, 960, .inr (.inl (lA VL)))), (aw, .inl (dA 1, 1024, .inr (.inl (lA wf))))]) hD hS hA [0, 1, 2, 3] rfl
  refine va_calli (va_runV (As := [.int (I3 3)]) (rest := [.int (I3 z_2)]) ⟨hx, hb, hml, hown, hts⟩ (metX8_length l dC dI dA am as_ av aw H.size th mn sm wd lp mp re SG VL wf 3 h_360 h_361) (cwV 1 hts (lw_V q1008 q1010 qs32 q66 q1011) rfl rfl rfl (by decide +kernel) ⟨Nat.le_of_ble_eq_true rfl, Nat.le_of_ble_eq_true rfl⟩) ⟨fun a U g mk q => by obtain ⟨q0, q1, qP, qK, qD⟩ := q; exact ⟨q0, q1, qP, va_K.moved (u := U) (U := U.calling g mk a) (Vm.Alike.refl U.vm) qK, qD⟩, va_recv hK hPc (ci := 0) (q0 := 0) rfl rfl, fun U hU hW => ⟨rfl, by rw [hU], by rw [hU]; exact hPc, va_K.moved hW.alike hK, hDc.weaken (fun _ _ _ _ => trivial)⟩⟩ rfl rfl hl.1 rfl (lv_room (Nat.le_of_ble_eq_true rfl)) dX8_round_7 ⟨Nat.le_of_ble_eq_true rfl, Nat.le_of_ble_eq_true rfl⟩) hS (fun q _ h => hFc q h) hFc (fun r_7 u t H1 locs ht hvm hw hB hz1 hk1 hS => ?_)
  obtain ⟨z_7, rfl⟩ : ∃ z, z = u := ⟨_, rfl⟩
  obtain ⟨rfl, p0_7⟩ : r_7 = I3 z_7 ∧ (z_7 = ((bl (rv wf (3 : Int)) : Nat) : Int)) := hw
  obtain ⟨hP1, hK1, hD1⟩ := hB
  rw [ht] at hP1
  obtain ⟨hP, hD⟩ := va_join (wr := []) (w1 := [(am, .inr (0, [.int (I3 th), .int (I3 mn), .ref as_, .ref av, .ref aw, .int (I3 sm), .int (I3 wd), .int (I3 lp), .int (I3 mp), .int (I3 re)])), (as_, .inl (dA 0, 60, .inl (iA SG))), (av, .inl (dA 1, 960, .inr (.inl (lA VL)))), (aw, .inl (dA 1, 1024, .inr (.inl (lA wf))))]) hP hD [0, 1, 2, 3] [] rfl rfl (by decide) (by decide) hk1 hFc hP1 hD1
  generalize H1 = H at hP hS ⊢
  have hP : va_P (dC, dI) vwCl [(am, .inr (0, [.int (I3 th), .int (I3 mn), .ref as_, .ref av, .ref aw, .int (I3 sm), .int (I3 wd), .int (I3 lp), .int (I3 mp), .int (I3 re)])), (as_, .inl (dA 0, 60, .inl (iA SG))), (av, .inl (dA 1, 960, .inr (.inl (lA VL)))), (aw, .inl (dA 1, 1024, .inr (.inl (lA wf))))] H := hP
  have hD : va_D A [(am, .inr (0, [.int (I3 th), .int (I3 mn), .ref as_, .ref av, .ref aw, .int (I3 sm), .int (I3 wd), .int (I3 lp), .int (I3 mp), .int (I3 re)])), (as_, .inl (dA 0, 60, .inl (iA SG))), (av, .inl (dA 1, 960, .inr (.inl (lA VL)))), (aw, .inl (dA 1, 1024, .inr (.inl (lA wf))))] := hD
  have i_df : In3 (z_2 - z_7 - wd) := ⟨by omega, by omega⟩
  refine ix_isub hx hb dX8_round_10 ?_
  refine lv_aload_n hx hb dX8_round_11 rfl (lv_at hl 0 rfl) ?_
  refine va_get (D := (dC, dI)) (ci := 0) (v := .int (I3 wd)) (C := RX8) (T := TX8) (N := 10) hx hb hts in_X8 hown hK hP 0 rfl rfl 6 (by decide) (hts _ q919) (fun _ h9 => h9) rfl dX8_round_12 ?_
  refine ix_isub hx hb dX8_round_15 ?_
  refine lv_istore_n (lv' := [(3, .int (I3 ((z_2 - z_7) - wd))), (0, .ref am), (1, .int (I3 its)), (2, .int (I3 dr))]) hx hb dX8_round_16 rfl hl (by decide) rfl (fun ls hl => ?_)
  refine lv_iload_n hx hb dX8_round_17 rfl (lv_at hl 0 rfl) ?_
  refine lv_aload_n hx hb dX8_round_18 rfl (lv_at hl 1 rfl) ?_
  refine va_get (D := (dC, dI)) (ci := 0) (v := .int (I3 lp)) (C := RX8) (T := TX8) (N := 10) hx hb hts in_X8 hown hK hP 0 rfl rfl 7 (by decide) (hts _ q920) (fun _ h9 => h9) rfl dX8_round_19 ?_
  refine ix_icmp_ge (tgt := 32) hx hb (by first | assumption | decide | (constructor <;> omega)) (by first | assumption | decide | (constructor <;> omega)) dX8_round_22 (by decide) (fun c_22 => ?_) (fun c_22 => ?_)
  · skip
    refine lv_iload_n hx hb dX8_round_32 rfl (lv_at hl 0 rfl) ?_
    refine lv_istore_n (lv' := [(3, .int (I3 ((z_2 - z_7) - wd))), (0, .ref am), (1, .int (I3 its)), (2, .int (I3 dr))]) hx hb dX8_round_33 rfl hl (by decide) rfl (fun ls hl => ?_)
    refine lv_lconst (v := L6 0) hx hb dX8_round_34 (by decide) ?_
    refine lv_lstore (lv' := [(4, .long (L6 0)), (3, .int (I3 ((z_2 - z_7) - wd))), (0, .ref am), (1, .int (I3 its)), (2, .int (I3 dr))]) hx hb dX8_round_35 hl (by decide) rfl (fun ls hl => ?_)
    refine lv_iconst (v := I3 (1)) hx hb dX8_round_37 rfl ?_
    refine lv_istore (lv' := [(6, .int (I3 1)), (4, .long (L6 0)), (3, .int (I3 ((z_2 - z_7) - wd))), (0, .ref am), (1, .int (I3 its)), (2, .int (I3 dr))]) hx hb dX8_round_38 hl (by decide) rfl (fun ls hl => ?_)
    have e_362 : -2000 ≤ ((z_2 - z_7) - wd) ∧ ((z_2 - z_7) - wd) ≤ 2100 := by first | assumption | omega | (constructor <;> omega)
    have e_363 : (1 : Int) = 0 ∨ (1 : Int) = 1 := by first | assumption | omega | (constructor <;> omega)
    have e_364 : RdI wd lp (rv wf 2) (rv wf 3) ((z_2 - z_7) - wd) (1 : Int) := by exact Or.inl ⟨rfl, by unfold b0S; first | (rw [if_pos (by omega)]; done) | (rw [if_neg (by omega)]; omega)⟩
    have e_365 : Dg wf := by first | assumption | omega | (constructor <;> omega)
    have e_366 : rv wf 2 = rv wf 2 := by rfl
    have e_367 : rv wf 3 = rv wf 3 := by rfl
    have e_368 : (1 : Int) = 0 → (0 : Int) = ((mS (rv wf 2) (rv wf 3) ((z_2 - z_7) - wd) : Nat) : Int) ∧ rv wf 6 = (dS (rv wf 3) ((z_2 - z_7) - wd)) ∧ rv wf 8 = (nS (rv wf 2) ((z_2 - z_7) - wd)) % (dS (rv wf 3) ((z_2 - z_7) - wd)) ∧ 2 * (dS (rv wf 3) ((z_2 - z_7) - wd)) < BN := by intro q; exact absurd q (by decide)
    exact cut_40 ((if (1 : Int) = 0 then 0 else b0S wd lp (rv wf 2) (rv wf 3) + 2 - ((z_2 - z_7) - wd)).toNat + 1) 1 0 ((z_2 - z_7) - wd) wf e_362 e_363 e_364 e_365 e_366 e_367 e_368 (Nat.lt_succ_self _) _ _ hP hD hS ls (lv_sub hl [3, 4, 5, 2, 1, 0] rfl)
  · skip
    refine lv_aload_n hx hb dX8_round_25 rfl (lv_at hl 1 rfl) ?_
    refine va_get (D := (dC, dI)) (ci := 0) (v := .int (I3 lp)) (C := RX8) (T := TX8) (N := 10) hx hb hts in_X8 hown hK hP 0 rfl rfl 7 (by decide) (hts _ q920) (fun _ h9 => h9) rfl dX8_round_26 ?_
    refine lv_goto (tgt := 33) hx hb dX8_round_29 (by decide) ?_
    refine lv_istore_n (lv' := [(3, .int (I3 lp)), (0, .ref am), (1, .int (I3 its)), (2, .int (I3 dr))]) hx hb dX8_round_33 rfl hl (by decide) rfl (fun ls hl => ?_)
    refine lv_lconst (v := L6 0) hx hb dX8_round_34 (by decide) ?_
    refine lv_lstore (lv' := [(4, .long (L6 0)), (3, .int (I3 lp)), (0, .ref am), (1, .int (I3 its)), (2, .int (I3 dr))]) hx hb dX8_round_35 hl (by decide) rfl (fun ls hl => ?_)
    refine lv_iconst (v := I3 (1)) hx hb dX8_round_37 rfl ?_
    refine lv_istore (lv' := [(6, .int (I3 1)), (4, .long (L6 0)), (3, .int (I3 lp)), (0, .ref am), (1, .int (I3 its)), (2, .int (I3 dr))]) hx hb dX8_round_38 hl (by decide) rfl (fun ls hl => ?_)
    have e_369 : -2000 ≤ lp ∧ lp ≤ 2100 := by first | assumption | omega | (constructor <;> omega)
    have e_370 : (1 : Int) = 0 ∨ (1 : Int) = 1 := by first | assumption | omega | (constructor <;> omega)
    have e_371 : RdI wd lp (rv wf 2) (rv wf 3) lp (1 : Int) := by exact Or.inl ⟨rfl, by unfold b0S; first | (rw [if_pos (by omega)]; done) | (rw [if_neg (by omega)]; omega)⟩
    have e_372 : Dg wf := by first | assumption | omega | (constructor <;> omega)
    have e_373 : rv wf 2 = rv wf 2 := by rfl
    have e_374 : rv wf 3 = rv wf 3 := by rfl
    have e_375 : (1 : Int) = 0 → (0 : Int) = ((mS (rv wf 2) (rv wf 3) lp : Nat) : Int) ∧ rv wf 6 = (dS (rv wf 3) lp) ∧ rv wf 8 = (nS (rv wf 2) lp) % (dS (rv wf 3) lp) ∧ 2 * (dS (rv wf 3) lp) < BN := by intro q; exact absurd q (by decide)
    exact cut_40 ((if (1 : Int) = 0 then 0 else b0S wd lp (rv wf 2) (rv wf 3) + 2 - lp).toNat + 1) 1 0 lp wf e_369 e_370 e_371 e_372 e_373 e_374 e_375 (Nat.lt_succ_self _) _ _ hP hD hS ls (lv_sub hl [3, 4, 5, 2, 1, 0] rfl)
