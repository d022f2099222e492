/-! rows: arrays of references, casts of arrays, a copy out of an array that nobody changes, exceptions of the machine -/
set_option maxRecDepth 100000
theorem nm_long {D : va_G} {cl : List vw_C} {dA : Nat → ClassId} {U : State} (hK : va_K D cl (tyA dA) U) : U.vm.findClass "[J" = some (dA 1) := by
  have h := (hK.2 1 _ rfl).2
  have e : "[" ++ FieldType.long.toString = "[J" := by decide +kernel
  rw [← e]
  exact h
theorem nm_int {D : va_G} {cl : List vw_C} {dA : Nat → ClassId} {U : State} (hK : va_K D cl (tyA dA) U) : U.vm.findClass "[I" = some (dA 0) := by
  have h := (hK.2 0 _ rfl).2
  have e : "[" ++ FieldType.int.toString = "[I" := by decide +kernel
  rw [← e]
  exact h
theorem nm_ints {D : va_G} {cl : List vw_C} {dA : Nat → ClassId} {U : State} (hK : va_K D cl (tyA dA) U) : U.vm.findClass "[[I" = some (dA 4) := by
  have h := (hK.2 4 _ rfl).2
  have e : "[" ++ (FieldType.array FieldType.int).toString = "[[I" := by decide +kernel
  rw [← e]
  exact h
theorem xk_obj {D : va_G} {cl : List vw_C} {tys : List (ClassId × FieldType)} {ws : va_W} {s : State} {H : Heap} {a q0 ci : Nat} {q : vw_C} {fs : List Value} (hK : va_K D cl tys s) (hP : va_P D cl ws H) (he : ws[q0]? = some (a, .inr (ci, fs))) (hc : cl[ci]? = some q) : ∃ ce : Cell, H[a]? = some ce ∧ ce.vm = .none ∧ s.vm.findClass q.1 = some ce.cls := by
  obtain ⟨q', h1, cell, g1, g2, g3, -⟩ := hP q0 _ he
  exact ⟨cell, g1, g3, by rw [g2]; exact (hK.1 ci q hc).2.1⟩
section RWS
variable {p : Program} {l : Launch} {e : Env} {R : Room} {s : State} {m : MethodId} {args : Array Value} {below : List Frame} {meth : Method} {c : Code} {H : Heap} {locs : List Loc} {cells slots : Nat} {Q : State → Prop}
variable {cc : ByteArray} {pc : Nat} {ls : Array Slot} {rest : List Value}
variable {D : va_G} {cl : List vw_C} {tys : List (ClassId × FieldType)} {ws : va_W} {A : Nat → Prop} {H0 : Heap} {a : Nat}
theorem ix_rf {x : Option Nat} {y : Nat} (h : x = some y) (k : W p l e R s m args below meth c H locs cells slots Q (F0 m pc ls (.ref y :: rest))) : W p l e R s m args below meth c H locs cells slots Q (F0 m pc ls (va_rf x :: rest)) := by subst h; exact k
theorem ix_rfn {x : Option Nat} (h : x = none) (k : W p l e R s m args below meth c H locs cells slots Q (F0 m pc ls (.null :: rest))) : W p l e R s m args below meth c H locs cells slots Q (F0 m pc ls (va_rf x :: rest)) := by subst h; exact k
theorem ix_aaldq (hx : p.tables.exec = Jvm.exec) (hb : c.code = cc) (hK : va_K D cl tys s) (hP : va_P D cl ws H) (q0 t0 : Nat) {cA : ClassId} {C : String} {n : Nat} {f : Nat → Option Nat} (ha : ws[q0]? = some (a, .inl (cA, n, .inr (.inr (.inr (.inr f)))))) (ht : tys[t0]? = some (cA, .object C)) {z : Int} (hz : 0 ≤ z ∧ z < (n : Int)) (hn : n < 2147483648) (hd : decode cc pc = .ok (.aaload, 1))
    (k : W p l e R s m args below meth c H locs cells slots Q (F0 m (pc + 1) ls (va_rf (f z.toNat) :: rest))) : W p l e R s m args below meth c H locs cells slots Q (F0 m pc ls (.int (I3 z) :: .ref a :: rest)) := va_aldq hx hb hK hP q0 t0 ha ht (I3_vin hn hz) hd (by rw [I3_clamp hz.1 (by omega)]; exact k)
theorem ix_aalda (hx : p.tables.exec = Jvm.exec) (hb : c.code = cc) (hK : va_K D cl tys s) (hP : va_P D cl ws H) (q0 t0 : Nat) {cA : ClassId} {ty : FieldType} {n : Nat} {f : Nat → Option Nat} (ha : ws[q0]? = some (a, .inl (cA, n, .inr (.inr (.inr (.inr f)))))) (ht : tys[t0]? = some (cA, .array ty)) {z : Int} (hz : 0 ≤ z ∧ z < (n : Int)) (hn : n < 2147483648) (hd : decode cc pc = .ok (.aaload, 1))
    (k : W p l e R s m args below meth c H locs cells slots Q (F0 m (pc + 1) ls (va_rf (f z.toNat) :: rest))) : W p l e R s m args below meth c H locs cells slots Q (F0 m pc ls (.int (I3 z) :: .ref a :: rest)) := by
  have hin := I3_vin hn hz
  have hcl := I3_clamp hz.1 (show z < 2147483648 by omega)
  have hlt : (I3 z).toNatClampNeg < n := Nat.not_le.mp fun q => hin (Or.inr q)
  exact W.aald (v := va_rf (f (I3 z).toNatClampNeg)) (ty := .array ty) hx hb (hP q0 _ ha) ((hK.2 t0 _ ht).1 n (fun j => va_rf (f j))) rfl (fun q => by cases q) (by show ¬ (I3 z < 0 ∨ (arrV _ _ _).slots.size ≤ _); rw [arrV_size]; exact hin) (by show (arrV _ _ _).slots[_]? = _; rw [arrV_read _ _ hlt]) rfl rfl hd (by rw [hcl]; exact k)
theorem ix_aastq (hx : p.tables.exec = Jvm.exec) (hb : c.code = cc) (hK : va_K D cl tys s) (hP : va_P D cl ws H) (hD : va_D A ws) (hS : va_S A H0 H locs) (q0 t0 qk ci : Nat) {cA : ClassId} {r : vw_C} {n v : Nat} {vs : List Value} {f : Nat → Option Nat} (ha : ws[q0]? = some (a, .inl (cA, n, .inr (.inr (.inr (.inr f)))))) (ht : tys[t0]? = some (cA, .object r.1)) (hv : ws[qk]? = some (v, .inr (ci, vs))) (hc : cl[ci]? = some r) {z : Int} (hz : 0 ≤ z ∧ z < (n : Int)) (hn : n < 2147483648) (hd : decode cc pc = .ok (.aastore, 1))
    (kk : ∀ (H1 : Heap) (locs1 : List Loc), va_P D cl (ws.set q0 (a, .inl (cA, n, .inr (.inr (.inr (.inr (va_up f z.toNat (some v)))))))) H1 → va_D A (ws.set q0 (a, .inl (cA, n, .inr (.inr (.inr (.inr (va_up f z.toNat (some v)))))))) → va_S A H0 H1 locs1 → W p l e R s m args below meth c H1 locs1 cells slots Q (F0 m (pc + 1) ls rest)) : W p l e R s m args below meth c H locs cells slots Q (F0 m pc ls (.ref v :: .int (I3 z) :: .ref a :: rest)) := va_astq hx hb hK hP hD hS q0 t0 qk ci ha ht hv hc (I3_vin hn hz) hd (by rw [I3_clamp hz.1 (by omega)]; exact kk)
theorem ix_copyP (hx : p.tables.exec = Jvm.exec) (hb : c.code = cc) (hml : c.maxLocals = ls.size) {own : String} {index : Nat} (hown : s.vm.findClass own = some m.cls) (hlink : (Cond.methodLink own index arraycopyName).before args s = true) (hnat : (Cond.native arraycopyName).before args s = true) (hstat : (Cond.static arraycopyName).before args s = true) (hini : (Cond.initialized "java/lang/System").before args s = true)
    (hK : va_K D cl tys s) (hP : va_P D cl ws H) (hD : va_D A ws) (hS : va_S A H0 H locs) {w2 : va_W} (hP2 : va_P D cl w2 H) (q2 q1 t0 : Nat) {a0 : Nat} {c0 : ClassId} {n0 n1 : Nat} {f g : Int → Int} (ha0 : w2[q2]? = some (a0, .inl (c0, n0, .inl (iA f)))) (ha1 : ws[q1]? = some (a, .inl (c0, n1, .inl (iA g)))) (ht0 : tys[t0]? = some (c0, .int))
    {z : Int} (hz : 0 ≤ z ∧ z ≤ (n0 : Int) ∧ z ≤ (n1 : Int)) (hn : n0 < 100000) (hframes : 1 ≤ R.frames) (hlocals : (rest.map fun v => v.category).sum + 18 ≤ R.locals) (hdg : decode cc pc = .ok (.invokestatic index, 3))
    (kk : ∀ (H1 : Heap) (locs1 : List Loc), va_P D cl (ws.set q1 (a, .inl (c0, n1, .inl (iA (cpZ f g z))))) H1 → va_D A (ws.set q1 (a, .inl (c0, n1, .inl (iA (cpZ f g z))))) → va_S A H0 H1 locs1 → W p l e R s m args below meth c H1 locs1 cells slots Q (F0 m (pc + 3) ls rest)) : W p l e R s m args below meth c H locs cells slots Q (F0 m pc ls (.int (I3 z) :: .int (I3 0) :: .ref a :: .int (I3 0) :: .ref a0 :: rest)) := by
  have e0 : (I3 0).toNatClampNeg = 0 := rfl
  have e0t : (I3 0).toInt = 0 := rfl
  have ez : (I3 z).toNatClampNeg = z.toNat := I3_clamp hz.1 (by omega)
  have ezt : (I3 z).toInt = z := I3_t ⟨by omega, by omega⟩
  have h00 : ¬ I3 0 < 0 := by decide
  have h0z : ¬ I3 z < 0 := by
    have h0 : (0 : Int32) = I3 0 := rfl
    rw [h0, I3_lt (by constructor <;> omega) (by decide)]
    omega
  intro T hT X
  have hc0 : H[a0]? = some (vp_cell c0 (n0, .inl (iA f))) := hP2 q2 _ ha0
  have hc1 : H[a]? = some (vp_cell c0 (n1, .inl (iA g))) := hP q1 _ ha1
  obtain ⟨-, k0, hk0, cm0, hkk0⟩ := (hK.2 t0 _ ht0).1 n0 (fun j => .int (iA f j))
  obtain ⟨-, k1, hk1, cm1, hkk1⟩ := (hK.2 t0 _ ht0).1 n1 (fun j => .int (iA g j))
  have hnw : nativeFrameWords "java/lang/System" "arraycopy" 5 + 11 = 18 := by decide +kernel
  obtain ⟨vm', X', step⟩ := X.arraycopy hx hown hlink hnat hstat hini (src := a0) (dst := a) (cs := vp_cell c0 (n0, .inl (iA f))) (cd := vp_cell c0 (n1, .inl (iA g))) (srcPos := I3 0) (destPos := I3 0) (n := I3 z) (by rw [hT]; exact hc0) (by rw [hT]; exact hc1)
    (fun _ h => by cases h) (fun _ h => by cases h) (fun h => by cases h) (fun h => by cases h) hk0 hk1 hkk0 hkk1 (by rfl) h00 h00 h0z
    (by rw [e0t, ezt]; show ¬ _ > ((arrV c0 n0 (fun j => .int (iA f j))).slots.size : Int); rw [arrV_size]; omega)
    (by rw [e0t, ezt]; show ¬ _ > ((arrV c0 n1 (fun j => .int (iA g j))).slots.size : Int); rw [arrV_size]; omega)
    (fun vm₁ _ i hi => by
      rw [ez] at hi
      have e : (vp_cell c0 (n0, .inl (iA f))).slots.getD ((I3 0).toNatClampNeg + i) .null = .int (iA f ((I3 0).toNatClampNeg + i)) := by
        show (arrV c0 n0 (fun j => .int (iA f j))).slots.getD _ _ = _
        rw [Array.getD_eq_getD_getElem?, arrV_read _ _ (by rw [e0]; omega)]
        rfl
      rw [e]
      exact ⟨rfl, trivial⟩)
    (g := F0 m pc ls (.int (I3 z) :: .int (I3 0) :: .ref a :: .int (I3 0) :: .ref a0 :: rest)) rfl (by rw [hml]) (rest := rest) rfl (by rw [hb]; exact hdg) hframes (by show 2 * 0 + _ + _ ≤ _; omega)
  have e1 : copied (vp_cell c0 (n0, .inl (iA f))) (vp_cell c0 (n1, .inl (iA g))) (I3 0) (I3 0) (I3 z) = vp_cell c0 (n1, .inl (iA (cpZ f g z))) := by
    have h := va_copied (fun z => Value.int z) c0 c0 (n0 := n0) (n1 := n1) (sp := 0) (dp := 0) (n := z.toNat) (iA f) (iA g) (by omega)
    rw [cpZ_A hz.1] at h
    show (arrV c0 n1 (fun j => Value.int (iA g j))).storeRun (I3 0).toNatClampNeg ((arrV c0 n0 (fun j => Value.int (iA f j))).stretch (I3 0).toNatClampNeg (I3 z).toNatClampNeg) = _
    rw [e0, ez]
    exact h
  rw [e1] at X' step
  have hl : a < H.size := (Array.getElem?_eq_some_iff.mp hc1).1
  have hheap : ((T.setVm vm').setCell a (vp_cell c0 (n1, .inl (iA (cpZ f g z))))).heap = H.setIfInBounds a (vp_cell c0 (n1, .inl (iA (cpZ f g z)))) := by rw [← hT]; rfl
  have oq : ∀ q : Nat, q ≠ a → (H.setIfInBounds a (vp_cell c0 (n1, .inl (iA (cpZ f g z)))))[q]? = H[q]? := fun q hq => by simp [Array.getElem?_setIfInBounds, Ne.symm hq]
  obtain ⟨t, a1, b1⟩ := kk _ _ (hP.set hD ha1 (show (H.setIfInBounds a _)[a]? = some _ by simp [Array.getElem?_setIfInBounds, hl]) oq) (hD.set ha1) ⟨by simp; exact hS.1, fun q g1 g2 => by
      rw [oq q (fun e => g2 (by rw [e]; exact hD.2 q1 _ ha1))]
      exact hS.2.1 q g1 g2, fun q hq => by
      rcases List.mem_append.mp hq with h | h
      · exact hS.2.2 q h
      · obtain ⟨z, -, hz⟩ := List.mem_map.mp h
        rw [← hz]
        exact hD.2 q1 _ ha1⟩ _ hheap X'
  exact ⟨t, step t a1, b1⟩
theorem cast_self {C : String} {c : ClassId} {s : State} (h : s.vm.findClass C = some c) : va_Nw (.castable C C) s := by
  unfold va_Nw
  simp only [Cond.before, Cond.holds, Cond.value]
  simp [h, va_asg]
theorem ix_inst_long {dA : Nat → ClassId} (hx : p.tables.exec = Jvm.exec) (hb : c.code = cc) {own : String} {index : Nat} (hown : s.vm.findClass own = some m.cls) (hlink : (Cond.classLink own index "[J").before args s = true) {AF : Nat → Prop} (hF : FX AF s s.heap) (hK : va_K D cl (tyA dA) s) (hP : va_P D cl ws H) (q0 : Nat) {x : vp_A} (ha : ws[q0]? = some (a, .inl (dA 1, x))) (hd : decode cc pc = .ok (.instanceof index, 3))
    (k : W p l e R s m args below meth c H locs cells slots Q (F0 m (pc + 3) ls (.int (I3 1) :: rest))) : W p l e R s m args below meth c H locs cells slots Q (F0 m pc ls (.ref a :: rest)) := by
  have hcl0 : (vp_cell (dA 1) x).cls = dA 1 := by
    obtain ⟨n, f | f | f | f | f⟩ := x <;> rfl
  have hvm0 : (vp_cell (dA 1) x).vm.isStatics = false := by
    obtain ⟨n, f | f | f | f | f⟩ := x <;> rfl
  exact va_instY (C := "[J") hx hb hown hlink (cast_self (nm_long hK)) ⟨_, hP q0 _ ha, hvm0, by rw [hcl0]; exact nm_long hK⟩ hd k
theorem ix_inst_ints {dA : Nat → ClassId} (hx : p.tables.exec = Jvm.exec) (hb : c.code = cc) {own : String} {index : Nat} (hown : s.vm.findClass own = some m.cls) (hlink : (Cond.classLink own index "[J").before args s = true) {AF : Nat → Prop} (hF : FX AF s s.heap) (hK : va_K D cl (tyA dA) s) (hP : va_P D cl ws H) (q0 : Nat) {x : vp_A} (ha : ws[q0]? = some (a, .inl (dA 4, x))) (hd : decode cc pc = .ok (.instanceof index, 3))
    (k : W p l e R s m args below meth c H locs cells slots Q (F0 m (pc + 3) ls (.int (I3 0) :: rest))) : W p l e R s m args below meth c H locs cells slots Q (F0 m pc ls (.ref a :: rest)) := by
  have hcl0 : (vp_cell (dA 4) x).cls = dA 4 := by
    obtain ⟨n, f | f | f | f | f⟩ := x <;> rfl
  have hvm0 : (vp_cell (dA 4) x).vm.isStatics = false := by
    obtain ⟨n, f | f | f | f | f⟩ := x <;> rfl
  exact va_instNo (C := "[[I") hx hb hown hlink (hF.2.2.2.at 0 rfl) ⟨_, hP q0 _ ha, hvm0, by rw [hcl0]; exact nm_ints hK⟩ hd k
theorem fc_spec {vm : Vm} {name : String} {c : ClassId} (h : vm.findClass name = some c) {k : Class} (hk : vm.classes[c]? = some k) : k.name = name ∧ k.hidden = none ∧ k.loader = none := by
  obtain ⟨hlt, hp, _⟩ := Array.findIdx?_eq_some_iff_getElem.mp h
  have e : vm.classes[c] = k := by
    rw [Array.getElem?_eq_getElem hlt] at hk
    exact Option.some.inj hk
  rw [e] at hp
  simp only [Bool.and_eq_true, beq_iff_eq, Option.isNone_iff_eq_none] at hp
  exact ⟨hp.1.1.1, hp.1.1.2, hp.2⟩
theorem cce_text {vm : Vm} {ks kt : Class} (hs : ks.name = "[[I" ∧ ks.hidden = none ∧ ks.loader = none) (hs2 : ks.ofPrimitives = true) (ht : kt.name = "[J" ∧ kt.hidden = none ∧ kt.loader = none) (ht2 : kt.ofPrimitives = true) : (Op.checkcast.message vm ks kt == notModelled) = false ∧ (stringBytes (stringToUtf16 (Op.checkcast.message vm ks kt))).size ≤ 480 := by
  have e1 : ks.shown = "[[I" := by
    unfold Class.shown
    rw [hs.2.1, hs.1]
    show dotted "[[I" = "[[I"
    decide +kernel
  have e2 : kt.shown = "[J" := by
    unfold Class.shown
    rw [ht.2.1, ht.1]
    show dotted "[J" = "[J"
    decide +kernel
  have e3 : vm.moduleOf ks = vm.modules.find? (·.name == "java.base") := by
    unfold Vm.moduleOf
    rw [if_pos hs2]
  have e4 : vm.moduleOf kt = vm.modules.find? (·.name == "java.base") := by
    unfold Vm.moduleOf
    rw [if_pos ht2]
  have e5 : vm.sameModule ks kt = true := by
    unfold Vm.sameModule
    rw [e3, e4]
    cases vm.modules.find? (·.name == "java.base") with
    | none => simp [hs.2.2, ht.2.2]
    | some x => simp
  have e6 : vm.home ks = "module java.base of loader 'bootstrap'" ∨ vm.home ks = "unnamed module of loader 'bootstrap'" := by
    unfold Vm.home
    rw [e3, hs.2.2]
    cases h : vm.modules.find? (·.name == "java.base") with
    | none =>
      right
      show "unnamed module" ++ " of loader " ++ "'bootstrap'" = _
      decide +kernel
    | some x =>
      left
      have hn := List.find?_some h
      have hn : x.name = "java.base" := by simpa using hn
      show "module " ++ x.name ++ " of loader " ++ "'bootstrap'" = _
      rw [hn]
      decide +kernel
  unfold Op.checkcast.message Vm.homes
  rw [e5, if_pos rfl, e1, e2]
  rcases e6 with e6 | e6 <;> rw [e6] <;> decide +kernel
theorem ix_castF {dA : Nat → ClassId} (hx : p.tables.exec = Jvm.exec) (hb : c.code = cc) {own : String} {index : Nat} (hown : s.vm.findClass own = some m.cls) (hlink : (Cond.classLink own index "[J").before args s = true) {AF : Nat → Prop} (hF : FX AF s s.heap) (hK : va_K D cl (tyA dA) s) (hP : va_P D cl ws H) (q0 : Nat) {n : Nat} {f : Nat → Option Nat} (ha : ws[q0]? = some (a, .inl (dA 4, n, .inr (.inr (.inr (.inr f)))))) (hd : decode cc pc = .ok (.checkcast index, 3))
    (k : ∀ tx : String, (tx == notModelled) = false ∧ (stringBytes (stringToUtf16 tx)).size ≤ 480 → vx_Note p l e R s m args below meth c H locs cells slots Q (F0 m pc ls (.ref a :: rest)) "java/lang/ClassCastException" tx) : W p l e R s m args below meth c H locs cells slots Q (F0 m pc ls (.ref a :: rest)) := by
  intro T hT X
  have hpl : e.platform.magicAccessors = ({} : Platform).magicAccessors := by rw [X.admits.platform]
  obtain ⟨c', hc', hcl⟩ := Cond.classLink_spec hown hlink e.platform hpl
  cases (nm_long hK).symm.trans hc'
  obtain ⟨dk, _, _, kt, hd9, _, _, _, _, hkt, _, hopen⟩ := hcl.here
  have hcl₀ := X.warmed.classLinks hcl
  have hW' : s.WarmedH (T.vm.noted m.cls index (.cls (dA 1))) := X.warmed.noted hd9 hopen (State.rightAt_cls hcl)
  have hcell : T.heap[a]? = some (vp_cell (dA 4) (n, .inr (.inr (.inr (.inr f))))) := by rw [hT]; exact hP q0 _ ha
  obtain ⟨-, k4, hk4, cm4, hkk4⟩ := (hK.2 4 _ rfl).1 n (fun j => va_rf (f j))
  obtain ⟨-, k1, hk1, cm1, hkk1⟩ := (hK.2 1 _ rfl).1 n (fun j => .long 0)
  obtain ⟨ks', hks', hes⟩ := hW'.alike.2.2 _ _ hk4
  obtain ⟨kt', hkt', het⟩ := hW'.alike.2.2 _ _ hk1
  have hfs : (T.vm.noted m.cls index (.cls (dA 1))).findClass "[[I" = some (dA 4) := by rw [hW'.alike.findClass]; exact nm_ints hK
  have hft : (T.vm.noted m.cls index (.cls (dA 1))).findClass "[J" = some (dA 1) := by rw [hW'.alike.findClass]; exact nm_long hK
  have p1 := fc_spec hfs hks'
  have p2 := fc_spec hft hkt'
  have o1 : ks'.ofPrimitives = true := by
    have hk9 : ks'.kind = .array cm4 (.array .int) := by rw [hes]; exact hkk4
    unfold Class.ofPrimitives
    rw [hk9]
    show ((withoutBrackets ks'.name).length == 1) = true
    rw [p1.1]
    decide +kernel
  have o2 : kt'.ofPrimitives = true := by
    have hk9 : kt'.kind = .array cm1 .long := by rw [het]; exact hkk1
    unfold Class.ofPrimitives
    rw [hk9]
    show ((withoutBrackets kt'.name).length == 1) = true
    rw [p2.1]
    decide +kernel
  obtain ⟨t, st, q⟩ := k _ (cce_text (vm := T.vm.noted m.cls index (.cls (dA 1))) p1 o1 p2 o2) (T.setVm (T.vm.noted m.cls index (.cls (dA 1)))) hT (X.noted hW')
  refine ⟨t, ?_, q⟩
  obtain ⟨c0, t0, f1, f2, f3⟩ := hF.2.2.2.at 0 rfl
  cases (nm_ints hK).symm.trans f1
  cases (nm_long hK).symm.trans f2
  have h1 : (T.vm.noted m.cls index (Resolved.cls (dA 1))).assignable (dA 4) (dA 1) = false := by rw [hW'.alike.assignable]; exact f3
  have hdg : decode c.code (F0 m pc ls (.ref a :: rest)).pc = .ok (.checkcast index, 3) := by rw [hb]; exact hd
  have hg : (F0 m pc ls (.ref a :: rest)).method = m := rfl
  have hstack : (F0 m pc ls (.ref a :: rest)).stack = .ref a :: rest := rfl
  generalize F0 m pc ls (.ref a :: rest) = g at hdg hg hstack st ⊢
  subst hg
  jvm_step X.here [hx, hdg, checkcast.wp_cold (e := e) (s := T) (f := g) X.here.top hstack (resolveClass_links e.toSetting hcl₀) hcl₀.ready,
    checkcast.wp_ready (e := e) (s := T.setVm (T.vm.noted g.method.cls index (.cls (dA 1)))) (f := g) X.here.top hcl₀.ready hstack]
  refine ⟨_, hcell, VmData.noStatics_of rfl, ks', hks', kt', hkt', ?_⟩
  have h2 : (vp_cell (dA 4) (n, .inr (.inr (.inr (.inr f))))).cls = dA 4 := rfl
  simp only [h2, h1]
  exact st
theorem ix_aastN (hx : p.tables.exec = Jvm.exec) (hb : c.code = cc) (hK : va_K D cl tys s) (hP : va_P D cl ws H) (hD : va_D A ws) (hS : va_S A H0 H locs) (q0 t0 : Nat) {cA : ClassId} {C : String} {n : Nat} {f : Nat → Option Nat} (ha : ws[q0]? = some (a, .inl (cA, n, .inr (.inr (.inr (.inr f)))))) (ht : tys[t0]? = some (cA, .object C)) {z : Int} (hz : 0 ≤ z ∧ z < (n : Int)) (hn : n < 2147483648) (hd : decode cc pc = .ok (.aastore, 1))
    (kk : ∀ (H1 : Heap) (locs1 : List Loc), va_P D cl (ws.set q0 (a, .inl (cA, n, .inr (.inr (.inr (.inr (va_up f z.toNat none))))))) H1 → va_D A (ws.set q0 (a, .inl (cA, n, .inr (.inr (.inr (.inr (va_up f z.toNat none))))))) → va_S A H0 H1 locs1 → W p l e R s m args below meth c H1 locs1 cells slots Q (F0 m (pc + 1) ls rest)) : W p l e R s m args below meth c H locs cells slots Q (F0 m pc ls (.null :: .int (I3 z) :: .ref a :: rest)) := va_astqN hx hb hK hP hD hS q0 t0 ha ht (I3_vin hn hz) hd (by rw [I3_clamp hz.1 (by omega)]; exact kk)
theorem ix_newq (hx : p.tables.exec = Jvm.exec) (hb : c.code = cc) {own C : String} {index : Nat} (hown : s.vm.findClass own = some m.cls) (hclink : (Cond.classLink own index C).before args s = true) (hover : va_AO C s) (hK : va_K D cl tys s) (hP : va_P D cl ws H) (hD : va_D A ws) (hS : va_S A H0 H locs) (hA : ∀ q, H0.size ≤ q → A q)
    (t0 : Nat) {cA : ClassId} (ht : tys[t0]? = some (cA, .object C)) {z : Int} (N' : Nat) (hz : z = (N' : Int)) (hz3 : z < 2147483648) (hbytes : N' * 4 ≤ 536870912) (hcells : cells + 1 ≤ R.cells) (hslots : slots + N' ≤ R.slots) (hd : decode cc pc = .ok (.anewarray index, 3))
    (kk : ∀ (q : Nat) (H1 : Heap), va_P D cl (ws ++ [(q, .inl (cA, N', .inr (.inr (.inr (.inr (fun _ => none))))))]) H1 → va_D A (ws ++ [(q, .inl (cA, N', .inr (.inr (.inr (.inr (fun _ => none))))))]) → va_S A H0 H1 locs →
      W p l e R s m args below meth c H1 locs (cells + 1) (slots + N') Q (F0 m (pc + 3) ls (.ref q :: rest))) : W p l e R s m args below meth c H locs cells slots Q (F0 m pc ls (.int (I3 z) :: rest)) := by
  refine va_newq hx hb hown hclink hover hK hP hD hS hA (n := I3 z) (N' := N') ?_ ?_ hbytes hcells hslots hd (fun q cA' H1 hK' hP' hD' hS' => ?_)
  · have h0 : (0 : Int32) = I3 0 := rfl
    rw [h0, I3_lt (by constructor <;> omega) (by decide)]
    omega
  · rw [I3_clamp (by omega) (by omega)]
    omega
  · have h1 : va_RA s cA' (.object C) := (hK'.2 tys.length (cA', .object C) (by simp)).2
    have h2 : va_RA s cA (.object C) := (hK.2 t0 _ ht).2
    obtain ⟨_, _, _, _, _, h3⟩ := h1
    obtain ⟨_, _, _, _, _, h4⟩ := h2
    cases h3.symm.trans h4
    exact kk q H1 hP' hD' hS'
theorem l3_at {α : Type} {a b c x : α} {k : Nat} (h : [a, b, c][k]? = some x) : (k = 0 ∧ x = a) ∨ (k = 1 ∧ x = b) ∨ (k = 2 ∧ x = c) := by
  rcases k with _ | _ | _ | k
  · exact Or.inl ⟨rfl, (Option.some.inj h).symm⟩
  · exact Or.inr (Or.inl ⟨rfl, (Option.some.inj h).symm⟩)
  · exact Or.inr (Or.inr ⟨rfl, (Option.some.inj h).symm⟩)
  · simp at h
theorem ix_multi {dA : Nat → ClassId} (hx : p.tables.exec = Jvm.exec) (hb : c.code = cc) {own : String} {index : Nat} (hown : s.vm.findClass own = some m.cls) (hclink : (Cond.classLink own index "[[I").before args s = true) (hover : (Cond.arrayOver (.array .int)).before args s = true) (harr : (Cond.arrayClass .int).before args s = true)
    (hK : va_K D cl (tyA dA) s) (hP : va_P D cl ws H) (hD : va_D A ws) (hS : va_S A H0 H locs) (hA : ∀ q, H0.size ≤ q → A q) (hd : decode cc pc = .ok (.multianewarray index 2, 4)) (hcells : cells + 3 ≤ R.cells) (hslots : slots + 18 ≤ R.slots)
    (kk : ∀ (q : Nat) (H1 : Heap), va_P D cl (ws ++ [(q, .inl (dA 4, 2, .inr (.inr (.inr (.inr (fun k => some (q + 1 + k))))))), ((q + 1), .inl (dA 0, 8, .inl (iA (fun _ => 0)))), ((q + 2), .inl (dA 0, 8, .inl (iA (fun _ => 0))))]) H1 → va_D A (ws ++ [(q, .inl (dA 4, 2, .inr (.inr (.inr (.inr (fun k => some (q + 1 + k))))))), ((q + 1), .inl (dA 0, 8, .inl (iA (fun _ => 0)))), ((q + 2), .inl (dA 0, 8, .inl (iA (fun _ => 0))))]) → va_S A H0 H1 locs →
      W p l e R s m args below meth c H1 locs (cells + 3) (slots + 18) Q (F0 m (pc + 4) ls (.ref q :: rest))) : W p l e R s m args below meth c H locs cells slots Q (F0 m pc ls (.int (I3 8) :: .int (I3 2) :: rest)) := by
  intro T hT X
  have n2 : (I3 2).toNatClampNeg = 2 := rfl
  have n8 : (I3 8).toNatClampNeg = 8 := rfl
  have hnm : "[" ++ (FieldType.array FieldType.int).toString = "[[I" := by decide +kernel
  have hnm2 : (FieldType.array FieldType.int).toString = "[I" := by decide +kernel
  obtain ⟨vm₁, cA, comp, hW, hfA, hfC, -, -, X1, st⟩ := X.multianewarray2F hx (own := own) (index := index) (ty := .int) hown (by rw [hnm]; exact hclink) hover harr (g := F0 m pc ls (.int (I3 8) :: .int (I3 2) :: rest)) rfl (by rw [hb]; exact hd) (n := I3 2) (k := I3 8) (rest := rest) rfl (by decide) (by decide) (by rw [n2]; decide) (by rw [n8]; decide) (by rw [n8]; decide) rfl rfl (by rw [n2]; omega) (by rw [n2, n8]; omega)
  rw [hnm] at hfA
  rw [hnm2] at hfC
  cases hfA.symm.trans (nm_ints hK)
  cases hfC.symm.trans (nm_int hK)
  rw [n2, n8] at X1 st
  obtain ⟨f1, f2, -, -⟩ := Jvm.Free.Multi.fill_facts (T.setVm vm₁) (dA 4) (dA 0) 2 8 (defaultValue .int) 2
  have fo := fun (q : Addr) (hq : q < T.heap.size) => Jvm.Free.Multi.fill_old (T.setVm vm₁) (dA 4) (dA 0) 2 8 (defaultValue .int) (a := q) hq 2
  have fi := fun (j : Nat) (hj : j < 2) => Jvm.Free.Multi.fill_inner (T.setVm vm₁) (dA 4) (dA 0) 2 8 (defaultValue .int) 2 j hj
  have hTs : (T.setVm vm₁).heap = H := hT
  generalize hF : Jvm.Free.Multi.fill (T.setVm vm₁) (dA 4) (dA 0) 2 8 (defaultValue .int) 2 = T2 at X1 st f1 f2 fo fi
  have hz : T2.heap.size = H.size + 1 + 2 := by rw [f1, hTs]
  have ho : ∀ q : Nat, q < H.size → T2.heap[q]? = H[q]? := fun q hq => by
    rw [← hT] at hq ⊢
    exact fo q hq
  rw [hT] at st
  have c0 : T2.heap[H.size]? = some (vp_cell (dA 4) (2, .inr (.inr (.inr (.inr (fun k => some (H.size + 1 + k))))))) := by
    rw [hTs] at f2
    exact f2
  have ci : ∀ j : Nat, j < 2 → T2.heap[H.size + 1 + j]? = some (vp_cell (dA 0) (8, .inl (iA (fun _ => 0)))) := fun j hj => by
    have h := fi j hj
    rw [hTs] at h
    exact h
  have hk : ∀ (k : Nat) (x : Nat × va_E), ws[k]? = some x → T2.heap[x.1]? = H[x.1]? := fun k x hx => ho x.1 ((hP k x hx).lt)
  have hPn : va_P D cl [(H.size, .inl (dA 4, 2, .inr (.inr (.inr (.inr (fun k => some (H.size + 1 + k))))))), ((H.size + 1), .inl (dA 0, 8, .inl (iA (fun _ => 0)))), ((H.size + 2), .inl (dA 0, 8, .inl (iA (fun _ => 0))))] T2.heap := by
    intro k x hx
    rcases l3_at hx with ⟨-, rfl⟩ | ⟨-, rfl⟩ | ⟨-, rfl⟩
    · exact c0
    · exact ci 0 (by decide)
    · exact ci 1 (by decide)
  have hDn : va_D A [(H.size, .inl (dA 4, 2, .inr (.inr (.inr (.inr (fun k => some (H.size + 1 + k))))))), ((H.size + 1), .inl (dA 0, 8, .inl (iA (fun _ => 0)))), ((H.size + 2), .inl (dA 0, 8, .inl (iA (fun _ => 0))))] := by
    refine ⟨fun i j x y hi hj hxy => ?_, fun k x hx => ?_⟩
    · rcases l3_at hi with ⟨rfl, rfl⟩ | ⟨rfl, rfl⟩ | ⟨rfl, rfl⟩ <;> rcases l3_at hj with ⟨rfl, rfl⟩ | ⟨rfl, rfl⟩ | ⟨rfl, rfl⟩ <;> first | rfl | (exfalso; simp at hxy; done) | (exfalso; simp at hxy; omega)
    · rcases l3_at hx with ⟨-, rfl⟩ | ⟨-, rfl⟩ | ⟨-, rfl⟩
      · exact hA _ hS.1
      · exact hA _ (Nat.le_trans hS.1 (Nat.le_succ _))
      · exact hA _ (Nat.le_trans hS.1 (Nat.le_add_right _ 2))
  obtain ⟨t, a1, b1⟩ := kk H.size T2.heap ((hP.kept hk).app hPn) (va_D.app hD hDn (fun i j x y hi hj hxy => by
      have h1 := (hP i x hi).lt
      rcases l3_at hj with ⟨-, rfl⟩ | ⟨-, rfl⟩ | ⟨-, rfl⟩ <;> (have h2 : x.1 = _ := hxy; simp at h2; omega))) ⟨Nat.le_trans hS.1 (by omega), fun q h1 h2 => (ho q (Nat.lt_of_lt_of_le h1 hS.1)).trans (hS.2.1 q h1 h2), hS.2.2⟩ T2 rfl X1
  exact ⟨t, st t a1, b1⟩
theorem aa_out {z : Int} {n k : Nat} (hz : In3 z) (ho : ¬ (0 ≤ z ∧ z < (n : Int))) (hk : k = n) : I3 z < 0 ∨ k ≤ (I3 z).toNatClampNeg := by
  subst hk
  by_cases h : 0 ≤ z
  · right
    rw [I3_clamp h hz.2]
    omega
  · left
    have h0 : (0 : Int32) = I3 0 := rfl
    rw [h0, I3_lt hz (by decide)]
    omega
theorem ix_aaldO (hx : p.tables.exec = Jvm.exec) (hb : c.code = cc) (hK : va_K D cl tys s) (hP : va_P D cl ws H) (q0 t0 : Nat) {cA : ClassId} {ty : FieldType} {n : Nat} {f : Nat → Option Nat} (ha : ws[q0]? = some (a, .inl (cA, n, .inr (.inr (.inr (.inr f)))))) (ht : tys[t0]? = some (cA, ty)) {z : Int} (hz : In3 z) (ho : ¬ (0 ≤ z ∧ z < (n : Int))) (hn : n < 2147483648) (hd : decode cc pc = .ok (.aaload, 1))
    (k : ∀ tx : String, (tx == notModelled) = false ∧ (stringBytes (stringToUtf16 tx)).size ≤ 480 → vx_Note p l e R s m args below meth c H locs cells slots Q (F0 m pc ls rest) "java/lang/ArrayIndexOutOfBoundsException" tx) : W p l e R s m args below meth c H locs cells slots Q (F0 m pc ls (.int (I3 z) :: .ref a :: rest)) := by
  intro T hT X
  have hcell : T.heap[a]? = some (vp_cell cA (n, .inr (.inr (.inr (.inr f))))) := by rw [hT]; exact hP q0 _ ha
  have hsz : (vp_cell cA (n, .inr (.inr (.inr (.inr f))))).slots.size = n := by rw [vp_cell_q, arrV_size]
  have harr : s.isArrayOf (vp_cell cA (n, .inr (.inr (.inr (.inr f))))) ty := (hK.2 t0 _ ht).1 n (fun j => va_rf (f j))
  obtain ⟨t, st, q⟩ := k _ (ix_tx (I3 z) (n := (vp_cell cA (n, .inr (.inr (.inr (.inr f))))).slots.size) (by rw [hsz]; exact hn) rfl) T hT X
  exact ⟨t, X.aaloadOut hx hcell harr (aa_out hz ho hsz) (g := F0 m pc ls (.int (I3 z) :: .ref a :: rest)) rfl (rest := rest) rfl (by rw [hb]; exact hd) t st, q⟩
theorem ix_aastO {v : Nat} (hx : p.tables.exec = Jvm.exec) (hb : c.code = cc) (hK : va_K D cl tys s) (hP : va_P D cl ws H) (q0 t0 : Nat) {cA : ClassId} {ty : FieldType} {n : Nat} {f : Nat → Option Nat} (ha : ws[q0]? = some (a, .inl (cA, n, .inr (.inr (.inr (.inr f)))))) (ht : tys[t0]? = some (cA, ty)) {z : Int} (hz : In3 z) (ho : ¬ (0 ≤ z ∧ z < (n : Int))) (hn : n < 2147483648) (hd : decode cc pc = .ok (.aastore, 1))
    (k : ∀ tx : String, (tx == notModelled) = false ∧ (stringBytes (stringToUtf16 tx)).size ≤ 480 → vx_Note p l e R s m args below meth c H locs cells slots Q (F0 m pc ls rest) "java/lang/ArrayIndexOutOfBoundsException" tx) : W p l e R s m args below meth c H locs cells slots Q (F0 m pc ls (.ref v :: .int (I3 z) :: .ref a :: rest)) := by
  intro T hT X
  have hcell : T.heap[a]? = some (vp_cell cA (n, .inr (.inr (.inr (.inr f))))) := by rw [hT]; exact hP q0 _ ha
  have hsz : (vp_cell cA (n, .inr (.inr (.inr (.inr f))))).slots.size = n := by rw [vp_cell_q, arrV_size]
  have harr : s.isArrayOf (vp_cell cA (n, .inr (.inr (.inr (.inr f))))) ty := (hK.2 t0 _ ht).1 n (fun j => va_rf (f j))
  obtain ⟨t, st, q⟩ := k _ (ix_tx (I3 z) (n := (vp_cell cA (n, .inr (.inr (.inr (.inr f))))).slots.size) (by rw [hsz]; exact hn) rfl) T hT X
  exact ⟨t, X.aastoreOut hx (v := .ref v) rfl hcell harr (aa_out hz ho hsz) (g := F0 m pc ls (.ref v :: .int (I3 z) :: .ref a :: rest)) rfl (rest := rest) rfl (by rw [hb]; exact hd) t st, q⟩
theorem vx_catchAny {own : String} {E : String} {ce : Cell} {q : Addr} (_hown : s.vm.findClass own = some m.cls) (x : ExceptionTableEntry) (suf : List ExceptionTableEntry) (hsplit : c.exceptionTable.toList = x :: suf) (hx : covers x pc = true) (h0 : x.catchType = 0) (hcell : H[q]? = some ce) (hv : ce.vm = .none) (hcl : s.vm.findClass E = some ce.cls)
    (kk : W p l e R s m args below meth c H locs cells slots Q (F0 m x.handlerPc ls [.ref q])) : vx_W p l e R s m args below meth c H locs cells slots Q (F0 m pc ls rest) q := by
  intro T hT X
  obtain ⟨vm', X', st⟩ := X.thenCaughtThrough q (g := F0 m pc ls rest) rfl (Steps.refl _) (by rw [hT]; exact hcell) (by rw [hv]; rfl) (by obtain ⟨k9, h9, -⟩ := Vm.findClass_spec hcl; exact ⟨k9, h9⟩) [] x suf hsplit (fun z hz => nomatch hz) hx (Or.inl h0)
  obtain ⟨t, a1, b1⟩ := kk (T.setVm vm') hT X'
  exact ⟨t, st.trans a1, b1⟩
theorem xk_ne {q9 q0 ci : Nat} {qc : vw_C} {fs : List Value} {E : String} {ce : Cell} (hK : va_K D cl tys s) (hP : va_P D cl ws H) (he : ws[q0]? = some (a, .inr (ci, fs))) (hc : cl[ci]? = some qc) (hce : H[q9]? = some ce) (hcl : s.vm.findClass E = some ce.cls) (hne : E ≠ qc.1) : q9 ≠ a := by
  intro e9
  subst e9
  obtain ⟨c2, g1, -, g3⟩ := xk_obj hK hP he hc
  cases hce.symm.trans g1
  obtain ⟨k9, h9, -⟩ := Vm.findClass_spec hcl
  exact hne ((fc_spec hcl h9).1.symm.trans (fc_spec g3 h9).1)
/-- a field is written, and every other cell is as it was -/
theorem va_putX (hx : p.tables.exec = Jvm.exec) (hb : c.code = cc) {own ref C : String} {T : u_T} {N ci index : Nat} {Ts : List Cond} (hts : ∀ w ∈ Ts, w.before args s = true) (hin : ∀ w ∈ u_ws C T N, w ∈ Ts) (ty0 : Nat → FieldType) (hty : ∀ k, k < N → parseFieldDescriptor (T k).2.2.1 = some (ty0 k)) (hnm : ∀ a, a < N → ∀ b, b < N → a ≠ b → (T a).2.1 ≠ (T b).2.1) (hown : s.vm.findClass own = some m.cls) (hK : va_K D cl tys s) (hP : va_P D cl ws H) (hD : va_D A ws) (hS0 : va_S A H0 H locs) (q0 : Nat) {fs : List Value} (he : ws[q0]? = some (a, .inr (ci, fs))) (hc : cl[ci]? = some (C, T, N)) (k : Nat) (hk : k < N) (hlink : (Cond.fieldLink own index ref (T k).2.1 (T k).2.2.1).before args s = true) (hsame : ∀ x, s.fieldFound? (T k).1 (T k).2.1 (T k).2.2.1 = some x → s.fieldFound? ref (T k).2.1 (T k).2.2.1 = some x) (hfin : (T k).2.2.2 = false) {ty : FieldType} {v : Value} (hd : parseFieldDescriptor (T k).2.2.1 = some ty) (hn : narrow ty v = v) (hfit : fits ty v = true) (hl : k < fs.length) (hdg : decode cc pc = .ok (.putfield index, 3))
    (kk : ∀ (H1 : Heap) (locs1 : List Loc), va_P D cl (ws.set q0 (a, .inr (ci, fs.set k v))) H1 → va_D A (ws.set q0 (a, .inr (ci, fs.set k v))) → va_S A H0 H1 locs1 → (∀ q : Nat, q ≠ a → H1[q]? = H[q]?) → W p l e R s m args below meth c H1 locs1 cells slots Q (F0 m (pc + 3) ls rest)) : W p l e R s m args below meth c H locs cells slots Q (F0 m pc ls (v :: .ref a :: rest)) := by
  have hap := va_apart (own := own) hts hin ty0 hty hnm hK hc
  have hob := hP q0 _ he
  obtain ⟨r, h1, cell, q1, q2, q3, q4⟩ := hob
  cases h1.symm.trans hc
  obtain ⟨hsl, hfc, kC, hkC, hkind⟩ := hK.1 ci _ hc
  obtain ⟨cf, kf, fi, f, hi, hs⟩ := hsl k hk
  have hlay := hts _ (hin _ (u_in_lay hk))
  unfold u_lay at hlay
  rw [if_neg (by rw [hfin]; decide)] at hlay
  have hst := u_store hfc hkC hkind hlay hi hd hn hfit
  refine W.putK hx hb (f := f) ⟨hown, hlink, ⟨_, _, _, hsame _ hi⟩, (u_facts hfc hkC (u_lays hts hin hk) hi).1⟩ (by rw [q2]; exact hst) q1 q3 (by rw [hs]; exact k2_hasslot (q4 k hk)) rfl rfl hdg fun H1 e1 e2 e3 => ?_
  rw [hs] at e1 ⊢
  exact kk H1 _ (hP.set hD he ⟨_, hc, t_OB.to (V := updV (vp_V fs) k v) ⟨_, e1, q2, q3, t_set q4 hap hk v⟩ (fun j _ => vp_updV_set hl v j)⟩ e3) (hD.set he) (hS0.put e2 e3 (hD.2 q0 _ he)) e3
variable {mc ms : Nat} {free : Addr → Prop} {A0 A1 : Nat → Prop} {av : Array Value} {st0 : List Value}
theorem vx_callr {S SX : Type} {post : S → Prop} {px : SX → Prop} {B : S → Nat → State → Prop} {BX : String → SX → State → Prop} {AX : Nat → Prop} (hr : vx_Run p l e R s m args below meth c H locs cells slots mc ms (F0 m pc ls st0) rest (va_Qr post B A1 av) (vx_X px BX AX) free) (hS : va_S A0 H0 H locs) (hA : ∀ q, q < H.size → A1 q → A0 q) (hf : ∀ q, free q → A0 q) (hAX : ∀ q, q < H.size → AX q → A0 q)
    (kx : ∀ (E : String) (ce : Cell) (q9 : Addr) (u : SX) (t : State) (H1 : Heap) (locs1 : List Loc), t.heap = H1 → s.vm.Alike t.vm → px u → BX E u t → H.size ≤ H1.size → (∀ q : Nat, q < H.size → ¬ AX q → H1[q]? = H[q]?) → va_S A0 H0 H1 locs1 → H1[q9]? = some ce → ce.vm = .none → s.vm.findClass E = some ce.cls → vx_W p l e R s m args below meth c H1 locs1 (cells + mc) (slots + ms) Q (F0 m pc ls rest) q9)
    (kk : ∀ (u : S) (ra : Nat) (t : State) (H1 : Heap) (locs1 : List Loc), t.heap = H1 → s.vm.Alike t.vm → post u → B u ra t → H.size ≤ H1.size → (∀ q : Nat, q < H.size → ¬ A1 q → H1[q]? = H[q]?) → va_S A0 H0 H1 locs1 → W p l e R s m args below meth c H1 locs1 (cells + mc) (slots + ms) Q (F0 m (pc + 3) ls (.ref ra :: rest))) : W p l e R s m args below meth c H locs cells slots Q (F0 m pc ls st0) := by
  intro T hT X
  rcases hr T hT X with ⟨v, st₀, t, T', L, h0, X', hL, e1, e2, ⟨⟨u, ra, hv, hp, hb⟩, hF⟩, st⟩ | ⟨q, st₀, t, T', L, E, ce, h0, X', hL, e1, e2, ⟨u, hp, hb, hF⟩, hce, hcv, hcl, st⟩
  · cases hv
    obtain ⟨k1, k2, k3⟩ := vx_keep h0 e1 hS hA hf hL hF
    obtain ⟨t2, a1, b1⟩ := kk u ra t T'.heap (locs ++ L) e1.symm (by rw [← e2]; exact X'.warmed.alike) hp hb k1 k2 k3 T' rfl X'
    exact ⟨t2, st t2 a1, b1⟩
  · obtain ⟨k1, k2, k3⟩ := vx_keep h0 e1 hS hAX hf hL hF
    obtain ⟨t2, a1, b1⟩ := kx E ce q u t T'.heap (locs ++ L) e1.symm (by rw [← e2]; exact X'.warmed.alike) hp hb k1 k2 k3 (by rw [e1]; exact hce) hcv hcl T' rfl X'
    exact ⟨t2, st.trans a1, b1⟩
end RWS
