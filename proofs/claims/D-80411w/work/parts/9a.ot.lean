/-! floor, ceil, rint of Math: the machine's entry calls StrictMath's own method, and hands its answer on -/
set_option maxRecDepth 100000
section OVT
variable {e : Env} {below : List Frame}
theorem ov_enterT {p : Program} {s target : State} {g g₀ : JFrame} {r : List Frame} {c : Code} (h : At s g.method c below) (hr : s.frames = .java g₀ :: r) (acts : List Action) {m m2 : MethodId} {meth : Method} {k : Class} {code : Code} {row : NativeRow} {args : Array Value}
    (hk : s.vm.classes[m.cls]? = some k) (hx : k.methods[m.idx]? = some meth) (hov : overriddenIn.contains k.name = true) (hboot : k.loader = none) (hc : meth.code = some code) (hl : meth.locks = false)
    (hrow : NativeRow.find? p.tables.natives k.name meth.name meth.desc = some row)
    (hroom : e.platform.stackFull (((s.setTop g).threads[(s.setTop g).cur]?).getD { frames := [] }) (s.setTop g).frames code.maxLocals = false)
    (hgiven : ovArgs (argsToLocals args code.maxLocals) (meth.sig.parameters.length + (if meth.isStatic then 0 else 1)) = args)
    (huw : upcallWords k.name meth.name = 0)
    (hw : ∀ (E : CtlPost) (S : State), S.vm = s.vm → (∀ acts', E (.call m2 args 1 #[]) acts' S) → wp (row.sem args) (fun _ _ _ _ => False) E e false [] S)
    (hrest : ∀ acts', Steps p.tables e below (doInvoke e (s.setFrames (.native { method := m, args := args, stage := 1, awaiting := true } :: .java g :: r)) acts' m2 args).1 target) :
    Steps p.tables e below (doInvoke e (s.setTop g) acts m args).1 target := by
  have hm : (s.setTop g).vm.method? m = some meth := by
    show s.vm.method? m = some meth
    simp [Vm.method?, hk, hx]
  rw [(doInvoke_java (s := s.setTop g) (e := e) (acts := acts) (args := args) hm hc hl hroom).1]
  have hfe := frames_entered (g := g) h.top (.java { method := m, pc := 0, locals := argsToLocals args code.maxLocals, stack := [], locked := none })
  obtain ⟨mid, hmid⟩ := h.above
  refine Steps.head ⟨h.running, by simpa using h.runnable, by simpa using h.alone⟩
    ⟨.java { method := m, pc := 0, locals := argsToLocals args code.maxLocals, stack := [], locked := none } :: .java g :: mid, by rw [hfe, hmid]; rfl, by simp, by simp⟩ ?_
  have hac : argCount ((s.setTop g).pushFrame (.java { method := m, pc := 0, locals := argsToLocals args code.maxLocals, stack := [], locked := none })) m = meth.sig.parameters.length + (if meth.isStatic then 0 else 1) := by
    unfold argCount
    show (match (s.vm.classes[m.cls]?).bind (·.methods[m.idx]?) with | some x => _ | none => _) = _
    rw [hk]
    show (match k.methods[m.idx]? with | some x => _ | none => _) = _
    rw [hx]
  rw [ov_step (f := { method := m, pc := 0, locals := argsToLocals args code.maxLocals, stack := [], locked := none }) (row := row) (args := args) hfe (ov_is rfl hk hx hov hboot hrow) (by rw [hac]; exact hgiven)]
  have htl : s.frames.tail = r := by rw [hr]; rfl
  have hU : ((s.setTop g).pushFrame (.java { method := m, pc := 0, locals := argsToLocals args code.maxLocals, stack := [], locked := none })).setFrames (.native { method := m, args := args, locked := none } :: .java g :: s.frames.tail) = s.setFrames (.native { method := m, args := args, locked := none } :: .java g :: r) := by
    rw [State.pushFrame, State.setFrames_setFrames, State.setTop_of_frames _ hr, State.setFrames_setFrames, htl]
  have hgoal : wpRun (row.sem args) (fun _ _ _ => False) (fun x s₁ _ => x = .call m2 args 1 #[] ∧ s₁ = s.setFrames (.native { method := m, args := args, locked := none } :: .java g :: r)) e (s.setFrames (.native { method := m, args := args, locked := none } :: .java g :: r)) := by
    simp only [wpRun]
    exact hw _ _ rfl (fun _ => ⟨rfl, rfl⟩)
  show Steps p.tables e below (afterNative e _ _ ((row.sem args).run e (((s.setTop g).pushFrame _).setFrames (.native { method := m, args := args, locked := none } :: .java g :: s.frames.tail)))).1 target
  rw [hU]
  have hgoal := (wpRun_iff_run _ _ _ _ _).mp hgoal
  cases hrn : (row.sem args).run e (s.setFrames (.native { method := m, args := args, locked := none } :: .java g :: r)) with
  | ok v' s₁ acts₁ => rw [hrn] at hgoal; exact hgoal.elim
  | ctl x s₁ acts₁ =>
    rw [hrn] at hgoal
    have hx9 : x = .call m2 args 1 #[] ∧ s₁ = s.setFrames (.native { method := m, args := args, locked := none } :: .java g :: r) := by
      cases x <;> first | exact hgoal | exact hgoal.elim
    obtain ⟨e1, e2⟩ := hx9
    subst e1
    subst e2
    have hwd : (((s.setFrames (.native { method := m, args := args, locked := none } :: .java g :: r)).vm.classes[m.cls]?).bind fun k => (k.methods[m.idx]?).map fun n => upcallWords k.name n.name).getD 0 = 0 := by
      show ((s.vm.classes[m.cls]?).bind fun k => (k.methods[m.idx]?).map fun n => upcallWords k.name n.name).getD 0 = 0
      rw [hk]
      show ((k.methods[m.idx]?).map fun n => upcallWords k.name n.name).getD 0 = 0
      rw [hx]
      exact huw
    have hgo := hrest acts₁
    rw [htl]
    show Steps p.tables e below (doInvoke e ((s.setFrames (.native { method := m, args := args, locked := none } :: .java g :: r)).setFrames (.native { method := m, args := args, stage := 1, awaiting := true, words := (((s.setFrames (.native { method := m, args := args, locked := none } :: .java g :: r)).vm.classes[m.cls]?).bind fun k => (k.methods[m.idx]?).map fun n => upcallWords k.name n.name).getD 0 } :: .java g :: r)) acts₁ m2 args).1 target
    rw [hwd, State.setFrames_setFrames]
    exact hgo
theorem ov_leaveT {p : Program} {t : State} {g : JFrame} {r mid : List Frame} {m : MethodId} {meth : Method} {k : Class} {row : NativeRow} {args : Array Value} {v2 : Value} {v : Option Value} {c : Code} {ig : Instr} {len : Nat}
    (hf : t.frames = .native { method := m, args := args, stage := 1, answer := some (.returned (some v2)) } :: .java g :: r) (hr : r = mid ++ below) (hgo : t.goesOn)
    (hk : t.vm.classes[m.cls]? = some k) (hx : k.methods[m.idx]? = some meth) (hboot : k.loader = none) (hrow : NativeRow.find? p.tables.natives k.name meth.name meth.desc = some row)
    (hw : ∀ (Q : Option Value → Pre) (S : State), (∀ d' acts', Q v d' acts' S) → wp (row.resume 1 #[] (.returned (some v2))) Q (fun _ _ _ => False) e false [] S)
    (hcode : t.code? g.method = some c) (hdg : decode c.code g.pc = .ok (ig, len)) : Steps p.tables e below t (t.setFrames (.java { g with pc := g.pc + len, stack := v.toList ++ g.stack } :: r)) := by
  refine Steps.head hgo ⟨.native { method := m, args := args, stage := 1, answer := some (.returned (some v2)) } :: .java g :: mid, by rw [hf, hr]; rfl, by simp, by simp⟩ ?_
  have hst : stepThread p.tables e t = afterNative e { method := m, args := args, stage := 1, answer := some (.returned (some v2)) } (.java g :: r) ((row.resume 1 #[] (.returned (some v2))).run e t) := by
    unfold stepThread
    simp only [hf, hk, hx, hrow, hboot, Option.bind_eq_bind, Option.bind_some, Option.pure_def, Option.isNone_none, if_true]
  rw [hst]
  have hfs : handOver t v (.java g :: r) = some (.java { g with pc := g.pc + len, stack := v.toList ++ g.stack } :: r) := by
    simp [handOver, hcode, hdg, Except.toOption]
  have hgoal : wpRun (row.resume 1 #[] (.returned (some v2))) (fun v' s₁ _ => ∀ acts', Steps p.tables e below (doReturn e s₁ acts' v').1 (t.setFrames (.java { g with pc := g.pc + len, stack := v.toList ++ g.stack } :: r))) (fun _ _ _ => False) e t := by
    simp only [wpRun]
    refine hw _ _ ?_
    intro _ _ acts'
    rw [doReturn_native (f := { method := m, args := args, stage := 1, answer := some (.returned (some v2)) }) hf rfl hfs]
    exact Steps.refl _
  have hgoal := (wpRun_iff_run _ _ _ _ _).mp hgoal
  cases hrn : (row.resume 1 #[] (.returned (some v2))).run e t with
  | ok v' s₁ acts₁ => rw [hrn] at hgoal; exact hgoal acts₁
  | ctl x s₁ acts₁ => rw [hrn] at hgoal; cases x <;> exact hgoal.elim
end OVT
section OVU
variable {p : Program} {l : Launch} {e : Env} {R : Room} {s : State} {m : MethodId} {args : Array Value} {below : List Frame} {meth : Method} {c : Code} {H : Heap} {locs : List Loc} {cells slots : Nat}
theorem ov_runT {y y2 : MethodName} {bytes bytes2 cc : ByteArray} {maxL maxL2 nL index : Nat} {ret ret2 : Option FieldType} {ws : List Cond} {rm : Room} {Pc : Array Value → State → Prop} {Qc : Array Value → State → Outcome → State → Prop} {free : Addr → Prop} {Ts : List Cond} {own : String} {As rest : List Value} {g : JFrame} {row : NativeRow} {ps : List FieldType}
    (S : CallFix p m c cc nL s args Ts own) (hM : Met l y2 ws rm Pc Qc 0 0 free)
    (hlink : (Cond.methodLink own index y).before args s = true) (hstat : (Cond.static y).before args s = true) (hinit : (Cond.initialized y.cls).before args s = true) (hcode : (Cond.code y bytes maxL ret).before args s = true)
    (hsig : parseMethodDescriptor y.desc = some { parameters := ps, returnType := ret }) (hy : y.cls ≠ "java/lang/invoke/MethodHandle" ∧ y.cls ≠ "java/lang/invoke/VarHandle") (hov : overriddenIn.contains y.cls = true) (huw : upcallWords y.cls y.name = 0) (hrow : NativeRow.find? p.tables.natives y.cls y.name y.desc = some row)
    (hlen : As.length = ps.length) (hgiven : ovArgs (argsToLocals As.toArray maxL) ps.length = As.toArray)
    (hws : ∀ w ∈ ws, ∀ (a' : Array Value) (U : State), s.WarmedH U.vm → w.before a' U = true) (hcw : Cond.code y2 bytes2 maxL2 ret2 ∈ ws) (hini2 : ∀ (a' : Array Value) (U : State), s.WarmedH U.vm → (Cond.initialized y2.cls).before a' U = true)
    (hrm : rm.cells = 0 ∧ rm.slots = 0) (hR : rm.frames + 2 ≤ R.frames ∧ 8 + 1024 + (maxL2 + 11) + rm.locals ≤ R.locals ∧ 8 + (maxL + 11) ≤ R.locals)
    (hsem : ∀ (m2 : MethodId) (k2 : Class) (E : CtlPost) (U : State), U.vm.findClass y2.cls = some m2.cls → U.vm.classes[m2.cls]? = some k2 → k2.init = .initialized → k2.findMethod y2.name y2.desc = some m2.idx → (∀ acts', E (.call m2 As.toArray 1 #[]) acts' U) → wp (row.sem As.toArray) (fun _ _ _ _ => False) E e false [] U)
    (hres : ∀ (st t : State) (v : Option Value), Qc As.toArray st (.returned v) t → ∃ v2, v = some v2 ∧ ∀ (Q : Option Value → Pre) (U : State), (∀ d' acts', Q v d' acts' U) → wp (row.resume 1 #[] (.returned (some v2))) Q (fun _ _ _ => False) e false [] U)
    (hp : ∀ U : State, U.heap = H → s.WarmedH U.vm → Pc As.toArray U)
    (hg : g.method = m) (hsize : g.locals.size = nL) (hstack : g.stack = As.reverse ++ rest) (hW : 2 * g.monitorRoom + (rest.map fun v => v.category).sum ≤ 8) (hdg : decode cc g.pc = .ok (.invokestatic index, 3)) (hf : cells ≤ R.cells ∧ slots ≤ R.slots) :
    va_Run p l e R s m args below meth c H locs cells slots 0 0 g rest (Qc As.toArray) free := by
  obtain ⟨hexec, hb, hml, hown, -⟩ := S
  intro T hT X
  subst hg
  obtain ⟨mk, hnS⟩ := ov_named hcode
  obtain ⟨methS, cS, hmS, hcS, -, hLS, -, hlS, -, hsS⟩ := Cond.code_spec hnS hcode
  have hstS := Cond.static_spec hnS hmS hstat
  obtain ⟨kS, hkS, hknS⟩ := className_of_methodNamed hnS
  obtain ⟨hmn, hmd⟩ := name_of_methodNamed hnS hmS
  have hiS := Cond.initialized_spec (findClass_of_methodNamed hnS) hkS hinit
  have hps : methS.sig.parameters = ps := by
    rw [hsig] at hsS
    rw [← Option.some.inj hsS]
  have hbS := Vm.bootOf_findClass (findClass_of_methodNamed hnS) hkS
  obtain ⟨vm', X', step⟩ := X.invokestatic hexec hown hlink hnS hmS hstS hkS hiS hy (g := g) rfl (argsL := As) (rest := rest) (by rw [hps]; exact hlen) hstack (by rw [hb]; exact hdg)
  obtain ⟨k', hk', he⟩ := X'.warmed.alike.2.2 _ _ hkS
  have hxS : kS.methods[mk.idx]? = some methS := by simpa [Vm.method?, hkS] using hmS
  have e1 : k'.methods = kS.methods := by rw [he]
  have e2 : k'.name = kS.name := by rw [he]
  have e3 : k'.loader = kS.loader := by rw [he]
  have hU0 : (T.setVm vm').heap = H := hT
  generalize hUd : T.setVm vm' = U at X' step hk' hU0
  have h := X'.here
  obtain ⟨g₀, hg0⟩ := Option.isSome_iff_exists.mp h.top
  obtain ⟨r, hr⟩ := State.topJava?_eq_some.mp hg0
  have htl : U.frames.tail = r := by rw [hr]; rfl
  have hrb : r = below := by rw [← htl]; exact X'.tail
  have hcur : U.cur < U.threads.size := State.cur_lt_of_frames hr
  have h1c : (Cond.code y2 bytes2 maxL2 ret2).before As.toArray U = true := hws _ hcw _ _ X'.warmed
  obtain ⟨m2, hn2⟩ := ov_named h1c
  obtain ⟨methY, cY, hmY, hcY, -, hlY, -, -, -, -⟩ := Cond.code_spec hn2 h1c
  obtain ⟨kY, hkY, -⟩ := className_of_methodNamed hn2
  have hiY : kY.init = .initialized := Cond.initialized_spec (findClass_of_methodNamed hn2) hkY (hini2 As.toArray U X'.warmed)
  have hfY : kY.findMethod y2.name y2.desc = some m2.idx := by
    have q := hn2
    simp only [State.methodNamed?, Option.bind_eq_bind, Option.bind_eq_some_iff, Option.pure_def, Option.some.injEq] at q
    obtain ⟨c9, _, k9, hk9, i9, hi9, rfl⟩ := q
    cases hkY.symm.trans hk9
    exact hi9
  have hx' : k'.methods[mk.idx]? = some methS := by rw [e1]; exact hxS
  have hro : NativeRow.find? p.tables.natives k'.name methS.name methS.desc = some row := by rw [e2, hknS, hmn, hmd]; exact hrow
  have hbo : k'.loader = none := by rw [e3]; exact hbS
  -- the callee
  let N : NFrame := { method := mk, args := As.toArray, stage := 1, awaiting := true }
  let V : State := U.setFrames (.native N :: .java { g with stack := rest } :: r)
  have hVf : V.frames = .native N :: .java { g with stack := rest } :: r := State.frames_setFrames _ hcur
  have hVp : V.pushFrame (.invoking m2 As.toArray) = U.setFrames (.invoking m2 As.toArray :: .native N :: .java { g with stack := rest } :: r) := by
    show V.setFrames (.invoking m2 As.toArray :: V.frames) = _
    rw [hVf]
    exact State.setFrames_setFrames _ _ _
  have hPf : (V.pushFrame (.invoking m2 As.toArray)).frames = .invoking m2 As.toArray :: .native N :: .java { g with stack := rest } :: r := by
    rw [hVp]
    exact State.frames_setFrames _ hcur
  have happ : (headSpec ws rm).appliesLoose y2 e.platform (V.pushFrame (.invoking m2 As.toArray)) = true := by
    refine (Spec.appliesLoose_iff hPf).mpr ⟨?_, ?_, ?_, ?_, rfl, ?_, ?_, ?_⟩
    · rw [hVp]; exact h.running
    · rw [hVp]; simpa using h.runnable
    · rw [hVp]; simpa using h.alone
    · rw [hVp]; exact hn2
    · exact State.classRipe_of (s := V.pushFrame (.invoking m2 As.toArray)) (by rw [hVp]; exact hkY) hiY
    · obtain ⟨r1, r2, r3, r4⟩ := State.hasRoom_stack X'.room
      have r5 := State.hasRoom_real X'.room
      have hh := X'.room
      simp only [State.hasRoom, Bool.and_eq_true, decide_eq_true_eq] at hh
      rw [State.localsInUse_invoking X'.frames X'.method X'.code] at r3 r4 r5
      rw [X'.frames, List.length_cons] at r1 r2
      have hLu : (V.pushFrame (.invoking m2 As.toArray)).localsInUse = stackWeight below + (g.locals.size + 11 + 2 * g.monitorRoom) + (rest.map fun v => v.category).sum + vmFrameWords + vmFrameWords + (cY.maxLocals + 11) := by
        rw [State.localsInUse_invoking hPf (meth := methY) (c := cY) (by rw [hVp]; exact hmY) hcY, stackWeight_other _ _ (fun f q => by cases q), stackWeight_java, hrb]
      have hvw : vmFrameWords = 1024 := rfl
      have hsz2 : g.locals.size = c.maxLocals := hsize.trans hml.symm
      have hhz := X'.heapSize
      have hus := X'.used
      have hz1 : (headSpec ws rm).room = rm := rfl
      rw [hz1]
      simp only [State.hasRoom, Bool.and_eq_true, decide_eq_true_eq, hPf, hLu, List.length_cons, hrm.1, hrm.2]
      rw [hVp, hrb]
      simp only [State.stackLimits_setFrames, State.stackBytes_setFrames, X'.limits, X'.bytes]
      refine ⟨⟨⟨⟨by omega, by omega, by omega, by omega, by omega, hh.1.1.1.2.2.2.2.2⟩, ?_⟩, ?_⟩, X'.book⟩
      · have := hh.1.1.2
        show U.heap.size + 0 ≤ e.platform.maxCells
        omega
      · have := hh.1.2
        show U.slotsUsed + 0 ≤ e.platform.maxSlots
        omega
    · show (allAtoms ws).before As.toArray (V.pushFrame (.invoking m2 As.toArray)) = true
      rw [hVp, Cond.before_setFrames]
      exact atoms_intro fun w hw => hws w hw _ _ X'.warmed
  have hfr : V.frames = (.native N :: .java { g with stack := rest } :: []) ++ below := by rw [hVf, hrb]; rfl
  obtain ⟨o, s₂, hsteps, hrun2, hend, hq⟩ := Free.Steps.callFree hM p X'.admits X'.cas X'.clock (acts := []) hfr happ (hp _ (by rw [hVp]; exact hU0) (by rw [hVp]; exact X'.warmed)) trivial
  obtain ⟨hq, L, hfe, hL⟩ := hq
  obtain ⟨⟨v, rfl⟩, hW₂, q1, q2, q3, q4, q5, q6⟩ := id hfe
  obtain ⟨v2, rfl, hres⟩ := hres _ _ _ hq
  rw [hVp] at q1 q2 q3 q4 q5 q6 hW₂
  have e4 : s₂ = ({ (U.setFrames (.invoking m2 As.toArray :: .native N :: .java { g with stack := rest } :: r)).setFrames s₂.frames with heap := s₂.heap, slotsUsed := s₂.slotsUsed } : State).setVm s₂.vm := by
    have : s₂ = ({ s₂ with vm := (U.setFrames (.invoking m2 As.toArray :: .native N :: .java { g with stack := rest } :: r)).vm } : State).setVm s₂.vm := rfl
    rw [q1] at this
    exact this
  have hW' : U.WarmedH s₂.vm := hW₂
  rw [hVf] at hend
  have hend : s₂.frames = .native { method := mk, args := As.toArray, stage := 1, answer := some (.returned (some v2)) } :: .java { g with stack := rest } :: r := hend
  have e5 : s₂ = (({ U with heap := s₂.heap, slotsUsed := s₂.slotsUsed } : State).setVm s₂.vm).setFrames s₂.frames := by
    refine e4.trans ?_
    rw [State.setFrames_setFrames]
    rfl
  have hsame : U.sameButNew ({ U with heap := s₂.heap, slotsUsed := s₂.slotsUsed } : State) L 0 0 := by
    refine ⟨?_, q2, q3, q4, q5, q6⟩
    obtain ⟨t, ht, -⟩ := State.frames_cons hr
    show ({ U with heap := s₂.heap, slotsUsed := s₂.slotsUsed } : State) = { U.setFrames U.frames with heap := s₂.heap, slotsUsed := s₂.slotsUsed }
    rw [State.setFrames_self ht]
  have h2 : At (({ U with heap := s₂.heap, slotsUsed := s₂.slotsUsed } : State).setVm s₂.vm) g.method c below := (h.setHeapUsed s₂.heap s₂.slotsUsed).setVm hW'.alike
  have XT : Stand p l e R s g.method args below meth c (({ U with heap := s₂.heap, slotsUsed := s₂.slotsUsed } : State).setVm s₂.vm) (locs ++ L) (cells + 0) (slots + 0) :=
    ⟨X'.admits, X'.cas, X'.clock, X'.frames, X'.room, X'.hears, X'.method, X'.code, h2, X'.tail, State.WarmedH.trans X'.warmed hW', X'.limits, X'.bytes, X'.same.trans (hsame.setVm s.vm)⟩
  generalize hT2 : (({ U with heap := s₂.heap, slotsUsed := s₂.slotsUsed } : State).setVm s₂.vm) = T2 at e5 h2 XT
  have hT2h : T2.heap = s₂.heap := by rw [← hT2]; rfl
  have hT2v : T2.vm = s₂.vm := by rw [← hT2]; rfl
  have hT2f : T2.frames = .java g₀ :: r := by rw [← hT2]; exact hr
  obtain ⟨k2, hk2, he2⟩ := hW'.alike.2.2 _ _ hk'
  have hgo : s₂.goesOn := ⟨hrun2, by rw [e5]; simpa using h2.runnable, by rw [e5]; simpa using h2.alone⟩
  have hcode2 : s₂.code? g.method = some c := by
    rw [e5]
    have := h2.code
    rw [State.code?_eq] at this ⊢
    exact this
  have hlast := ov_leaveT (p := p) (e := e) (below := below) (mid := []) (row := row) (v := some v2) (c := c) (ig := .invokestatic index) (len := 3) (g := { g with stack := rest }) hend (by rw [hrb]; rfl) hgo hk2 (by rw [show k2.methods = k'.methods by rw [he2]]; exact hx') (by rw [show k2.loader = k'.loader by rw [he2]]; exact hbo) (by rw [show k2.name = k'.name by rw [he2]]; exact hro) hres hcode2 (by rw [hb]; exact hdg)
  have hlast2 : s₂.setFrames (.java { { g with stack := rest } with pc := g.pc + 3, stack := (some v2).toList ++ rest } :: r) = T2.setTop { g with pc := g.pc + 3, stack := (some v2).toList ++ rest } := by
    rw [e5, State.setFrames_setFrames, State.setTop_of_frames _ hT2f]
  have hlast : Steps p.tables e below s₂ (T2.setTop { g with pc := g.pc + 3, stack := (some v2).toList ++ rest }) := by
    rw [← hlast2]
    exact hlast
  refine ⟨some v2, V.pushFrame (.invoking m2 As.toArray), s₂, T2, L, by rw [hVp]; exact hU0, XT, hL, hT2h, hT2v, hq, fun target hgoes => ?_⟩
  refine step target fun acts => ?_
  refine ov_enterT (g := { g with stack := rest }) h hr acts hk' hx' (by rw [e2, hknS]; exact hov) hbo hcS hlS hro (X'.notFull (g := { g with stack := rest }) (hsize.trans hml.symm) (vars := cS.maxLocals) (by omega) (by show 2 * g.monitorRoom + (rest.map fun v => v.category).sum + (cS.maxLocals + 11) ≤ _; rw [hLS]; omega)) (by rw [hLS, hps, hstS]; exact hgiven) (by rw [e2, hknS, hmn]; exact huw) (m2 := m2) ?_ ?_
  · intro E U9 hU9 hE
    exact hsem m2 kY E U9 (by rw [hU9]; exact findClass_of_methodNamed hn2) (by rw [hU9]; exact hkY) hiY hfY hE
  · intro acts'
    rw [doInvoke_state]
    exact (hsteps.trans hlast).trans hgoes
end OVU
def rwCeil : NativeRow := Native.java_lang_Math.nans.byStrictMath "ceil" "nat.java_lang_Math.ceil"
def rwFloor : NativeRow := Native.java_lang_Math.nans.byStrictMath "floo\x72" "nat.java_lang_Math.floo\x72"
def rwRint : NativeRow := Native.java_lang_Math.nans.byStrictMath "rint" "nat.java_lang_Math.rint"
theorem rwCeil_row (p : Program) : NativeRow.find? p.tables.natives "java/lang/Math" "ceil" "(D)D" = some rwCeil := by cases p <;> rfl
theorem rwFloor_row (p : Program) : NativeRow.find? p.tables.natives "java/lang/Math" "floo\x72" "(D)D" = some rwFloor := by cases p <;> rfl
theorem rwRint_row (p : Program) : NativeRow.find? p.tables.natives "java/lang/Math" "rint" "(D)D" = some rwRint := by cases p <;> rfl
theorem bs_sem {e : Env} {nm rule : String} {As : Array Value} {m2 : MethodId} {k2 : Class} {E : CtlPost} {U : State} (hc : U.vm.findClass "java/lang/StrictMath" = some m2.cls) (hk : U.vm.classes[m2.cls]? = some k2) (hi : k2.init = .initialized) (hf : k2.findMethod nm "(D)D" = some m2.idx) (hE : ∀ acts', E (.call m2 As 1 #[]) acts' U) : wp ((Native.java_lang_Math.nans.byStrictMath nm rule).sem As) (fun _ _ _ _ => False) E e false [] U := by
  show wp (do
      let c ← classNamed "java/lang/StrictMath"
      ensureInit c
      let some i := (← theClass c).findMethod nm "(D)D" | modelBug ("StrictMath lacks " ++ nm)
      callThen ⟨c, i⟩ As 1 #[]) _ E e false [] U
  simp only [wp_bind', W.classNamed_ready hc, W.ensureInit_ready ⟨k2, hk, hi⟩, W.theClass]
  refine ⟨k2, hk, ?_⟩
  rw [hf]
  simp only [W.callThen]
  exact hE _
theorem bs_res {e : Env} {nm rule : String} {r : UInt64} (h : vf_n64 r) (Q : Option Value → Pre) (U : State) (k : ∀ d' acts', Q (some (.double r)) d' acts' U) : wp ((Native.java_lang_Math.nans.byStrictMath nm rule).resume 1 #[] (.returned (some (.double r)))) Q (fun _ _ _ => False) e false [] U := by
  show wp (do let r ← anyNaN64 r; mark rule; Pure.pure (some (Value.double r))) Q _ e false [] U
  rw [any64 h]
  simp only [wp_bind', wp_pure', W.mark]
  exact k _ _
