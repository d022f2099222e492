/-! methods that the machine runs by an entry of its table, though they have bytecode -/
set_option maxRecDepth 100000
section OVR
variable {e : Env} {below : List Frame}
theorem ov_is {tb : Tables} {t : State} {f : JFrame} {k : Class} {x : Method} {row : NativeRow} (hpc : f.pc = 0) (hk : t.vm.classes[f.method.cls]? = some k) (hx : k.methods[f.method.idx]? = some x) (hov : overriddenIn.contains k.name = true) (hboot : k.loader = none) (hrow : NativeRow.find? tb.natives k.name x.name x.desc = some row) : overridden tb e t f = some row := by
  unfold overridden
  have h1 : (f.pc != 0) = false := by rw [hpc]; rfl
  simp only [h1, hk, hov, hboot, hx, hrow, Bool.true_or, Bool.not_true, Option.isSome_none, Bool.or_false, Bool.false_eq_true, if_false]
def ovArgs (ls : Array Slot) (n : Nat) : Array Value := (ls.toList.filterMap fun | .val v => some v | _ => none).toArray.extract 0 n
theorem ov_step {tb : Tables} {t : State} {f : JFrame} {r : List Frame} {row : NativeRow} {args : Array Value} (hf : t.frames = .java f :: r) (hov : overridden tb e t f = some row) (hg : ovArgs f.locals (argCount t f.method) = args) : stepThread tb e t = afterNative e { method := f.method, args := args, locked := f.locked } r ((row.sem args).run e (t.setFrames (.native { method := f.method, args := args, locked := f.locked } :: r))) := by
  subst hg
  unfold stepThread
  simp only [hf, hov]
  rfl
theorem ov_call {p : Program} {s target : State} {g : JFrame} {c : Code} (h : At s g.method c below) (acts : List Action) {m : MethodId} {meth : Method} {k : Class} {code : Code} {row : NativeRow} {args : Array Value}
    (hk : s.vm.classes[m.cls]? = some k) (hx : k.methods[m.idx]? = some meth) (hov : overriddenIn.contains k.name = true) (hboot : k.loader = none) (hc : meth.code = some code) (hl : meth.locks = false)
    (hrow : NativeRow.find? p.tables.natives k.name meth.name meth.desc = some row)
    (hroom : e.platform.stackFull (((s.setTop g).threads[(s.setTop g).cur]?).getD { frames := [] }) (s.setTop g).frames code.maxLocals = false)
    (hgiven : ovArgs (argsToLocals args code.maxLocals) (meth.sig.parameters.length + (if meth.isStatic then 0 else 1)) = args) {v : Option Value} {ig : Instr} {len : Nat}
    (hw : ∀ (Q : Option Value → Pre) (S : State), (∀ d' acts', Q v d' acts' S) → wp (row.sem args) Q (fun _ _ _ => False) e false [] S)
    (hdg : decode c.code g.pc = .ok (ig, len))
    (hrest : Steps p.tables e below (s.setTop { g with pc := g.pc + len, stack := v.toList ++ g.stack }) target) :
    Steps p.tables e below (doInvoke e (s.setTop g) acts m args).1 target := by
  have hm : (s.setTop g).vm.method? m = some meth := by
    show s.vm.method? m = some meth
    simp [Vm.method?, hk, hx]
  rw [(doInvoke_java (s := s.setTop g) (e := e) (acts := acts) (args := args) hm hc hl hroom).1]
  have hfe := frames_entered (g := g) h.top (.java { method := m, pc := 0, locals := argsToLocals args code.maxLocals, stack := [], locked := none })
  obtain ⟨mid, hmid⟩ := h.above
  refine Steps.head ⟨h.running, by simpa using h.runnable, by simpa using h.alone⟩
    ⟨.java { method := m, pc := 0, locals := argsToLocals args code.maxLocals, stack := [], locked := none } :: .java g :: mid, by rw [hfe, hmid]; rfl, by simp, by simp⟩ ?_
  have hac : argCount ((s.setTop g).pushFrame (.java { method := m, pc := 0, locals := argsToLocals args code.maxLocals, stack := [], locked := none })) m = meth.sig.parameters.length + (if meth.isStatic then 0 else 1) := by
    unfold argCount
    show (match (s.vm.classes[m.cls]?).bind (·.methods[m.idx]?) with | some x => _ | none => _) = _
    rw [hk]
    show (match k.methods[m.idx]? with | some x => _ | none => _) = _
    rw [hx]
  rw [ov_step (f := { method := m, pc := 0, locals := argsToLocals args code.maxLocals, stack := [], locked := none }) (row := row) (args := args) hfe (ov_is rfl hk hx hov hboot hrow) (by rw [hac]; exact hgiven)]
  obtain ⟨g₀, hg0⟩ := Option.isSome_iff_exists.mp h.top
  obtain ⟨r, hr⟩ := State.topJava?_eq_some.mp hg0
  have htl : s.frames.tail = r := by rw [hr]; rfl
  have hU : ((s.setTop g).pushFrame (.java { method := m, pc := 0, locals := argsToLocals args code.maxLocals, stack := [], locked := none })).setFrames (.native { method := m, args := args, locked := none } :: .java g :: s.frames.tail) = s.setFrames (.native { method := m, args := args, locked := none } :: .java g :: r) := by
    rw [State.pushFrame, State.setFrames_setFrames, State.setTop_of_frames _ hr, State.setFrames_setFrames, htl]
  have hcur : s.cur < s.threads.size := State.cur_lt_of_frames hr
  have hfr3 : (s.setFrames (.native { method := m, args := args, locked := none } :: .java g :: r)).frames = .native { method := m, args := args, locked := none } :: .java g :: r := State.frames_setFrames _ hcur
  have hcode : ∀ fs, (s.setFrames fs).code? g.method = some c := fun fs => h.code
  have hfs : handOver (s.setFrames (.native { method := m, args := args, locked := none } :: .java g :: r)) v (.java g :: r) = some (.java { g with pc := g.pc + len, stack := v.toList ++ g.stack } :: r) := by
    simp [handOver, hcode, hdg, Except.toOption]
  have hgoal : wpRun (row.sem args) (fun v' s₁ _ => ∀ acts', Steps p.tables e below (doReturn e s₁ acts' v').1 target) (fun _ _ _ => False) e (s.setFrames (.native { method := m, args := args, locked := none } :: .java g :: r)) := by
    simp only [wpRun]
    refine hw _ _ ?_
    intro _ _ acts'
    rw [doReturn_native (f := { method := m, args := args, locked := none }) hfr3 rfl hfs, State.setFrames_setFrames, ← State.setTop_of_frames (s := s) _ hr]
    exact hrest
  show Steps p.tables e below (afterNative e _ _ ((row.sem args).run e (((s.setTop g).pushFrame _).setFrames (.native { method := m, args := args, locked := none } :: .java g :: s.frames.tail)))).1 target
  rw [hU]
  have hgoal := (wpRun_iff_run _ _ _ _ _).mp hgoal
  cases hrn : (row.sem args).run e (s.setFrames (.native { method := m, args := args, locked := none } :: .java g :: r)) with
  | ok v' s₁ acts₁ => rw [hrn] at hgoal; exact hgoal acts₁
  | ctl x s₁ acts₁ => rw [hrn] at hgoal; cases x <;> exact hgoal.elim
end OVR
section OVW
variable {p : Program} {l : Launch} {e : Env} {R : Room} {s : State} {m : MethodId} {args : Array Value} {below : List Frame} {meth : Method} {c : Code} {H : Heap} {locs : List Loc} {cells slots : Nat}
variable {cc : ByteArray} {pc : Nat} {ls : Array Slot} {rest : List Value} {Q : State → Prop}
theorem ov_named {x : MethodName} {bytes : ByteArray} {maxL : Nat} {ret : Option FieldType} (h : (Cond.code x bytes maxL ret).before args s = true) : ∃ mk, s.methodNamed? x = some mk := by
  cases hn : s.methodNamed? x with
  | some mk => exact ⟨mk, rfl⟩
  | none =>
    have h : (Cond.code x bytes maxL ret).holds args s none s [] = true := h
    simp [Cond.holds, Cond.value, hn] at h
theorem ov_row (hx : p.tables.exec = Jvm.exec) (hb : c.code = cc) (hml : c.maxLocals = ls.size) {own : String} {index : Nat} {y : MethodName} {bytes : ByteArray} {maxL : Nat} {ret : Option FieldType} {row : NativeRow} (hown : s.vm.findClass own = some m.cls)
    (hlink : (Cond.methodLink own index y).before args s = true) (hstat : (Cond.static y).before args s = true) (hinit : (Cond.initialized y.cls).before args s = true) (hcode : (Cond.code y bytes maxL ret).before args s = true)
    {ps : List FieldType} (hsig : parseMethodDescriptor y.desc = some { parameters := ps, returnType := ret }) (hy : y.cls ≠ "java/lang/invoke/MethodHandle" ∧ y.cls ≠ "java/lang/invoke/VarHandle") (hov : overriddenIn.contains y.cls = true) (hrow : NativeRow.find? p.tables.natives y.cls y.name y.desc = some row)
    {As : List Value} (hlen : As.length = ps.length) (hgiven : ovArgs (argsToLocals As.toArray maxL) ps.length = As.toArray) {v : Value}
    (hw : ∀ (Q : Option Value → Pre) (S : State), (∀ d' acts', Q (some v) d' acts' S) → wp (row.sem As.toArray) Q (fun _ _ _ => False) e false [] S)
    (hframes : 1 ≤ R.frames) (hlocals : (rest.map fun v => v.category).sum + (maxL + 11) ≤ R.locals) (hdg : decode cc pc = .ok (.invokestatic index, 3))
    (k : W p l e R s m args below meth c H locs cells slots Q (F0 m (pc + 3) ls (v :: rest))) : W p l e R s m args below meth c H locs cells slots Q (F0 m pc ls (As.reverse ++ rest)) := by
  intro T hT X
  obtain ⟨mk, hnS⟩ := ov_named hcode
  obtain ⟨methS, cS, hmS, hcS, -, hLS, -, hlS, -, hsS⟩ := Cond.code_spec hnS hcode
  have hstS := Cond.static_spec hnS hmS hstat
  obtain ⟨kS, hkS, hknS⟩ := className_of_methodNamed hnS
  obtain ⟨hmn, hmd⟩ := name_of_methodNamed hnS hmS
  have hiS := Cond.initialized_spec (findClass_of_methodNamed hnS) hkS hinit
  have hps : methS.sig.parameters = ps := by
    rw [hsig] at hsS
    rw [← Option.some.inj hsS]
  have hbS := Vm.bootOf_findClass (findClass_of_methodNamed hnS) hkS
  obtain ⟨vm', X', step⟩ := X.invokestatic hx hown hlink hnS hmS hstS hkS hiS hy (g := F0 m pc ls (As.reverse ++ rest)) rfl (argsL := As) (rest := rest) (by rw [hps]; exact hlen) rfl (by rw [hb]; exact hdg)
  obtain ⟨t, a1, b1⟩ := k (T.setVm vm') hT X'
  refine ⟨t, step t fun acts => ?_, b1⟩
  obtain ⟨k', hk', he⟩ := X'.warmed.alike.2.2 _ _ hkS
  have hxS : kS.methods[mk.idx]? = some methS := by simpa [Vm.method?, hkS] using hmS
  have e1 : k'.methods = kS.methods := by rw [he]
  have e2 : k'.name = kS.name := by rw [he]
  have e3 : k'.loader = kS.loader := by rw [he]
  exact ov_call (g := F0 m pc ls rest) (ig := .invokestatic index) (len := 3) (v := some v) X'.here acts hk' (by rw [e1]; exact hxS) (by rw [e2, hknS]; exact hov) (by rw [e3]; exact hbS) hcS hlS (by rw [e2, hknS, hmn, hmd]; exact hrow)
    (X'.notFull (g := F0 m pc ls rest) hml.symm (vars := cS.maxLocals) hframes (by rw [hLS]; show 2 * 0 + (rest.map fun v => v.category).sum + (maxL + 11) ≤ _; omega)) (by rw [hLS, hps, hstS]; exact hgiven) hw (by rw [hb]; exact hdg) a1
end OVW
abbrev ovRows : List NativeRow := Native.java_lang_Math.nans.rows
def rwMaxD : NativeRow := ovRows[3]'(by decide)
def rwMinD : NativeRow := ovRows[5]'(by decide)
def rwSigD : NativeRow := ovRows[7]'(by decide)
def rwAbsD : NativeRow := ovRows[9]'(by decide)
def rwCsD : NativeRow := ovRows[11]'(by decide)
def rwCsF : NativeRow := ovRows[12]'(by decide)
theorem rwAbsD_row (p : Program) : NativeRow.find? p.tables.natives "java/lang/Math" "abs" "(D)D" = some rwAbsD := by cases p <;> rfl
theorem rwSigD_row (p : Program) : NativeRow.find? p.tables.natives "java/lang/Math" "signum" "(D)D" = some rwSigD := by cases p <;> rfl
theorem rwMaxD_row (p : Program) : NativeRow.find? p.tables.natives "java/lang/Math" "max" "(DD)D" = some rwMaxD := by cases p <;> rfl
theorem rwMinD_row (p : Program) : NativeRow.find? p.tables.natives "java/lang/Math" "min" "(DD)D" = some rwMinD := by cases p <;> rfl
theorem rwCsD_row (p : Program) : NativeRow.find? p.tables.natives "java/lang/Math" "copySign" "(DD)D" = some rwCsD := by cases p <;> rfl
theorem rwCsF_row (p : Program) : NativeRow.find? p.tables.natives "java/lang/Math" "copySign" "(FF)F" = some rwCsF := by cases p <;> rfl
theorem any64 {r : UInt64} (h : vf_n64 r) : anyNaN64 r = Pure.pure r := by
  unfold anyNaN64
  exact if_pos h
theorem abs_wp {e : Env} {a : UInt64} (h : vf_n64 (a &&& 9223372036854775807)) (Q : Option Value → Pre) (S : State) (k : ∀ d' acts', Q (some (.double (a &&& 9223372036854775807))) d' acts' S) : wp (rwAbsD.sem #[.double a]) Q (fun _ _ _ => False) e false [] S := by
  show wp (do let r ← anyNaN64 (a &&& 9223372036854775807); mark "nat.java_lang_Math.abs"; Pure.pure (some (Value.double r))) Q _ e false [] S
  rw [any64 h]
  simp only [wp_bind', wp_pure', W.mark]
  exact k _ _
