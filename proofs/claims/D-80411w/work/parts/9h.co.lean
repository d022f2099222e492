/-! System.arraycopy that fails: the native's note, the machine's throw above the native's frame (own proofs; above a bytecode frame the library's ColdVmThrowS, ColdThrowSWholeV, ColdThrowSVmV and the kit's vx_vmAt go the same way) -/
set_option maxRecDepth 100000
def nx_Go (s : State) : Prop := s.status = .running ∧ s.curStatus? = some .runnable ∧ s.alone = true ∧ s.cur < s.threads.size
theorem nx_Go.fr {s : State} (h : nx_Go s) (F : List Frame) : (s.setFrames F).frames = F := State.frames_setFrames _ h.2.2.2
theorem nx_Go.on {s : State} (h : nx_Go s) (F : List Frame) : (s.setFrames F).goesOn := ⟨h.1, by simpa using h.2.1, by simpa using h.2.2.1⟩
theorem nx_within {U : State} {x : Frame} {nf : NFrame} {g : JFrame} {below : List Frame} (h : U.frames = x :: .native nf :: .java g :: below) : Within U below := ⟨[x, .native nf, .java g], by rw [h]; rfl, by simp, by simp⟩
section NXA
variable {below : List Frame} {W : State} {nf : NFrame} {g : JFrame}
/-- the constructor's frame over the note -/
theorem nx_inside (hG : nx_Go W) (a str : Addr) {m : MethodId} {meth : Method} {code : Code} (hm : W.vm.method? m = some meth) (hc : meth.code = some code) (hplain : W.plainMethod m) :
    At ((W.setFrames (.thenThrow a :: .native nf :: .java g :: below)).pushFrame (.java (passJ m a (.ref str) 0 []))) m code below ∧
    ((W.setFrames (.thenThrow a :: .native nf :: .java g :: below)).pushFrame (.java (passJ m a (.ref str) 0 []))).frames = .java (passJ m a (.ref str) 0 []) :: .thenThrow a :: .native nf :: .java g :: below := by
  have hfN := hG.fr (.thenThrow a :: .native nf :: .java g :: below)
  have hcurN : (W.setFrames (.thenThrow a :: .native nf :: .java g :: below)).cur < (W.setFrames (.thenThrow a :: .native nf :: .java g :: below)).threads.size := State.cur_lt_of_frames hfN
  refine ⟨At.pushOn _ (hG.on _) hcurN ⟨[.thenThrow a, .native nf, .java g], by rw [hfN]; rfl⟩ hm hc hplain, ?_⟩
  rw [show ((W.setFrames (.thenThrow a :: .native nf :: .java g :: below)).pushFrame (.java (passJ m a (.ref str) 0 []))).frames = .java (passJ m a (.ref str) 0 []) :: (W.setFrames (.thenThrow a :: .native nf :: .java g :: below)).frames from State.frames_setFrames _ hcurN, hfN]
/-- the constructor returns to the note, and the note throws -/
theorem nx_back (p : Program) {e : Env} {target : State} (hG : nx_Go W) (hexec : p.tables.exec = Jvm.exec) {F : State → State} (hH : HeapOnly F) (a str : Addr) {m : MethodId} {meth : Method} {code : Code}
    (hm : W.vm.method? m = some meth) (hc : meth.code = some code) (hplain : W.plainMethod m) (hl : meth.locks = false) (h5 : decode code.code 5 = .ok (.return_, 1))
    (hrest : Steps p.tables e below ((F W).setFrames (.throwing a :: .native nf :: .java g :: below)) target) :
    Steps p.tables e below ((F ((W.setFrames (.thenThrow a :: .native nf :: .java g :: below)).pushFrame (.java (passJ m a (.ref str) 0 [])))).setTop (passJ m a (.ref str) 5 [])) target := by
  obtain ⟨hI, hfI⟩ := nx_inside (nf := nf) (g := g) (below := below) hG a str hm hc hplain
  have hB : At (F ((W.setFrames (.thenThrow a :: .native nf :: .java g :: below)).pushFrame (.java (passJ m a (.ref str) 0 [])))) m code below := hH.at_ hI
  jvm_step hB [hexec, h5, return_.wp_sem]
  intro acts2
  have hfH : (F ((W.setFrames (.thenThrow a :: .native nf :: .java g :: below)).pushFrame (.java (passJ m a (.ref str) 0 [])))).frames = .java (passJ m a (.ref str) 0 []) :: .thenThrow a :: .native nf :: .java g :: below := by rw [hH.frames]; exact hfI
  rw [ret_to (t := F ((W.setFrames (.thenThrow a :: .native nf :: .java g :: below)).pushFrame (.java (passJ m a (.ref str) 0 [])))) (f := passJ m a (.ref str) 5 []) (f₀ := passJ m a (.ref str) 0 []) (below := .thenThrow a :: .native nf :: .java g :: below)
      (fs := .thenThrow a :: .native nf :: .java g :: below) (meth := meth) hfH (by rw [hH.vm]; exact hm) hl rfl rfl rfl acts2]
  have hcur := State.cur_lt_of_frames hfH
  have hf1 : ((F ((W.setFrames (.thenThrow a :: .native nf :: .java g :: below)).pushFrame (.java (passJ m a (.ref str) 0 [])))).setFrames (.thenThrow a :: .native nf :: .java g :: below)).frames = .thenThrow a :: .native nf :: .java g :: below := State.frames_setFrames _ hcur
  refine Steps.head ⟨hB.running, by simpa using hB.runnable, by simpa using hB.alone⟩ (nx_within hf1) ?_
  rw [stepThread_thenThrow hf1]
  show Steps p.tables e below (((F ((W.setFrames (.thenThrow a :: .native nf :: .java g :: below)).pushFrame (.java (passJ m a (.ref str) 0 [])))).setFrames (.thenThrow a :: .native nf :: .java g :: below)).setFrames (.throwing a :: .native nf :: .java g :: below)) target
  rw [State.setFrames_setFrames]
  have e9 : (F ((W.setFrames (.thenThrow a :: .native nf :: .java g :: below)).pushFrame (.java (passJ m a (.ref str) 0 [])))).setFrames (.throwing a :: .native nf :: .java g :: below) = (F W).setFrames (.throwing a :: .native nf :: .java g :: below) := by
    rw [State.pushFrame, hH.setFrames, hH.setFrames, State.setFrames_setFrames, State.setFrames_setFrames]
  rw [e9]
  exact hrest
/-- the note becomes the constructor's call -/
theorem nx_start (p : Program) {e : Env} {target : State} (hG : nx_Go W) (Z : StringT) (LZ : Z.Laid W.vm) {cls m : String} {cX : ClassId} {kX : Class} {i : Nat}
    (hsoe : (cls == "java/lang/StackOverflowErro\x72") = false) (hoom : (cls == "java/lang/OutOfMemoryErro\x72") = false)
    (hfound : W.vm.findClass cls = some cX) (hk : W.vm.classes[cX]? = some kX) (hinit : kX.init = .initialized) (hord : kX.kind = .ordinary) (hhot : e.platform.hotImplicitExceptions = false)
    (hbeyond : e.platform.stackBeyond ((((W.setFrames (.throwNew cls (some m) none :: .native nf :: .java g :: below)).threads[W.cur]?).map (·.stackBytes)).getD 0) (W.setFrames (.throwNew cls (some m) none :: .native nf :: .java g :: below)).frames = false)
    (hfree : e.platform.vmThrowRoom ≤ e.platform.stackFree ((((W.setFrames (.throwNew cls (some m) none :: .native nf :: .java g :: below)).threads[W.cur]?).map (·.stackBytes)).getD 0) (W.setFrames (.throwNew cls (some m) none :: .native nf :: .java g :: below)).frames)
    (hm : (m == notModelled) = false) (hctor : kX.findMethod "<init>" "(Ljava/lang/String;)V" = some i)
    (hlimit : ¬ (stringBytes (stringToUtf16 m)).size > e.platform.arrayLengthLimit) (hheap : ¬ (stringBytes (stringToUtf16 m)).size * componentBytes .byte > e.platform.maxHeapBytes)
    (hcells : W.heap.size + 3 ≤ e.platform.maxCells) (hslots : W.slotsUsed + (stringBytes (stringToUtf16 m)).size + Z.kS.instanceTypes.size + kX.instanceTypes.size ≤ e.platform.maxSlots)
    (hfitv : W.fitsSlot Z.cS .none Z.fv.slot (.ref W.heap.size) = true) (hfitc : W.fitsSlot Z.cS .none Z.fc.slot (.int (stringCoder (stringToUtf16 m))) = true)
    (hrest : Steps p.tables e below (doInvoke e ((withThrown W Z m cX kX).setFrames (.thenThrow (W.heap.size + 2) :: .native nf :: .java g :: below)) [] ⟨cX, i⟩ #[.ref (W.heap.size + 2), .ref (W.heap.size + 1)]).1 target) :
    Steps p.tables e below (W.setFrames (.throwNew cls (some m) none :: .native nf :: .java g :: below)) target := by
  have hf0 := hG.fr (.throwNew cls (some m) none :: .native nf :: .java g :: below)
  refine Steps.head (hG.on _) (nx_within hf0) ?_
  rw [stepThread_throwNew hf0, stepThrowNew_message (s := W.setFrames (.throwNew cls (some m) none :: .native nf :: .java g :: below)) (c := cX) (k := kX) (i := i) Z LZ hsoe hoom hfound hk hinit hord hhot hbeyond hfree hm hctor hlimit hheap hcells hslots hfitv hfitc]
  have hN : (withThrown (W.setFrames (.throwNew cls (some m) none :: .native nf :: .java g :: below)) Z m cX kX).setFrames (.thenThrow ((W.setFrames (.throwNew cls (some m) none :: .native nf :: .java g :: below)).heap.size + 2) :: .native nf :: .java g :: below) = (withThrown W Z m cX kX).setFrames (.thenThrow (W.heap.size + 2) :: .native nf :: .java g :: below) := by
    rw [withThrown_setFrames, State.setFrames_setFrames]
    rfl
  rw [hN]
  exact hrest
/-- a throw leaves the native's frame -/
theorem nx_leave (p : Program) {e : Env} {target : State} (hG : nx_Go W) {a : Addr} (haw : nf.awaiting = false) (hl : nf.locked = none) (hrest : Steps p.tables e below (W.setFrames (.throwing a :: .java g :: below)) target) :
    Steps p.tables e below (W.setFrames (.throwing a :: .native nf :: .java g :: below)) target := by
  have hf := hG.fr (.throwing a :: .native nf :: .java g :: below)
  refine Steps.head (hG.on _) (nx_within hf) ?_
  have e1 : (stepThread p.tables e (W.setFrames (.throwing a :: .native nf :: .java g :: below))).1 = (W.setFrames (.throwing a :: .native nf :: .java g :: below)).setFrames (.throwing a :: .java g :: below) := by
    unfold stepThread
    simp only [hf]
    unfold stepThrowing
    simp only [haw, Bool.false_eq_true, if_false, hl]
    unfold vmDo
    generalize hr : Sem.go _ e false _ _ = res
    obtain ⟨as, rfl, -⟩ := Sem.eq_ok_of hr (a := true) (s' := W.setFrames (.throwing a :: .native nf :: .java g :: below)) (acts' := []) (by simp [leaveIfLocked, unmarked, Action.isMark])
    rfl
  rw [e1, State.setFrames_setFrames]
  exact hrest
end NXA
/-- the text of the failure -/
def nx_tx (z : Int) : String := "arraycopy: " ++ (toString "last destination index " ++ toString ((I3 0).toInt + (I3 z).toInt) ++ toString " out of bounds for " ++ toString (toString (Native.java_lang_System.arraycopy.kindName .int) ++ toString "[" ++ toString (8 : Nat) ++ toString "]"))
theorem nx_tx_ok {z : Int} (h : 9 ≤ z ∧ z ≤ 36) : (nx_tx z == notModelled) = false ∧ (stringBytes (stringToUtf16 (nx_tx z))).size ≤ 480 := by
  obtain ⟨k, rfl⟩ : ∃ k : Nat, z = (k : Int) := ⟨z.toNat, by omega⟩
  have h1 : ∀ j : Fin 37, 9 ≤ j.val → (nx_tx (j.val : Int) == notModelled) = false ∧ (stringBytes (stringToUtf16 (nx_tx (j.val : Int)))).size ≤ 480 := by decide +kernel
  exact h1 ⟨k, by omega⟩ (by show 9 ≤ k; omega)
/-- System.arraycopy notes its failure -/
theorem nx_note (p : Program) {e : Env} {below : List Frame} {s target : State} {g : JFrame} {c : Code} (h : At s g.method c below) {m : MethodId} {meth : Method} {k : Class} (acts : List Action)
    (N : NativeOf s.vm m k meth "java/lang/System" "arraycopy" "(Ljava/lang/Object;ILjava/lang/Object;II)V" true [.object "java/lang/Object", .int, .object "java/lang/Object", .int, .int])
    {src dst : Addr} {z : Int} {cs cd : Cell} {ks kd : Class} {c1 c2 : ClassId}
    (hroom : e.platform.stackFull (((s.setTop g).threads[(s.setTop g).cur]?).getD { frames := [] }) (s.setTop g).frames (nativeFrameWords "java/lang/System" "arraycopy" 5) = false)
    (hs : s.heap[src]? = some cs) (hd : s.heap[dst]? = some cd) (hsobj : ∀ k, cs.vm ≠ .statics k) (hdobj : ∀ k, cd.vm ≠ .statics k)
    (hks : s.vm.classes[cs.cls]? = some ks) (hkd : s.vm.classes[cd.cls]? = some kd) (hsk : ks.kind = .array c1 .int) (hdk : kd.kind = .array c2 .int)
    (hz1 : cs.slots.size = 36) (hz2 : cd.slots.size = 8) (hz : 9 ≤ z ∧ z ≤ 36)
    (hrest : Steps p.tables e below (s.setFrames (.throwNew "java/lang/ArrayIndexOutOfBoundsException" (some (nx_tx z)) none :: .native { method := m, args := #[.ref src, .int (I3 0), .ref dst, .int (I3 0), .int (I3 z)], locked := none } :: .java g :: s.frames.tail)) target) :
    Steps p.tables e below (doInvoke e (s.setTop g) acts m #[.ref src, .int (I3 0), .ref dst, .int (I3 0), .int (I3 z)]).1 target := by
  have hseen : seenByNative meth #[.ref src, .int (I3 0), .ref dst, .int (I3 0), .int (I3 z)] = #[.ref src, .int (I3 0), .ref dst, .int (I3 0), .int (I3 z)] := by
    simp [seenByNative, N.static, N.sig, narrow]
  have hm : (s.setTop g).vm.method? m = some meth := by
    show s.vm.method? m = some meth
    simp [Vm.method?, N.cls, N.meth]
  have hroom' : e.platform.stackFull (((s.setTop g).threads[(s.setTop g).cur]?).getD { frames := [] }) (s.setTop g).frames
      (nativeFrameWords ((((s.setTop g).vm.classes[m.cls]?).map (·.name)).getD "") meth.name (operandWords (#[.ref src, .int (I3 0), .ref dst, .int (I3 0), .int (I3 z)] : Array Value).toList)) = false := by
    have : (((s.setTop g).vm.classes[m.cls]?).map (·.name)).getD "" = "java/lang/System" := by
      show ((s.vm.classes[m.cls]?).map (·.name)).getD "" = _
      simp [N.cls, N.className]
    rw [this, N.name]; exact hroom
  rw [(Fast.doInvoke_native (s := s.setTop g) (e := e) (acts := acts) (args := #[.ref src, .int (I3 0), .ref dst, .int (I3 0), .int (I3 z)]) hm N.native N.noCode N.noLock hroom').1, hseen]
  have hfe := frames_entered (g := g) h.top (.native { method := m, args := #[.ref src, .int (I3 0), .ref dst, .int (I3 0), .int (I3 z)], locked := none })
  obtain ⟨mid, hmid⟩ := h.above
  refine Steps.head ⟨h.running, by simpa using h.runnable, by simpa using h.alone⟩
    ⟨.native { method := m, args := #[.ref src, .int (I3 0), .ref dst, .int (I3 0), .int (I3 z)], locked := none } :: .java g :: mid, by rw [hfe, hmid]; rfl, by simp, by simp⟩ ?_
  rw [stepThread_native (f := { method := m, args := #[.ref src, .int (I3 0), .ref dst, .int (I3 0), .int (I3 z)], locked := none }) (k := k) (x := meth) (row := arraycopyRow) hfe N.cls N.meth N.boot (by rw [N.className, N.name, N.desc]; exact arraycopy_row p) rfl]
  have b1 : ¬ I3 0 < 0 := by decide
  have b2 : ¬ I3 z < 0 := by
    have h0 : (0 : Int32) = I3 0 := rfl
    rw [h0, I3_lt (by constructor <;> omega) (by decide)]
    omega
  have b3 : (I3 0).toInt = 0 := rfl
  have b4 : (I3 z).toInt = z := I3_t ⟨by omega, by omega⟩
  have b5 : ¬ (I3 0).toInt + (I3 z).toInt > ((36 : Nat) : Int) := by rw [b3, b4]; omega
  have b6 : (I3 0).toInt + (I3 z).toInt > ((8 : Nat) : Int) := by rw [b3, b4]; omega
  have hw0 : ∀ (E : CtlPost) (U : State), U.heap = s.heap → U.vm = s.vm → (∀ acts', E (.throwNew "java/lang/ArrayIndexOutOfBoundsException" (some (nx_tx z))) acts' U) →
      wp (Native.java_lang_System.arraycopy.sem #[.ref src, .int (I3 0), .ref dst, .int (I3 0), .int (I3 z)]) (fun _ _ _ _ => False) E e false [] U := by
    intro E U hUh hUv hE
    rw [Native.java_lang_System.arraycopy.sem_refs]
    unfold Native.java_lang_System.arraycopy.behind
    simp only [wp_bind', W.classOf, W.theClass, hUh, hUv, hs, hd, hks, hkd, Option.some.injEq, exists_eq_left', hsk, hdk]
    refine ⟨hsobj, hdobj, ?_⟩
    simp only [bne_self_eq_false, Bool.not_false, Bool.true_and, Bool.or_false, Bool.false_or, Bool.false_eq_true, if_false]
    simp only [wp_bind', W.sizeOf, hUh, hs, hd, Option.some.injEq, exists_eq_left', hz1, hz2, b1, b2, b5, b6, if_false, if_true, W.mark, W.throwNew]
    exact hE _
  have hw1 : wpRun (arraycopyRow.sem #[.ref src, .int (I3 0), .ref dst, .int (I3 0), .int (I3 z)]) (fun _ _ _ => False)
      (fun x s₁ _ => x = .throwNew "java/lang/ArrayIndexOutOfBoundsException" (some (nx_tx z)) ∧ s₁ = ((s.setTop g).pushFrame (.native { method := m, args := #[.ref src, .int (I3 0), .ref dst, .int (I3 0), .int (I3 z)], locked := none }))) e
      ((s.setTop g).pushFrame (.native { method := m, args := #[.ref src, .int (I3 0), .ref dst, .int (I3 0), .int (I3 z)], locked := none })) := by
    rw [arraycopyRow_sem]
    exact hw0 _ _ rfl rfl (fun _ => ⟨rfl, rfl⟩)
  have hw2 := (wpRun_iff_run _ _ _ _ _).mp hw1
  have hgo : ((s.setTop g).pushFrame (.native { method := m, args := #[.ref src, .int (I3 0), .ref dst, .int (I3 0), .int (I3 z)], locked := none })).pushFrame (.throwNew "java/lang/ArrayIndexOutOfBoundsException" (some (nx_tx z)) none) = s.setFrames (.throwNew "java/lang/ArrayIndexOutOfBoundsException" (some (nx_tx z)) none :: .native { method := m, args := #[.ref src, .int (I3 0), .ref dst, .int (I3 0), .int (I3 z)], locked := none } :: .java g :: s.frames.tail) := by
    obtain ⟨g₀, hg0⟩ := Option.isSome_iff_exists.mp h.top
    obtain ⟨r, hr⟩ := State.topJava?_eq_some.mp hg0
    show ((s.setTop g).pushFrame (.native _)).setFrames (_ :: ((s.setTop g).pushFrame (.native _)).frames) = _
    rw [hfe, State.pushFrame, State.setFrames_setFrames, State.setTop_of_frames _ hr, State.setFrames_setFrames]
  cases hr : (arraycopyRow.sem #[.ref src, .int (I3 0), .ref dst, .int (I3 0), .int (I3 z)]).run e ((s.setTop g).pushFrame (.native { method := m, args := #[.ref src, .int (I3 0), .ref dst, .int (I3 0), .int (I3 z)], locked := none })) with
  | ok v s₁ acts₁ => rw [hr] at hw2; exact hw2.elim
  | ctl x s₁ acts₁ =>
    rw [hr] at hw2
    cases x <;> first
      | exact hw2.elim
      | (obtain ⟨h1, h2⟩ := hw2; cases h1; subst h2; show Steps p.tables e below (((s.setTop g).pushFrame (.native _)).pushFrame (.throwNew _ _ none)) target; rw [hgo]; exact hrest)
      | (obtain ⟨h1, -⟩ := hw2; cases h1)
set_option maxHeartbeats 2000000 in
/-- the machine throws above a native's frame: from its note to 'throwing' over the invoker's frame (the kit's vx_vmAt, kit/laws, turned) -/
theorem nx_vmAt {p : Program} {l : Launch} {e : Env} {R : Room} {s : State} {m₀ : MethodId} {args : Array Value} {below : List Frame} {meth : Method} {c : Code} {W : State} {locs : List Loc} {cells slots : Nat}
    (X : Stand p l e R s m₀ args below meth c W locs cells slots) (hexec : p.tables.exec = Jvm.exec) (htr : e.platform.stackTraces = false) {cls : String} {names : List String} {text : String}
    (hcls : Bundle.fit cls = true) (hnames : ∀ n ∈ names, Bundle.fit n = true) (hsoe : (cls == "java/lang/StackOverflowErro\x72") = false) (hoom : (cls == "java/lang/OutOfMemoryErro\x72") = false)
    (h : ∀ a ∈ Bundle.messageArmAtoms cls names, a.before args s = true)
    (hlocs : ∀ x ∈ locs, ∀ cell, s.heap[x.base]? = some cell → cell.vm.isStatics = false)
    (htext : (text == notModelled) = false) (hlimit : ¬ (stringBytes (stringToUtf16 text)).size > e.platform.arrayLengthLimit) (hheap : ¬ (stringBytes (stringToUtf16 text)).size * componentBytes .byte > e.platform.maxHeapBytes)
    {g : JFrame} (hsize : g.locals.size = c.maxLocals) {nf : NFrame} (hnf : (Frame.native nf).words = 0) (haw : nf.awaiting = false) (hnl : nf.locked = none)
    (hRframes : names.length + 5 < R.frames) (hRlocals : 2 * g.monitorRoom + (g.stack.map fun v => v.category).sum + 10240 ≤ R.locals) (hshort : 13 * names.length + 55 ≤ 10240)
    (hRcells : cells + 3 ≤ R.cells) (hRslots : slots + ((stringBytes (stringToUtf16 text)).size + 4 + 6) ≤ R.slots) :
    ∃ (S : State) (q : Addr) (ce : Cell), (∀ target, Steps p.tables e below ((S.setTop g).pushFrame (.throwing q)) target → Steps p.tables e below (W.setFrames (.throwNew cls (some text) none :: .native nf :: .java g :: below)) target) ∧
      Stand p l e R s m₀ args below meth c S locs (cells + 3) (slots + ((stringBytes (stringToUtf16 text)).size + 4 + 6)) ∧ S.heap[q]? = some ce ∧ s.vm.findClass cls = some ce.cls ∧ ce.vm = .none := by
  have howns : e.platform.frameOwnsMonitors = true := by rw [X.admits.platform]
  have hfin : e.platform.finalization = false := by rw [X.admits.platform]
  have hpl : e.platform.magicAccessors = ({} : Platform).magicAccessors := by rw [X.admits.platform]
  have a : ∀ x, x ∈ Bundle.messageArmAtoms cls names → x.holds args s none s [] = true := fun x hx => h x hx
  obtain ⟨T, Z0, L, -, Y⟩ := ThrowableC.of_atoms (args := args) howns hfin hpl (fun x hx => h x (by simp [Bundle.messageArmAtoms, hx]))
  obtain ⟨Z, M, LZ, LM, hnZ⟩ := Init0T.ofS_atoms (args := args) hpl L Y (fun x hx => h x (by simp [Bundle.messageArmAtoms, hx]))
  obtain ⟨P1, Ps, hlen, L1, hL, hP1m, hlink1, hlink⟩ := Bundle.chainS (args := args) hpl hnZ names cls hcls hnames (fun x hx => h x (by simp [Bundle.messageArmAtoms, hx]))
  obtain ⟨Zs, LZs, hn4, hfitv, hfitc⟩ := StringT.of_atoms (args := args) (fun x hx => h x (by simp [Bundle.messageArmAtoms, hx]))
  have hfound : s.vm.findClass cls = some P1.m.cls := findClass_of_methodNamed hP1m
  obtain ⟨c1, kX, hc1, hk, hord, -, -, hn6⟩ := Cond.instantiable_spec (a (.instantiable cls 6) (by simp [Bundle.messageArmAtoms]))
  cases Option.some.inj (hc1.symm.trans hfound)
  have hinit := Cond.initialized_spec hfound hk (a (.initialized cls) (by simp [Bundle.messageArmAtoms]))
  have hctor : kX.findMethod "<init>" "(Ljava/lang/String;)V" = some P1.m.idx := findMethod_of_methodNamed hP1m hk
  have hsel0 : selectMethod e.platform s.vm P1.m.cls T.fill0 = .method T.fill0 := by
    obtain ⟨c2, r2, m2, q1, q2, q3, q4, -⟩ := Cond.selects_spec (a (.selects cls Bundle.tFill0 Bundle.tFill0) (by simp [Bundle.messageArmAtoms]))
    cases Option.some.inj (q1.symm.trans hfound)
    cases Option.some.inj (q2.symm.trans (State.methodFound?_of_named Y.fill0 (by decide)))
    cases Option.some.inj (q3.symm.trans Y.fill0)
    rw [Launch.admits_selectMethod X.admits]; exact q4
  have hselF : selectMethod e.platform s.vm P1.m.cls T.fill = .method T.fill := by
    obtain ⟨c2, r2, m2, q1, q2, q3, q4, -⟩ := Cond.selects_spec (a (.selects cls Bundle.tFill Bundle.tFill) (by simp [Bundle.messageArmAtoms]))
    cases Option.some.inj (q1.symm.trans hfound)
    cases Option.some.inj (q2.symm.trans (State.methodFound?_of_named Y.fill (by decide)))
    cases Option.some.inj (q3.symm.trans Y.fill)
    rw [Launch.admits_selectMethod X.admits]; exact q4
  obtain ⟨cellS0, hcS0, hiss⟩ := Y.statics
  obtain ⟨u0, hu0⟩ := Cond.staticRefV Y.unassigned L.unassignedStatic L.statics hcS0 hiss (a (.isRef (.static Bundle.tN "UNASSIGNED_STACK" Bundle.steD)) (by simp [Bundle.messageArmAtoms]))
  obtain ⟨sen, hsen⟩ := Cond.staticRefV Y.sentinel L.sentinelStatic L.statics hcS0 hiss (a (.isRef (.static Bundle.tN "SUPPRESSED_SENTINEL" Bundle.listD)) (by simp [Bundle.messageArmAtoms]))
  obtain ⟨ci198, i198, fB, hk198, hg198, ha198, hsB, -, hnB, htB, hffB⟩ := Cond.ownField (t := .object "java/lang/Object") Y.found L.cls (by decide +kernel) (a (.fieldLink Bundle.tN 198 Bundle.tN "backtrace" "Ljava/lang/Object;") (by simp [Bundle.messageArmAtoms])) (a (.lays Bundle.tN Bundle.tN "backtrace" "Ljava/lang/Object;") (by simp [Bundle.messageArmAtoms])) e.platform hpl
  obtain ⟨cellS, hcS', heS, -, hkeep⟩ := X.same.2.2.2.2.2 T.aS cellS0 hcS0
  have hcellS : W.heap[T.aS]? = some cellS := hcS'
  have hout' : ∀ i, (⟨T.aS, i⟩ : Loc) ∉ locs := fun i hmem => by
    have := hlocs _ hmem cellS0 hcS0
    rw [hiss] at this; cases this
  have hknownS : cellS.vm ≠ .unknown := by
    rw [heS]; intro hu
    rw [show cellS0.vm = .unknown from hu] at hiss
    cases hiss
  have hvU : cellS.slots[T.fUnassigned.slot]? = some u0.v := by rw [hkeep _ (hout' _)]; exact hu0
  have hvSen : cellS.slots[T.fSentinel.slot]? = some sen.v := by rw [hkeep _ (hout' _)]; exact hsen
  obtain ⟨iM, hffM⟩ := Y.msg
  obtain ⟨tyC, dC, hdC, hdnC⟩ := Cond.laysAt hfound hk Y.cause (a (.lays cls Bundle.tN "cause" "Ljava/lang/Throwable;") (by simp [Bundle.messageArmAtoms]))
  obtain ⟨tyS, dS, hdS, hdnS⟩ := Cond.laysAt hfound hk Y.stack (a (.lays cls Bundle.tN "stackTrace" Bundle.steD) (by simp [Bundle.messageArmAtoms]))
  obtain ⟨tyP, dP, hdP, hdnP⟩ := Cond.laysAt hfound hk Y.supp (a (.lays cls Bundle.tN "suppressedExceptions" Bundle.listD) (by simp [Bundle.messageArmAtoms]))
  obtain ⟨tyM, dM, hdM, hdnM⟩ := Cond.laysAt hfound hk hffM (a (.lays cls Bundle.tN "detailMessage" "Ljava/lang/String;") (by simp [Bundle.messageArmAtoms]))
  obtain ⟨tyB, dB, hdB, hdnB⟩ := Cond.laysAt hfound hk hffB (a (.lays cls Bundle.tN "backtrace" "Ljava/lang/Object;") (by simp [Bundle.messageArmAtoms]))
  have bC := Cond.laysApart hdB hdC hdnB hdnC (by rw [hnB, Y.causeName]; decide)
  have bS := Cond.laysApart hdB hdS hdnB hdnS (by rw [hnB, Y.stackName]; decide)
  have bP := Cond.laysApart hdB hdP hdnB hdnP (by rw [hnB, Y.suppName]; decide)
  have hbk : ((preparedCellV T.toThrowableT (freshCell P1.m.cls kX) (W.heap.size + 2) u0 sen).withEntry W.cur).slots[fB.slot]? = some .null := by
    have := fresh_default (c := P1.m.cls) tyB
    rw [htB] at this
    simpa [preparedCellV, Cell.setSlot, Cell.withEntry, Array.getElem?_setIfInBounds, bC, bS, bP, bC.symm, bS.symm, bP.symm, defaultValue] using this
  have tkC := Takes.of_laid (v := .ref (W.heap.size + 2)) hk hord tyC (by rw [Y.causeType]; rfl)
  have tkS := Takes.of_laid (v := u0.v) hk hord tyS (by rw [Y.stackType]; exact fits_refV_array _ u0)
  have tkP := Takes.of_laid (v := sen.v) hk hord tyP (by rw [Y.suppType]; exact fits_refV_object _ sen)
  have tkM := Takes.of_laid (v := .ref (W.heap.size + 1)) hk hord tyM (by rw [Y.msgType]; rfl)
  have hskip : SkipFacts T e.platform s (fun u => u) u0 ((preparedCellV T.toThrowableT (freshCell P1.m.cls kX) (W.heap.size + 2) u0 sen).withEntry W.cur) := ⟨{ ci198 := ci198, i198 := i198, fBack := fB }, ⟨hk198, hg198, ha198, hsB⟩, hbk, fun _ _ => rfl⟩
  obtain ⟨g₀, hfr⟩ := X.frames_eq
  have hcurW : W.cur < W.threads.size := State.cur_lt_of_frames hfr
  have hGo : nx_Go W := ⟨X.here.running, X.here.runnable, X.here.alone, hcurW⟩
  have hA := X.stackAbove hsize hRlocals
  rw [X.tail] at hA
  have hsu : (stackUse (.native nf :: .java g :: below)).2 = (stackUse (.java g :: below)).2 := by rw [stackUse_light (.native nf) _ (fun f hf => by cases hf) hnf]
  rw [← hsu] at hA
  have hfA := X.framesAbove hRframes
  rw [hfr, List.length_cons] at hfA
  have hmay : e.platform.stackBeyond ((((W.setFrames (.throwNew cls (some text) none :: .native nf :: .java g :: below)).threads[W.cur]?).map (·.stackBytes)).getD 0) (W.setFrames (.throwNew cls (some text) none :: .native nf :: .java g :: below)).frames = false ∧
      e.platform.vmThrowRoom ≤ e.platform.stackFree ((((W.setFrames (.throwNew cls (some text) none :: .native nf :: .java g :: below)).threads[W.cur]?).map (·.stackBytes)).getD 0) (W.setFrames (.throwNew cls (some text) none :: .native nf :: .java g :: below)).frames := by
    have hb : ((((W.setFrames (.throwNew cls (some text) none :: .native nf :: .java g :: below)).threads[W.cur]?).map (·.stackBytes)).getD 0) = W.me.stackBytes := by
      rw [← State.stackBytes_setFrames W (.throwNew cls (some text) none :: .native nf :: .java g :: below)]
      exact State.stackBytes_me (W.setFrames (.throwNew cls (some text) none :: .native nf :: .java g :: below))
    have hlimit9 : (e.platform.stackLimits W.me).2 = (e.platform.limitsFor W.me.stackBytes).2 := rfl
    rw [hb, State.frames_setFrames _ hcurW, Launch.admits_vmThrowRoom X.admits]
    unfold Platform.stackBeyond Platform.stackFree
    rw [stackUse_light (.throwNew cls (some text) none) _ (fun f hf => by cases hf) rfl]
    exact ⟨decide_eq_false (by omega), by omega⟩
  obtain ⟨kX', hk', he'⟩ := X.warmed.alike.2.2 _ _ hk
  have hty : kX'.instanceTypes = kX.instanceTypes := by rw [he']
  have hfresh : freshCell P1.m.cls kX' = freshCell P1.m.cls kX := by
    show ({ cls := P1.m.cls, slots := kX'.instanceTypes.map defaultValue, vm := .none } : Cell) = _
    rw [hty]
  obtain ⟨kS', kB', LZ', htyS⟩ := LZs.warmer X.warmed.alike
  have hsame : withThrown W { Zs with kS := kS', kB := kB' } text P1.m.cls kX' = withThrown W Zs text P1.m.cls kX := by
    rw [← withThrown_warmer W Zs (kB' := kB') htyS text P1.m.cls kX]
    show (withString W _ _ _ _ _ _).pushCell (freshCell P1.m.cls kX') = (withString W _ _ _ _ _ _).pushCell (freshCell P1.m.cls kX)
    rw [hfresh]
  have hfs : W.fitsSlot = s.fitsSlot := (show W.fitsSlot = (s.setVm W.vm).fitsSlot from rfl).trans (State.fitsSlot_setVm X.warmed.alike)
  obtain ⟨w1, w2, w3, w4, w5, -, w7⟩ := withThrown_facts e.platform W Zs text P1.m.cls kX
  have hltS : T.aS < W.heap.size := (Array.getElem?_eq_some_iff.mp hcellS).1
  have hslots : W.slotsUsed + (stringBytes (stringToUtf16 text)).size + Zs.kS.instanceTypes.size + kX.instanceTypes.size ≤ e.platform.maxSlots := by
    have := X.slotsAbove hRslots
    rw [hn4, hn6]
    omega
  have X3 := ((X.pushed (bytesOf Zs.cB (stringToUtf16 text))).pushed (stringAt Zs.cS Zs.kS Zs.fv Zs.fc (stringToUtf16 text) W.heap.size)).pushed (freshCell P1.m.cls kX)
  rw [← withString_eq] at X3
  have X3 : Stand p l e R s m₀ args below meth c (withThrown W Zs text P1.m.cls kX) _ _ _ := X3
  have hWV : s.WarmedH (withThrown W Zs text P1.m.cls kX).vm := by rw [w1]; exact X.warmed
  have hWcur : (withThrown W Zs text P1.m.cls kX).cur = W.cur := by simp [withThrown, withString]
  have hGoV : nx_Go (withThrown W Zs text P1.m.cls kX) := ⟨hGo.1, by simpa [withThrown, withString] using hGo.2.1, by simpa [withThrown, withString] using hGo.2.2.1, hGo.2.2.2⟩
  have hV4 : (withThrown W Zs text P1.m.cls kX).heap[W.heap.size + 2]? = some (freshCell P1.m.cls kX) := w4
  have hVS : (withThrown W Zs text P1.m.cls kX).heap[T.aS]? = some cellS := (w5 _ hltS).trans hcellS
  have hVl : e.platform.stackLimits (withThrown W Zs text P1.m.cls kX).me = e.platform.stackLimits W.me := w7
  have hV3 : (withThrown W Zs text P1.m.cls kX).heap.size = W.heap.size + 3 := w3
  generalize hVe : withThrown W Zs text P1.m.cls kX = V at hsame X3 hWV hWcur hGoV hV4 hVS hVl hV3
  have hneS : T.aS ≠ W.heap.size + 2 := Nat.ne_of_lt (Nat.lt_of_lt_of_le hltS (Nat.le_add_right _ 2))
  obtain ⟨hI, hfI⟩ := nx_inside (nf := nf) (g := g) (below := below) hGoV (W.heap.size + 2) (W.heap.size + 1) (hWV.methodAt L1.method) L1.code (hWV.plainAt L1.plain)
  obtain ⟨vm1, hW1, st1⟩ := Steps.invokeInitCold (tb := p.tables) (s₀ := s) (U := ((V.setFrames (.thenThrow (W.heap.size + 2) :: .native nf :: .java g :: below)).pushFrame (.java (passJ P1.m (W.heap.size + 2) (.ref (W.heap.size + 1)) 0 [])))) (f := passJ P1.m (W.heap.size + 2) (.ref (W.heap.size + 1)) 2 [.ref (W.heap.size + 1), .ref (W.heap.size + 2)]) (args := [.ref (W.heap.size + 1)]) (rest := []) (a := W.heap.size + 2) hI hexec L1.at2 hWV L1.links L1.right L1.notHandle L1.cls L1.file L1.pool
    L1.supClass L1.supMethod L1.supName L1.supStatic L1.supAbstract L1.supFound L1.supParams.symm rfl
  have hgo : ∀ w : Vm, nx_Go (V.setVm w) := fun w => ⟨hGoV.1, hGoV.2.1, hGoV.2.2.1, hGoV.2.2.2⟩
  have hI1 : At (((V.setVm vm1).setFrames (.thenThrow (W.heap.size + 2) :: .native nf :: .java g :: below)).pushFrame (.java (passJ P1.m (W.heap.size + 2) (.ref (W.heap.size + 1)) 0 []))) P1.m P1.code below := hI.setVm (hWV.alike.symm.trans hW1.alike)
  obtain ⟨-, hfI1⟩ := nx_inside (W := V.setVm vm1) (nf := nf) (g := g) (below := below) (hgo vm1) (W.heap.size + 2) (W.heap.size + 1) (hW1.methodAt L1.method) L1.code (hW1.plainAt (U := V.setVm vm1) L1.plain)
  have hXvm : ∀ w, (((V.setVm vm1).setFrames (.thenThrow (W.heap.size + 2) :: .native nf :: .java g :: below)).pushFrame (.java (passJ P1.m (W.heap.size + 2) (.ref (W.heap.size + 1)) 0 []))).setVm w = (((V.setVm w).setFrames (.thenThrow (W.heap.size + 2) :: .native nf :: .java g :: below)).pushFrame (.java (passJ P1.m (W.heap.size + 2) (.ref (W.heap.size + 1)) 0 []))) := fun w => by rw [State.pushFrame_setVm, State.setFrames_setVm, State.setVm_twice]
  have hXc : (((V.setVm vm1).setFrames (.thenThrow (W.heap.size + 2) :: .native nf :: .java g :: below)).pushFrame (.java (passJ P1.m (W.heap.size + 2) (.ref (W.heap.size + 1)) 0 []))).heap[W.heap.size + 2]? = some (freshCell P1.m.cls kX) := hV4
  have hXS : (((V.setVm vm1).setFrames (.thenThrow (W.heap.size + 2) :: .native nf :: .java g :: below)).pushFrame (.java (passJ P1.m (W.heap.size + 2) (.ref (W.heap.size + 1)) 0 []))).heap[T.aS]? = some cellS := hVS
  have hXcur : (((V.setVm vm1).setFrames (.thenThrow (W.heap.size + 2) :: .native nf :: .java g :: below)).pushFrame (.java (passJ P1.m (W.heap.size + 2) (.ref (W.heap.size + 1)) 0 []))).cur = W.cur := hWcur
  have hXW : s.WarmedH (((V.setVm vm1).setFrames (.thenThrow (W.heap.size + 2) :: .native nf :: .java g :: below)).pushFrame (.java (passJ P1.m (W.heap.size + 2) (.ref (W.heap.size + 1)) 0 []))).vm := hW1
  have hXlim : e.platform.stackLimits (((V.setVm vm1).setFrames (.thenThrow (W.heap.size + 2) :: .native nf :: .java g :: below)).pushFrame (.java (passJ P1.m (W.heap.size + 2) (.ref (W.heap.size + 1)) 0 []))).me = e.platform.stackLimits W.me := by rw [State.stackLimits_pushFrame, State.stackLimits_setFrames]; exact hVl
  have hrun : ∃ vm2, s.WarmedH vm2 ∧ ∀ t' : State, Steps p.tables e below (((((V.setVm vm2).setFrames (.thenThrow (W.heap.size + 2) :: .native nf :: .java g :: below)).pushFrame (.java (passJ P1.m (W.heap.size + 2) (.ref (W.heap.size + 1)) 0 []))).setCell (W.heap.size + 2) ((((preparedCellV T.toThrowableT (freshCell P1.m.cls kX) (W.heap.size + 2) u0 sen).withEntry W.cur).setSlot T.fStack.slot u0.v).left.setSlot T.fMsg.slot (.ref (W.heap.size + 1)))).setTop (passJ P1.m (W.heap.size + 2) (.ref (W.heap.size + 1)) 5 [])) t' →
      Steps p.tables e below (doInvoke e ((((V.setVm vm1).setFrames (.thenThrow (W.heap.size + 2) :: .native nf :: .java g :: below)).pushFrame (.java (passJ P1.m (W.heap.size + 2) (.ref (W.heap.size + 1)) 0 []))).setTop (passJ P1.m (W.heap.size + 2) (.ref (W.heap.size + 1)) 2 [])) [] P1.sup #[.ref (W.heap.size + 2), .ref (W.heap.size + 1)]).1 t' := by
    rw [hlink1]
    suffices hs : ∃ vm2, s.WarmedH vm2 ∧ ∀ t' : State, Steps p.tables e below ((((((V.setVm vm1).setFrames (.thenThrow (W.heap.size + 2) :: .native nf :: .java g :: below)).pushFrame (.java (passJ P1.m (W.heap.size + 2) (.ref (W.heap.size + 1)) 0 []))).setVm vm2).setCell (W.heap.size + 2) ((((preparedCellV T.toThrowableT (freshCell P1.m.cls kX) (W.heap.size + 2) u0 sen).withEntry W.cur).setSlot T.fStack.slot u0.v).left.setSlot T.fMsg.slot (.ref (W.heap.size + 1)))).setTop (passJ P1.m (W.heap.size + 2) (.ref (W.heap.size + 1)) 5 [])) t' →
        Steps p.tables e below (doInvoke e ((((V.setVm vm1).setFrames (.thenThrow (W.heap.size + 2) :: .native nf :: .java g :: below)).pushFrame (.java (passJ P1.m (W.heap.size + 2) (.ref (W.heap.size + 1)) 0 []))).setTop (passJ P1.m (W.heap.size + 2) (.ref (W.heap.size + 1)) 2 [])) [] (firstOf (Z.m T.toThrowableT) (Ps.map (·.toPassT))) #[.ref (W.heap.size + 2), .ref (W.heap.size + 1)]).1 t' by
      obtain ⟨vm2, hW2, st⟩ := hs
      exact ⟨vm2, hW2, fun t' h' => st t' (by rw [hXvm]; exact h')⟩
    clear hXvm st1 hI hfI
    generalize (((V.setVm vm1).setFrames (.thenThrow (W.heap.size + 2) :: .native nf :: .java g :: below)).pushFrame (.java (passJ P1.m (W.heap.size + 2) (.ref (W.heap.size + 1)) 0 []))) = X9 at hI1 hfI1 hXc hXS hXcur hXW hXlim ⊢
    exact Steps.initThrowableSColdByV p (V := X9) (g := passJ P1.m (W.heap.size + 2) (.ref (W.heap.size + 1)) 2 []) (c := P1.code) (self := W.heap.size + 2) hI1 hexec T L Z LZ M LM hXW hXcur (Nn := fun u => u) heapOnly_id (fun _ _ => rfl) (fun _ => rfl) (fun u x y => setCell_twice _ _ _ _) (fun _ => Nat.le_refl _) (msg := .ref (W.heap.size + 1)) rfl hXc
      (by intro k hk9; cases hk9) (by intro hk9; cases hk9) rfl hsel0 hXS hneS hknownS hvU tkS (cN := ((preparedCellV T.toThrowableT (freshCell P1.m.cls kX) (W.heap.size + 2) u0 sen).withEntry W.cur)) (fun _ hu => hu) (fun _ hu => hu) rfl rfl rfl (by simp [preparedCellV, Cell.setSlot, Cell.withEntry]) hskip (fun _ _ hA hW _ hroom _ hrest => L.nativeOff p htr hA hW hroom hrest) hselF hvSen tkC tkP tkM Y.objLocals Ps hL hlink (ig := .invokespecial P1.index) (len := 3) [] hXlim
      (by rw [hfI1]; simp only [List.length_cons]; omega)
      (by rw [hfI1, List.tail_cons, stackUse_java, stackUse_light _ _ (fun f hf => by cases hf) rfl]
          show (stackUse (.native nf :: .java g :: below)).2 + (2 + 11 + 2 * 0 + operandWords []) + 13 * Ps.length + 42 ≤ (e.platform.stackLimits W.me).2
          simp only [operandWords, List.foldl_nil]
          omega)
      L1.at2
  obtain ⟨vm2, hW2, st2⟩ := hrun
  rw [plainBareV_eq T.toThrowableT (W.heap.size + 2) u0 sen (.ref (W.heap.size + 1)) W.cur rfl rfl] at st2
  have hroom := roomAbove (pl := e.platform) (u := V.setFrames (.thenThrow (W.heap.size + 2) :: .native nf :: .java g :: below)) (vars := 2) (pushed := [.thenThrow (W.heap.size + 2)]) (base := .native nf :: .java g :: below) (free := 13 * Ps.length + 55) (lim := e.platform.stackLimits W.me) (hGoV.fr _) (by rw [State.stackLimits_setFrames]; exact hVl)
    (by simp only [List.length_cons, List.length_nil]; omega) (by omega) (by rw [stackUse_light _ _ (fun f hf => by cases hf) rfl, stackUse_nil]; show 0 + 2 + 11 ≤ _; omega)
  have X4 := X3.noted hW2
  have ha : (W.heap.size + 2) < (V.setVm vm2).heap.size := by show _ < V.heap.size; rw [hV3]; omega
  have hcell : (V.setVm vm2).heap[(W.heap.size + 2)]? = some (freshCell P1.m.cls kX) := hV4
  have X5 := ((((X4.stored hcell T.fCause.slot (.ref (W.heap.size + 2))).storedAgain ha T.fStack.slot u0.v).storedAgain ha T.fSupp.slot sen.v).storedAgain ha T.fStack.slot u0.v).storedAgain ha T.fMsg.slot (.ref (W.heap.size + 1))
  obtain ⟨g₁, hfrM⟩ := X5.frames_eq
  have hU : ((((V.setVm vm2).setCell (W.heap.size + 2) (plainBareV T.toThrowableT (freshCell P1.m.cls kX) (W.heap.size + 2) u0 sen (.ref (W.heap.size + 1)))).setTop g).pushFrame (.throwing (W.heap.size + 2))) = ((V.setVm vm2).setCell (W.heap.size + 2) (plainBareV T.toThrowableT (freshCell P1.m.cls kX) (W.heap.size + 2) u0 sen (.ref (W.heap.size + 1)))).setFrames (.throwing (W.heap.size + 2) :: .java g :: below) := by
    rw [State.pushFrame, State.frames_setTop _ hfrM, State.setTop_of_frames _ hfrM, State.setFrames_setFrames]
  have b1 : (bytesOf Zs.cB (stringToUtf16 text)).slots.size = (stringBytes (stringToUtf16 text)).size := by
    rw [(Cell.writeAll_facts _ _).2.2]; simp [bytes0]
  have b2 : (stringAt Zs.cS Zs.kS Zs.fv Zs.fc (stringToUtf16 text) W.heap.size).slots.size = 4 := by simp [string0, Cell.setSlot, hn4]
  have b3 : (freshCell P1.m.cls kX).slots.size = 6 := by simp [hn6]
  rw [b1, b2, b3] at X5
  have e9 : slots + (stringBytes (stringToUtf16 text)).size + 4 + 6 = slots + ((stringBytes (stringToUtf16 text)).size + 4 + 6) := by omega
  rw [e9] at X5
  simp only [List.append_assoc, List.cons_append, List.nil_append] at X5
  refine ⟨(V.setVm vm2).setCell (W.heap.size + 2) (plainBareV T.toThrowableT (freshCell P1.m.cls kX) (W.heap.size + 2) u0 sen (.ref (W.heap.size + 1))), W.heap.size + 2, _, fun target ht => ?_, X5.forget (fun y hy => ?_), heapAt_setCell_self _ ha, hfound, rfl⟩
  · rw [hU] at ht
    refine nx_start p hGo { Zs with kS := kS', kB := kB' } LZ' (cls := cls) (m := text) (cX := P1.m.cls) (kX := kX') (i := P1.m.idx) hsoe hoom (by rw [X.warmed.alike.findClass]; exact hfound) hk' (by rw [he']; exact hinit) (by rw [he']; exact hord)
      (Launch.admits_hotImplicitExceptions X.admits) hmay.1 hmay.2 htext (by rw [he']; exact hctor) hlimit hheap (X.cellsAbove hRcells) (by show W.slotsUsed + _ + kS'.instanceTypes.size + kX'.instanceTypes.size ≤ _; rw [htyS, hty]; exact hslots) (by rw [hfs]; exact hfitv _) (by rw [hfs]; exact hfitc _) ?_
    rw [hsame]
    show Steps p.tables e below (doInvoke e (V.setFrames (.thenThrow (W.heap.size + 2) :: .native nf :: .java g :: below)) [] P1.m #[.ref (W.heap.size + 2), .ref (W.heap.size + 1)]).1 target
    rw [(doInvoke_java (s := (V.setFrames (.thenThrow (W.heap.size + 2) :: .native nf :: .java g :: below))) (e := e) (acts := []) (args := #[.ref (W.heap.size + 2), .ref (W.heap.size + 1)]) (meth := P1.meth) (code := P1.code) (hWV.methodAt L1.method) L1.code L1.locks (by rw [L1.locals]; exact hroom)).1, L1.locals]
    show Steps p.tables e below ((V.setFrames (.thenThrow (W.heap.size + 2) :: .native nf :: .java g :: below)).pushFrame (.java (passJ P1.m (W.heap.size + 2) (.ref (W.heap.size + 1)) 0 []))) target
    rw [← State.setTop_self (s := ((V.setFrames (.thenThrow (W.heap.size + 2) :: .native nf :: .java g :: below)).pushFrame (.java (passJ P1.m (W.heap.size + 2) (.ref (W.heap.size + 1)) 0 [])))) (State.topJava?_of_frames hfI)]
    jvm_step hI [hexec, L1.at0, Value.isRef]
    jvm_step hI [hexec, L1.at1, Value.isRef]
    refine st1 target (st2 target ?_)
    exact nx_back p (W := V.setVm vm2) (hgo vm2) hexec (F := fun u => u.setCell (W.heap.size + 2) (plainBareV T.toThrowableT (freshCell P1.m.cls kX) (W.heap.size + 2) u0 sen (.ref (W.heap.size + 1)))) (heapOnly_id.thenSetCell _ _) (W.heap.size + 2) (W.heap.size + 1) (hW2.methodAt L1.method) L1.code (hW2.plainAt (U := V.setVm vm2) L1.plain) L1.locks L1.at5
      (nx_leave p (W := (V.setVm vm2).setCell (W.heap.size + 2) _) ⟨hGoV.1, hGoV.2.1, hGoV.2.2.1, hGoV.2.2.2⟩ haw hnl ht)
  · simp only [List.mem_cons, List.not_mem_nil, or_false] at hy
    have hge : s.heap.size ≤ W.heap.size := X.same.2.1
    rcases hy with rfl | rfl | rfl | rfl | rfl <;> exact Nat.le_trans hge (Nat.le_add_right _ 2)
section CPO
variable {p : Program} {l : Launch} {e : Env} {R : Room} {s : State} {m : MethodId} {args : Array Value} {below : List Frame} {meth : Method} {c : Code} {cc : ByteArray} {H : Heap} {locs : List Loc} {cells slots : Nat} {Q : State → Prop}
theorem nx_vm {pc : Nat} {ls : Array Slot} {rest : List Value} {Q : State → Prop} (hexec : p.tables.exec = Jvm.exec) (hl : l.stackTraces = false) {cls text : String} {names : List String} {nb : Nat} {A : Nat → Prop}
    (hcls : Bundle.fit cls = true) (hnames : ∀ n ∈ names, Bundle.fit n = true) (hsoe : (cls == "java/lang/StackOverflowErro\x72") = false) (hoom : (cls == "java/lang/OutOfMemoryErro\x72") = false)
    (hat : ∀ w ∈ vx_atM cls names, w.before args s = true) (hgood : ∀ w ∈ vx_atM cls names, vx_ot w = true)
    (hU : vx_Zq Bundle.tN "UNASSIGNED_STACK" Bundle.steD A s s.heap) (hN : vx_Zq Bundle.tN "SUPPRESSED_SENTINEL" Bundle.listD A s s.heap) (hS : va_S A s.heap H locs) (hsize : ls.size = c.maxLocals)
    (htext : (text == notModelled) = false) (hnb : (stringBytes (stringToUtf16 text)).size ≤ nb) (hnb1 : nb ≤ 1000)
    {nf : NFrame} (hnf : (Frame.native nf).words = 0) (haw : nf.awaiting = false) (hnl : nf.locked = none) (hRframes : names.length + 5 < R.frames) (hRlocals : (rest.map fun v => v.category).sum + 10240 ≤ R.locals) (hshort : 13 * names.length + 55 ≤ 10240) (hRcells : cells + 3 ≤ R.cells) (hRslots : slots + (nb + 10) ≤ R.slots)
    (k : ∀ (H1 : Heap) (q9 : Addr) (ce : Cell), H.size ≤ H1.size → (∀ q : Nat, q < H.size → H1[q]? = H[q]?) → va_S A s.heap H1 locs → H1[q9]? = some ce → ce.vm = .none → s.vm.findClass cls = some ce.cls → vx_W p l e R s m args below meth c H1 locs (cells + 3) (slots + (nb + 10)) Q (F0 m pc ls rest) q9) :
    ∀ T : State, T.heap = H → Stand p l e R s m args below meth c T locs cells slots → ∃ t, Steps p.tables e below (T.setFrames (.throwNew cls (some text) none :: .native nf :: .java (F0 m pc ls rest) :: below)) t ∧ Q t := by
  intro T hT X
  have htr : e.platform.stackTraces = false := (show e.platform.stackTraces = l.stackTraces by rw [X.admits.platform]).trans hl
  have Y := vx_rebase X (R' := { frames := R.frames, locals := R.locals, cells := 3, slots := nb + 10 }) (Nat.le_refl _) (Nat.le_refl _) hRcells hRslots
  have hhp : ((T.setVm s.vm).setFrames (.invoking m args :: below)).heap = H := hT
  have hW0 : s.WarmedH ((T.setVm s.vm).setFrames (.invoking m args :: below)).vm := State.WarmedH.refl s
  have hat' : ∀ w ∈ vx_atM cls names, w.before args ((T.setVm s.vm).setFrames (.invoking m args :: below)) = true := fun w hw => vx_ot_at hW0 rfl (hgood w hw) (hat w hw)
  have hU' : vx_Zq Bundle.tN "UNASSIGNED_STACK" Bundle.steD A ((T.setVm s.vm).setFrames (.invoking m args :: below)) ((T.setVm s.vm).setFrames (.invoking m args :: below)).heap := by rw [hhp]; exact vx_Zq.moved hW0.alike (hU.kept hS.2.1)
  have hN' : vx_Zq Bundle.tN "SUPPRESSED_SENTINEL" Bundle.listD A ((T.setVm s.vm).setFrames (.invoking m args :: below)) ((T.setVm s.vm).setFrames (.invoking m args :: below)).heap := by rw [hhp]; exact vx_Zq.moved hW0.alike (hN.kept hS.2.1)
  obtain ⟨S, q, ce, st, Z, hce, hcl', hv⟩ := nx_vmAt Y hexec htr (cls := cls) (names := names) (text := text) hcls hnames hsoe hoom (vx_own hat' (vx_isRefq hU'.1) (vx_isRefq hN'.1) hU'.2.word hN'.2.word) (fun x hx => nomatch hx) htext
    (by rw [Launch.admits_arrayLengthLimit X.admits]; omega) (by rw [Launch.admits_maxHeapBytes X.admits]; simp only [componentBytes]; omega)
    (g := F0 m pc ls rest) hsize hnf haw hnl hRframes (by show 2 * 0 + (rest.map fun v => v.category).sum + 10240 ≤ R.locals; omega) hshort (by show 0 + 3 ≤ 3; omega) (by show 0 + (_ + 4 + 6) ≤ nb + 10; omega)
  obtain ⟨f1, f2⟩ := vx_frame Z.same
  have f1' : H.size ≤ S.heap.size := by rw [← hT]; exact f1
  have f2' : ∀ q : Nat, q < H.size → S.heap[q]? = H[q]? := fun q hq => by
    rw [← hT]
    exact f2 q (by rw [← hT] at hq; exact hq) (fun z hz => nomatch hz)
  have X5 := vx_back9 X Y Z
  have X6 : Stand p l e R s m args below meth c S locs (cells + 3) (slots + (nb + 10)) := { X5 with same := X5.same.mono (by omega) (by omega) }
  obtain ⟨t, a1, b1⟩ := k S.heap q ce f1' f2' ⟨Nat.le_trans hS.1 f1', fun q h1 h2 => (f2' q (Nat.lt_of_lt_of_le h1 hS.1)).trans (hS.2.1 q h1 h2), hS.2.2⟩ hce hv hcl' S rfl X6
  exact ⟨t, st t a1, b1⟩
variable {pc : Nat} {ls : Array Slot} {rest : List Value} {A : Nat → Prop} {D : va_G} {cl : List vw_C} {tys : List (ClassId × FieldType)} {ws : va_W}
theorem ix_copyO (hx : p.tables.exec = Jvm.exec) (hl : l.stackTraces = false) (hb : c.code = cc) (hml : c.maxLocals = ls.size) {own : String} {index : Nat} (hown : s.vm.findClass own = some m.cls) (hts : ∀ w ∈ lw_all, w.before args s = true) (hlink : (Cond.methodLink own index arraycopyName).before args s = true) (hnat : (Cond.native arraycopyName).before args s = true) (hstat : (Cond.static arraycopyName).before args s = true) (hini : (Cond.initialized "java/lang/System").before args s = true)
    (hF : FX A s s.heap) (hK : va_K D cl tys s) (hP : va_P D cl ws H) (hS : va_S A s.heap H locs) (q0 q1 t0 : Nat) {a0 a : Nat} {c0 : ClassId} {f g : Int → Int} (ha0 : ws[q0]? = some (a0, .inl (c0, 36, .inl (iA f)))) (ha1 : ws[q1]? = some (a, .inl (c0, 8, .inl (iA g)))) (ht0 : tys[t0]? = some (c0, .int))
    {z : Int} (hz : 0 ≤ z ∧ z ≤ 36 ∧ ¬ z ≤ 8) (hn : 36 < 100000) (hRf : 9 < R.frames) (hRl : (rest.map fun v => v.category).sum + 10258 ≤ R.locals) (hRc : cells + 3 ≤ R.cells) (hRs : slots + 490 ≤ R.slots) (hlocks : meth.locks = false) (hdg : decode cc pc = .ok (.invokestatic index, 3))
    (k : ∀ (H1 : Heap) (q9 : Addr) (ce : Cell), H.size ≤ H1.size → (∀ q : Nat, q < H.size → H1[q]? = H[q]?) → va_S A s.heap H1 locs → H1[q9]? = some ce → ce.vm = .none → s.vm.findClass "java/lang/ArrayIndexOutOfBoundsException" = some ce.cls → vx_W p l e R s m args below meth c H1 locs (cells + 3) (slots + 490) Q (F0 m pc ls rest) q9) :
    W p l e R s m args below meth c H locs cells slots Q (F0 m pc ls (.int (I3 z) :: .int (I3 0) :: .ref a :: .int (I3 0) :: .ref a0 :: rest)) := by
  intro T hT X
  have hc0 : H[a0]? = some (vp_cell c0 (36, .inl (iA f))) := hP q0 _ ha0
  have hc1 : H[a]? = some (vp_cell c0 (8, .inl (iA g))) := hP q1 _ ha1
  obtain ⟨-, k0, hk0, cm0, hkk0⟩ := (hK.2 t0 _ ht0).1 36 (fun j => .int (iA f j))
  have hnw : nativeFrameWords "java/lang/System" "arraycopy" 5 + 11 = 18 := by decide +kernel
  obtain ⟨r, kS, methS, hnS, hmS, hkS, N⟩ := NativeOf.of_static hnat hstat (ps := [.object "java/lang/Object", .int, .object "java/lang/Object", .int, .int]) (ret := none) (by decide +kernel)
  have hinitS : kS.init = .initialized := Cond.initialized_spec (findClass_of_methodNamed hnS) hkS hini
  obtain ⟨vm', X', step⟩ := X.invokestatic hx hown hlink hnS hmS N.static hkS hinitS (by decide) (g := F0 m pc ls (.int (I3 z) :: .int (I3 0) :: .ref a :: .int (I3 0) :: .ref a0 :: rest)) rfl (argsL := [.ref a0, .int (I3 0), .ref a, .int (I3 0), .int (I3 z)]) (rest := rest) (by rw [N.sig]; rfl) rfl (by rw [hb]; exact hdg)
  obtain ⟨kS', N'⟩ := N.alike X'.warmed.alike
  obtain ⟨ks', hks', hes⟩ := X'.warmed.alike.2.2 _ _ hk0
  have htx := nx_tx_ok (z := z) (by omega)
  obtain ⟨t, st, q⟩ := nx_vm (pc := pc) (ls := ls) (rest := rest) (cls := "java/lang/ArrayIndexOutOfBoundsException") (text := nx_tx z) (names := ["java/lang/IndexOutOfBoundsException", "java/lang/RuntimeException", "java/lang/Exception"]) (nb := 480) (nf := { method := r, args := #[.ref a0, .int (I3 0), .ref a, .int (I3 0), .int (I3 z)], locked := none }) hx hl (by decide) (by decide) (by decide) (by decide) (xat vhatB_w hts hF.2.2.1) vhatB_good hF.1 hF.2.1 hS hml.symm htx.1 htx.2 (by decide) rfl rfl rfl (by show 3 + 5 < R.frames; omega) (by omega) (by decide) hRc hRs k (T.setVm vm') hT X'
  refine ⟨t, step t (fun acts => ?_), q⟩
  refine nx_note p (g := F0 m pc ls rest) X'.here acts N' (X'.notFull (g := F0 m pc ls rest) hml.symm (vars := nativeFrameWords "java/lang/System" "arraycopy" 5) (by omega) (by show 2 * 0 + (rest.map fun v => v.category).sum + (nativeFrameWords "java/lang/System" "arraycopy" 5 + 11) ≤ R.locals; omega))
    (cs := vp_cell c0 (36, .inl (iA f))) (cd := vp_cell c0 (8, .inl (iA g))) (ks := ks') (kd := ks') (by show T.heap[_]? = _; rw [hT]; exact hc0) (by show T.heap[_]? = _; rw [hT]; exact hc1) (fun _ h => by cases h) (fun _ h => by cases h) hks' hks' (by rw [hes]; exact hkk0) (by rw [hes]; exact hkk0) ?_ ?_ (by omega) ?_
  · show (arrV c0 36 (fun j => .int (iA f j))).slots.size = _
    rw [arrV_size]
  · show (arrV c0 8 (fun j => .int (iA g j))).slots.size = _
    rw [arrV_size]
  · rw [X'.tail]
    exact st
end CPO
