/-! what holds outside a method's own cells: statics, words of the tables; cells that nobody changes -/
set_option maxRecDepth 100000
def roP (D : va_G) (pl : va_W) (A : Nat → Prop) (U : State) (H : Heap) : Prop := va_P D vwCl pl H ∧ ∀ (k : Nat) (q : Nat × va_E), pl[k]? = some q → ¬ A q.1
theorem roP.moved {D : va_G} {pl : va_W} {A : Nat → Prop} {u U : State} {H : Heap} (hW : u.WarmedH U.vm) (h : roP D pl A u H) : roP D pl A U H := h
theorem roP.kept {D : va_G} {pl : va_W} {A : Nat → Prop} {s : State} {H : Heap} {locs : List Loc} (h : roP D pl A s s.heap) (hS : va_S A s.heap H locs) : roP D pl A s H := ⟨h.1.kept (fun k q hk => hS.2.1 q.1 (h.1 k q hk).lt (h.2 k q hk)), h.2⟩
theorem roP.narrow {D : va_G} {pl : va_W} {A B : Nat → Prop} {s : State} {H : Heap} (h : roP D pl A s H) (hB : ∀ q, B q → A q) : roP D pl B s H := ⟨h.1, fun k q hk w => h.2 k q hk (hB _ w)⟩
theorem roP.at {D : va_G} {pl : va_W} {A : Nat → Prop} {s : State} {H : Heap} {locs : List Loc} (h : roP D pl A s s.heap) (hS : va_S A s.heap H locs) : va_P D vwCl pl H := (h.kept hS).1
def twk (w : Cond) : Bool := match w with
  | .castable _ _ => true
  | .declares _ => true
  | .methodLinkNest _ _ _ _ => true
  | .fieldLinkNest _ _ _ _ _ _ => true
  | .arrayOver (.object _) => true
  | .arrayOver (.array .int) => true
  | _ => false
def TW (U : State) : Prop := ∀ w ∈ lw_tbl, twk w = true → w.before #[] U = true
theorem twk_use {w : Cond} (h : twk w = true) {args : Array Value} {U : State} (q : w.before #[] U = true) : w.before args U = true := by
  unfold twk at h
  split at h
  · exact va_tabs rfl rfl q
  · exact va_tabs rfl rfl q
  · exact va_tabs rfl rfl q
  · exact va_tabs rfl rfl q
  · exact q
  · exact q
  · cases h
theorem TW.use {U : State} (h : TW U) {w : Cond} (hq : w ∈ lw_tbl) (hk : twk w = true) {args : Array Value} : w.before args U = true := twk_use hk (h w hq hk)
theorem tw_1 {w : Cond} (hk : twk w = true) {s U : State} (hW : s.WarmedH U.vm) (h : va_Nw w s) : va_Nw w U := by
  unfold twk at hk
  split at hk
  · exact va_Nw.warmC hW h
  · exact va_Nw.warmD hW h
  · exact va_Nw.warmM hW h
  · exact va_Nw.warmF hW h
  · exact va_AO.moved hW.alike h
  · have e := Cond.arrayOver_setVmC (args := #[]) (s := s) (vm' := U.vm) hW.alike (.array .int)
    have h2 : (Cond.arrayOver (.array .int)).before #[] s = true := h
    rw [h2] at e
    exact e
  · cases hk
theorem TW.moved {u U : State} (hW : u.WarmedH U.vm) (h : TW u) : TW U := fun w hw hk => tw_1 hk hW (h w hw hk)
def ncL : List (String × String) := [("[[I", "[J"), ("java/lang/NullPointerException", "java/lang/ArrayIndexOutOfBoundsException"), ("java/lang/IllegalStateException", "java/lang/ArithmeticException"), ("java/lang/IllegalArgumentException", "java/lang/IndexOutOfBoundsException"), ("java/lang/ArithmeticException", "java/lang/IndexOutOfBoundsException"), ("java/lang/ArithmeticException", "java/lang/IllegalArgumentException"), ("java/lang/IllegalStateException", "java/lang/IndexOutOfBoundsException"), ("java/lang/IllegalStateException", "java/lang/IllegalArgumentException")]
def NC (U : State) : Prop := ∀ x ∈ ncL, va_Nc x.1 x.2 U
theorem NC.moved {u U : State} (hW : u.WarmedH U.vm) (h : NC u) : NC U := fun x hx => va_Nc.moved hW.alike (h x hx)
theorem NC.at {U : State} (h : NC U) (i : Nat) {x : String × String} (hx : ncL[i]? = some x) : va_Nc x.1 x.2 U := h x (List.mem_of_getElem? hx)
def FX (A : Nat → Prop) (U : State) (H : Heap) : Prop := vx_Zq Bundle.tN "UNASSIGNED_STACK" Bundle.steD A U H ∧ vx_Zq Bundle.tN "SUPPRESSED_SENTINEL" Bundle.listD A U H ∧ TW U ∧ NC U
theorem FX.moved {A : Nat → Prop} {u U : State} {H : Heap} (hW : u.WarmedH U.vm) (h : FX A u H) : FX A U H := ⟨vx_Zq.moved hW.alike h.1, vx_Zq.moved hW.alike h.2.1, h.2.2.1.moved hW, h.2.2.2.moved hW⟩
theorem FX.kept {A : Nat → Prop} {s : State} {H : Heap} {locs : List Loc} (h : FX A s s.heap) (hS : va_S A s.heap H locs) : FX A s H := ⟨h.1.kept hS.2.1, h.2.1.kept hS.2.1, h.2.2⟩
theorem FX.narrow {A B : Nat → Prop} {s : State} {H : Heap} (h : FX A s H) (hB : ∀ q, B q → A q) : FX B s H := ⟨h.1.narrow hB, h.2.1.narrow hB, h.2.2⟩
theorem xk_P {D : va_G} {cl : List vw_C} {ws : va_W} {H H1 : Heap} (h : va_P D cl ws H) (h1 : H.size ≤ H1.size) (h2 : ∀ q : Nat, q < H.size → H1[q]? = H[q]?) : va_P D cl ws H1 := h.kept (fun k q hk => h2 q.1 (h k q hk).lt)
theorem xk_F {A : Nat → Prop} {s t : State} {H : Heap} {locs : List Loc} (hS : va_S A s.heap H locs) (h1 : H.size ≤ t.heap.size) (h2 : ∀ q : Nat, q < H.size → t.heap[q]? = H[q]?) : va_F A s t := ⟨Nat.le_trans hS.1 h1, fun q a b => (h2 q (Nat.lt_of_lt_of_le a hS.1)).trans (hS.2.1 q a b)⟩
/-- words by their places in the tables -/
theorem xat {L : List Cond} (hL : ∀ w ∈ L, w ∈ lw_tbl ∧ (goodWord w || twk w) = true) {args : Array Value} {s : State} (hts : ∀ w ∈ lw_all, w.before args s = true) (hT : TW s) : ∀ w ∈ L, w.before args s = true := by
  intro w hw
  obtain ⟨h1, h2⟩ := hL w hw
  by_cases g : goodWord w = true
  · exact hts w (lw_g h1 g)
  · have g2 : goodWord w = false := by
      cases q : goodWord w
      · rfl
      · exact absurd q g
    rw [g2, Bool.false_or] at h2
    exact hT.use h1 h2
theorem hatA_w : ∀ w ∈ vx_at0 "NumberModels" 83 "java/lang/ArithmeticException" ["java/lang/RuntimeException", "java/lang/Exception"], w ∈ lw_tbl ∧ (goodWord w || twk w) = true := by decide +kernel
theorem hatA_at {args : Array Value} {s : State} {A : Nat → Prop} {H : Heap} (hts : ∀ w ∈ lw_all, w.before args s = true) (h : FX A s H) : ∀ w ∈ vx_at0 "NumberModels" 83 "java/lang/ArithmeticException" ["java/lang/RuntimeException", "java/lang/Exception"], w.before args s = true := xat hatA_w hts h.2.2.1
theorem hatA_good : ∀ w ∈ Cond.classLink "NumberModels" 81 "java/lang/ArithmeticException" :: Cond.initialized "java/lang/ArithmeticException" :: vx_at0 "NumberModels" 83 "java/lang/ArithmeticException" ["java/lang/RuntimeException", "java/lang/Exception"], vx_ot w = true := by decide +kernel
theorem hatG_w : ∀ w ∈ vx_at0 "NumberModels" 80 "java/lang/IllegalArgumentException" ["java/lang/RuntimeException", "java/lang/Exception"], w ∈ lw_tbl ∧ (goodWord w || twk w) = true := by decide +kernel
theorem hatG_at {args : Array Value} {s : State} {A : Nat → Prop} {H : Heap} (hts : ∀ w ∈ lw_all, w.before args s = true) (h : FX A s H) : ∀ w ∈ vx_at0 "NumberModels" 80 "java/lang/IllegalArgumentException" ["java/lang/RuntimeException", "java/lang/Exception"], w.before args s = true := xat hatG_w hts h.2.2.1
theorem hatG_good : ∀ w ∈ Cond.classLink "NumberModels" 78 "java/lang/IllegalArgumentException" :: Cond.initialized "java/lang/IllegalArgumentException" :: vx_at0 "NumberModels" 80 "java/lang/IllegalArgumentException" ["java/lang/RuntimeException", "java/lang/Exception"], vx_ot w = true := by decide +kernel
theorem hatS_w : ∀ w ∈ vx_at0 "NumberModels" 122 "java/lang/IllegalStateException" ["java/lang/RuntimeException", "java/lang/Exception"], w ∈ lw_tbl ∧ (goodWord w || twk w) = true := by decide +kernel
theorem hatS_at {args : Array Value} {s : State} {A : Nat → Prop} {H : Heap} (hts : ∀ w ∈ lw_all, w.before args s = true) (h : FX A s H) : ∀ w ∈ vx_at0 "NumberModels" 122 "java/lang/IllegalStateException" ["java/lang/RuntimeException", "java/lang/Exception"], w.before args s = true := xat hatS_w hts h.2.2.1
theorem hatS_good : ∀ w ∈ Cond.classLink "NumberModels" 120 "java/lang/IllegalStateException" :: Cond.initialized "java/lang/IllegalStateException" :: vx_at0 "NumberModels" 122 "java/lang/IllegalStateException" ["java/lang/RuntimeException", "java/lang/Exception"], vx_ot w = true := by decide +kernel
theorem hatI_w : ∀ w ∈ vx_at0 "NumberModels" 75 "java/lang/IndexOutOfBoundsException" ["java/lang/RuntimeException", "java/lang/Exception"], w ∈ lw_tbl ∧ (goodWord w || twk w) = true := by decide +kernel
theorem hatI_at {args : Array Value} {s : State} {A : Nat → Prop} {H : Heap} (hts : ∀ w ∈ lw_all, w.before args s = true) (h : FX A s H) : ∀ w ∈ vx_at0 "NumberModels" 75 "java/lang/IndexOutOfBoundsException" ["java/lang/RuntimeException", "java/lang/Exception"], w.before args s = true := xat hatI_w hts h.2.2.1
theorem hatI_good : ∀ w ∈ Cond.classLink "NumberModels" 73 "java/lang/IndexOutOfBoundsException" :: Cond.initialized "java/lang/IndexOutOfBoundsException" :: vx_at0 "NumberModels" 75 "java/lang/IndexOutOfBoundsException" ["java/lang/RuntimeException", "java/lang/Exception"], vx_ot w = true := by decide +kernel
theorem vhatB_w : ∀ w ∈ vx_atM "java/lang/ArrayIndexOutOfBoundsException" ["java/lang/IndexOutOfBoundsException", "java/lang/RuntimeException", "java/lang/Exception"], w ∈ lw_tbl ∧ (goodWord w || twk w) = true := by decide +kernel
theorem vhatB_good : ∀ w ∈ vx_atM "java/lang/ArrayIndexOutOfBoundsException" ["java/lang/IndexOutOfBoundsException", "java/lang/RuntimeException", "java/lang/Exception"], vx_ot w = true := by decide +kernel
theorem vhatZ_w : ∀ w ∈ vx_atM "java/lang/ArithmeticException" ["java/lang/RuntimeException", "java/lang/Exception"], w ∈ lw_tbl ∧ (goodWord w || twk w) = true := by decide +kernel
theorem vhatZ_good : ∀ w ∈ vx_atM "java/lang/ArithmeticException" ["java/lang/RuntimeException", "java/lang/Exception"], vx_ot w = true := by decide +kernel
theorem vhatC_w : ∀ w ∈ vx_atM "java/lang/ClassCastException" ["java/lang/RuntimeException", "java/lang/Exception"], w ∈ lw_tbl ∧ (goodWord w || twk w) = true := by decide +kernel
theorem vhatC_good : ∀ w ∈ vx_atM "java/lang/ClassCastException" ["java/lang/RuntimeException", "java/lang/Exception"], vx_ot w = true := by decide +kernel
theorem vhatN_w : ∀ w ∈ vx_atN 8, w ∈ lw_tbl ∧ (goodWord w || twk w) = true := by decide +kernel
theorem vhatN_good : ∀ w ∈ vx_atN 8, vx_ot w = true := by decide +kernel
section XN
variable {p : Program} {l : Launch} {e : Env} {R : Room} {s : State} {m : MethodId} {args : Array Value} {below : List Frame} {meth : Method} {c : Code} {H : Heap} {locs : List Loc} {cells slots : Nat} {Q : State → Prop}
variable {pc : Nat} {ls : Array Slot} {rest : List Value} {A : Nat → Prop}
theorem xn_B (hx : p.tables.exec = Jvm.exec) (hl : l.stackTraces = false) (hts : ∀ w ∈ lw_all, w.before args s = true) (hF : FX A s s.heap) (hS : va_S A s.heap H locs) (hsize : ls.size = c.maxLocals) {tx : String} (htx : (tx == notModelled) = false ∧ (stringBytes (stringToUtf16 tx)).size ≤ 480) (hRf : 7 < R.frames) (hRl : (rest.map fun v => v.category).sum + 10240 ≤ R.locals) (hRc : cells + 3 ≤ R.cells) (hRs : slots + 490 ≤ R.slots) (hlocks : meth.locks = false)
    (k : ∀ (H1 : Heap) (q9 : Addr) (ce : Cell), H.size ≤ H1.size → (∀ q : Nat, q < H.size → H1[q]? = H[q]?) → va_S A s.heap H1 locs → H1[q9]? = some ce → ce.vm = .none → s.vm.findClass "java/lang/ArrayIndexOutOfBoundsException" = some ce.cls → vx_W p l e R s m args below meth c H1 locs (cells + 3) (slots + 490) Q (F0 m pc ls rest) q9) : vx_Note p l e R s m args below meth c H locs cells slots Q (F0 m pc ls rest) "java/lang/ArrayIndexOutOfBoundsException" tx :=
  vx_vm hx hl (cls := "java/lang/ArrayIndexOutOfBoundsException") (text := tx) (names := ["java/lang/IndexOutOfBoundsException", "java/lang/RuntimeException", "java/lang/Exception"]) (nb := 480) (by decide) (by decide) (by decide) (by decide) (xat vhatB_w hts hF.2.2.1) vhatB_good hF.1 hF.2.1 hS hsize htx.1 htx.2 (by decide) hRf hRl (by decide) hRc hRs hlocks k
theorem xn_Z (hx : p.tables.exec = Jvm.exec) (hl : l.stackTraces = false) (hts : ∀ w ∈ lw_all, w.before args s = true) (hF : FX A s s.heap) (hS : va_S A s.heap H locs) (hsize : ls.size = c.maxLocals) {tx : String} (htx : (tx == notModelled) = false ∧ (stringBytes (stringToUtf16 tx)).size ≤ 480) (hRf : 6 < R.frames) (hRl : (rest.map fun v => v.category).sum + 10240 ≤ R.locals) (hRc : cells + 3 ≤ R.cells) (hRs : slots + 490 ≤ R.slots) (hlocks : meth.locks = false)
    (k : ∀ (H1 : Heap) (q9 : Addr) (ce : Cell), H.size ≤ H1.size → (∀ q : Nat, q < H.size → H1[q]? = H[q]?) → va_S A s.heap H1 locs → H1[q9]? = some ce → ce.vm = .none → s.vm.findClass "java/lang/ArithmeticException" = some ce.cls → vx_W p l e R s m args below meth c H1 locs (cells + 3) (slots + 490) Q (F0 m pc ls rest) q9) : vx_Note p l e R s m args below meth c H locs cells slots Q (F0 m pc ls rest) "java/lang/ArithmeticException" tx :=
  vx_vm hx hl (cls := "java/lang/ArithmeticException") (text := tx) (names := ["java/lang/RuntimeException", "java/lang/Exception"]) (nb := 480) (by decide) (by decide) (by decide) (by decide) (xat vhatZ_w hts hF.2.2.1) vhatZ_good hF.1 hF.2.1 hS hsize htx.1 htx.2 (by decide) hRf hRl (by decide) hRc hRs hlocks k
theorem xn_C (hx : p.tables.exec = Jvm.exec) (hl : l.stackTraces = false) (hts : ∀ w ∈ lw_all, w.before args s = true) (hF : FX A s s.heap) (hS : va_S A s.heap H locs) (hsize : ls.size = c.maxLocals) {tx : String} (htx : (tx == notModelled) = false ∧ (stringBytes (stringToUtf16 tx)).size ≤ 480) (hRf : 6 < R.frames) (hRl : (rest.map fun v => v.category).sum + 10240 ≤ R.locals) (hRc : cells + 3 ≤ R.cells) (hRs : slots + 490 ≤ R.slots) (hlocks : meth.locks = false)
    (k : ∀ (H1 : Heap) (q9 : Addr) (ce : Cell), H.size ≤ H1.size → (∀ q : Nat, q < H.size → H1[q]? = H[q]?) → va_S A s.heap H1 locs → H1[q9]? = some ce → ce.vm = .none → s.vm.findClass "java/lang/ClassCastException" = some ce.cls → vx_W p l e R s m args below meth c H1 locs (cells + 3) (slots + 490) Q (F0 m pc ls rest) q9) : vx_Note p l e R s m args below meth c H locs cells slots Q (F0 m pc ls rest) "java/lang/ClassCastException" tx :=
  vx_vm hx hl (cls := "java/lang/ClassCastException") (text := tx) (names := ["java/lang/RuntimeException", "java/lang/Exception"]) (nb := 480) (by decide) (by decide) (by decide) (by decide) (xat vhatC_w hts hF.2.2.1) vhatC_good hF.1 hF.2.1 hS hsize htx.1 htx.2 (by decide) hRf hRl (by decide) hRc hRs hlocks k
theorem xn_N (hx : p.tables.exec = Jvm.exec) (hl : l.stackTraces = false) (hts : ∀ w ∈ lw_all, w.before args s = true) (hF : FX A s s.heap) (hS : va_S A s.heap H locs) (hsize : ls.size = c.maxLocals) (hRf : 7 < R.frames) (hRl : (rest.map fun v => v.category).sum + 10240 ≤ R.locals) (hRc : cells + 1 ≤ R.cells) (hRs : slots + 8 ≤ R.slots) (hlocks : meth.locks = false)
    (k : ∀ (H1 : Heap) (q9 : Addr) (ce : Cell), H.size ≤ H1.size → (∀ q : Nat, q < H.size → H1[q]? = H[q]?) → va_S A s.heap H1 locs → H1[q9]? = some ce → ce.vm = .none → s.vm.findClass "java/lang/NullPointerException" = some ce.cls → vx_W p l e R s m args below meth c H1 locs (cells + 1) (slots + 8) Q (F0 m pc ls rest) q9) : vx_NoteN p l e R s m args below meth c H locs cells slots Q (F0 m pc ls rest) :=
  vx_npe hx hl (nb := 8) (xat vhatN_w hts hF.2.2.1) vhatN_good hF.1 hF.2.1 hS hsize hRf hRl hRc hRs hlocks k
theorem ix_tx (z : Int32) {n : Nat} (h : n < 2 ^ 31) {tx : String} (e : tx = (toString "Index " ++ toString z ++ toString " out of bounds for length " ++ toString n : String)) : (tx == notModelled) = false ∧ (stringBytes (stringToUtf16 tx)).size ≤ 480 := by
  subst e
  exact ⟨index_text_modelled z n, Nat.le_trans (index_text_bytes z h) (by decide)⟩
end XN
