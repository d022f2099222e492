/-! System.arraycopy that fails -/
set_option maxRecDepth 100000
section CPO
variable {p : Program} {l : Launch} {e : Env} {R : Room} {s : State} {m : MethodId} {args : Array Value} {below : List Frame} {meth : Method} {c : Code} {cc : ByteArray} {H : Heap} {locs : List Loc} {cells slots : Nat} {Q : State → Prop}
variable {pc : Nat} {ls : Array Slot} {rest : List Value} {A : Nat → Prop} {D : va_G} {cl : List vw_C} {tys : List (ClassId × FieldType)} {ws : va_W}
theorem ix_copyO (hx : p.tables.exec = Jvm.exec) (hl : l.stackTraces = false) (hb : c.code = cc) (hml : c.maxLocals = ls.size) {own : String} {index : Nat} (hown : s.vm.findClass own = some m.cls) (hts : ∀ w ∈ lw_all, w.before args s = true) (hlink : (Cond.methodLink own index arraycopyName).before args s = true) (hnat : (Cond.native arraycopyName).before args s = true) (hstat : (Cond.static arraycopyName).before args s = true) (hini : (Cond.initialized "java/lang/System").before args s = true)
    (hF : FX A s s.heap) (hK : va_K D cl tys s) (hP : va_P D cl ws H) (hS : va_S A s.heap H locs) (q0 q1 t0 : Nat) {a0 a : Nat} {c0 : ClassId} {n0 n1 : Nat} {f g : Int → Int} (ha0 : ws[q0]? = some (a0, .inl (c0, n0, .inl (iA f)))) (ha1 : ws[q1]? = some (a, .inl (c0, n1, .inl (iA g)))) (ht0 : tys[t0]? = some (c0, .int))
    {z : Int} (hz : 0 ≤ z ∧ z ≤ (n0 : Int) ∧ ¬ z ≤ (n1 : Int)) (hn : n0 < 100000) (hRf : 8 < R.frames) (hRl : (rest.map fun v => v.category).sum + 10258 ≤ R.locals) (hRc : cells + 3 ≤ R.cells) (hRs : slots + 490 ≤ R.slots) (hlocks : meth.locks = false) (hdg : decode cc pc = .ok (.invokestatic index, 3))
    (k : ∀ (H1 : Heap) (q9 : Addr) (ce : Cell), H.size ≤ H1.size → (∀ q : Nat, q < H.size → H1[q]? = H[q]?) → va_S A s.heap H1 locs → H1[q9]? = some ce → ce.vm = .none → s.vm.findClass "java/lang/ArrayIndexOutOfBoundsException" = some ce.cls → vx_W p l e R s m args below meth c H1 locs (cells + 3) (slots + 490) Q (F0 m pc ls rest) q9) :
    W p l e R s m args below meth c H locs cells slots Q (F0 m pc ls (.int (I3 z) :: .int (I3 0) :: .ref a :: .int (I3 0) :: .ref a0 :: rest)) := by
  sorry
end CPO
