/-! new arrays of ints and longs, in the system's one list of array classes -/
set_option maxRecDepth 100000
section NEWA
variable {p : Program} {l : Launch} {e : Env} {R : Room} {s : State} {m : MethodId} {args : Array Value} {below : List Frame} {meth : Method} {c : Code} {H : Heap} {locs : List Loc} {cells slots : Nat} {Q : State → Prop}
variable {cc : ByteArray} {pc : Nat} {ls : Array Slot} {rest : List Value}
variable {D : va_G} {cl : List vw_C} {dA : Nat → ClassId} {ws : va_W} {A : Nat → Prop} {H0 : Heap}
theorem ix_newai (hx : p.tables.exec = Jvm.exec) (hb : c.code = cc) (harr : (Cond.arrayClass .int).before args s = true) (hK : va_K D cl (tyA dA) s) (hP : va_P D cl ws H) (hD : va_D A ws) (hS : va_S A H0 H locs) (hA : ∀ q, H0.size ≤ q → A q)
    {z : Int} (N : Nat) (hz : z = (N : Int)) (hN : N < 100000) (hcells : cells + 1 ≤ R.cells) (hslots : slots + N ≤ R.slots) (hd : decode cc pc = .ok (.newarray .int, 2))
    (kk : ∀ (q : Nat) (H1 : Heap), va_P D cl (ws ++ [(q, .inl (dA 0, N, .inl (iA (fun _ => 0))))]) H1 → va_D A (ws ++ [(q, .inl (dA 0, N, .inl (iA (fun _ => 0))))]) → va_S A H0 H1 locs → W p l e R s m args below meth c H1 locs (cells + 1) (slots + N) Q (F0 m (pc + 2) ls (.ref q :: rest))) : W p l e R s m args below meth c H locs cells slots Q (F0 m pc ls (.int (I3 z) :: rest)) := by
  subst hz
  refine va_newa (atype := .int) (ty := .int) (a0 := (N, .inl (iA (fun _ => 0)))) hx hb harr rfl hK hP hD hS hA (fun _ => rfl) ?_ ?_ ?_ hcells hslots hd (fun q cA H1 hK1 hP1 hD1 hS1 => ?_)
  · have h0 : (0 : Int32) = I3 0 := rfl
    rw [h0, I3_lt (by constructor <;> omega) (by decide)]
    omega
  · rw [I3_clamp (by omega) (by omega)]
    omega
  · show N * 4 ≤ 536870912
    omega
  · have e1 := (hK.2 0 _ rfl).2
    have e2 := (hK1.2 5 _ rfl).2
    have e3 : cA = dA 0 := Option.some.inj (e2.symm.trans e1)
    rw [e3] at hP1 hD1
    exact kk q H1 hP1 hD1 hS1
theorem ix_newal (hx : p.tables.exec = Jvm.exec) (hb : c.code = cc) (harr : (Cond.arrayClass .long).before args s = true) (hK : va_K D cl (tyA dA) s) (hP : va_P D cl ws H) (hD : va_D A ws) (hS : va_S A H0 H locs) (hA : ∀ q, H0.size ≤ q → A q)
    {z : Int} (N : Nat) (hz : z = (N : Int)) (hN : N < 100000) (hcells : cells + 1 ≤ R.cells) (hslots : slots + N ≤ R.slots) (hd : decode cc pc = .ok (.newarray .long, 2))
    (kk : ∀ (q : Nat) (H1 : Heap), va_P D cl (ws ++ [(q, .inl (dA 1, N, .inr (.inl (lA (fun _ => 0)))))]) H1 → va_D A (ws ++ [(q, .inl (dA 1, N, .inr (.inl (lA (fun _ => 0)))))]) → va_S A H0 H1 locs → W p l e R s m args below meth c H1 locs (cells + 1) (slots + N) Q (F0 m (pc + 2) ls (.ref q :: rest))) : W p l e R s m args below meth c H locs cells slots Q (F0 m pc ls (.int (I3 z) :: rest)) := by
  subst hz
  refine va_newa (atype := .long) (ty := .long) (a0 := (N, .inr (.inl (lA (fun _ => 0))))) hx hb harr rfl hK hP hD hS hA (fun _ => rfl) ?_ ?_ ?_ hcells hslots hd (fun q cA H1 hK1 hP1 hD1 hS1 => ?_)
  · have h0 : (0 : Int32) = I3 0 := rfl
    rw [h0, I3_lt (by constructor <;> omega) (by decide)]
    omega
  · rw [I3_clamp (by omega) (by omega)]
    omega
  · show N * 8 ≤ 536870912
    omega
  · have e1 := (hK.2 1 _ rfl).2
    have e2 := (hK1.2 5 _ rfl).2
    have e3 : cA = dA 1 := Option.some.inj (e2.symm.trans e1)
    rw [e3] at hP1 hD1
    exact kk q H1 hP1 hD1 hS1
end NEWA
