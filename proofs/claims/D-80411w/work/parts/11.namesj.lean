/-! DECODE ROWS BY BYTES: one lemma an opcode; a method's code is cut into short pieces once, and a row reads its own piece alone. -/
set_option maxRecDepth 100000
/-- the code has just these bytes from pc on -/
def DkAt (code : ByteArray) (pc : Nat) (bs : List UInt8) : Prop := ∀ (j : Nat) (b : UInt8), bs[j]? = some b → code.data.toList[pc + j]? = some b
/-- the piece W has the bytes bs from its place j on -/
def dkIn (W : List UInt8) (j : Nat) (bs : List UInt8) : Bool := decide ((W.drop j).take bs.length = bs)
theorem dk_seg {l W T : List UInt8} {o o2 : Nat} (h : l.drop o = W ++ T) (n : Nat) (hn : W.length = n) (ho : o + n = o2) : l.drop o2 = T := by
  subst ho
  rw [← List.drop_drop, h, List.drop_left' hn]
theorem dk_at {code : ByteArray} {W T bs : List UInt8} {o pc : Nat} (h : code.data.toList.drop o = W ++ T) (j : Nat) (hp : o + j = pc) (hw : dkIn W j bs = true) : DkAt code pc bs := by
  subst hp
  intro i b e
  have h1 := of_decide_eq_true hw
  have h2 : i < bs.length := (List.getElem?_eq_some_iff.mp e).1
  have h3 : W[j + i]? = some b := by
    rw [← h1, List.getElem?_take, if_pos h2, List.getElem?_drop] at e
    exact e
  have h4 : j + i < W.length := (List.getElem?_eq_some_iff.mp h3).1
  have h5 : (code.data.toList.drop o)[j + i]? = some b := by
    rw [h, List.getElem?_append_left h4]
    exact h3
  rw [List.getElem?_drop, ← Nat.add_assoc] at h5
  exact h5
theorem dk_u1 {A : ByteArray} {p : Nat} {b : UInt8} (h : A.data.toList[p]? = some b) : (Reader.u1 : Reader DecodeError Nat) A p = .ok (b.toNat, p + 1) := by
  obtain ⟨h1, h2⟩ := List.getElem?_eq_some_iff.mp h
  have h3 : p < A.size := by simpa using h1
  have h4 : A[p]'h3 = b := h2
  have e : (Reader.u1 : Reader DecodeError Nat) A p = (if h : p < A.size then .ok (A[p].toNat, p + 1) else .error (HasTruncated.truncated p)) := by
    show (do if h : p < A.size then do set (p + 1); Pure.pure A[p].toNat else MonadExcept.throw (HasTruncated.truncated p) : Reader DecodeError Nat) A p = _
    by_cases hi : p < A.size
    · rw [dif_pos hi, dif_pos hi]; rfl
    · rw [dif_neg hi, dif_neg hi]; rfl
  rw [e, dif_pos h3, h4]
theorem dk_bind {α β : Type} {r : Reader DecodeError α} {f : α → Reader DecodeError β} {A : ByteArray} {p s : Nat} {a : α} (h : r A p = .ok (a, s)) : (r >>= f) A p = f a A s := by
  show (do let (a, s) ← r A p; f a A s : Except DecodeError (β × Nat)) = _
  rw [h]
  rfl
theorem dk_map {α β : Type} {r : Reader DecodeError α} {g : α → β} {A : ByteArray} {p s : Nat} {a : α} (h : r A p = .ok (a, s)) : (g <$> r) A p = .ok (g a, s) := by
  show (do let (a, s) ← r A p; .ok (g a, s) : Except DecodeError (β × Nat)) = _
  rw [h]
  rfl
theorem dk_u2 {A : ByteArray} {p : Nat} {a b : UInt8} (h : A.data.toList[p]? = some a) (h2 : A.data.toList[p + 1]? = some b) : (Reader.u2 : Reader DecodeError Nat) A p = .ok (a.toNat * 256 + b.toNat, p + 2) := by
  show (Reader.u1 >>= fun hi => Reader.u1 >>= fun lo => Pure.pure (hi * 256 + lo) : Reader DecodeError Nat) A p = _
  rw [dk_bind (dk_u1 h), dk_bind (dk_u1 h2)]
  rfl
theorem dk_of {code : ByteArray} {pc n : Nat} {i : Instr} (h : Decoder.instr pc code pc = .ok (i, pc + n)) : decode code pc = .ok (i, n) := by
  have e : decode code pc = (match Decoder.instr pc code pc with | .error x => .error x | .ok (j, s) => .ok (j, s - pc)) := by
    show (do let (j, s) ← Decoder.instr pc code pc; Pure.pure (j, s - pc) : Except DecodeError (Instr × Nat)) = _
    cases Decoder.instr pc code pc <;> rfl
  rw [e, h]
  show Except.ok (i, pc + n - pc) = _
  rw [Nat.add_sub_cancel_left]
theorem dk_1 {code : ByteArray} {pc : Nat} (h : DkAt code pc [1]) : decode code pc = .ok (.aconst_null, 1) := dk_of ((dk_bind (dk_u1 (h 0 _ rfl))).trans rfl)
theorem dk_2 {code : ByteArray} {pc : Nat} (h : DkAt code pc [2]) : decode code pc = .ok (.iconst (-1), 1) := dk_of ((dk_bind (dk_u1 (h 0 _ rfl))).trans rfl)
theorem dk_3 {code : ByteArray} {pc : Nat} (h : DkAt code pc [3]) : decode code pc = .ok (.iconst 0, 1) := dk_of ((dk_bind (dk_u1 (h 0 _ rfl))).trans rfl)
theorem dk_4 {code : ByteArray} {pc : Nat} (h : DkAt code pc [4]) : decode code pc = .ok (.iconst 1, 1) := dk_of ((dk_bind (dk_u1 (h 0 _ rfl))).trans rfl)
theorem dk_5 {code : ByteArray} {pc : Nat} (h : DkAt code pc [5]) : decode code pc = .ok (.iconst 2, 1) := dk_of ((dk_bind (dk_u1 (h 0 _ rfl))).trans rfl)
theorem dk_6 {code : ByteArray} {pc : Nat} (h : DkAt code pc [6]) : decode code pc = .ok (.iconst 3, 1) := dk_of ((dk_bind (dk_u1 (h 0 _ rfl))).trans rfl)
theorem dk_7 {code : ByteArray} {pc : Nat} (h : DkAt code pc [7]) : decode code pc = .ok (.iconst 4, 1) := dk_of ((dk_bind (dk_u1 (h 0 _ rfl))).trans rfl)
theorem dk_8 {code : ByteArray} {pc : Nat} (h : DkAt code pc [8]) : decode code pc = .ok (.iconst 5, 1) := dk_of ((dk_bind (dk_u1 (h 0 _ rfl))).trans rfl)
theorem dk_9 {code : ByteArray} {pc : Nat} (h : DkAt code pc [9]) : decode code pc = .ok (.lconst 0, 1) := dk_of ((dk_bind (dk_u1 (h 0 _ rfl))).trans rfl)
theorem dk_10 {code : ByteArray} {pc : Nat} (h : DkAt code pc [10]) : decode code pc = .ok (.lconst 1, 1) := dk_of ((dk_bind (dk_u1 (h 0 _ rfl))).trans rfl)
theorem dk_11 {code : ByteArray} {pc : Nat} (h : DkAt code pc [11]) : decode code pc = .ok (.fconst 0, 1) := dk_of ((dk_bind (dk_u1 (h 0 _ rfl))).trans rfl)
theorem dk_14 {code : ByteArray} {pc : Nat} (h : DkAt code pc [14]) : decode code pc = .ok (.dconst 0, 1) := dk_of ((dk_bind (dk_u1 (h 0 _ rfl))).trans rfl)
theorem dk_15 {code : ByteArray} {pc : Nat} (h : DkAt code pc [15]) : decode code pc = .ok (.dconst 1, 1) := dk_of ((dk_bind (dk_u1 (h 0 _ rfl))).trans rfl)
theorem dk_16 {code : ByteArray} {pc : Nat} (a : UInt8) (h : DkAt code pc [16, a]) : decode code pc = .ok (.bipush (Reader.signed 8 a.toNat), 2) := dk_of ((dk_bind (dk_u1 (h 0 _ rfl))).trans ((dk_bind (dk_map (dk_u1 (h 1 _ rfl)))).trans rfl))
theorem dk_17 {code : ByteArray} {pc : Nat} (a b : UInt8) (h : DkAt code pc [17, a, b]) : decode code pc = .ok (.sipush (Reader.signed 16 (a.toNat * 256 + b.toNat)), 3) := dk_of ((dk_bind (dk_u1 (h 0 _ rfl))).trans ((dk_bind (dk_map (dk_u2 (h 1 _ rfl) (h 2 _ rfl)))).trans rfl))
theorem dk_18 {code : ByteArray} {pc : Nat} (a : UInt8) (h : DkAt code pc [18, a]) : decode code pc = .ok (.ldc a.toNat, 2) := dk_of ((dk_bind (dk_u1 (h 0 _ rfl))).trans ((dk_bind (dk_u1 (h 1 _ rfl))).trans rfl))
theorem dk_19 {code : ByteArray} {pc : Nat} (a b : UInt8) (h : DkAt code pc [19, a, b]) : decode code pc = .ok (.ldc_w (a.toNat * 256 + b.toNat), 3) := dk_of ((dk_bind (dk_u1 (h 0 _ rfl))).trans ((dk_bind (dk_u2 (h 1 _ rfl) (h 2 _ rfl))).trans rfl))
theorem dk_20 {code : ByteArray} {pc : Nat} (a b : UInt8) (h : DkAt code pc [20, a, b]) : decode code pc = .ok (.ldc2_w (a.toNat * 256 + b.toNat), 3) := dk_of ((dk_bind (dk_u1 (h 0 _ rfl))).trans ((dk_bind (dk_u2 (h 1 _ rfl) (h 2 _ rfl))).trans rfl))
theorem dk_21 {code : ByteArray} {pc : Nat} (a : UInt8) (h : DkAt code pc [21, a]) : decode code pc = .ok (.iload a.toNat, 2) := dk_of ((dk_bind (dk_u1 (h 0 _ rfl))).trans ((dk_bind (dk_u1 (h 1 _ rfl))).trans rfl))
theorem dk_22 {code : ByteArray} {pc : Nat} (a : UInt8) (h : DkAt code pc [22, a]) : decode code pc = .ok (.lload a.toNat, 2) := dk_of ((dk_bind (dk_u1 (h 0 _ rfl))).trans ((dk_bind (dk_u1 (h 1 _ rfl))).trans rfl))
theorem dk_23 {code : ByteArray} {pc : Nat} (a : UInt8) (h : DkAt code pc [23, a]) : decode code pc = .ok (.fload a.toNat, 2) := dk_of ((dk_bind (dk_u1 (h 0 _ rfl))).trans ((dk_bind (dk_u1 (h 1 _ rfl))).trans rfl))
theorem dk_24 {code : ByteArray} {pc : Nat} (a : UInt8) (h : DkAt code pc [24, a]) : decode code pc = .ok (.dload a.toNat, 2) := dk_of ((dk_bind (dk_u1 (h 0 _ rfl))).trans ((dk_bind (dk_u1 (h 1 _ rfl))).trans rfl))
theorem dk_25 {code : ByteArray} {pc : Nat} (a : UInt8) (h : DkAt code pc [25, a]) : decode code pc = .ok (.aload a.toNat, 2) := dk_of ((dk_bind (dk_u1 (h 0 _ rfl))).trans ((dk_bind (dk_u1 (h 1 _ rfl))).trans rfl))
theorem dk_26 {code : ByteArray} {pc : Nat} (h : DkAt code pc [26]) : decode code pc = .ok (.iload_n 0, 1) := dk_of ((dk_bind (dk_u1 (h 0 _ rfl))).trans rfl)
theorem dk_27 {code : ByteArray} {pc : Nat} (h : DkAt code pc [27]) : decode code pc = .ok (.iload_n 1, 1) := dk_of ((dk_bind (dk_u1 (h 0 _ rfl))).trans rfl)
theorem dk_28 {code : ByteArray} {pc : Nat} (h : DkAt code pc [28]) : decode code pc = .ok (.iload_n 2, 1) := dk_of ((dk_bind (dk_u1 (h 0 _ rfl))).trans rfl)
theorem dk_29 {code : ByteArray} {pc : Nat} (h : DkAt code pc [29]) : decode code pc = .ok (.iload_n 3, 1) := dk_of ((dk_bind (dk_u1 (h 0 _ rfl))).trans rfl)
theorem dk_30 {code : ByteArray} {pc : Nat} (h : DkAt code pc [30]) : decode code pc = .ok (.lload_n 0, 1) := dk_of ((dk_bind (dk_u1 (h 0 _ rfl))).trans rfl)
theorem dk_31 {code : ByteArray} {pc : Nat} (h : DkAt code pc [31]) : decode code pc = .ok (.lload_n 1, 1) := dk_of ((dk_bind (dk_u1 (h 0 _ rfl))).trans rfl)
theorem dk_32 {code : ByteArray} {pc : Nat} (h : DkAt code pc [32]) : decode code pc = .ok (.lload_n 2, 1) := dk_of ((dk_bind (dk_u1 (h 0 _ rfl))).trans rfl)
theorem dk_33 {code : ByteArray} {pc : Nat} (h : DkAt code pc [33]) : decode code pc = .ok (.lload_n 3, 1) := dk_of ((dk_bind (dk_u1 (h 0 _ rfl))).trans rfl)
theorem dk_34 {code : ByteArray} {pc : Nat} (h : DkAt code pc [34]) : decode code pc = .ok (.fload_n 0, 1) := dk_of ((dk_bind (dk_u1 (h 0 _ rfl))).trans rfl)
theorem dk_35 {code : ByteArray} {pc : Nat} (h : DkAt code pc [35]) : decode code pc = .ok (.fload_n 1, 1) := dk_of ((dk_bind (dk_u1 (h 0 _ rfl))).trans rfl)
theorem dk_38 {code : ByteArray} {pc : Nat} (h : DkAt code pc [38]) : decode code pc = .ok (.dload_n 0, 1) := dk_of ((dk_bind (dk_u1 (h 0 _ rfl))).trans rfl)
theorem dk_39 {code : ByteArray} {pc : Nat} (h : DkAt code pc [39]) : decode code pc = .ok (.dload_n 1, 1) := dk_of ((dk_bind (dk_u1 (h 0 _ rfl))).trans rfl)
theorem dk_40 {code : ByteArray} {pc : Nat} (h : DkAt code pc [40]) : decode code pc = .ok (.dload_n 2, 1) := dk_of ((dk_bind (dk_u1 (h 0 _ rfl))).trans rfl)
theorem dk_41 {code : ByteArray} {pc : Nat} (h : DkAt code pc [41]) : decode code pc = .ok (.dload_n 3, 1) := dk_of ((dk_bind (dk_u1 (h 0 _ rfl))).trans rfl)
theorem dk_42 {code : ByteArray} {pc : Nat} (h : DkAt code pc [42]) : decode code pc = .ok (.aload_n 0, 1) := dk_of ((dk_bind (dk_u1 (h 0 _ rfl))).trans rfl)
theorem dk_43 {code : ByteArray} {pc : Nat} (h : DkAt code pc [43]) : decode code pc = .ok (.aload_n 1, 1) := dk_of ((dk_bind (dk_u1 (h 0 _ rfl))).trans rfl)
theorem dk_44 {code : ByteArray} {pc : Nat} (h : DkAt code pc [44]) : decode code pc = .ok (.aload_n 2, 1) := dk_of ((dk_bind (dk_u1 (h 0 _ rfl))).trans rfl)
theorem dk_45 {code : ByteArray} {pc : Nat} (h : DkAt code pc [45]) : decode code pc = .ok (.aload_n 3, 1) := dk_of ((dk_bind (dk_u1 (h 0 _ rfl))).trans rfl)
theorem dk_46 {code : ByteArray} {pc : Nat} (h : DkAt code pc [46]) : decode code pc = .ok (.iaload, 1) := dk_of ((dk_bind (dk_u1 (h 0 _ rfl))).trans rfl)
theorem dk_47 {code : ByteArray} {pc : Nat} (h : DkAt code pc [47]) : decode code pc = .ok (.laload, 1) := dk_of ((dk_bind (dk_u1 (h 0 _ rfl))).trans rfl)
theorem dk_50 {code : ByteArray} {pc : Nat} (h : DkAt code pc [50]) : decode code pc = .ok (.aaload, 1) := dk_of ((dk_bind (dk_u1 (h 0 _ rfl))).trans rfl)
theorem dk_54 {code : ByteArray} {pc : Nat} (a : UInt8) (h : DkAt code pc [54, a]) : decode code pc = .ok (.istore a.toNat, 2) := dk_of ((dk_bind (dk_u1 (h 0 _ rfl))).trans ((dk_bind (dk_u1 (h 1 _ rfl))).trans rfl))
theorem dk_55 {code : ByteArray} {pc : Nat} (a : UInt8) (h : DkAt code pc [55, a]) : decode code pc = .ok (.lstore a.toNat, 2) := dk_of ((dk_bind (dk_u1 (h 0 _ rfl))).trans ((dk_bind (dk_u1 (h 1 _ rfl))).trans rfl))
theorem dk_56 {code : ByteArray} {pc : Nat} (a : UInt8) (h : DkAt code pc [56, a]) : decode code pc = .ok (.fstore a.toNat, 2) := dk_of ((dk_bind (dk_u1 (h 0 _ rfl))).trans ((dk_bind (dk_u1 (h 1 _ rfl))).trans rfl))
theorem dk_57 {code : ByteArray} {pc : Nat} (a : UInt8) (h : DkAt code pc [57, a]) : decode code pc = .ok (.dstore a.toNat, 2) := dk_of ((dk_bind (dk_u1 (h 0 _ rfl))).trans ((dk_bind (dk_u1 (h 1 _ rfl))).trans rfl))
theorem dk_58 {code : ByteArray} {pc : Nat} (a : UInt8) (h : DkAt code pc [58, a]) : decode code pc = .ok (.astore a.toNat, 2) := dk_of ((dk_bind (dk_u1 (h 0 _ rfl))).trans ((dk_bind (dk_u1 (h 1 _ rfl))).trans rfl))
theorem dk_59 {code : ByteArray} {pc : Nat} (h : DkAt code pc [59]) : decode code pc = .ok (.istore_n 0, 1) := dk_of ((dk_bind (dk_u1 (h 0 _ rfl))).trans rfl)
theorem dk_60 {code : ByteArray} {pc : Nat} (h : DkAt code pc [60]) : decode code pc = .ok (.istore_n 1, 1) := dk_of ((dk_bind (dk_u1 (h 0 _ rfl))).trans rfl)
theorem dk_61 {code : ByteArray} {pc : Nat} (h : DkAt code pc [61]) : decode code pc = .ok (.istore_n 2, 1) := dk_of ((dk_bind (dk_u1 (h 0 _ rfl))).trans rfl)
theorem dk_62 {code : ByteArray} {pc : Nat} (h : DkAt code pc [62]) : decode code pc = .ok (.istore_n 3, 1) := dk_of ((dk_bind (dk_u1 (h 0 _ rfl))).trans rfl)
theorem dk_65 {code : ByteArray} {pc : Nat} (h : DkAt code pc [65]) : decode code pc = .ok (.lstore_n 2, 1) := dk_of ((dk_bind (dk_u1 (h 0 _ rfl))).trans rfl)
theorem dk_66 {code : ByteArray} {pc : Nat} (h : DkAt code pc [66]) : decode code pc = .ok (.lstore_n 3, 1) := dk_of ((dk_bind (dk_u1 (h 0 _ rfl))).trans rfl)
theorem dk_71 {code : ByteArray} {pc : Nat} (h : DkAt code pc [71]) : decode code pc = .ok (.dstore_n 0, 1) := dk_of ((dk_bind (dk_u1 (h 0 _ rfl))).trans rfl)
theorem dk_73 {code : ByteArray} {pc : Nat} (h : DkAt code pc [73]) : decode code pc = .ok (.dstore_n 2, 1) := dk_of ((dk_bind (dk_u1 (h 0 _ rfl))).trans rfl)
theorem dk_74 {code : ByteArray} {pc : Nat} (h : DkAt code pc [74]) : decode code pc = .ok (.dstore_n 3, 1) := dk_of ((dk_bind (dk_u1 (h 0 _ rfl))).trans rfl)
theorem dk_76 {code : ByteArray} {pc : Nat} (h : DkAt code pc [76]) : decode code pc = .ok (.astore_n 1, 1) := dk_of ((dk_bind (dk_u1 (h 0 _ rfl))).trans rfl)
theorem dk_77 {code : ByteArray} {pc : Nat} (h : DkAt code pc [77]) : decode code pc = .ok (.astore_n 2, 1) := dk_of ((dk_bind (dk_u1 (h 0 _ rfl))).trans rfl)
theorem dk_78 {code : ByteArray} {pc : Nat} (h : DkAt code pc [78]) : decode code pc = .ok (.astore_n 3, 1) := dk_of ((dk_bind (dk_u1 (h 0 _ rfl))).trans rfl)
theorem dk_79 {code : ByteArray} {pc : Nat} (h : DkAt code pc [79]) : decode code pc = .ok (.iastore, 1) := dk_of ((dk_bind (dk_u1 (h 0 _ rfl))).trans rfl)
theorem dk_80 {code : ByteArray} {pc : Nat} (h : DkAt code pc [80]) : decode code pc = .ok (.lastore, 1) := dk_of ((dk_bind (dk_u1 (h 0 _ rfl))).trans rfl)
theorem dk_83 {code : ByteArray} {pc : Nat} (h : DkAt code pc [83]) : decode code pc = .ok (.aastore, 1) := dk_of ((dk_bind (dk_u1 (h 0 _ rfl))).trans rfl)
theorem dk_87 {code : ByteArray} {pc : Nat} (h : DkAt code pc [87]) : decode code pc = .ok (.pop, 1) := dk_of ((dk_bind (dk_u1 (h 0 _ rfl))).trans rfl)
theorem dk_89 {code : ByteArray} {pc : Nat} (h : DkAt code pc [89]) : decode code pc = .ok (.dup, 1) := dk_of ((dk_bind (dk_u1 (h 0 _ rfl))).trans rfl)
theorem dk_92 {code : ByteArray} {pc : Nat} (h : DkAt code pc [92]) : decode code pc = .ok (.dup2, 1) := dk_of ((dk_bind (dk_u1 (h 0 _ rfl))).trans rfl)
theorem dk_96 {code : ByteArray} {pc : Nat} (h : DkAt code pc [96]) : decode code pc = .ok (.iadd, 1) := dk_of ((dk_bind (dk_u1 (h 0 _ rfl))).trans rfl)
theorem dk_97 {code : ByteArray} {pc : Nat} (h : DkAt code pc [97]) : decode code pc = .ok (.ladd, 1) := dk_of ((dk_bind (dk_u1 (h 0 _ rfl))).trans rfl)
theorem dk_98 {code : ByteArray} {pc : Nat} (h : DkAt code pc [98]) : decode code pc = .ok (.fadd, 1) := dk_of ((dk_bind (dk_u1 (h 0 _ rfl))).trans rfl)
theorem dk_99 {code : ByteArray} {pc : Nat} (h : DkAt code pc [99]) : decode code pc = .ok (.dadd, 1) := dk_of ((dk_bind (dk_u1 (h 0 _ rfl))).trans rfl)
theorem dk_100 {code : ByteArray} {pc : Nat} (h : DkAt code pc [100]) : decode code pc = .ok (.isub, 1) := dk_of ((dk_bind (dk_u1 (h 0 _ rfl))).trans rfl)
theorem dk_101 {code : ByteArray} {pc : Nat} (h : DkAt code pc [101]) : decode code pc = .ok (.lsub, 1) := dk_of ((dk_bind (dk_u1 (h 0 _ rfl))).trans rfl)
theorem dk_103 {code : ByteArray} {pc : Nat} (h : DkAt code pc [103]) : decode code pc = .ok (.dsub, 1) := dk_of ((dk_bind (dk_u1 (h 0 _ rfl))).trans rfl)
theorem dk_104 {code : ByteArray} {pc : Nat} (h : DkAt code pc [104]) : decode code pc = .ok (.imul, 1) := dk_of ((dk_bind (dk_u1 (h 0 _ rfl))).trans rfl)
theorem dk_105 {code : ByteArray} {pc : Nat} (h : DkAt code pc [105]) : decode code pc = .ok (.lmul, 1) := dk_of ((dk_bind (dk_u1 (h 0 _ rfl))).trans rfl)
theorem dk_107 {code : ByteArray} {pc : Nat} (h : DkAt code pc [107]) : decode code pc = .ok (.dmul, 1) := dk_of ((dk_bind (dk_u1 (h 0 _ rfl))).trans rfl)
theorem dk_108 {code : ByteArray} {pc : Nat} (h : DkAt code pc [108]) : decode code pc = .ok (.idiv, 1) := dk_of ((dk_bind (dk_u1 (h 0 _ rfl))).trans rfl)
theorem dk_109 {code : ByteArray} {pc : Nat} (h : DkAt code pc [109]) : decode code pc = .ok (.ldiv, 1) := dk_of ((dk_bind (dk_u1 (h 0 _ rfl))).trans rfl)
theorem dk_112 {code : ByteArray} {pc : Nat} (h : DkAt code pc [112]) : decode code pc = .ok (.irem, 1) := dk_of ((dk_bind (dk_u1 (h 0 _ rfl))).trans rfl)
theorem dk_113 {code : ByteArray} {pc : Nat} (h : DkAt code pc [113]) : decode code pc = .ok (.lrem, 1) := dk_of ((dk_bind (dk_u1 (h 0 _ rfl))).trans rfl)
theorem dk_115 {code : ByteArray} {pc : Nat} (h : DkAt code pc [115]) : decode code pc = .ok (.drem, 1) := dk_of ((dk_bind (dk_u1 (h 0 _ rfl))).trans rfl)
theorem dk_116 {code : ByteArray} {pc : Nat} (h : DkAt code pc [116]) : decode code pc = .ok (.ineg, 1) := dk_of ((dk_bind (dk_u1 (h 0 _ rfl))).trans rfl)
theorem dk_117 {code : ByteArray} {pc : Nat} (h : DkAt code pc [117]) : decode code pc = .ok (.lneg, 1) := dk_of ((dk_bind (dk_u1 (h 0 _ rfl))).trans rfl)
theorem dk_120 {code : ByteArray} {pc : Nat} (h : DkAt code pc [120]) : decode code pc = .ok (.ishl, 1) := dk_of ((dk_bind (dk_u1 (h 0 _ rfl))).trans rfl)
theorem dk_121 {code : ByteArray} {pc : Nat} (h : DkAt code pc [121]) : decode code pc = .ok (.lshl, 1) := dk_of ((dk_bind (dk_u1 (h 0 _ rfl))).trans rfl)
theorem dk_122 {code : ByteArray} {pc : Nat} (h : DkAt code pc [122]) : decode code pc = .ok (.ishr, 1) := dk_of ((dk_bind (dk_u1 (h 0 _ rfl))).trans rfl)
theorem dk_123 {code : ByteArray} {pc : Nat} (h : DkAt code pc [123]) : decode code pc = .ok (.lshr, 1) := dk_of ((dk_bind (dk_u1 (h 0 _ rfl))).trans rfl)
theorem dk_124 {code : ByteArray} {pc : Nat} (h : DkAt code pc [124]) : decode code pc = .ok (.iushr, 1) := dk_of ((dk_bind (dk_u1 (h 0 _ rfl))).trans rfl)
theorem dk_125 {code : ByteArray} {pc : Nat} (h : DkAt code pc [125]) : decode code pc = .ok (.lushr, 1) := dk_of ((dk_bind (dk_u1 (h 0 _ rfl))).trans rfl)
theorem dk_126 {code : ByteArray} {pc : Nat} (h : DkAt code pc [126]) : decode code pc = .ok (.iand, 1) := dk_of ((dk_bind (dk_u1 (h 0 _ rfl))).trans rfl)
theorem dk_127 {code : ByteArray} {pc : Nat} (h : DkAt code pc [127]) : decode code pc = .ok (.land, 1) := dk_of ((dk_bind (dk_u1 (h 0 _ rfl))).trans rfl)
theorem dk_128 {code : ByteArray} {pc : Nat} (h : DkAt code pc [128]) : decode code pc = .ok (.ior, 1) := dk_of ((dk_bind (dk_u1 (h 0 _ rfl))).trans rfl)
theorem dk_129 {code : ByteArray} {pc : Nat} (h : DkAt code pc [129]) : decode code pc = .ok (.lor, 1) := dk_of ((dk_bind (dk_u1 (h 0 _ rfl))).trans rfl)
theorem dk_130 {code : ByteArray} {pc : Nat} (h : DkAt code pc [130]) : decode code pc = .ok (.ixor, 1) := dk_of ((dk_bind (dk_u1 (h 0 _ rfl))).trans rfl)
theorem dk_131 {code : ByteArray} {pc : Nat} (h : DkAt code pc [131]) : decode code pc = .ok (.lxor, 1) := dk_of ((dk_bind (dk_u1 (h 0 _ rfl))).trans rfl)
theorem dk_132 {code : ByteArray} {pc : Nat} (a b : UInt8) (h : DkAt code pc [132, a, b]) : decode code pc = .ok (.iinc a.toNat (Reader.signed 8 b.toNat), 3) := dk_of ((dk_bind (dk_u1 (h 0 _ rfl))).trans ((dk_bind (dk_u1 (h 1 _ rfl))).trans ((dk_bind (dk_map (dk_u1 (h 2 _ rfl)))).trans rfl)))
theorem dk_133 {code : ByteArray} {pc : Nat} (h : DkAt code pc [133]) : decode code pc = .ok (.i2l, 1) := dk_of ((dk_bind (dk_u1 (h 0 _ rfl))).trans rfl)
theorem dk_134 {code : ByteArray} {pc : Nat} (h : DkAt code pc [134]) : decode code pc = .ok (.i2f, 1) := dk_of ((dk_bind (dk_u1 (h 0 _ rfl))).trans rfl)
theorem dk_135 {code : ByteArray} {pc : Nat} (h : DkAt code pc [135]) : decode code pc = .ok (.i2d, 1) := dk_of ((dk_bind (dk_u1 (h 0 _ rfl))).trans rfl)
theorem dk_136 {code : ByteArray} {pc : Nat} (h : DkAt code pc [136]) : decode code pc = .ok (.l2i, 1) := dk_of ((dk_bind (dk_u1 (h 0 _ rfl))).trans rfl)
theorem dk_137 {code : ByteArray} {pc : Nat} (h : DkAt code pc [137]) : decode code pc = .ok (.l2f, 1) := dk_of ((dk_bind (dk_u1 (h 0 _ rfl))).trans rfl)
theorem dk_138 {code : ByteArray} {pc : Nat} (h : DkAt code pc [138]) : decode code pc = .ok (.l2d, 1) := dk_of ((dk_bind (dk_u1 (h 0 _ rfl))).trans rfl)
theorem dk_141 {code : ByteArray} {pc : Nat} (h : DkAt code pc [141]) : decode code pc = .ok (.f2d, 1) := dk_of ((dk_bind (dk_u1 (h 0 _ rfl))).trans rfl)
theorem dk_142 {code : ByteArray} {pc : Nat} (h : DkAt code pc [142]) : decode code pc = .ok (.d2i, 1) := dk_of ((dk_bind (dk_u1 (h 0 _ rfl))).trans rfl)
theorem dk_143 {code : ByteArray} {pc : Nat} (h : DkAt code pc [143]) : decode code pc = .ok (.d2l, 1) := dk_of ((dk_bind (dk_u1 (h 0 _ rfl))).trans rfl)
theorem dk_144 {code : ByteArray} {pc : Nat} (h : DkAt code pc [144]) : decode code pc = .ok (.d2f, 1) := dk_of ((dk_bind (dk_u1 (h 0 _ rfl))).trans rfl)
theorem dk_145 {code : ByteArray} {pc : Nat} (h : DkAt code pc [145]) : decode code pc = .ok (.i2b, 1) := dk_of ((dk_bind (dk_u1 (h 0 _ rfl))).trans rfl)
theorem dk_146 {code : ByteArray} {pc : Nat} (h : DkAt code pc [146]) : decode code pc = .ok (.i2c, 1) := dk_of ((dk_bind (dk_u1 (h 0 _ rfl))).trans rfl)
theorem dk_147 {code : ByteArray} {pc : Nat} (h : DkAt code pc [147]) : decode code pc = .ok (.i2s, 1) := dk_of ((dk_bind (dk_u1 (h 0 _ rfl))).trans rfl)
theorem dk_148 {code : ByteArray} {pc : Nat} (h : DkAt code pc [148]) : decode code pc = .ok (.lcmp, 1) := dk_of ((dk_bind (dk_u1 (h 0 _ rfl))).trans rfl)
theorem dk_149 {code : ByteArray} {pc : Nat} (h : DkAt code pc [149]) : decode code pc = .ok (.fcmp .l, 1) := dk_of ((dk_bind (dk_u1 (h 0 _ rfl))).trans rfl)
theorem dk_150 {code : ByteArray} {pc : Nat} (h : DkAt code pc [150]) : decode code pc = .ok (.fcmp .g, 1) := dk_of ((dk_bind (dk_u1 (h 0 _ rfl))).trans rfl)
theorem dk_151 {code : ByteArray} {pc : Nat} (h : DkAt code pc [151]) : decode code pc = .ok (.dcmp .l, 1) := dk_of ((dk_bind (dk_u1 (h 0 _ rfl))).trans rfl)
theorem dk_152 {code : ByteArray} {pc : Nat} (h : DkAt code pc [152]) : decode code pc = .ok (.dcmp .g, 1) := dk_of ((dk_bind (dk_u1 (h 0 _ rfl))).trans rfl)
theorem dk_153 {code : ByteArray} {pc : Nat} (a b : UInt8) (h : DkAt code pc [153, a, b]) : decode code pc = .ok (.ifCond .eq (Reader.signed 16 (a.toNat * 256 + b.toNat)), 3) := dk_of ((dk_bind (dk_u1 (h 0 _ rfl))).trans ((dk_bind (dk_map (dk_u2 (h 1 _ rfl) (h 2 _ rfl)))).trans rfl))
theorem dk_154 {code : ByteArray} {pc : Nat} (a b : UInt8) (h : DkAt code pc [154, a, b]) : decode code pc = .ok (.ifCond .ne (Reader.signed 16 (a.toNat * 256 + b.toNat)), 3) := dk_of ((dk_bind (dk_u1 (h 0 _ rfl))).trans ((dk_bind (dk_map (dk_u2 (h 1 _ rfl) (h 2 _ rfl)))).trans rfl))
theorem dk_155 {code : ByteArray} {pc : Nat} (a b : UInt8) (h : DkAt code pc [155, a, b]) : decode code pc = .ok (.ifCond .lt (Reader.signed 16 (a.toNat * 256 + b.toNat)), 3) := dk_of ((dk_bind (dk_u1 (h 0 _ rfl))).trans ((dk_bind (dk_map (dk_u2 (h 1 _ rfl) (h 2 _ rfl)))).trans rfl))
theorem dk_156 {code : ByteArray} {pc : Nat} (a b : UInt8) (h : DkAt code pc [156, a, b]) : decode code pc = .ok (.ifCond .ge (Reader.signed 16 (a.toNat * 256 + b.toNat)), 3) := dk_of ((dk_bind (dk_u1 (h 0 _ rfl))).trans ((dk_bind (dk_map (dk_u2 (h 1 _ rfl) (h 2 _ rfl)))).trans rfl))
theorem dk_157 {code : ByteArray} {pc : Nat} (a b : UInt8) (h : DkAt code pc [157, a, b]) : decode code pc = .ok (.ifCond .gt (Reader.signed 16 (a.toNat * 256 + b.toNat)), 3) := dk_of ((dk_bind (dk_u1 (h 0 _ rfl))).trans ((dk_bind (dk_map (dk_u2 (h 1 _ rfl) (h 2 _ rfl)))).trans rfl))
theorem dk_158 {code : ByteArray} {pc : Nat} (a b : UInt8) (h : DkAt code pc [158, a, b]) : decode code pc = .ok (.ifCond .le (Reader.signed 16 (a.toNat * 256 + b.toNat)), 3) := dk_of ((dk_bind (dk_u1 (h 0 _ rfl))).trans ((dk_bind (dk_map (dk_u2 (h 1 _ rfl) (h 2 _ rfl)))).trans rfl))
theorem dk_159 {code : ByteArray} {pc : Nat} (a b : UInt8) (h : DkAt code pc [159, a, b]) : decode code pc = .ok (.if_icmp .eq (Reader.signed 16 (a.toNat * 256 + b.toNat)), 3) := dk_of ((dk_bind (dk_u1 (h 0 _ rfl))).trans ((dk_bind (dk_map (dk_u2 (h 1 _ rfl) (h 2 _ rfl)))).trans rfl))
theorem dk_160 {code : ByteArray} {pc : Nat} (a b : UInt8) (h : DkAt code pc [160, a, b]) : decode code pc = .ok (.if_icmp .ne (Reader.signed 16 (a.toNat * 256 + b.toNat)), 3) := dk_of ((dk_bind (dk_u1 (h 0 _ rfl))).trans ((dk_bind (dk_map (dk_u2 (h 1 _ rfl) (h 2 _ rfl)))).trans rfl))
theorem dk_161 {code : ByteArray} {pc : Nat} (a b : UInt8) (h : DkAt code pc [161, a, b]) : decode code pc = .ok (.if_icmp .lt (Reader.signed 16 (a.toNat * 256 + b.toNat)), 3) := dk_of ((dk_bind (dk_u1 (h 0 _ rfl))).trans ((dk_bind (dk_map (dk_u2 (h 1 _ rfl) (h 2 _ rfl)))).trans rfl))
theorem dk_162 {code : ByteArray} {pc : Nat} (a b : UInt8) (h : DkAt code pc [162, a, b]) : decode code pc = .ok (.if_icmp .ge (Reader.signed 16 (a.toNat * 256 + b.toNat)), 3) := dk_of ((dk_bind (dk_u1 (h 0 _ rfl))).trans ((dk_bind (dk_map (dk_u2 (h 1 _ rfl) (h 2 _ rfl)))).trans rfl))
theorem dk_163 {code : ByteArray} {pc : Nat} (a b : UInt8) (h : DkAt code pc [163, a, b]) : decode code pc = .ok (.if_icmp .gt (Reader.signed 16 (a.toNat * 256 + b.toNat)), 3) := dk_of ((dk_bind (dk_u1 (h 0 _ rfl))).trans ((dk_bind (dk_map (dk_u2 (h 1 _ rfl) (h 2 _ rfl)))).trans rfl))
theorem dk_164 {code : ByteArray} {pc : Nat} (a b : UInt8) (h : DkAt code pc [164, a, b]) : decode code pc = .ok (.if_icmp .le (Reader.signed 16 (a.toNat * 256 + b.toNat)), 3) := dk_of ((dk_bind (dk_u1 (h 0 _ rfl))).trans ((dk_bind (dk_map (dk_u2 (h 1 _ rfl) (h 2 _ rfl)))).trans rfl))
theorem dk_167 {code : ByteArray} {pc : Nat} (a b : UInt8) (h : DkAt code pc [167, a, b]) : decode code pc = .ok (.goto (Reader.signed 16 (a.toNat * 256 + b.toNat)), 3) := dk_of ((dk_bind (dk_u1 (h 0 _ rfl))).trans ((dk_bind (dk_map (dk_u2 (h 1 _ rfl) (h 2 _ rfl)))).trans rfl))
theorem dk_172 {code : ByteArray} {pc : Nat} (h : DkAt code pc [172]) : decode code pc = .ok (.ireturn, 1) := dk_of ((dk_bind (dk_u1 (h 0 _ rfl))).trans rfl)
theorem dk_173 {code : ByteArray} {pc : Nat} (h : DkAt code pc [173]) : decode code pc = .ok (.lreturn, 1) := dk_of ((dk_bind (dk_u1 (h 0 _ rfl))).trans rfl)
theorem dk_174 {code : ByteArray} {pc : Nat} (h : DkAt code pc [174]) : decode code pc = .ok (.freturn, 1) := dk_of ((dk_bind (dk_u1 (h 0 _ rfl))).trans rfl)
theorem dk_175 {code : ByteArray} {pc : Nat} (h : DkAt code pc [175]) : decode code pc = .ok (.dreturn, 1) := dk_of ((dk_bind (dk_u1 (h 0 _ rfl))).trans rfl)
theorem dk_176 {code : ByteArray} {pc : Nat} (h : DkAt code pc [176]) : decode code pc = .ok (.areturn, 1) := dk_of ((dk_bind (dk_u1 (h 0 _ rfl))).trans rfl)
theorem dk_177 {code : ByteArray} {pc : Nat} (h : DkAt code pc [177]) : decode code pc = .ok (.return_, 1) := dk_of ((dk_bind (dk_u1 (h 0 _ rfl))).trans rfl)
theorem dk_178 {code : ByteArray} {pc : Nat} (a b : UInt8) (h : DkAt code pc [178, a, b]) : decode code pc = .ok (.getstatic (a.toNat * 256 + b.toNat), 3) := dk_of ((dk_bind (dk_u1 (h 0 _ rfl))).trans ((dk_bind (dk_u2 (h 1 _ rfl) (h 2 _ rfl))).trans rfl))
theorem dk_180 {code : ByteArray} {pc : Nat} (a b : UInt8) (h : DkAt code pc [180, a, b]) : decode code pc = .ok (.getfield (a.toNat * 256 + b.toNat), 3) := dk_of ((dk_bind (dk_u1 (h 0 _ rfl))).trans ((dk_bind (dk_u2 (h 1 _ rfl) (h 2 _ rfl))).trans rfl))
theorem dk_181 {code : ByteArray} {pc : Nat} (a b : UInt8) (h : DkAt code pc [181, a, b]) : decode code pc = .ok (.putfield (a.toNat * 256 + b.toNat), 3) := dk_of ((dk_bind (dk_u1 (h 0 _ rfl))).trans ((dk_bind (dk_u2 (h 1 _ rfl) (h 2 _ rfl))).trans rfl))
theorem dk_182 {code : ByteArray} {pc : Nat} (a b : UInt8) (h : DkAt code pc [182, a, b]) : decode code pc = .ok (.invokevirtual (a.toNat * 256 + b.toNat), 3) := dk_of ((dk_bind (dk_u1 (h 0 _ rfl))).trans ((dk_bind (dk_u2 (h 1 _ rfl) (h 2 _ rfl))).trans rfl))
theorem dk_183 {code : ByteArray} {pc : Nat} (a b : UInt8) (h : DkAt code pc [183, a, b]) : decode code pc = .ok (.invokespecial (a.toNat * 256 + b.toNat), 3) := dk_of ((dk_bind (dk_u1 (h 0 _ rfl))).trans ((dk_bind (dk_u2 (h 1 _ rfl) (h 2 _ rfl))).trans rfl))
theorem dk_184 {code : ByteArray} {pc : Nat} (a b : UInt8) (h : DkAt code pc [184, a, b]) : decode code pc = .ok (.invokestatic (a.toNat * 256 + b.toNat), 3) := dk_of ((dk_bind (dk_u1 (h 0 _ rfl))).trans ((dk_bind (dk_u2 (h 1 _ rfl) (h 2 _ rfl))).trans rfl))
theorem dk_187 {code : ByteArray} {pc : Nat} (a b : UInt8) (h : DkAt code pc [187, a, b]) : decode code pc = .ok (.new (a.toNat * 256 + b.toNat), 3) := dk_of ((dk_bind (dk_u1 (h 0 _ rfl))).trans ((dk_bind (dk_u2 (h 1 _ rfl) (h 2 _ rfl))).trans rfl))
theorem dk_188_10 {code : ByteArray} {pc : Nat} (h : DkAt code pc [188, 10]) : decode code pc = .ok (.newarray .int, 2) := dk_of ((dk_bind (dk_u1 (h 0 _ rfl))).trans ((dk_bind (dk_u1 (h 1 _ rfl))).trans rfl))
theorem dk_188_11 {code : ByteArray} {pc : Nat} (h : DkAt code pc [188, 11]) : decode code pc = .ok (.newarray .long, 2) := dk_of ((dk_bind (dk_u1 (h 0 _ rfl))).trans ((dk_bind (dk_u1 (h 1 _ rfl))).trans rfl))
theorem dk_189 {code : ByteArray} {pc : Nat} (a b : UInt8) (h : DkAt code pc [189, a, b]) : decode code pc = .ok (.anewarray (a.toNat * 256 + b.toNat), 3) := dk_of ((dk_bind (dk_u1 (h 0 _ rfl))).trans ((dk_bind (dk_u2 (h 1 _ rfl) (h 2 _ rfl))).trans rfl))
theorem dk_190 {code : ByteArray} {pc : Nat} (h : DkAt code pc [190]) : decode code pc = .ok (.arraylength, 1) := dk_of ((dk_bind (dk_u1 (h 0 _ rfl))).trans rfl)
theorem dk_191 {code : ByteArray} {pc : Nat} (h : DkAt code pc [191]) : decode code pc = .ok (.athrow, 1) := dk_of ((dk_bind (dk_u1 (h 0 _ rfl))).trans rfl)
theorem dk_192 {code : ByteArray} {pc : Nat} (a b : UInt8) (h : DkAt code pc [192, a, b]) : decode code pc = .ok (.checkcast (a.toNat * 256 + b.toNat), 3) := dk_of ((dk_bind (dk_u1 (h 0 _ rfl))).trans ((dk_bind (dk_u2 (h 1 _ rfl) (h 2 _ rfl))).trans rfl))
theorem dk_193 {code : ByteArray} {pc : Nat} (a b : UInt8) (h : DkAt code pc [193, a, b]) : decode code pc = .ok (.instanceof (a.toNat * 256 + b.toNat), 3) := dk_of ((dk_bind (dk_u1 (h 0 _ rfl))).trans ((dk_bind (dk_u2 (h 1 _ rfl) (h 2 _ rfl))).trans rfl))
theorem q74 : (Jvm.Cond.initialized "java/lang/Numbe\x72") ∈ lw_all := lw_g (lw_at lw_m1 16 rfl) rfl
set_option maxRecDepth 100000
theorem q73 : (Jvm.Cond.initialized "java/lang/System") ∈ lw_all := lw_g (lw_at lw_m1 15 rfl) rfl
set_option maxRecDepth 100000
theorem q339 : (Jvm.Cond.static ({ cls := "java/lang/System", name := "arraycopy", desc := "(Ljava/lang/Object;ILjava/lang/Object;II)V" } : Jvm.MethodName)) ∈ lw_all := lw_g (lw_at lw_m2 41 rfl) rfl
theorem q340 : (Jvm.Cond.native ({ cls := "java/lang/System", name := "arraycopy", desc := "(Ljava/lang/Object;ILjava/lang/Object;II)V" } : Jvm.MethodName)) ∈ lw_all := lw_g (lw_at lw_m2 42 rfl) rfl
theorem q95 : (Jvm.Cond.arrayOver (Jvm.ClassFile.FieldType.object "NumberModels$Rounds")) ∈ lw_tbl := lw_at lw_m1 37 rfl
set_option maxRecDepth 100000
theorem q128 : (Jvm.Cond.arrayOver (Jvm.ClassFile.FieldType.object "NumberModels$Item")) ∈ lw_tbl := lw_at lw_m1 70 rfl
theorem q144 : (Jvm.Cond.arrayClass Jvm.ClassFile.FieldType.int) ∈ lw_all := lw_g (lw_at lw_m1 86 rfl) rfl
theorem q317 : (Jvm.Cond.arrayClass Jvm.ClassFile.FieldType.byte) ∈ lw_all := lw_g (lw_at lw_m2 19 rfl) rfl
theorem q410 : (Jvm.Cond.arrayOver (Jvm.ClassFile.FieldType.array Jvm.ClassFile.FieldType.int)) ∈ lw_tbl := lw_at lw_m2 112 rfl
theorem q424 : (Jvm.Cond.arrayClass Jvm.ClassFile.FieldType.long) ∈ lw_all := lw_g (lw_at lw_m2 126 rfl) rfl
/-! java/lang/Throwable -/
set_option maxRecDepth 100000
def RJ0 : String := "java/lang/Throwable"
def TJ0 : u_T := fun k => match k with
  | 0 => ("java/lang/Throwable", "cause", "Ljava/lang/Throwable;", false)
  | 1 => ("java/lang/Throwable", "stackTrace", "[Ljava/lang/StackTraceElement;", false)
  | 2 => ("java/lang/Throwable", "suppressedExceptions", "Ljava/util/List;", false)
  | 3 => ("java/lang/Throwable", "detailMessage", "Ljava/lang/String;", false)
  | _ => ("java/lang/Throwable", "backtrace", "Ljava/lang/Object;", false)
def tyJ0 : Nat → FieldType := fun k => match k with
  | 0 => .object "java/lang/Throwable"
  | 1 => .array (.object "java/lang/StackTraceElement")
  | 2 => .object "java/util/List"
  | 3 => .object "java/lang/String"
  | _ => .object "java/lang/Object"
abbrev wsJ00 : List Cond := u_ws RJ0 TJ0 5
theorem nmJ0 : ∀ a, a < 5 → ∀ b, b < 5 → a ≠ b → (TJ0 a).2.1 ≠ (TJ0 b).2.1 := by decide +kernel
theorem tyJ0_ok : ∀ k, k < 5 → parseFieldDescriptor (TJ0 k).2.2.1 = some (tyJ0 k) := by decide +kernel
abbrev cJ0_init : ByteArray := prog_29_method_2_code
def yJ0_init : MethodName := ⟨RJ0, "<init>", "(Ljava/lang/String;)V"⟩
def dkwJ0_init_1 : List UInt8 := [182, 0, 27, 87, 42, 43, 181, 0, 31, 177]
abbrev dktJ0_init_1 : List UInt8 := dkwJ0_init_1 ++ []
def dkwJ0_init_0 : List UInt8 := [42, 183, 0, 1, 42, 42, 181, 0, 7, 42, 178, 0, 13, 181, 0, 17, 42, 178, 0, 20, 181, 0, 24, 42]
abbrev dktJ0_init_0 : List UInt8 := dkwJ0_init_0 ++ dktJ0_init_1
theorem dksJ0_init_0 : cJ0_init.data.toList.drop 0 = dktJ0_init_0 := by decide +kernel
theorem dksJ0_init_1 : cJ0_init.data.toList.drop 24 = dktJ0_init_1 := dk_seg dksJ0_init_0 24 rfl rfl
theorem dJ0_init_0 : decode cJ0_init 0 = .ok (.aload_n 0, 1) := dk_42 (dk_at dksJ0_init_0 0 rfl rfl)
theorem dJ0_init_1 : decode cJ0_init 1 = .ok (.invokespecial 1, 3) := dk_183 0 1 (dk_at dksJ0_init_0 1 rfl rfl)
theorem dJ0_init_4 : decode cJ0_init 4 = .ok (.aload_n 0, 1) := dk_42 (dk_at dksJ0_init_0 4 rfl rfl)
theorem dJ0_init_5 : decode cJ0_init 5 = .ok (.aload_n 0, 1) := dk_42 (dk_at dksJ0_init_0 5 rfl rfl)
theorem dJ0_init_6 : decode cJ0_init 6 = .ok (.putfield 7, 3) := dk_181 0 7 (dk_at dksJ0_init_0 6 rfl rfl)
theorem dJ0_init_9 : decode cJ0_init 9 = .ok (.aload_n 0, 1) := dk_42 (dk_at dksJ0_init_0 9 rfl rfl)
theorem dJ0_init_10 : decode cJ0_init 10 = .ok (.getstatic 13, 3) := dk_178 0 13 (dk_at dksJ0_init_0 10 rfl rfl)
theorem dJ0_init_13 : decode cJ0_init 13 = .ok (.putfield 17, 3) := dk_181 0 17 (dk_at dksJ0_init_0 13 rfl rfl)
theorem dJ0_init_16 : decode cJ0_init 16 = .ok (.aload_n 0, 1) := dk_42 (dk_at dksJ0_init_0 16 rfl rfl)
theorem dJ0_init_17 : decode cJ0_init 17 = .ok (.getstatic 20, 3) := dk_178 0 20 (dk_at dksJ0_init_0 17 rfl rfl)
theorem dJ0_init_20 : decode cJ0_init 20 = .ok (.putfield 24, 3) := dk_181 0 24 (dk_at dksJ0_init_0 20 rfl rfl)
theorem dJ0_init_23 : decode cJ0_init 23 = .ok (.aload_n 0, 1) := dk_42 (dk_at dksJ0_init_0 23 rfl rfl)
theorem dJ0_init_24 : decode cJ0_init 24 = .ok (.invokevirtual 27, 3) := dk_182 0 27 (dk_at dksJ0_init_1 0 rfl rfl)
theorem dJ0_init_27 : decode cJ0_init 27 = .ok (.pop, 1) := dk_87 (dk_at dksJ0_init_1 3 rfl rfl)
theorem dJ0_init_28 : decode cJ0_init 28 = .ok (.aload_n 0, 1) := dk_42 (dk_at dksJ0_init_1 4 rfl rfl)
theorem dJ0_init_29 : decode cJ0_init 29 = .ok (.aload_n 1, 1) := dk_43 (dk_at dksJ0_init_1 5 rfl rfl)
theorem dJ0_init_30 : decode cJ0_init 30 = .ok (.putfield 31, 3) := dk_181 0 31 (dk_at dksJ0_init_1 6 rfl rfl)
theorem dJ0_init_33 : decode cJ0_init 33 = .ok (.return_, 1) := dk_177 (dk_at dksJ0_init_1 9 rfl rfl)
abbrev cJ0_init_2 : ByteArray := prog_29_method_1_code
def yJ0_init_2 : MethodName := ⟨RJ0, "<init>", "()V"⟩
def dkwJ0_init_2_1 : List UInt8 := [182, 0, 27, 87, 177]
abbrev dktJ0_init_2_1 : List UInt8 := dkwJ0_init_2_1 ++ []
def dkwJ0_init_2_0 : List UInt8 := [42, 183, 0, 1, 42, 42, 181, 0, 7, 42, 178, 0, 13, 181, 0, 17, 42, 178, 0, 20, 181, 0, 24, 42]
abbrev dktJ0_init_2_0 : List UInt8 := dkwJ0_init_2_0 ++ dktJ0_init_2_1
theorem dksJ0_init_2_0 : cJ0_init_2.data.toList.drop 0 = dktJ0_init_2_0 := by decide +kernel
theorem dksJ0_init_2_1 : cJ0_init_2.data.toList.drop 24 = dktJ0_init_2_1 := dk_seg dksJ0_init_2_0 24 rfl rfl
theorem dJ0_init_2_0 : decode cJ0_init_2 0 = .ok (.aload_n 0, 1) := dk_42 (dk_at dksJ0_init_2_0 0 rfl rfl)
theorem dJ0_init_2_1 : decode cJ0_init_2 1 = .ok (.invokespecial 1, 3) := dk_183 0 1 (dk_at dksJ0_init_2_0 1 rfl rfl)
theorem dJ0_init_2_4 : decode cJ0_init_2 4 = .ok (.aload_n 0, 1) := dk_42 (dk_at dksJ0_init_2_0 4 rfl rfl)
theorem dJ0_init_2_5 : decode cJ0_init_2 5 = .ok (.aload_n 0, 1) := dk_42 (dk_at dksJ0_init_2_0 5 rfl rfl)
theorem dJ0_init_2_6 : decode cJ0_init_2 6 = .ok (.putfield 7, 3) := dk_181 0 7 (dk_at dksJ0_init_2_0 6 rfl rfl)
theorem dJ0_init_2_9 : decode cJ0_init_2 9 = .ok (.aload_n 0, 1) := dk_42 (dk_at dksJ0_init_2_0 9 rfl rfl)
theorem dJ0_init_2_10 : decode cJ0_init_2 10 = .ok (.getstatic 13, 3) := dk_178 0 13 (dk_at dksJ0_init_2_0 10 rfl rfl)
theorem dJ0_init_2_13 : decode cJ0_init_2 13 = .ok (.putfield 17, 3) := dk_181 0 17 (dk_at dksJ0_init_2_0 13 rfl rfl)
theorem dJ0_init_2_16 : decode cJ0_init_2 16 = .ok (.aload_n 0, 1) := dk_42 (dk_at dksJ0_init_2_0 16 rfl rfl)
theorem dJ0_init_2_17 : decode cJ0_init_2 17 = .ok (.getstatic 20, 3) := dk_178 0 20 (dk_at dksJ0_init_2_0 17 rfl rfl)
theorem dJ0_init_2_20 : decode cJ0_init_2 20 = .ok (.putfield 24, 3) := dk_181 0 24 (dk_at dksJ0_init_2_0 20 rfl rfl)
theorem dJ0_init_2_23 : decode cJ0_init_2 23 = .ok (.aload_n 0, 1) := dk_42 (dk_at dksJ0_init_2_0 23 rfl rfl)
theorem dJ0_init_2_24 : decode cJ0_init_2 24 = .ok (.invokevirtual 27, 3) := dk_182 0 27 (dk_at dksJ0_init_2_1 0 rfl rfl)
theorem dJ0_init_2_27 : decode cJ0_init_2 27 = .ok (.pop, 1) := dk_87 (dk_at dksJ0_init_2_1 3 rfl rfl)
theorem dJ0_init_2_28 : decode cJ0_init_2 28 = .ok (.return_, 1) := dk_177 (dk_at dksJ0_init_2_1 4 rfl rfl)
theorem q67 : (Jvm.Cond.initialized "java/lang/Throwable") ∈ lw_all := lw_g (lw_at lw_m1 9 rfl) rfl
theorem q243 : (Jvm.Cond.instanceMethod ({ cls := "java/lang/Throwable", name := "<init>", desc := "(Ljava/lang/String;)V" } : Jvm.MethodName)) ∈ lw_all := lw_g (lw_at lw_m1 185 rfl) rfl
theorem q244 : (Jvm.Cond.code ({ cls := "java/lang/Throwable", name := "<init>", desc := "(Ljava/lang/String;)V" } : Jvm.MethodName) prog_29_method_2_code (2 : Nat) (Option.none : Option Jvm.ClassFile.FieldType)) ∈ lw_all := lw_g (lw_at lw_m1 186 rfl) rfl
theorem q245 : (Jvm.Cond.methodLink "java/lang/Throwable" (1 : Nat) ({ cls := "java/lang/Object", name := "<init>", desc := "()V" } : Jvm.MethodName)) ∈ lw_all := lw_g (lw_at lw_m1 187 rfl) rfl
theorem q246 : (Jvm.Cond.fieldLink "java/lang/Throwable" (13 : Nat) "java/lang/Throwable" "UNASSIGNED_STACK" "[Ljava/lang/StackTraceElement;") ∈ lw_all := lw_g (lw_at lw_m1 188 rfl) rfl
theorem q247 : (Jvm.Cond.laysStatic "java/lang/Throwable" "UNASSIGNED_STACK" "[Ljava/lang/StackTraceElement;") ∈ lw_tbl := lw_at lw_m1 189 rfl
theorem q248 : (Jvm.Cond.fieldLink "java/lang/Throwable" (20 : Nat) "java/lang/Throwable" "SUPPRESSED_SENTINEL" "Ljava/util/List;") ∈ lw_all := lw_g (lw_at lw_m1 190 rfl) rfl
theorem q249 : (Jvm.Cond.laysStatic "java/lang/Throwable" "SUPPRESSED_SENTINEL" "Ljava/util/List;") ∈ lw_tbl := lw_at lw_m1 191 rfl
theorem q250 : (Jvm.Cond.methodLink "java/lang/Throwable" (27 : Nat) ({ cls := "java/lang/Throwable", name := "fillInStackTrace", desc := "()Ljava/lang/Throwable;" } : Jvm.MethodName)) ∈ lw_all := lw_g (lw_at lw_m1 192 rfl) rfl
theorem q251 : (Jvm.Cond.instanceMethod ({ cls := "java/lang/Throwable", name := "fillInStackTrace", desc := "()Ljava/lang/Throwable;" } : Jvm.MethodName)) ∈ lw_all := lw_g (lw_at lw_m1 193 rfl) rfl
theorem q252 : (Jvm.Cond.sameMethod "java/lang/Throwable" "java/lang/Throwable" "fillInStackTrace" "()Ljava/lang/Throwable;") ∈ lw_all := lw_g (lw_at lw_m1 194 rfl) rfl
theorem q269 : (Jvm.Cond.declares ({ cls := "java/lang/Throwable", name := "fillInStackTrace", desc := "()Ljava/lang/Throwable;" } : Jvm.MethodName)) ∈ lw_tbl := lw_at lw_m1 211 rfl
theorem q273 : (Jvm.Cond.codeSync ({ cls := "java/lang/Throwable", name := "fillInStackTrace", desc := "()Ljava/lang/Throwable;" } : Jvm.MethodName) prog_29_method_18_code (1 : Nat) (Option.some (Jvm.ClassFile.FieldType.object "java/lang/Throwable"))) ∈ lw_all := lw_g (lw_at lw_m1 215 rfl) rfl
theorem q274 : (Jvm.Cond.methodLink "java/lang/Throwable" (202 : Nat) ({ cls := "java/lang/Throwable", name := "fillInStackTrace", desc := "(I)Ljava/lang/Throwable;" } : Jvm.MethodName)) ∈ lw_all := lw_g (lw_at lw_m1 216 rfl) rfl
theorem q275 : (Jvm.Cond.privateMethod ({ cls := "java/lang/Throwable", name := "fillInStackTrace", desc := "(I)Ljava/lang/Throwable;" } : Jvm.MethodName)) ∈ lw_tbl := lw_at lw_m1 217 rfl
theorem q276 : (Jvm.Cond.instanceMethod ({ cls := "java/lang/Throwable", name := "fillInStackTrace", desc := "(I)Ljava/lang/Throwable;" } : Jvm.MethodName)) ∈ lw_all := lw_g (lw_at lw_m1 218 rfl) rfl
theorem q277 : (Jvm.Cond.instantiable "java/lang/Throwable" (6 : Nat)) ∈ lw_all := lw_g (lw_at lw_m1 219 rfl) rfl
theorem q278 : (Jvm.Cond.native ({ cls := "java/lang/Throwable", name := "fillInStackTrace", desc := "(I)Ljava/lang/Throwable;" } : Jvm.MethodName)) ∈ lw_all := lw_g (lw_at lw_m1 220 rfl) rfl
theorem q279 : (Jvm.Cond.fieldLink "java/lang/Throwable" (198 : Nat) "java/lang/Throwable" "backtrace" "Ljava/lang/Object;") ∈ lw_all := lw_g (lw_at lw_m1 221 rfl) rfl
theorem q280 : (Jvm.Cond.fieldLink "java/lang/Throwable" (31 : Nat) "java/lang/Throwable" "detailMessage" "Ljava/lang/String;") ∈ lw_all := lw_g (lw_at lw_m1 222 rfl) rfl
theorem q281 : (Jvm.Cond.fieldLink "java/lang/Throwable" (7 : Nat) "java/lang/Throwable" "cause" "Ljava/lang/Throwable;") ∈ lw_all := lw_g (lw_at lw_m1 223 rfl) rfl
theorem q282 : (Jvm.Cond.fieldLink "java/lang/Throwable" (17 : Nat) "java/lang/Throwable" "stackTrace" "[Ljava/lang/StackTraceElement;") ∈ lw_all := lw_g (lw_at lw_m1 224 rfl) rfl
theorem q283 : (Jvm.Cond.fieldLink "java/lang/Throwable" (24 : Nat) "java/lang/Throwable" "suppressedExceptions" "Ljava/util/List;") ∈ lw_all := lw_g (lw_at lw_m1 225 rfl) rfl
theorem q285 : (Jvm.Cond.soleField "java/lang/Throwable" "backtrace") ∈ lw_all := lw_g (lw_at lw_m1 227 rfl) rfl
theorem q287 : (Jvm.Cond.soleField "java/lang/Throwable" "detailMessage") ∈ lw_all := lw_g (lw_at lw_m1 229 rfl) rfl
theorem q289 : (Jvm.Cond.soleField "java/lang/Throwable" "cause") ∈ lw_all := lw_g (lw_at lw_m1 231 rfl) rfl
theorem q291 : (Jvm.Cond.soleField "java/lang/Throwable" "stackTrace") ∈ lw_all := lw_g (lw_at lw_m1 233 rfl) rfl
theorem q293 : (Jvm.Cond.soleField "java/lang/Throwable" "depth") ∈ lw_all := lw_g (lw_at lw_m1 235 rfl) rfl
theorem q295 : (Jvm.Cond.soleField "java/lang/Throwable" "suppressedExceptions") ∈ lw_all := lw_g (lw_at lw_m1 237 rfl) rfl
theorem q304 : (Jvm.Cond.declares ({ cls := "java/lang/Throwable", name := "<init>", desc := "()V" } : Jvm.MethodName)) ∈ lw_tbl := lw_at lw_m2 6 rfl
theorem q305 : (Jvm.Cond.declares ({ cls := "java/lang/Throwable", name := "<init>", desc := "(Ljava/lang/String;)V" } : Jvm.MethodName)) ∈ lw_tbl := lw_at lw_m2 7 rfl
theorem q307 : (Jvm.Cond.lays "java/lang/Throwable" "java/lang/Throwable" "cause" "Ljava/lang/Throwable;") ∈ lw_all := lw_g (lw_at lw_m2 9 rfl) rfl
theorem q308 : (Jvm.Cond.lays "java/lang/Throwable" "java/lang/Throwable" "stackTrace" "[Ljava/lang/StackTraceElement;") ∈ lw_all := lw_g (lw_at lw_m2 10 rfl) rfl
theorem q309 : (Jvm.Cond.lays "java/lang/Throwable" "java/lang/Throwable" "suppressedExceptions" "Ljava/util/List;") ∈ lw_all := lw_g (lw_at lw_m2 11 rfl) rfl
theorem q310 : (Jvm.Cond.lays "java/lang/Throwable" "java/lang/Throwable" "detailMessage" "Ljava/lang/String;") ∈ lw_all := lw_g (lw_at lw_m2 12 rfl) rfl
theorem q311 : (Jvm.Cond.lays "java/lang/Throwable" "java/lang/Throwable" "backtrace" "Ljava/lang/Object;") ∈ lw_all := lw_g (lw_at lw_m2 13 rfl) rfl
theorem q312 : (Jvm.Cond.fieldLink "java/lang/Throwable" (198 : Nat) "java/lang/Throwable" "backtrace" "Ljava/lang/Object;") ∈ lw_all := lw_g (lw_at lw_m2 14 rfl) rfl
theorem q313 : (Jvm.Cond.superclass "java/lang/Throwable" "java/lang/Object") ∈ lw_all := lw_g (lw_at lw_m2 15 rfl) rfl
theorem q314 : (Jvm.Cond.instanceMethod ({ cls := "java/lang/Throwable", name := "<init>", desc := "()V" } : Jvm.MethodName)) ∈ lw_all := lw_g (lw_at lw_m2 16 rfl) rfl
theorem q315 : (Jvm.Cond.code ({ cls := "java/lang/Throwable", name := "<init>", desc := "()V" } : Jvm.MethodName) prog_29_method_1_code (1 : Nat) (Option.none : Option Jvm.ClassFile.FieldType)) ∈ lw_all := lw_g (lw_at lw_m2 17 rfl) rfl
theorem q1217 : (Jvm.Cond.sameMethod "java/lang/Throwable" "java/lang/Throwable" "fillInStackTrace" "(I)Ljava/lang/Throwable;") ∈ lw_all := lw_g (lw_at lw_m5 199 rfl) rfl
theorem in_J0 : ∀ w ∈ wsJ00, w ∈ lw_all := lw_in wsJ00 [307, 308, 309, 310, 311] (by decide +kernel) (by decide +kernel)
/-! java/lang/Exception -/
set_option maxRecDepth 100000
def RJ1 : String := "java/lang/Exception"
abbrev cJ1_init : ByteArray := prog_16_method_2_code
def yJ1_init : MethodName := ⟨RJ1, "<init>", "(Ljava/lang/String;)V"⟩
def dkwJ1_init_0 : List UInt8 := [42, 43, 183, 0, 7, 177]
abbrev dktJ1_init_0 : List UInt8 := dkwJ1_init_0 ++ []
theorem dksJ1_init_0 : cJ1_init.data.toList.drop 0 = dktJ1_init_0 := by decide +kernel
theorem dJ1_init_0 : decode cJ1_init 0 = .ok (.aload_n 0, 1) := dk_42 (dk_at dksJ1_init_0 0 rfl rfl)
theorem dJ1_init_1 : decode cJ1_init 1 = .ok (.aload_n 1, 1) := dk_43 (dk_at dksJ1_init_0 1 rfl rfl)
theorem dJ1_init_2 : decode cJ1_init 2 = .ok (.invokespecial 7, 3) := dk_183 0 7 (dk_at dksJ1_init_0 2 rfl rfl)
theorem dJ1_init_5 : decode cJ1_init 5 = .ok (.return_, 1) := dk_177 (dk_at dksJ1_init_0 5 rfl rfl)
abbrev cJ1_init_2 : ByteArray := prog_16_method_1_code
def yJ1_init_2 : MethodName := ⟨RJ1, "<init>", "()V"⟩
theorem dJ1_init_2_0 : decode cJ1_init_2 0 = .ok (.aload_n 0, 1) := by decide +kernel
theorem dJ1_init_2_1 : decode cJ1_init_2 1 = .ok (.invokespecial 1, 3) := by decide +kernel
theorem dJ1_init_2_4 : decode cJ1_init_2 4 = .ok (.return_, 1) := by decide +kernel
theorem q68 : (Jvm.Cond.initialized "java/lang/Exception") ∈ lw_all := lw_g (lw_at lw_m1 10 rfl) rfl
theorem q240 : (Jvm.Cond.instanceMethod ({ cls := "java/lang/Exception", name := "<init>", desc := "(Ljava/lang/String;)V" } : Jvm.MethodName)) ∈ lw_all := lw_g (lw_at lw_m1 182 rfl) rfl
theorem q241 : (Jvm.Cond.code ({ cls := "java/lang/Exception", name := "<init>", desc := "(Ljava/lang/String;)V" } : Jvm.MethodName) prog_16_method_2_code (2 : Nat) (Option.none : Option Jvm.ClassFile.FieldType)) ∈ lw_all := lw_g (lw_at lw_m1 183 rfl) rfl
theorem q242 : (Jvm.Cond.methodLink "java/lang/Exception" (7 : Nat) ({ cls := "java/lang/Throwable", name := "<init>", desc := "(Ljava/lang/String;)V" } : Jvm.MethodName)) ∈ lw_all := lw_g (lw_at lw_m1 184 rfl) rfl
theorem q272 : (Jvm.Cond.superclass "java/lang/Exception" "java/lang/Throwable") ∈ lw_all := lw_g (lw_at lw_m1 214 rfl) rfl
theorem q302 : (Jvm.Cond.declares ({ cls := "java/lang/Exception", name := "<init>", desc := "()V" } : Jvm.MethodName)) ∈ lw_tbl := lw_at lw_m2 4 rfl
theorem q303 : (Jvm.Cond.declares ({ cls := "java/lang/Exception", name := "<init>", desc := "(Ljava/lang/String;)V" } : Jvm.MethodName)) ∈ lw_tbl := lw_at lw_m2 5 rfl
theorem q441 : (Jvm.Cond.instanceMethod ({ cls := "java/lang/Exception", name := "<init>", desc := "()V" } : Jvm.MethodName)) ∈ lw_all := lw_g (lw_at lw_m2 143 rfl) rfl
theorem q442 : (Jvm.Cond.code ({ cls := "java/lang/Exception", name := "<init>", desc := "()V" } : Jvm.MethodName) prog_16_method_1_code (1 : Nat) (Option.none : Option Jvm.ClassFile.FieldType)) ∈ lw_all := lw_g (lw_at lw_m2 144 rfl) rfl
theorem q443 : (Jvm.Cond.methodLink "java/lang/Exception" (1 : Nat) ({ cls := "java/lang/Throwable", name := "<init>", desc := "()V" } : Jvm.MethodName)) ∈ lw_all := lw_g (lw_at lw_m2 145 rfl) rfl
/-! java/lang/Double -/
set_option maxRecDepth 100000
def RJ10 : String := "java/lang/Double"
abbrev cJ10_isNaN : ByteArray := prog_15_method_6_code
def yJ10_isNaN : MethodName := ⟨RJ10, "isNaN", "(D)Z"⟩
def dkwJ10_isNaN_0 : List UInt8 := [38, 38, 151, 153, 0, 7, 4, 167, 0, 4, 3, 172]
abbrev dktJ10_isNaN_0 : List UInt8 := dkwJ10_isNaN_0 ++ []
theorem dksJ10_isNaN_0 : cJ10_isNaN.data.toList.drop 0 = dktJ10_isNaN_0 := by decide +kernel
theorem dJ10_isNaN_0 : decode cJ10_isNaN 0 = .ok (.dload_n 0, 1) := dk_38 (dk_at dksJ10_isNaN_0 0 rfl rfl)
theorem dJ10_isNaN_1 : decode cJ10_isNaN 1 = .ok (.dload_n 0, 1) := dk_38 (dk_at dksJ10_isNaN_0 1 rfl rfl)
theorem dJ10_isNaN_2 : decode cJ10_isNaN 2 = .ok (.dcmp .l, 1) := dk_151 (dk_at dksJ10_isNaN_0 2 rfl rfl)
theorem dJ10_isNaN_3 : decode cJ10_isNaN 3 = .ok (.ifCond .eq 7, 3) := dk_153 0 7 (dk_at dksJ10_isNaN_0 3 rfl rfl)
theorem dJ10_isNaN_6 : decode cJ10_isNaN 6 = .ok (.iconst 1, 1) := dk_4 (dk_at dksJ10_isNaN_0 6 rfl rfl)
theorem dJ10_isNaN_7 : decode cJ10_isNaN 7 = .ok (.goto 4, 3) := dk_167 0 4 (dk_at dksJ10_isNaN_0 7 rfl rfl)
theorem dJ10_isNaN_10 : decode cJ10_isNaN 10 = .ok (.iconst 0, 1) := dk_3 (dk_at dksJ10_isNaN_0 10 rfl rfl)
theorem dJ10_isNaN_11 : decode cJ10_isNaN 11 = .ok (.ireturn, 1) := dk_172 (dk_at dksJ10_isNaN_0 11 rfl rfl)
abbrev cJ10_doubleToLongBits : ByteArray := prog_15_method_23_code
def yJ10_doubleToLongBits : MethodName := ⟨RJ10, "doubleToLongBits", "(D)J"⟩
def dkwJ10_doubleToLongBits_0 : List UInt8 := [38, 184, 0, 122, 154, 0, 8, 38, 184, 0, 134, 173, 20, 0, 137, 173]
abbrev dktJ10_doubleToLongBits_0 : List UInt8 := dkwJ10_doubleToLongBits_0 ++ []
theorem dksJ10_doubleToLongBits_0 : cJ10_doubleToLongBits.data.toList.drop 0 = dktJ10_doubleToLongBits_0 := by decide +kernel
theorem dJ10_doubleToLongBits_0 : decode cJ10_doubleToLongBits 0 = .ok (.dload_n 0, 1) := dk_38 (dk_at dksJ10_doubleToLongBits_0 0 rfl rfl)
theorem dJ10_doubleToLongBits_1 : decode cJ10_doubleToLongBits 1 = .ok (.invokestatic 122, 3) := dk_184 0 122 (dk_at dksJ10_doubleToLongBits_0 1 rfl rfl)
theorem dJ10_doubleToLongBits_4 : decode cJ10_doubleToLongBits 4 = .ok (.ifCond .ne 8, 3) := dk_154 0 8 (dk_at dksJ10_doubleToLongBits_0 4 rfl rfl)
theorem dJ10_doubleToLongBits_7 : decode cJ10_doubleToLongBits 7 = .ok (.dload_n 0, 1) := dk_38 (dk_at dksJ10_doubleToLongBits_0 7 rfl rfl)
theorem dJ10_doubleToLongBits_8 : decode cJ10_doubleToLongBits 8 = .ok (.invokestatic 134, 3) := dk_184 0 134 (dk_at dksJ10_doubleToLongBits_0 8 rfl rfl)
theorem dJ10_doubleToLongBits_11 : decode cJ10_doubleToLongBits 11 = .ok (.lreturn, 1) := dk_173 (dk_at dksJ10_doubleToLongBits_0 11 rfl rfl)
theorem dJ10_doubleToLongBits_12 : decode cJ10_doubleToLongBits 12 = .ok (.ldc2_w 137, 3) := dk_20 0 137 (dk_at dksJ10_doubleToLongBits_0 12 rfl rfl)
theorem dJ10_doubleToLongBits_15 : decode cJ10_doubleToLongBits 15 = .ok (.lreturn, 1) := dk_173 (dk_at dksJ10_doubleToLongBits_0 15 rfl rfl)
theorem q80 : (Jvm.Cond.initialized "java/lang/Double") ∈ lw_all := lw_g (lw_at lw_m1 22 rfl) rfl
theorem q489 : (Jvm.Cond.static ({ cls := "java/lang/Double", name := "longBitsToDouble", desc := "(J)D" } : Jvm.MethodName)) ∈ lw_all := lw_g (lw_at lw_m2 191 rfl) rfl
theorem q490 : (Jvm.Cond.native ({ cls := "java/lang/Double", name := "longBitsToDouble", desc := "(J)D" } : Jvm.MethodName)) ∈ lw_all := lw_g (lw_at lw_m2 192 rfl) rfl
theorem q495 : (Jvm.Cond.static ({ cls := "java/lang/Double", name := "doubleToRawLongBits", desc := "(D)J" } : Jvm.MethodName)) ∈ lw_all := lw_g (lw_at lw_m2 197 rfl) rfl
theorem q496 : (Jvm.Cond.native ({ cls := "java/lang/Double", name := "doubleToRawLongBits", desc := "(D)J" } : Jvm.MethodName)) ∈ lw_all := lw_g (lw_at lw_m2 198 rfl) rfl
theorem q708 : (Jvm.Cond.static ({ cls := "java/lang/Double", name := "isNaN", desc := "(D)Z" } : Jvm.MethodName)) ∈ lw_all := lw_g (lw_at lw_m3 170 rfl) rfl
theorem q709 : (Jvm.Cond.code ({ cls := "java/lang/Double", name := "isNaN", desc := "(D)Z" } : Jvm.MethodName) prog_15_method_6_code (2 : Nat) (Option.some Jvm.ClassFile.FieldType.boolean)) ∈ lw_all := lw_g (lw_at lw_m3 171 rfl) rfl
theorem q777 : (Jvm.Cond.static ({ cls := "java/lang/Double", name := "doubleToLongBits", desc := "(D)J" } : Jvm.MethodName)) ∈ lw_all := lw_g (lw_at lw_m3 239 rfl) rfl
theorem q778 : (Jvm.Cond.code ({ cls := "java/lang/Double", name := "doubleToLongBits", desc := "(D)J" } : Jvm.MethodName) prog_15_method_23_code (2 : Nat) (Option.some Jvm.ClassFile.FieldType.long)) ∈ lw_all := lw_g (lw_at lw_m4 0 rfl) rfl
theorem q779 : (Jvm.Cond.methodLink "java/lang/Double" (122 : Nat) ({ cls := "java/lang/Double", name := "isNaN", desc := "(D)Z" } : Jvm.MethodName)) ∈ lw_all := lw_g (lw_at lw_m4 1 rfl) rfl
theorem q780 : (Jvm.Cond.methodLink "java/lang/Double" (134 : Nat) ({ cls := "java/lang/Double", name := "doubleToRawLongBits", desc := "(D)J" } : Jvm.MethodName)) ∈ lw_all := lw_g (lw_at lw_m4 2 rfl) rfl
theorem q781 : (Jvm.Cond.constantLong "java/lang/Double" (137 : Nat) (9221120237041090560 : Int64)) ∈ lw_all := lw_g (lw_at lw_m4 3 rfl) rfl
/-! java/lang/NullPointerException -/
set_option maxRecDepth 100000
def RJ11 : String := "java/lang/NullPointerException"
def TJ11 : u_T := fun k => match k with
  | 0 => ("java/lang/Throwable", "backtrace", "Ljava/lang/Object;", false)
  | 1 => ("java/lang/Throwable", "detailMessage", "Ljava/lang/String;", false)
  | 2 => ("java/lang/Throwable", "cause", "Ljava/lang/Throwable;", false)
  | 3 => ("java/lang/Throwable", "stackTrace", "[Ljava/lang/StackTraceElement;", false)
  | 4 => ("java/lang/Throwable", "depth", "I", false)
  | 5 => ("java/lang/Throwable", "suppressedExceptions", "Ljava/util/List;", false)
  | 6 => ("java/lang/NullPointerException", "extendedMessageState", "I", false)
  | _ => ("java/lang/NullPointerException", "extendedMessage", "Ljava/lang/String;", false)
def tyJ11 : Nat → FieldType := fun k => match k with
  | 0 => .object "java/lang/Object"
  | 1 => .object "java/lang/String"
  | 2 => .object "java/lang/Throwable"
  | 3 => .array (.object "java/lang/StackTraceElement")
  | 4 => .int
  | 5 => .object "java/util/List"
  | 6 => .int
  | _ => .object "java/lang/String"
abbrev wsJ110 : List Cond := u_ws RJ11 TJ11 8
theorem nmJ11 : ∀ a, a < 8 → ∀ b, b < 8 → a ≠ b → (TJ11 a).2.1 ≠ (TJ11 b).2.1 := by decide +kernel
theorem tyJ11_ok : ∀ k, k < 8 → parseFieldDescriptor (TJ11 k).2.2.1 = some (tyJ11 k) := by decide +kernel
abbrev cJ11_init : ByteArray := prog_23_method_1_code
def yJ11_init : MethodName := ⟨RJ11, "<init>", "()V"⟩
theorem dJ11_init_0 : decode cJ11_init 0 = .ok (.aload_n 0, 1) := by decide +kernel
theorem dJ11_init_1 : decode cJ11_init 1 = .ok (.invokespecial 1, 3) := by decide +kernel
theorem dJ11_init_4 : decode cJ11_init 4 = .ok (.return_, 1) := by decide +kernel
theorem q81 : (Jvm.Cond.initialized "java/lang/NullPointerException") ∈ lw_all := lw_g (lw_at lw_m1 23 rfl) rfl
theorem q259 : (Jvm.Cond.selects "java/lang/NullPointerException" ({ cls := "java/lang/Throwable", name := "fillInStackTrace", desc := "()Ljava/lang/Throwable;" } : Jvm.MethodName) ({ cls := "java/lang/NullPointerException", name := "fillInStackTrace", desc := "()Ljava/lang/Throwable;" } : Jvm.MethodName)) ∈ lw_all := lw_g (lw_at lw_m1 201 rfl) rfl
theorem q260 : (Jvm.Cond.instanceMethod ({ cls := "java/lang/NullPointerException", name := "fillInStackTrace", desc := "()Ljava/lang/Throwable;" } : Jvm.MethodName)) ∈ lw_all := lw_g (lw_at lw_m1 202 rfl) rfl
theorem q261 : (Jvm.Cond.codeSync ({ cls := "java/lang/NullPointerException", name := "fillInStackTrace", desc := "()Ljava/lang/Throwable;" } : Jvm.MethodName) prog_23_method_3_code (1 : Nat) (Option.some (Jvm.ClassFile.FieldType.object "java/lang/Throwable"))) ∈ lw_all := lw_g (lw_at lw_m1 203 rfl) rfl
theorem q262 : (Jvm.Cond.methodLink "java/lang/NullPointerException" (16 : Nat) ({ cls := "java/lang/NullPointerException", name := "getExtendedNPEMessage", desc := "()Ljava/lang/String;" } : Jvm.MethodName)) ∈ lw_all := lw_g (lw_at lw_m1 204 rfl) rfl
theorem q263 : (Jvm.Cond.privateMethod ({ cls := "java/lang/NullPointerException", name := "getExtendedNPEMessage", desc := "()Ljava/lang/String;" } : Jvm.MethodName)) ∈ lw_tbl := lw_at lw_m1 205 rfl
theorem q264 : (Jvm.Cond.instanceMethod ({ cls := "java/lang/NullPointerException", name := "getExtendedNPEMessage", desc := "()Ljava/lang/String;" } : Jvm.MethodName)) ∈ lw_all := lw_g (lw_at lw_m1 206 rfl) rfl
theorem q265 : (Jvm.Cond.instantiable "java/lang/NullPointerException" (8 : Nat)) ∈ lw_all := lw_g (lw_at lw_m1 207 rfl) rfl
theorem q266 : (Jvm.Cond.native ({ cls := "java/lang/NullPointerException", name := "getExtendedNPEMessage", desc := "()Ljava/lang/String;" } : Jvm.MethodName)) ∈ lw_all := lw_g (lw_at lw_m1 208 rfl) rfl
theorem q267 : (Jvm.Cond.methodLink "java/lang/NullPointerException" (24 : Nat) ({ cls := "java/lang/RuntimeException", name := "fillInStackTrace", desc := "()Ljava/lang/Throwable;" } : Jvm.MethodName)) ∈ lw_all := lw_g (lw_at lw_m1 209 rfl) rfl
theorem q270 : (Jvm.Cond.superclass "java/lang/NullPointerException" "java/lang/RuntimeException") ∈ lw_all := lw_g (lw_at lw_m1 212 rfl) rfl
theorem q539 : (Jvm.Cond.instanceMethod ({ cls := "java/lang/NullPointerException", name := "<init>", desc := "()V" } : Jvm.MethodName)) ∈ lw_all := lw_g (lw_at lw_m3 1 rfl) rfl
theorem q540 : (Jvm.Cond.code ({ cls := "java/lang/NullPointerException", name := "<init>", desc := "()V" } : Jvm.MethodName) prog_23_method_1_code (1 : Nat) (Option.none : Option Jvm.ClassFile.FieldType)) ∈ lw_all := lw_g (lw_at lw_m3 2 rfl) rfl
theorem q541 : (Jvm.Cond.methodLink "java/lang/NullPointerException" (1 : Nat) ({ cls := "java/lang/RuntimeException", name := "<init>", desc := "()V" } : Jvm.MethodName)) ∈ lw_all := lw_g (lw_at lw_m3 3 rfl) rfl
theorem q542 : (Jvm.Cond.fieldLink "java/lang/NullPointerException" (10 : Nat) "java/lang/NullPointerException" "extendedMessageState" "I") ∈ lw_all := lw_g (lw_at lw_m3 4 rfl) rfl
theorem q543 : (Jvm.Cond.fieldLink "java/lang/NullPointerException" (20 : Nat) "java/lang/NullPointerException" "extendedMessage" "Ljava/lang/String;") ∈ lw_all := lw_g (lw_at lw_m3 5 rfl) rfl
theorem q544 : (Jvm.Cond.lays "java/lang/NullPointerException" "java/lang/NullPointerException" "extendedMessageState" "I") ∈ lw_all := lw_g (lw_at lw_m3 6 rfl) rfl
theorem q545 : (Jvm.Cond.soleField "java/lang/NullPointerException" "extendedMessageState") ∈ lw_all := lw_g (lw_at lw_m3 7 rfl) rfl
theorem q546 : (Jvm.Cond.lays "java/lang/NullPointerException" "java/lang/NullPointerException" "extendedMessage" "Ljava/lang/String;") ∈ lw_all := lw_g (lw_at lw_m3 8 rfl) rfl
theorem q547 : (Jvm.Cond.soleField "java/lang/NullPointerException" "extendedMessage") ∈ lw_all := lw_g (lw_at lw_m3 9 rfl) rfl
theorem q548 : (Jvm.Cond.lays "java/lang/NullPointerException" "java/lang/Throwable" "backtrace" "Ljava/lang/Object;") ∈ lw_all := lw_g (lw_at lw_m3 10 rfl) rfl
theorem q549 : (Jvm.Cond.lays "java/lang/NullPointerException" "java/lang/Throwable" "detailMessage" "Ljava/lang/String;") ∈ lw_all := lw_g (lw_at lw_m3 11 rfl) rfl
theorem q550 : (Jvm.Cond.lays "java/lang/NullPointerException" "java/lang/Throwable" "cause" "Ljava/lang/Throwable;") ∈ lw_all := lw_g (lw_at lw_m3 12 rfl) rfl
theorem q551 : (Jvm.Cond.lays "java/lang/NullPointerException" "java/lang/Throwable" "stackTrace" "[Ljava/lang/StackTraceElement;") ∈ lw_all := lw_g (lw_at lw_m3 13 rfl) rfl
theorem q552 : (Jvm.Cond.lays "java/lang/NullPointerException" "java/lang/Throwable" "depth" "I") ∈ lw_all := lw_g (lw_at lw_m3 14 rfl) rfl
theorem q553 : (Jvm.Cond.lays "java/lang/NullPointerException" "java/lang/Throwable" "suppressedExceptions" "Ljava/util/List;") ∈ lw_all := lw_g (lw_at lw_m3 15 rfl) rfl
theorem q554 : (Jvm.Cond.castable "java/lang/NullPointerException" "java/lang/NullPointerException") ∈ lw_tbl := lw_at lw_m3 16 rfl
theorem q555 : (Jvm.Cond.selects "java/lang/NullPointerException" ({ cls := "java/lang/Throwable", name := "fillInStackTrace", desc := "(I)Ljava/lang/Throwable;" } : Jvm.MethodName) ({ cls := "java/lang/Throwable", name := "fillInStackTrace", desc := "(I)Ljava/lang/Throwable;" } : Jvm.MethodName)) ∈ lw_all := lw_g (lw_at lw_m3 17 rfl) rfl
theorem in_J11 : ∀ w ∈ wsJ110, w ∈ lw_all := lw_in wsJ110 [548, 549, 550, 551, 552, 553, 544, 546] (by decide +kernel) (by decide +kernel)
/-! java/lang/IllegalArgumentException -/
set_option maxRecDepth 100000
def RJ12 : String := "java/lang/IllegalArgumentException"
def TJ12 : u_T := fun k => match k with
  | 0 => ("java/lang/Throwable", "cause", "Ljava/lang/Throwable;", false)
  | 1 => ("java/lang/Throwable", "stackTrace", "[Ljava/lang/StackTraceElement;", false)
  | 2 => ("java/lang/Throwable", "suppressedExceptions", "Ljava/util/List;", false)
  | 3 => ("java/lang/Throwable", "detailMessage", "Ljava/lang/String;", false)
  | 4 => ("java/lang/Throwable", "backtrace", "Ljava/lang/Object;", false)
  | _ => ("java/lang/Throwable", "depth", "I", false)
def tyJ12 : Nat → FieldType := fun k => match k with
  | 0 => .object "java/lang/Throwable"
  | 1 => .array (.object "java/lang/StackTraceElement")
  | 2 => .object "java/util/List"
  | 3 => .object "java/lang/String"
  | 4 => .object "java/lang/Object"
  | _ => .int
abbrev wsJ120 : List Cond := u_ws RJ12 TJ12 6
theorem nmJ12 : ∀ a, a < 6 → ∀ b, b < 6 → a ≠ b → (TJ12 a).2.1 ≠ (TJ12 b).2.1 := by decide +kernel
theorem tyJ12_ok : ∀ k, k < 6 → parseFieldDescriptor (TJ12 k).2.2.1 = some (tyJ12 k) := by decide +kernel
abbrev cJ12_init : ByteArray := prog_18_method_1_code
def yJ12_init : MethodName := ⟨RJ12, "<init>", "()V"⟩
theorem dJ12_init_0 : decode cJ12_init 0 = .ok (.aload_n 0, 1) := by decide +kernel
theorem dJ12_init_1 : decode cJ12_init 1 = .ok (.invokespecial 1, 3) := by decide +kernel
theorem dJ12_init_4 : decode cJ12_init 4 = .ok (.return_, 1) := by decide +kernel
theorem q82 : (Jvm.Cond.initialized "java/lang/IllegalArgumentException") ∈ lw_all := lw_g (lw_at lw_m1 24 rfl) rfl
theorem q256 : (Jvm.Cond.selects "java/lang/IllegalArgumentException" ({ cls := "java/lang/Throwable", name := "fillInStackTrace", desc := "()Ljava/lang/Throwable;" } : Jvm.MethodName) ({ cls := "java/lang/Throwable", name := "fillInStackTrace", desc := "()Ljava/lang/Throwable;" } : Jvm.MethodName)) ∈ lw_all := lw_g (lw_at lw_m1 198 rfl) rfl
theorem q582 : (Jvm.Cond.instantiable "java/lang/IllegalArgumentException" (6 : Nat)) ∈ lw_all := lw_g (lw_at lw_m3 44 rfl) rfl
theorem q583 : (Jvm.Cond.castable "java/lang/IllegalArgumentException" "java/lang/IllegalArgumentException") ∈ lw_tbl := lw_at lw_m3 45 rfl
theorem q584 : (Jvm.Cond.selects "java/lang/IllegalArgumentException" ({ cls := "java/lang/Throwable", name := "fillInStackTrace", desc := "(I)Ljava/lang/Throwable;" } : Jvm.MethodName) ({ cls := "java/lang/Throwable", name := "fillInStackTrace", desc := "(I)Ljava/lang/Throwable;" } : Jvm.MethodName)) ∈ lw_all := lw_g (lw_at lw_m3 46 rfl) rfl
theorem q585 : (Jvm.Cond.lays "java/lang/IllegalArgumentException" "java/lang/Throwable" "cause" "Ljava/lang/Throwable;") ∈ lw_all := lw_g (lw_at lw_m3 47 rfl) rfl
theorem q586 : (Jvm.Cond.lays "java/lang/IllegalArgumentException" "java/lang/Throwable" "stackTrace" "[Ljava/lang/StackTraceElement;") ∈ lw_all := lw_g (lw_at lw_m3 48 rfl) rfl
theorem q587 : (Jvm.Cond.lays "java/lang/IllegalArgumentException" "java/lang/Throwable" "suppressedExceptions" "Ljava/util/List;") ∈ lw_all := lw_g (lw_at lw_m3 49 rfl) rfl
theorem q588 : (Jvm.Cond.lays "java/lang/IllegalArgumentException" "java/lang/Throwable" "detailMessage" "Ljava/lang/String;") ∈ lw_all := lw_g (lw_at lw_m3 50 rfl) rfl
theorem q589 : (Jvm.Cond.lays "java/lang/IllegalArgumentException" "java/lang/Throwable" "backtrace" "Ljava/lang/Object;") ∈ lw_all := lw_g (lw_at lw_m3 51 rfl) rfl
theorem q591 : (Jvm.Cond.instanceMethod ({ cls := "java/lang/IllegalArgumentException", name := "<init>", desc := "()V" } : Jvm.MethodName)) ∈ lw_all := lw_g (lw_at lw_m3 53 rfl) rfl
theorem q592 : (Jvm.Cond.code ({ cls := "java/lang/IllegalArgumentException", name := "<init>", desc := "()V" } : Jvm.MethodName) prog_18_method_1_code (1 : Nat) (Option.none : Option Jvm.ClassFile.FieldType)) ∈ lw_all := lw_g (lw_at lw_m3 54 rfl) rfl
theorem q593 : (Jvm.Cond.methodLink "java/lang/IllegalArgumentException" (1 : Nat) ({ cls := "java/lang/RuntimeException", name := "<init>", desc := "()V" } : Jvm.MethodName)) ∈ lw_all := lw_g (lw_at lw_m3 55 rfl) rfl
theorem q594 : (Jvm.Cond.lays "java/lang/IllegalArgumentException" "java/lang/Throwable" "depth" "I") ∈ lw_all := lw_g (lw_at lw_m3 56 rfl) rfl
theorem q595 : (Jvm.Cond.superclass "java/lang/IllegalArgumentException" "java/lang/RuntimeException") ∈ lw_all := lw_g (lw_at lw_m3 57 rfl) rfl
theorem in_J12 : ∀ w ∈ wsJ120, w ∈ lw_all := lw_in wsJ120 [585, 586, 587, 588, 589, 594] (by decide +kernel) (by decide +kernel)
/-! java/lang/ClassCastException -/
set_option maxRecDepth 100000
def RJ13 : String := "java/lang/ClassCastException"
def TJ13 : u_T := fun k => match k with
  | 0 => ("java/lang/Throwable", "backtrace", "Ljava/lang/Object;", false)
  | 1 => ("java/lang/Throwable", "detailMessage", "Ljava/lang/String;", false)
  | 2 => ("java/lang/Throwable", "cause", "Ljava/lang/Throwable;", false)
  | 3 => ("java/lang/Throwable", "stackTrace", "[Ljava/lang/StackTraceElement;", false)
  | 4 => ("java/lang/Throwable", "depth", "I", false)
  | _ => ("java/lang/Throwable", "suppressedExceptions", "Ljava/util/List;", false)
def tyJ13 : Nat → FieldType := fun k => match k with
  | 0 => .object "java/lang/Object"
  | 1 => .object "java/lang/String"
  | 2 => .object "java/lang/Throwable"
  | 3 => .array (.object "java/lang/StackTraceElement")
  | 4 => .int
  | _ => .object "java/util/List"
abbrev wsJ130 : List Cond := u_ws RJ13 TJ13 6
theorem nmJ13 : ∀ a, a < 6 → ∀ b, b < 6 → a ≠ b → (TJ13 a).2.1 ≠ (TJ13 b).2.1 := by decide +kernel
theorem tyJ13_ok : ∀ k, k < 6 → parseFieldDescriptor (TJ13 k).2.2.1 = some (tyJ13 k) := by decide +kernel
abbrev cJ13_init : ByteArray := prog_14_method_2_code
def yJ13_init : MethodName := ⟨RJ13, "<init>", "(Ljava/lang/String;)V"⟩
def dkwJ13_init_0 : List UInt8 := [42, 43, 183, 0, 7, 177]
abbrev dktJ13_init_0 : List UInt8 := dkwJ13_init_0 ++ []
theorem dksJ13_init_0 : cJ13_init.data.toList.drop 0 = dktJ13_init_0 := by decide +kernel
theorem dJ13_init_0 : decode cJ13_init 0 = .ok (.aload_n 0, 1) := dk_42 (dk_at dksJ13_init_0 0 rfl rfl)
theorem dJ13_init_1 : decode cJ13_init 1 = .ok (.aload_n 1, 1) := dk_43 (dk_at dksJ13_init_0 1 rfl rfl)
theorem dJ13_init_2 : decode cJ13_init 2 = .ok (.invokespecial 7, 3) := dk_183 0 7 (dk_at dksJ13_init_0 2 rfl rfl)
theorem dJ13_init_5 : decode cJ13_init 5 = .ok (.return_, 1) := dk_177 (dk_at dksJ13_init_0 5 rfl rfl)
theorem q83 : (Jvm.Cond.initialized "java/lang/ClassCastException") ∈ lw_all := lw_g (lw_at lw_m1 25 rfl) rfl
theorem q255 : (Jvm.Cond.selects "java/lang/ClassCastException" ({ cls := "java/lang/Throwable", name := "fillInStackTrace", desc := "()Ljava/lang/Throwable;" } : Jvm.MethodName) ({ cls := "java/lang/Throwable", name := "fillInStackTrace", desc := "()Ljava/lang/Throwable;" } : Jvm.MethodName)) ∈ lw_all := lw_g (lw_at lw_m1 197 rfl) rfl
theorem q601 : (Jvm.Cond.instantiable "java/lang/ClassCastException" (6 : Nat)) ∈ lw_all := lw_g (lw_at lw_m3 63 rfl) rfl
theorem q602 : (Jvm.Cond.instanceMethod ({ cls := "java/lang/ClassCastException", name := "<init>", desc := "(Ljava/lang/String;)V" } : Jvm.MethodName)) ∈ lw_all := lw_g (lw_at lw_m3 64 rfl) rfl
theorem q603 : (Jvm.Cond.code ({ cls := "java/lang/ClassCastException", name := "<init>", desc := "(Ljava/lang/String;)V" } : Jvm.MethodName) prog_14_method_2_code (2 : Nat) (Option.none : Option Jvm.ClassFile.FieldType)) ∈ lw_all := lw_g (lw_at lw_m3 65 rfl) rfl
theorem q604 : (Jvm.Cond.methodLink "java/lang/ClassCastException" (7 : Nat) ({ cls := "java/lang/RuntimeException", name := "<init>", desc := "(Ljava/lang/String;)V" } : Jvm.MethodName)) ∈ lw_all := lw_g (lw_at lw_m3 66 rfl) rfl
theorem q605 : (Jvm.Cond.lays "java/lang/ClassCastException" "java/lang/Throwable" "backtrace" "Ljava/lang/Object;") ∈ lw_all := lw_g (lw_at lw_m3 67 rfl) rfl
theorem q606 : (Jvm.Cond.lays "java/lang/ClassCastException" "java/lang/Throwable" "detailMessage" "Ljava/lang/String;") ∈ lw_all := lw_g (lw_at lw_m3 68 rfl) rfl
theorem q607 : (Jvm.Cond.lays "java/lang/ClassCastException" "java/lang/Throwable" "cause" "Ljava/lang/Throwable;") ∈ lw_all := lw_g (lw_at lw_m3 69 rfl) rfl
theorem q608 : (Jvm.Cond.lays "java/lang/ClassCastException" "java/lang/Throwable" "stackTrace" "[Ljava/lang/StackTraceElement;") ∈ lw_all := lw_g (lw_at lw_m3 70 rfl) rfl
theorem q609 : (Jvm.Cond.lays "java/lang/ClassCastException" "java/lang/Throwable" "depth" "I") ∈ lw_all := lw_g (lw_at lw_m3 71 rfl) rfl
theorem q610 : (Jvm.Cond.lays "java/lang/ClassCastException" "java/lang/Throwable" "suppressedExceptions" "Ljava/util/List;") ∈ lw_all := lw_g (lw_at lw_m3 72 rfl) rfl
theorem q611 : (Jvm.Cond.superclass "java/lang/ClassCastException" "java/lang/RuntimeException") ∈ lw_all := lw_g (lw_at lw_m3 73 rfl) rfl
theorem q612 : (Jvm.Cond.castable "java/lang/ClassCastException" "java/lang/ClassCastException") ∈ lw_tbl := lw_at lw_m3 74 rfl
theorem q613 : (Jvm.Cond.selects "java/lang/ClassCastException" ({ cls := "java/lang/Throwable", name := "fillInStackTrace", desc := "(I)Ljava/lang/Throwable;" } : Jvm.MethodName) ({ cls := "java/lang/Throwable", name := "fillInStackTrace", desc := "(I)Ljava/lang/Throwable;" } : Jvm.MethodName)) ∈ lw_all := lw_g (lw_at lw_m3 75 rfl) rfl
theorem in_J13 : ∀ w ∈ wsJ130, w ∈ lw_all := lw_in wsJ130 [605, 606, 607, 608, 609, 610] (by decide +kernel) (by decide +kernel)
/-! java/lang/Float -/
set_option maxRecDepth 100000
def RJ14 : String := "java/lang/Float"
abbrev cJ14_floatToIntBits : ByteArray := prog_17_method_24_code
def yJ14_floatToIntBits : MethodName := ⟨RJ14, "floatToIntBits", "(F)I"⟩
def dkwJ14_floatToIntBits_0 : List UInt8 := [34, 184, 0, 59, 154, 0, 8, 34, 184, 0, 74, 172, 18, 77, 172]
abbrev dktJ14_floatToIntBits_0 : List UInt8 := dkwJ14_floatToIntBits_0 ++ []
theorem dksJ14_floatToIntBits_0 : cJ14_floatToIntBits.data.toList.drop 0 = dktJ14_floatToIntBits_0 := by decide +kernel
theorem dJ14_floatToIntBits_0 : decode cJ14_floatToIntBits 0 = .ok (.fload_n 0, 1) := dk_34 (dk_at dksJ14_floatToIntBits_0 0 rfl rfl)
theorem dJ14_floatToIntBits_1 : decode cJ14_floatToIntBits 1 = .ok (.invokestatic 59, 3) := dk_184 0 59 (dk_at dksJ14_floatToIntBits_0 1 rfl rfl)
theorem dJ14_floatToIntBits_4 : decode cJ14_floatToIntBits 4 = .ok (.ifCond .ne 8, 3) := dk_154 0 8 (dk_at dksJ14_floatToIntBits_0 4 rfl rfl)
theorem dJ14_floatToIntBits_7 : decode cJ14_floatToIntBits 7 = .ok (.fload_n 0, 1) := dk_34 (dk_at dksJ14_floatToIntBits_0 7 rfl rfl)
theorem dJ14_floatToIntBits_8 : decode cJ14_floatToIntBits 8 = .ok (.invokestatic 74, 3) := dk_184 0 74 (dk_at dksJ14_floatToIntBits_0 8 rfl rfl)
theorem dJ14_floatToIntBits_11 : decode cJ14_floatToIntBits 11 = .ok (.ireturn, 1) := dk_172 (dk_at dksJ14_floatToIntBits_0 11 rfl rfl)
theorem dJ14_floatToIntBits_12 : decode cJ14_floatToIntBits 12 = .ok (.ldc 77, 2) := dk_18 77 (dk_at dksJ14_floatToIntBits_0 12 rfl rfl)
theorem dJ14_floatToIntBits_14 : decode cJ14_floatToIntBits 14 = .ok (.ireturn, 1) := dk_172 (dk_at dksJ14_floatToIntBits_0 14 rfl rfl)
abbrev cJ14_isNaN : ByteArray := prog_17_method_6_code
def yJ14_isNaN : MethodName := ⟨RJ14, "isNaN", "(F)Z"⟩
def dkwJ14_isNaN_0 : List UInt8 := [34, 34, 149, 153, 0, 7, 4, 167, 0, 4, 3, 172]
abbrev dktJ14_isNaN_0 : List UInt8 := dkwJ14_isNaN_0 ++ []
theorem dksJ14_isNaN_0 : cJ14_isNaN.data.toList.drop 0 = dktJ14_isNaN_0 := by decide +kernel
theorem dJ14_isNaN_0 : decode cJ14_isNaN 0 = .ok (.fload_n 0, 1) := dk_34 (dk_at dksJ14_isNaN_0 0 rfl rfl)
theorem dJ14_isNaN_1 : decode cJ14_isNaN 1 = .ok (.fload_n 0, 1) := dk_34 (dk_at dksJ14_isNaN_0 1 rfl rfl)
theorem dJ14_isNaN_2 : decode cJ14_isNaN 2 = .ok (.fcmp .l, 1) := dk_149 (dk_at dksJ14_isNaN_0 2 rfl rfl)
theorem dJ14_isNaN_3 : decode cJ14_isNaN 3 = .ok (.ifCond .eq 7, 3) := dk_153 0 7 (dk_at dksJ14_isNaN_0 3 rfl rfl)
theorem dJ14_isNaN_6 : decode cJ14_isNaN 6 = .ok (.iconst 1, 1) := dk_4 (dk_at dksJ14_isNaN_0 6 rfl rfl)
theorem dJ14_isNaN_7 : decode cJ14_isNaN 7 = .ok (.goto 4, 3) := dk_167 0 4 (dk_at dksJ14_isNaN_0 7 rfl rfl)
theorem dJ14_isNaN_10 : decode cJ14_isNaN 10 = .ok (.iconst 0, 1) := dk_3 (dk_at dksJ14_isNaN_0 10 rfl rfl)
theorem dJ14_isNaN_11 : decode cJ14_isNaN 11 = .ok (.ireturn, 1) := dk_172 (dk_at dksJ14_isNaN_0 11 rfl rfl)
theorem q84 : (Jvm.Cond.initialized "java/lang/Float") ∈ lw_all := lw_g (lw_at lw_m1 26 rfl) rfl
theorem q798 : (Jvm.Cond.static ({ cls := "java/lang/Float", name := "floatToRawIntBits", desc := "(F)I" } : Jvm.MethodName)) ∈ lw_all := lw_g (lw_at lw_m4 20 rfl) rfl
theorem q799 : (Jvm.Cond.native ({ cls := "java/lang/Float", name := "floatToRawIntBits", desc := "(F)I" } : Jvm.MethodName)) ∈ lw_all := lw_g (lw_at lw_m4 21 rfl) rfl
theorem q801 : (Jvm.Cond.static ({ cls := "java/lang/Float", name := "intBitsToFloat", desc := "(I)F" } : Jvm.MethodName)) ∈ lw_all := lw_g (lw_at lw_m4 23 rfl) rfl
theorem q802 : (Jvm.Cond.native ({ cls := "java/lang/Float", name := "intBitsToFloat", desc := "(I)F" } : Jvm.MethodName)) ∈ lw_all := lw_g (lw_at lw_m4 24 rfl) rfl
theorem q809 : (Jvm.Cond.static ({ cls := "java/lang/Float", name := "floatToIntBits", desc := "(F)I" } : Jvm.MethodName)) ∈ lw_all := lw_g (lw_at lw_m4 31 rfl) rfl
theorem q810 : (Jvm.Cond.code ({ cls := "java/lang/Float", name := "floatToIntBits", desc := "(F)I" } : Jvm.MethodName) prog_17_method_24_code (1 : Nat) (Option.some Jvm.ClassFile.FieldType.int)) ∈ lw_all := lw_g (lw_at lw_m4 32 rfl) rfl
theorem q811 : (Jvm.Cond.methodLink "java/lang/Float" (59 : Nat) ({ cls := "java/lang/Float", name := "isNaN", desc := "(F)Z" } : Jvm.MethodName)) ∈ lw_all := lw_g (lw_at lw_m4 33 rfl) rfl
theorem q812 : (Jvm.Cond.static ({ cls := "java/lang/Float", name := "isNaN", desc := "(F)Z" } : Jvm.MethodName)) ∈ lw_all := lw_g (lw_at lw_m4 34 rfl) rfl
theorem q813 : (Jvm.Cond.code ({ cls := "java/lang/Float", name := "isNaN", desc := "(F)Z" } : Jvm.MethodName) prog_17_method_6_code (1 : Nat) (Option.some Jvm.ClassFile.FieldType.boolean)) ∈ lw_all := lw_g (lw_at lw_m4 35 rfl) rfl
theorem q814 : (Jvm.Cond.methodLink "java/lang/Float" (74 : Nat) ({ cls := "java/lang/Float", name := "floatToRawIntBits", desc := "(F)I" } : Jvm.MethodName)) ∈ lw_all := lw_g (lw_at lw_m4 36 rfl) rfl
theorem q815 : (Jvm.Cond.constant "java/lang/Float" (77 : Nat) (2143289344 : Int32)) ∈ lw_all := lw_g (lw_at lw_m4 37 rfl) rfl
/-! java/lang/StrictMath -/
set_option maxRecDepth 100000
def RJ15 : String := "java/lang/StrictMath"
abbrev cJ15_floor : ByteArray := prog_26_method_17_code
def yJ15_floor : MethodName := ⟨RJ15, "floo\x72", "(D)D"⟩
def dkwJ15_floor_0 : List UInt8 := [38, 20, 0, 64, 14, 20, 0, 64, 184, 0, 60, 175]
abbrev dktJ15_floor_0 : List UInt8 := dkwJ15_floor_0 ++ []
theorem dksJ15_floor_0 : cJ15_floor.data.toList.drop 0 = dktJ15_floor_0 := by decide +kernel
theorem dJ15_floor_0 : decode cJ15_floor 0 = .ok (.dload_n 0, 1) := dk_38 (dk_at dksJ15_floor_0 0 rfl rfl)
theorem dJ15_floor_1 : decode cJ15_floor 1 = .ok (.ldc2_w 64, 3) := dk_20 0 64 (dk_at dksJ15_floor_0 1 rfl rfl)
theorem dJ15_floor_4 : decode cJ15_floor 4 = .ok (.dconst 0, 1) := dk_14 (dk_at dksJ15_floor_0 4 rfl rfl)
theorem dJ15_floor_5 : decode cJ15_floor 5 = .ok (.ldc2_w 64, 3) := dk_20 0 64 (dk_at dksJ15_floor_0 5 rfl rfl)
theorem dJ15_floor_8 : decode cJ15_floor 8 = .ok (.invokestatic 60, 3) := dk_184 0 60 (dk_at dksJ15_floor_0 8 rfl rfl)
theorem dJ15_floor_11 : decode cJ15_floor 11 = .ok (.dreturn, 1) := dk_175 (dk_at dksJ15_floor_0 11 rfl rfl)
abbrev cJ15_floorOrCeil : ByteArray := prog_26_method_18_code
def yJ15_floorOrCeil : MethodName := ⟨RJ15, "floorOrCeil", "(DDDD)D"⟩
def dkwJ15_floorOrCeil_5 : List UInt8 := [24, 13, 24, 6, 99, 57, 13, 24, 13, 175]
abbrev dktJ15_floorOrCeil_5 : List UInt8 := dkwJ15_floorOrCeil_5 ++ []
def dkwJ15_floorOrCeil_4 : List UInt8 := [175, 22, 9, 22, 11, 20, 0, 87, 131, 127, 184, 0, 89, 57, 13, 24, 6, 38, 107, 14, 151, 158, 0, 10]
abbrev dktJ15_floorOrCeil_4 : List UInt8 := dkwJ15_floorOrCeil_4 ++ dktJ15_floorOrCeil_5
def dkwJ15_floorOrCeil_3 : List UInt8 := [184, 0, 77, 55, 9, 20, 0, 85, 21, 8, 123, 55, 11, 22, 11, 22, 9, 127, 9, 148, 154, 0, 5, 38]
abbrev dktJ15_floorOrCeil_3 : List UInt8 := dkwJ15_floorOrCeil_3 ++ dktJ15_floorOrCeil_4
def dkwJ15_floorOrCeil_2 : List UInt8 := [154, 0, 23, 21, 8, 155, 0, 10, 21, 8, 16, 51, 164, 0, 11, 187, 0, 74, 89, 183, 0, 76, 191, 38]
abbrev dktJ15_floorOrCeil_2 : List UInt8 := dkwJ15_floorOrCeil_2 ++ dktJ15_floorOrCeil_3
def dkwJ15_floorOrCeil_1 : List UInt8 := [156, 0, 7, 40, 167, 0, 5, 24, 4, 175, 21, 8, 16, 52, 161, 0, 5, 38, 175, 178, 0, 70]
abbrev dktJ15_floorOrCeil_1 : List UInt8 := dkwJ15_floorOrCeil_1 ++ dktJ15_floorOrCeil_2
def dkwJ15_floorOrCeil_0 : List UInt8 := [38, 184, 0, 66, 54, 8, 21, 8, 156, 0, 26, 38, 14, 151, 154, 0, 7, 38, 167, 0, 15, 38, 14, 152]
abbrev dktJ15_floorOrCeil_0 : List UInt8 := dkwJ15_floorOrCeil_0 ++ dktJ15_floorOrCeil_1
theorem dksJ15_floorOrCeil_0 : cJ15_floorOrCeil.data.toList.drop 0 = dktJ15_floorOrCeil_0 := by decide +kernel
theorem dksJ15_floorOrCeil_1 : cJ15_floorOrCeil.data.toList.drop 24 = dktJ15_floorOrCeil_1 := dk_seg dksJ15_floorOrCeil_0 24 rfl rfl
theorem dksJ15_floorOrCeil_2 : cJ15_floorOrCeil.data.toList.drop 46 = dktJ15_floorOrCeil_2 := dk_seg dksJ15_floorOrCeil_1 22 rfl rfl
theorem dksJ15_floorOrCeil_3 : cJ15_floorOrCeil.data.toList.drop 70 = dktJ15_floorOrCeil_3 := dk_seg dksJ15_floorOrCeil_2 24 rfl rfl
theorem dksJ15_floorOrCeil_4 : cJ15_floorOrCeil.data.toList.drop 94 = dktJ15_floorOrCeil_4 := dk_seg dksJ15_floorOrCeil_3 24 rfl rfl
theorem dksJ15_floorOrCeil_5 : cJ15_floorOrCeil.data.toList.drop 118 = dktJ15_floorOrCeil_5 := dk_seg dksJ15_floorOrCeil_4 24 rfl rfl
theorem dJ15_floorOrCeil_0 : decode cJ15_floorOrCeil 0 = .ok (.dload_n 0, 1) := dk_38 (dk_at dksJ15_floorOrCeil_0 0 rfl rfl)
theorem dJ15_floorOrCeil_1 : decode cJ15_floorOrCeil 1 = .ok (.invokestatic 66, 3) := dk_184 0 66 (dk_at dksJ15_floorOrCeil_0 1 rfl rfl)
theorem dJ15_floorOrCeil_4 : decode cJ15_floorOrCeil 4 = .ok (.istore 8, 2) := dk_54 8 (dk_at dksJ15_floorOrCeil_0 4 rfl rfl)
theorem dJ15_floorOrCeil_6 : decode cJ15_floorOrCeil 6 = .ok (.iload 8, 2) := dk_21 8 (dk_at dksJ15_floorOrCeil_0 6 rfl rfl)
theorem dJ15_floorOrCeil_8 : decode cJ15_floorOrCeil 8 = .ok (.ifCond .ge 26, 3) := dk_156 0 26 (dk_at dksJ15_floorOrCeil_0 8 rfl rfl)
theorem dJ15_floorOrCeil_11 : decode cJ15_floorOrCeil 11 = .ok (.dload_n 0, 1) := dk_38 (dk_at dksJ15_floorOrCeil_0 11 rfl rfl)
theorem dJ15_floorOrCeil_12 : decode cJ15_floorOrCeil 12 = .ok (.dconst 0, 1) := dk_14 (dk_at dksJ15_floorOrCeil_0 12 rfl rfl)
theorem dJ15_floorOrCeil_13 : decode cJ15_floorOrCeil 13 = .ok (.dcmp .l, 1) := dk_151 (dk_at dksJ15_floorOrCeil_0 13 rfl rfl)
theorem dJ15_floorOrCeil_14 : decode cJ15_floorOrCeil 14 = .ok (.ifCond .ne 7, 3) := dk_154 0 7 (dk_at dksJ15_floorOrCeil_0 14 rfl rfl)
theorem dJ15_floorOrCeil_17 : decode cJ15_floorOrCeil 17 = .ok (.dload_n 0, 1) := dk_38 (dk_at dksJ15_floorOrCeil_0 17 rfl rfl)
theorem dJ15_floorOrCeil_18 : decode cJ15_floorOrCeil 18 = .ok (.goto 15, 3) := dk_167 0 15 (dk_at dksJ15_floorOrCeil_0 18 rfl rfl)
theorem dJ15_floorOrCeil_21 : decode cJ15_floorOrCeil 21 = .ok (.dload_n 0, 1) := dk_38 (dk_at dksJ15_floorOrCeil_0 21 rfl rfl)
theorem dJ15_floorOrCeil_22 : decode cJ15_floorOrCeil 22 = .ok (.dconst 0, 1) := dk_14 (dk_at dksJ15_floorOrCeil_0 22 rfl rfl)
theorem dJ15_floorOrCeil_23 : decode cJ15_floorOrCeil 23 = .ok (.dcmp .g, 1) := dk_152 (dk_at dksJ15_floorOrCeil_0 23 rfl rfl)
theorem dJ15_floorOrCeil_24 : decode cJ15_floorOrCeil 24 = .ok (.ifCond .ge 7, 3) := dk_156 0 7 (dk_at dksJ15_floorOrCeil_1 0 rfl rfl)
theorem dJ15_floorOrCeil_27 : decode cJ15_floorOrCeil 27 = .ok (.dload_n 2, 1) := dk_40 (dk_at dksJ15_floorOrCeil_1 3 rfl rfl)
theorem dJ15_floorOrCeil_28 : decode cJ15_floorOrCeil 28 = .ok (.goto 5, 3) := dk_167 0 5 (dk_at dksJ15_floorOrCeil_1 4 rfl rfl)
theorem dJ15_floorOrCeil_31 : decode cJ15_floorOrCeil 31 = .ok (.dload 4, 2) := dk_24 4 (dk_at dksJ15_floorOrCeil_1 7 rfl rfl)
theorem dJ15_floorOrCeil_33 : decode cJ15_floorOrCeil 33 = .ok (.dreturn, 1) := dk_175 (dk_at dksJ15_floorOrCeil_1 9 rfl rfl)
theorem dJ15_floorOrCeil_34 : decode cJ15_floorOrCeil 34 = .ok (.iload 8, 2) := dk_21 8 (dk_at dksJ15_floorOrCeil_1 10 rfl rfl)
theorem dJ15_floorOrCeil_36 : decode cJ15_floorOrCeil 36 = .ok (.bipush 52, 2) := dk_16 52 (dk_at dksJ15_floorOrCeil_1 12 rfl rfl)
theorem dJ15_floorOrCeil_38 : decode cJ15_floorOrCeil 38 = .ok (.if_icmp .lt 5, 3) := dk_161 0 5 (dk_at dksJ15_floorOrCeil_1 14 rfl rfl)
theorem dJ15_floorOrCeil_41 : decode cJ15_floorOrCeil 41 = .ok (.dload_n 0, 1) := dk_38 (dk_at dksJ15_floorOrCeil_1 17 rfl rfl)
theorem dJ15_floorOrCeil_42 : decode cJ15_floorOrCeil 42 = .ok (.dreturn, 1) := dk_175 (dk_at dksJ15_floorOrCeil_1 18 rfl rfl)
theorem dJ15_floorOrCeil_43 : decode cJ15_floorOrCeil 43 = .ok (.getstatic 70, 3) := dk_178 0 70 (dk_at dksJ15_floorOrCeil_1 19 rfl rfl)
theorem dJ15_floorOrCeil_46 : decode cJ15_floorOrCeil 46 = .ok (.ifCond .ne 23, 3) := dk_154 0 23 (dk_at dksJ15_floorOrCeil_2 0 rfl rfl)
theorem dJ15_floorOrCeil_49 : decode cJ15_floorOrCeil 49 = .ok (.iload 8, 2) := dk_21 8 (dk_at dksJ15_floorOrCeil_2 3 rfl rfl)
theorem dJ15_floorOrCeil_51 : decode cJ15_floorOrCeil 51 = .ok (.ifCond .lt 10, 3) := dk_155 0 10 (dk_at dksJ15_floorOrCeil_2 5 rfl rfl)
theorem dJ15_floorOrCeil_54 : decode cJ15_floorOrCeil 54 = .ok (.iload 8, 2) := dk_21 8 (dk_at dksJ15_floorOrCeil_2 8 rfl rfl)
theorem dJ15_floorOrCeil_56 : decode cJ15_floorOrCeil 56 = .ok (.bipush 51, 2) := dk_16 51 (dk_at dksJ15_floorOrCeil_2 10 rfl rfl)
theorem dJ15_floorOrCeil_58 : decode cJ15_floorOrCeil 58 = .ok (.if_icmp .le 11, 3) := dk_164 0 11 (dk_at dksJ15_floorOrCeil_2 12 rfl rfl)
theorem dJ15_floorOrCeil_61 : decode cJ15_floorOrCeil 61 = .ok (.new 74, 3) := dk_187 0 74 (dk_at dksJ15_floorOrCeil_2 15 rfl rfl)
theorem dJ15_floorOrCeil_64 : decode cJ15_floorOrCeil 64 = .ok (.dup, 1) := dk_89 (dk_at dksJ15_floorOrCeil_2 18 rfl rfl)
theorem dJ15_floorOrCeil_65 : decode cJ15_floorOrCeil 65 = .ok (.invokespecial 76, 3) := dk_183 0 76 (dk_at dksJ15_floorOrCeil_2 19 rfl rfl)
theorem dJ15_floorOrCeil_68 : decode cJ15_floorOrCeil 68 = .ok (.athrow, 1) := dk_191 (dk_at dksJ15_floorOrCeil_2 22 rfl rfl)
theorem dJ15_floorOrCeil_69 : decode cJ15_floorOrCeil 69 = .ok (.dload_n 0, 1) := dk_38 (dk_at dksJ15_floorOrCeil_2 23 rfl rfl)
theorem dJ15_floorOrCeil_70 : decode cJ15_floorOrCeil 70 = .ok (.invokestatic 77, 3) := dk_184 0 77 (dk_at dksJ15_floorOrCeil_3 0 rfl rfl)
theorem dJ15_floorOrCeil_73 : decode cJ15_floorOrCeil 73 = .ok (.lstore 9, 2) := dk_55 9 (dk_at dksJ15_floorOrCeil_3 3 rfl rfl)
theorem dJ15_floorOrCeil_75 : decode cJ15_floorOrCeil 75 = .ok (.ldc2_w 85, 3) := dk_20 0 85 (dk_at dksJ15_floorOrCeil_3 5 rfl rfl)
theorem dJ15_floorOrCeil_78 : decode cJ15_floorOrCeil 78 = .ok (.iload 8, 2) := dk_21 8 (dk_at dksJ15_floorOrCeil_3 8 rfl rfl)
theorem dJ15_floorOrCeil_80 : decode cJ15_floorOrCeil 80 = .ok (.lshr, 1) := dk_123 (dk_at dksJ15_floorOrCeil_3 10 rfl rfl)
theorem dJ15_floorOrCeil_81 : decode cJ15_floorOrCeil 81 = .ok (.lstore 11, 2) := dk_55 11 (dk_at dksJ15_floorOrCeil_3 11 rfl rfl)
theorem dJ15_floorOrCeil_83 : decode cJ15_floorOrCeil 83 = .ok (.lload 11, 2) := dk_22 11 (dk_at dksJ15_floorOrCeil_3 13 rfl rfl)
theorem dJ15_floorOrCeil_85 : decode cJ15_floorOrCeil 85 = .ok (.lload 9, 2) := dk_22 9 (dk_at dksJ15_floorOrCeil_3 15 rfl rfl)
theorem dJ15_floorOrCeil_87 : decode cJ15_floorOrCeil 87 = .ok (.land, 1) := dk_127 (dk_at dksJ15_floorOrCeil_3 17 rfl rfl)
theorem dJ15_floorOrCeil_88 : decode cJ15_floorOrCeil 88 = .ok (.lconst 0, 1) := dk_9 (dk_at dksJ15_floorOrCeil_3 18 rfl rfl)
theorem dJ15_floorOrCeil_89 : decode cJ15_floorOrCeil 89 = .ok (.lcmp, 1) := dk_148 (dk_at dksJ15_floorOrCeil_3 19 rfl rfl)
theorem dJ15_floorOrCeil_90 : decode cJ15_floorOrCeil 90 = .ok (.ifCond .ne 5, 3) := dk_154 0 5 (dk_at dksJ15_floorOrCeil_3 20 rfl rfl)
theorem dJ15_floorOrCeil_93 : decode cJ15_floorOrCeil 93 = .ok (.dload_n 0, 1) := dk_38 (dk_at dksJ15_floorOrCeil_3 23 rfl rfl)
theorem dJ15_floorOrCeil_94 : decode cJ15_floorOrCeil 94 = .ok (.dreturn, 1) := dk_175 (dk_at dksJ15_floorOrCeil_4 0 rfl rfl)
theorem dJ15_floorOrCeil_95 : decode cJ15_floorOrCeil 95 = .ok (.lload 9, 2) := dk_22 9 (dk_at dksJ15_floorOrCeil_4 1 rfl rfl)
theorem dJ15_floorOrCeil_97 : decode cJ15_floorOrCeil 97 = .ok (.lload 11, 2) := dk_22 11 (dk_at dksJ15_floorOrCeil_4 3 rfl rfl)
theorem dJ15_floorOrCeil_99 : decode cJ15_floorOrCeil 99 = .ok (.ldc2_w 87, 3) := dk_20 0 87 (dk_at dksJ15_floorOrCeil_4 5 rfl rfl)
theorem dJ15_floorOrCeil_102 : decode cJ15_floorOrCeil 102 = .ok (.lxor, 1) := dk_131 (dk_at dksJ15_floorOrCeil_4 8 rfl rfl)
theorem dJ15_floorOrCeil_103 : decode cJ15_floorOrCeil 103 = .ok (.land, 1) := dk_127 (dk_at dksJ15_floorOrCeil_4 9 rfl rfl)
theorem dJ15_floorOrCeil_104 : decode cJ15_floorOrCeil 104 = .ok (.invokestatic 89, 3) := dk_184 0 89 (dk_at dksJ15_floorOrCeil_4 10 rfl rfl)
theorem dJ15_floorOrCeil_107 : decode cJ15_floorOrCeil 107 = .ok (.dstore 13, 2) := dk_57 13 (dk_at dksJ15_floorOrCeil_4 13 rfl rfl)
theorem dJ15_floorOrCeil_109 : decode cJ15_floorOrCeil 109 = .ok (.dload 6, 2) := dk_24 6 (dk_at dksJ15_floorOrCeil_4 15 rfl rfl)
theorem dJ15_floorOrCeil_111 : decode cJ15_floorOrCeil 111 = .ok (.dload_n 0, 1) := dk_38 (dk_at dksJ15_floorOrCeil_4 17 rfl rfl)
theorem dJ15_floorOrCeil_112 : decode cJ15_floorOrCeil 112 = .ok (.dmul, 1) := dk_107 (dk_at dksJ15_floorOrCeil_4 18 rfl rfl)
theorem dJ15_floorOrCeil_113 : decode cJ15_floorOrCeil 113 = .ok (.dconst 0, 1) := dk_14 (dk_at dksJ15_floorOrCeil_4 19 rfl rfl)
theorem dJ15_floorOrCeil_114 : decode cJ15_floorOrCeil 114 = .ok (.dcmp .l, 1) := dk_151 (dk_at dksJ15_floorOrCeil_4 20 rfl rfl)
theorem dJ15_floorOrCeil_115 : decode cJ15_floorOrCeil 115 = .ok (.ifCond .le 10, 3) := dk_158 0 10 (dk_at dksJ15_floorOrCeil_4 21 rfl rfl)
theorem dJ15_floorOrCeil_118 : decode cJ15_floorOrCeil 118 = .ok (.dload 13, 2) := dk_24 13 (dk_at dksJ15_floorOrCeil_5 0 rfl rfl)
theorem dJ15_floorOrCeil_120 : decode cJ15_floorOrCeil 120 = .ok (.dload 6, 2) := dk_24 6 (dk_at dksJ15_floorOrCeil_5 2 rfl rfl)
theorem dJ15_floorOrCeil_122 : decode cJ15_floorOrCeil 122 = .ok (.dadd, 1) := dk_99 (dk_at dksJ15_floorOrCeil_5 4 rfl rfl)
theorem dJ15_floorOrCeil_123 : decode cJ15_floorOrCeil 123 = .ok (.dstore 13, 2) := dk_57 13 (dk_at dksJ15_floorOrCeil_5 5 rfl rfl)
theorem dJ15_floorOrCeil_125 : decode cJ15_floorOrCeil 125 = .ok (.dload 13, 2) := dk_24 13 (dk_at dksJ15_floorOrCeil_5 7 rfl rfl)
theorem dJ15_floorOrCeil_127 : decode cJ15_floorOrCeil 127 = .ok (.dreturn, 1) := dk_175 (dk_at dksJ15_floorOrCeil_5 9 rfl rfl)
abbrev cJ15_ceil : ByteArray := prog_26_method_16_code
def yJ15_ceil : MethodName := ⟨RJ15, "ceil", "(D)D"⟩
def dkwJ15_ceil_0 : List UInt8 := [38, 20, 0, 58, 15, 15, 184, 0, 60, 175]
abbrev dktJ15_ceil_0 : List UInt8 := dkwJ15_ceil_0 ++ []
theorem dksJ15_ceil_0 : cJ15_ceil.data.toList.drop 0 = dktJ15_ceil_0 := by decide +kernel
theorem dJ15_ceil_0 : decode cJ15_ceil 0 = .ok (.dload_n 0, 1) := dk_38 (dk_at dksJ15_ceil_0 0 rfl rfl)
theorem dJ15_ceil_1 : decode cJ15_ceil 1 = .ok (.ldc2_w 58, 3) := dk_20 0 58 (dk_at dksJ15_ceil_0 1 rfl rfl)
theorem dJ15_ceil_4 : decode cJ15_ceil 4 = .ok (.dconst 1, 1) := dk_15 (dk_at dksJ15_ceil_0 4 rfl rfl)
theorem dJ15_ceil_5 : decode cJ15_ceil 5 = .ok (.dconst 1, 1) := dk_15 (dk_at dksJ15_ceil_0 5 rfl rfl)
theorem dJ15_ceil_6 : decode cJ15_ceil 6 = .ok (.invokestatic 60, 3) := dk_184 0 60 (dk_at dksJ15_ceil_0 6 rfl rfl)
theorem dJ15_ceil_9 : decode cJ15_ceil 9 = .ok (.dreturn, 1) := dk_175 (dk_at dksJ15_ceil_0 9 rfl rfl)
abbrev cJ15_rint : ByteArray := prog_26_method_19_code
def yJ15_rint : MethodName := ⟨RJ15, "rint", "(D)D"⟩
def dkwJ15_rint_1 : List UInt8 := [99, 40, 103, 71, 24, 4, 38, 107, 175]
abbrev dktJ15_rint_1 : List UInt8 := dkwJ15_rint_1 ++ []
def dkwJ15_rint_0 : List UInt8 := [20, 0, 93, 73, 15, 38, 184, 0, 95, 57, 4, 38, 184, 0, 98, 71, 38, 40, 152, 156, 0, 9, 40, 38]
abbrev dktJ15_rint_0 : List UInt8 := dkwJ15_rint_0 ++ dktJ15_rint_1
theorem dksJ15_rint_0 : cJ15_rint.data.toList.drop 0 = dktJ15_rint_0 := by decide +kernel
theorem dksJ15_rint_1 : cJ15_rint.data.toList.drop 24 = dktJ15_rint_1 := dk_seg dksJ15_rint_0 24 rfl rfl
theorem dJ15_rint_0 : decode cJ15_rint 0 = .ok (.ldc2_w 93, 3) := dk_20 0 93 (dk_at dksJ15_rint_0 0 rfl rfl)
theorem dJ15_rint_3 : decode cJ15_rint 3 = .ok (.dstore_n 2, 1) := dk_73 (dk_at dksJ15_rint_0 3 rfl rfl)
theorem dJ15_rint_4 : decode cJ15_rint 4 = .ok (.dconst 1, 1) := dk_15 (dk_at dksJ15_rint_0 4 rfl rfl)
theorem dJ15_rint_5 : decode cJ15_rint 5 = .ok (.dload_n 0, 1) := dk_38 (dk_at dksJ15_rint_0 5 rfl rfl)
theorem dJ15_rint_6 : decode cJ15_rint 6 = .ok (.invokestatic 95, 3) := dk_184 0 95 (dk_at dksJ15_rint_0 6 rfl rfl)
theorem dJ15_rint_9 : decode cJ15_rint 9 = .ok (.dstore 4, 2) := dk_57 4 (dk_at dksJ15_rint_0 9 rfl rfl)
theorem dJ15_rint_11 : decode cJ15_rint 11 = .ok (.dload_n 0, 1) := dk_38 (dk_at dksJ15_rint_0 11 rfl rfl)
theorem dJ15_rint_12 : decode cJ15_rint 12 = .ok (.invokestatic 98, 3) := dk_184 0 98 (dk_at dksJ15_rint_0 12 rfl rfl)
theorem dJ15_rint_15 : decode cJ15_rint 15 = .ok (.dstore_n 0, 1) := dk_71 (dk_at dksJ15_rint_0 15 rfl rfl)
theorem dJ15_rint_16 : decode cJ15_rint 16 = .ok (.dload_n 0, 1) := dk_38 (dk_at dksJ15_rint_0 16 rfl rfl)
theorem dJ15_rint_17 : decode cJ15_rint 17 = .ok (.dload_n 2, 1) := dk_40 (dk_at dksJ15_rint_0 17 rfl rfl)
theorem dJ15_rint_18 : decode cJ15_rint 18 = .ok (.dcmp .g, 1) := dk_152 (dk_at dksJ15_rint_0 18 rfl rfl)
theorem dJ15_rint_19 : decode cJ15_rint 19 = .ok (.ifCond .ge 9, 3) := dk_156 0 9 (dk_at dksJ15_rint_0 19 rfl rfl)
theorem dJ15_rint_22 : decode cJ15_rint 22 = .ok (.dload_n 2, 1) := dk_40 (dk_at dksJ15_rint_0 22 rfl rfl)
theorem dJ15_rint_23 : decode cJ15_rint 23 = .ok (.dload_n 0, 1) := dk_38 (dk_at dksJ15_rint_0 23 rfl rfl)
theorem dJ15_rint_24 : decode cJ15_rint 24 = .ok (.dadd, 1) := dk_99 (dk_at dksJ15_rint_1 0 rfl rfl)
theorem dJ15_rint_25 : decode cJ15_rint 25 = .ok (.dload_n 2, 1) := dk_40 (dk_at dksJ15_rint_1 1 rfl rfl)
theorem dJ15_rint_26 : decode cJ15_rint 26 = .ok (.dsub, 1) := dk_103 (dk_at dksJ15_rint_1 2 rfl rfl)
theorem dJ15_rint_27 : decode cJ15_rint 27 = .ok (.dstore_n 0, 1) := dk_71 (dk_at dksJ15_rint_1 3 rfl rfl)
theorem dJ15_rint_28 : decode cJ15_rint 28 = .ok (.dload 4, 2) := dk_24 4 (dk_at dksJ15_rint_1 4 rfl rfl)
theorem dJ15_rint_30 : decode cJ15_rint 30 = .ok (.dload_n 0, 1) := dk_38 (dk_at dksJ15_rint_1 6 rfl rfl)
theorem dJ15_rint_31 : decode cJ15_rint 31 = .ok (.dmul, 1) := dk_107 (dk_at dksJ15_rint_1 7 rfl rfl)
theorem dJ15_rint_32 : decode cJ15_rint 32 = .ok (.dreturn, 1) := dk_175 (dk_at dksJ15_rint_1 8 rfl rfl)
theorem q85 : (Jvm.Cond.initialized "java/lang/StrictMath") ∈ lw_all := lw_g (lw_at lw_m1 27 rfl) rfl
theorem q832 : (Jvm.Cond.static ({ cls := "java/lang/StrictMath", name := "floo\x72", desc := "(D)D" } : Jvm.MethodName)) ∈ lw_all := lw_g (lw_at lw_m4 54 rfl) rfl
theorem q833 : (Jvm.Cond.code ({ cls := "java/lang/StrictMath", name := "floo\x72", desc := "(D)D" } : Jvm.MethodName) prog_26_method_17_code (2 : Nat) (Option.some Jvm.ClassFile.FieldType.double)) ∈ lw_all := lw_g (lw_at lw_m4 55 rfl) rfl
theorem q834 : (Jvm.Cond.constantDouble "java/lang/StrictMath" (64 : Nat) (13830554455654793216 : UInt64)) ∈ lw_all := lw_g (lw_at lw_m4 56 rfl) rfl
theorem q835 : (Jvm.Cond.methodLink "java/lang/StrictMath" (60 : Nat) ({ cls := "java/lang/StrictMath", name := "floorOrCeil", desc := "(DDDD)D" } : Jvm.MethodName)) ∈ lw_all := lw_g (lw_at lw_m4 57 rfl) rfl
theorem q836 : (Jvm.Cond.static ({ cls := "java/lang/StrictMath", name := "floorOrCeil", desc := "(DDDD)D" } : Jvm.MethodName)) ∈ lw_all := lw_g (lw_at lw_m4 58 rfl) rfl
theorem q837 : (Jvm.Cond.code ({ cls := "java/lang/StrictMath", name := "floorOrCeil", desc := "(DDDD)D" } : Jvm.MethodName) prog_26_method_18_code (15 : Nat) (Option.some Jvm.ClassFile.FieldType.double)) ∈ lw_all := lw_g (lw_at lw_m4 59 rfl) rfl
theorem q838 : (Jvm.Cond.methodLink "java/lang/StrictMath" (66 : Nat) ({ cls := "java/lang/Math", name := "getExponent", desc := "(D)I" } : Jvm.MethodName)) ∈ lw_all := lw_g (lw_at lw_m4 60 rfl) rfl
theorem q839 : (Jvm.Cond.fieldLink "java/lang/StrictMath" (70 : Nat) "java/lang/StrictMath" "$assertionsDisabled" "Z") ∈ lw_all := lw_g (lw_at lw_m4 61 rfl) rfl
theorem q840 : (Jvm.Cond.laysStatic "java/lang/StrictMath" "$assertionsDisabled" "Z") ∈ lw_tbl := lw_at lw_m4 62 rfl
theorem q841 : (Jvm.Cond.methodLink "java/lang/StrictMath" (77 : Nat) ({ cls := "java/lang/Double", name := "doubleToRawLongBits", desc := "(D)J" } : Jvm.MethodName)) ∈ lw_all := lw_g (lw_at lw_m4 63 rfl) rfl
theorem q842 : (Jvm.Cond.constantLong "java/lang/StrictMath" (85 : Nat) (4503599627370495 : Int64)) ∈ lw_all := lw_g (lw_at lw_m4 64 rfl) rfl
theorem q843 : (Jvm.Cond.constantLong "java/lang/StrictMath" (87 : Nat) (-1 : Int64)) ∈ lw_all := lw_g (lw_at lw_m4 65 rfl) rfl
theorem q844 : (Jvm.Cond.methodLink "java/lang/StrictMath" (89 : Nat) ({ cls := "java/lang/Double", name := "longBitsToDouble", desc := "(J)D" } : Jvm.MethodName)) ∈ lw_all := lw_g (lw_at lw_m4 66 rfl) rfl
theorem q849 : (Jvm.Cond.static ({ cls := "java/lang/StrictMath", name := "ceil", desc := "(D)D" } : Jvm.MethodName)) ∈ lw_all := lw_g (lw_at lw_m4 71 rfl) rfl
theorem q850 : (Jvm.Cond.code ({ cls := "java/lang/StrictMath", name := "ceil", desc := "(D)D" } : Jvm.MethodName) prog_26_method_16_code (2 : Nat) (Option.some Jvm.ClassFile.FieldType.double)) ∈ lw_all := lw_g (lw_at lw_m4 72 rfl) rfl
theorem q851 : (Jvm.Cond.constantDouble "java/lang/StrictMath" (58 : Nat) (9223372036854775808 : UInt64)) ∈ lw_all := lw_g (lw_at lw_m4 73 rfl) rfl
theorem q856 : (Jvm.Cond.static ({ cls := "java/lang/StrictMath", name := "rint", desc := "(D)D" } : Jvm.MethodName)) ∈ lw_all := lw_g (lw_at lw_m4 78 rfl) rfl
theorem q857 : (Jvm.Cond.code ({ cls := "java/lang/StrictMath", name := "rint", desc := "(D)D" } : Jvm.MethodName) prog_26_method_19_code (6 : Nat) (Option.some Jvm.ClassFile.FieldType.double)) ∈ lw_all := lw_g (lw_at lw_m4 79 rfl) rfl
theorem q858 : (Jvm.Cond.constantDouble "java/lang/StrictMath" (93 : Nat) (4841369599423283200 : UInt64)) ∈ lw_all := lw_g (lw_at lw_m4 80 rfl) rfl
theorem q859 : (Jvm.Cond.methodLink "java/lang/StrictMath" (95 : Nat) ({ cls := "java/lang/Math", name := "copySign", desc := "(DD)D" } : Jvm.MethodName)) ∈ lw_all := lw_g (lw_at lw_m4 81 rfl) rfl
theorem q860 : (Jvm.Cond.methodLink "java/lang/StrictMath" (98 : Nat) ({ cls := "java/lang/Math", name := "abs", desc := "(D)D" } : Jvm.MethodName)) ∈ lw_all := lw_g (lw_at lw_m4 82 rfl) rfl
/-! java/lang/Object -/
set_option maxRecDepth 100000
def RJ16 : String := "java/lang/Object"
abbrev cJ16_init : ByteArray := object_method_1_code
def yJ16_init : MethodName := ⟨RJ16, "<init>", "()V"⟩
theorem dJ16_init_0 : decode cJ16_init 0 = .ok (.return_, 1) := by decide +kernel
theorem q92 : (Jvm.Cond.instanceMethod ({ cls := "java/lang/Object", name := "<init>", desc := "()V" } : Jvm.MethodName)) ∈ lw_all := lw_g (lw_at lw_m1 34 rfl) rfl
theorem q93 : (Jvm.Cond.code ({ cls := "java/lang/Object", name := "<init>", desc := "()V" } : Jvm.MethodName) object_method_1_code (1 : Nat) (Option.none : Option Jvm.ClassFile.FieldType)) ∈ lw_all := lw_g (lw_at lw_m1 35 rfl) rfl
/-! java/lang/RuntimeException -/
set_option maxRecDepth 100000
def RJ2 : String := "java/lang/RuntimeException"
abbrev cJ2_init : ByteArray := prog_25_method_2_code
def yJ2_init : MethodName := ⟨RJ2, "<init>", "(Ljava/lang/String;)V"⟩
def dkwJ2_init_0 : List UInt8 := [42, 43, 183, 0, 7, 177]
abbrev dktJ2_init_0 : List UInt8 := dkwJ2_init_0 ++ []
theorem dksJ2_init_0 : cJ2_init.data.toList.drop 0 = dktJ2_init_0 := by decide +kernel
theorem dJ2_init_0 : decode cJ2_init 0 = .ok (.aload_n 0, 1) := dk_42 (dk_at dksJ2_init_0 0 rfl rfl)
theorem dJ2_init_1 : decode cJ2_init 1 = .ok (.aload_n 1, 1) := dk_43 (dk_at dksJ2_init_0 1 rfl rfl)
theorem dJ2_init_2 : decode cJ2_init 2 = .ok (.invokespecial 7, 3) := dk_183 0 7 (dk_at dksJ2_init_0 2 rfl rfl)
theorem dJ2_init_5 : decode cJ2_init 5 = .ok (.return_, 1) := dk_177 (dk_at dksJ2_init_0 5 rfl rfl)
abbrev cJ2_init_2 : ByteArray := prog_25_method_1_code
def yJ2_init_2 : MethodName := ⟨RJ2, "<init>", "()V"⟩
theorem dJ2_init_2_0 : decode cJ2_init_2 0 = .ok (.aload_n 0, 1) := by decide +kernel
theorem dJ2_init_2_1 : decode cJ2_init_2 1 = .ok (.invokespecial 1, 3) := by decide +kernel
theorem dJ2_init_2_4 : decode cJ2_init_2 4 = .ok (.return_, 1) := by decide +kernel
theorem q69 : (Jvm.Cond.initialized "java/lang/RuntimeException") ∈ lw_all := lw_g (lw_at lw_m1 11 rfl) rfl
theorem q237 : (Jvm.Cond.instanceMethod ({ cls := "java/lang/RuntimeException", name := "<init>", desc := "(Ljava/lang/String;)V" } : Jvm.MethodName)) ∈ lw_all := lw_g (lw_at lw_m1 179 rfl) rfl
theorem q238 : (Jvm.Cond.code ({ cls := "java/lang/RuntimeException", name := "<init>", desc := "(Ljava/lang/String;)V" } : Jvm.MethodName) prog_25_method_2_code (2 : Nat) (Option.none : Option Jvm.ClassFile.FieldType)) ∈ lw_all := lw_g (lw_at lw_m1 180 rfl) rfl
theorem q239 : (Jvm.Cond.methodLink "java/lang/RuntimeException" (7 : Nat) ({ cls := "java/lang/Exception", name := "<init>", desc := "(Ljava/lang/String;)V" } : Jvm.MethodName)) ∈ lw_all := lw_g (lw_at lw_m1 181 rfl) rfl
theorem q268 : (Jvm.Cond.sameMethod "java/lang/RuntimeException" "java/lang/Throwable" "fillInStackTrace" "()Ljava/lang/Throwable;") ∈ lw_all := lw_g (lw_at lw_m1 210 rfl) rfl
theorem q271 : (Jvm.Cond.superclass "java/lang/RuntimeException" "java/lang/Exception") ∈ lw_all := lw_g (lw_at lw_m1 213 rfl) rfl
theorem q300 : (Jvm.Cond.declares ({ cls := "java/lang/RuntimeException", name := "<init>", desc := "()V" } : Jvm.MethodName)) ∈ lw_tbl := lw_at lw_m2 2 rfl
theorem q301 : (Jvm.Cond.declares ({ cls := "java/lang/RuntimeException", name := "<init>", desc := "(Ljava/lang/String;)V" } : Jvm.MethodName)) ∈ lw_tbl := lw_at lw_m2 3 rfl
theorem q438 : (Jvm.Cond.instanceMethod ({ cls := "java/lang/RuntimeException", name := "<init>", desc := "()V" } : Jvm.MethodName)) ∈ lw_all := lw_g (lw_at lw_m2 140 rfl) rfl
theorem q439 : (Jvm.Cond.code ({ cls := "java/lang/RuntimeException", name := "<init>", desc := "()V" } : Jvm.MethodName) prog_25_method_1_code (1 : Nat) (Option.none : Option Jvm.ClassFile.FieldType)) ∈ lw_all := lw_g (lw_at lw_m2 141 rfl) rfl
theorem q440 : (Jvm.Cond.methodLink "java/lang/RuntimeException" (1 : Nat) ({ cls := "java/lang/Exception", name := "<init>", desc := "()V" } : Jvm.MethodName)) ∈ lw_all := lw_g (lw_at lw_m2 142 rfl) rfl
theorem q556 : (Jvm.Cond.castable "java/lang/RuntimeException" "java/lang/Throwable") ∈ lw_tbl := lw_at lw_m3 18 rfl
/-! java/lang/IndexOutOfBoundsException -/
set_option maxRecDepth 100000
def RJ3 : String := "java/lang/IndexOutOfBoundsException"
def TJ3 : u_T := fun k => match k with
  | 0 => ("java/lang/Throwable", "cause", "Ljava/lang/Throwable;", false)
  | 1 => ("java/lang/Throwable", "stackTrace", "[Ljava/lang/StackTraceElement;", false)
  | 2 => ("java/lang/Throwable", "suppressedExceptions", "Ljava/util/List;", false)
  | 3 => ("java/lang/Throwable", "detailMessage", "Ljava/lang/String;", false)
  | 4 => ("java/lang/Throwable", "backtrace", "Ljava/lang/Object;", false)
  | _ => ("java/lang/Throwable", "depth", "I", false)
def tyJ3 : Nat → FieldType := fun k => match k with
  | 0 => .object "java/lang/Throwable"
  | 1 => .array (.object "java/lang/StackTraceElement")
  | 2 => .object "java/util/List"
  | 3 => .object "java/lang/String"
  | 4 => .object "java/lang/Object"
  | _ => .int
abbrev wsJ30 : List Cond := u_ws RJ3 TJ3 6
theorem nmJ3 : ∀ a, a < 6 → ∀ b, b < 6 → a ≠ b → (TJ3 a).2.1 ≠ (TJ3 b).2.1 := by decide +kernel
theorem tyJ3_ok : ∀ k, k < 6 → parseFieldDescriptor (TJ3 k).2.2.1 = some (tyJ3 k) := by decide +kernel
abbrev cJ3_init : ByteArray := prog_20_method_2_code
def yJ3_init : MethodName := ⟨RJ3, "<init>", "(Ljava/lang/String;)V"⟩
def dkwJ3_init_0 : List UInt8 := [42, 43, 183, 0, 7, 177]
abbrev dktJ3_init_0 : List UInt8 := dkwJ3_init_0 ++ []
theorem dksJ3_init_0 : cJ3_init.data.toList.drop 0 = dktJ3_init_0 := by decide +kernel
theorem dJ3_init_0 : decode cJ3_init 0 = .ok (.aload_n 0, 1) := dk_42 (dk_at dksJ3_init_0 0 rfl rfl)
theorem dJ3_init_1 : decode cJ3_init 1 = .ok (.aload_n 1, 1) := dk_43 (dk_at dksJ3_init_0 1 rfl rfl)
theorem dJ3_init_2 : decode cJ3_init 2 = .ok (.invokespecial 7, 3) := dk_183 0 7 (dk_at dksJ3_init_0 2 rfl rfl)
theorem dJ3_init_5 : decode cJ3_init 5 = .ok (.return_, 1) := dk_177 (dk_at dksJ3_init_0 5 rfl rfl)
abbrev cJ3_init_2 : ByteArray := prog_20_method_1_code
def yJ3_init_2 : MethodName := ⟨RJ3, "<init>", "()V"⟩
theorem dJ3_init_2_0 : decode cJ3_init_2 0 = .ok (.aload_n 0, 1) := by decide +kernel
theorem dJ3_init_2_1 : decode cJ3_init_2 1 = .ok (.invokespecial 1, 3) := by decide +kernel
theorem dJ3_init_2_4 : decode cJ3_init_2 4 = .ok (.return_, 1) := by decide +kernel
theorem q70 : (Jvm.Cond.initialized "java/lang/IndexOutOfBoundsException") ∈ lw_all := lw_g (lw_at lw_m1 12 rfl) rfl
theorem q234 : (Jvm.Cond.instanceMethod ({ cls := "java/lang/IndexOutOfBoundsException", name := "<init>", desc := "(Ljava/lang/String;)V" } : Jvm.MethodName)) ∈ lw_all := lw_g (lw_at lw_m1 176 rfl) rfl
theorem q235 : (Jvm.Cond.code ({ cls := "java/lang/IndexOutOfBoundsException", name := "<init>", desc := "(Ljava/lang/String;)V" } : Jvm.MethodName) prog_20_method_2_code (2 : Nat) (Option.none : Option Jvm.ClassFile.FieldType)) ∈ lw_all := lw_g (lw_at lw_m1 177 rfl) rfl
theorem q236 : (Jvm.Cond.methodLink "java/lang/IndexOutOfBoundsException" (7 : Nat) ({ cls := "java/lang/RuntimeException", name := "<init>", desc := "(Ljava/lang/String;)V" } : Jvm.MethodName)) ∈ lw_all := lw_g (lw_at lw_m1 178 rfl) rfl
theorem q258 : (Jvm.Cond.selects "java/lang/IndexOutOfBoundsException" ({ cls := "java/lang/Throwable", name := "fillInStackTrace", desc := "()Ljava/lang/Throwable;" } : Jvm.MethodName) ({ cls := "java/lang/Throwable", name := "fillInStackTrace", desc := "()Ljava/lang/Throwable;" } : Jvm.MethodName)) ∈ lw_all := lw_g (lw_at lw_m1 200 rfl) rfl
theorem q298 : (Jvm.Cond.declares ({ cls := "java/lang/IndexOutOfBoundsException", name := "<init>", desc := "()V" } : Jvm.MethodName)) ∈ lw_tbl := lw_at lw_m2 0 rfl
theorem q299 : (Jvm.Cond.declares ({ cls := "java/lang/IndexOutOfBoundsException", name := "<init>", desc := "(Ljava/lang/String;)V" } : Jvm.MethodName)) ∈ lw_tbl := lw_at lw_m2 1 rfl
theorem q558 : (Jvm.Cond.instantiable "java/lang/IndexOutOfBoundsException" (6 : Nat)) ∈ lw_all := lw_g (lw_at lw_m3 20 rfl) rfl
theorem q559 : (Jvm.Cond.castable "java/lang/IndexOutOfBoundsException" "java/lang/IndexOutOfBoundsException") ∈ lw_tbl := lw_at lw_m3 21 rfl
theorem q560 : (Jvm.Cond.selects "java/lang/IndexOutOfBoundsException" ({ cls := "java/lang/Throwable", name := "fillInStackTrace", desc := "(I)Ljava/lang/Throwable;" } : Jvm.MethodName) ({ cls := "java/lang/Throwable", name := "fillInStackTrace", desc := "(I)Ljava/lang/Throwable;" } : Jvm.MethodName)) ∈ lw_all := lw_g (lw_at lw_m3 22 rfl) rfl
theorem q561 : (Jvm.Cond.lays "java/lang/IndexOutOfBoundsException" "java/lang/Throwable" "cause" "Ljava/lang/Throwable;") ∈ lw_all := lw_g (lw_at lw_m3 23 rfl) rfl
theorem q562 : (Jvm.Cond.lays "java/lang/IndexOutOfBoundsException" "java/lang/Throwable" "stackTrace" "[Ljava/lang/StackTraceElement;") ∈ lw_all := lw_g (lw_at lw_m3 24 rfl) rfl
theorem q563 : (Jvm.Cond.lays "java/lang/IndexOutOfBoundsException" "java/lang/Throwable" "suppressedExceptions" "Ljava/util/List;") ∈ lw_all := lw_g (lw_at lw_m3 25 rfl) rfl
theorem q564 : (Jvm.Cond.lays "java/lang/IndexOutOfBoundsException" "java/lang/Throwable" "detailMessage" "Ljava/lang/String;") ∈ lw_all := lw_g (lw_at lw_m3 26 rfl) rfl
theorem q565 : (Jvm.Cond.lays "java/lang/IndexOutOfBoundsException" "java/lang/Throwable" "backtrace" "Ljava/lang/Object;") ∈ lw_all := lw_g (lw_at lw_m3 27 rfl) rfl
theorem q567 : (Jvm.Cond.instanceMethod ({ cls := "java/lang/IndexOutOfBoundsException", name := "<init>", desc := "()V" } : Jvm.MethodName)) ∈ lw_all := lw_g (lw_at lw_m3 29 rfl) rfl
theorem q568 : (Jvm.Cond.code ({ cls := "java/lang/IndexOutOfBoundsException", name := "<init>", desc := "()V" } : Jvm.MethodName) prog_20_method_1_code (1 : Nat) (Option.none : Option Jvm.ClassFile.FieldType)) ∈ lw_all := lw_g (lw_at lw_m3 30 rfl) rfl
theorem q569 : (Jvm.Cond.methodLink "java/lang/IndexOutOfBoundsException" (1 : Nat) ({ cls := "java/lang/RuntimeException", name := "<init>", desc := "()V" } : Jvm.MethodName)) ∈ lw_all := lw_g (lw_at lw_m3 31 rfl) rfl
theorem q570 : (Jvm.Cond.lays "java/lang/IndexOutOfBoundsException" "java/lang/Throwable" "depth" "I") ∈ lw_all := lw_g (lw_at lw_m3 32 rfl) rfl
theorem q571 : (Jvm.Cond.superclass "java/lang/IndexOutOfBoundsException" "java/lang/RuntimeException") ∈ lw_all := lw_g (lw_at lw_m3 33 rfl) rfl
theorem in_J3 : ∀ w ∈ wsJ30, w ∈ lw_all := lw_in wsJ30 [561, 562, 563, 564, 565, 570] (by decide +kernel) (by decide +kernel)
/-! java/lang/ArrayIndexOutOfBoundsException -/
set_option maxRecDepth 100000
def RJ4 : String := "java/lang/ArrayIndexOutOfBoundsException"
def TJ4 : u_T := fun k => match k with
  | 0 => ("java/lang/Throwable", "backtrace", "Ljava/lang/Object;", false)
  | 1 => ("java/lang/Throwable", "detailMessage", "Ljava/lang/String;", false)
  | 2 => ("java/lang/Throwable", "cause", "Ljava/lang/Throwable;", false)
  | 3 => ("java/lang/Throwable", "stackTrace", "[Ljava/lang/StackTraceElement;", false)
  | 4 => ("java/lang/Throwable", "depth", "I", false)
  | _ => ("java/lang/Throwable", "suppressedExceptions", "Ljava/util/List;", false)
def tyJ4 : Nat → FieldType := fun k => match k with
  | 0 => .object "java/lang/Object"
  | 1 => .object "java/lang/String"
  | 2 => .object "java/lang/Throwable"
  | 3 => .array (.object "java/lang/StackTraceElement")
  | 4 => .int
  | _ => .object "java/util/List"
abbrev wsJ40 : List Cond := u_ws RJ4 TJ4 6
theorem nmJ4 : ∀ a, a < 6 → ∀ b, b < 6 → a ≠ b → (TJ4 a).2.1 ≠ (TJ4 b).2.1 := by decide +kernel
theorem tyJ4_ok : ∀ k, k < 6 → parseFieldDescriptor (TJ4 k).2.2.1 = some (tyJ4 k) := by decide +kernel
abbrev cJ4_init : ByteArray := prog_13_method_2_code
def yJ4_init : MethodName := ⟨RJ4, "<init>", "(Ljava/lang/String;)V"⟩
def dkwJ4_init_0 : List UInt8 := [42, 43, 183, 0, 7, 177]
abbrev dktJ4_init_0 : List UInt8 := dkwJ4_init_0 ++ []
theorem dksJ4_init_0 : cJ4_init.data.toList.drop 0 = dktJ4_init_0 := by decide +kernel
theorem dJ4_init_0 : decode cJ4_init 0 = .ok (.aload_n 0, 1) := dk_42 (dk_at dksJ4_init_0 0 rfl rfl)
theorem dJ4_init_1 : decode cJ4_init 1 = .ok (.aload_n 1, 1) := dk_43 (dk_at dksJ4_init_0 1 rfl rfl)
theorem dJ4_init_2 : decode cJ4_init 2 = .ok (.invokespecial 7, 3) := dk_183 0 7 (dk_at dksJ4_init_0 2 rfl rfl)
theorem dJ4_init_5 : decode cJ4_init 5 = .ok (.return_, 1) := dk_177 (dk_at dksJ4_init_0 5 rfl rfl)
theorem q71 : (Jvm.Cond.initialized "java/lang/ArrayIndexOutOfBoundsException") ∈ lw_all := lw_g (lw_at lw_m1 13 rfl) rfl
theorem q230 : (Jvm.Cond.instantiable "java/lang/ArrayIndexOutOfBoundsException" (6 : Nat)) ∈ lw_all := lw_g (lw_at lw_m1 172 rfl) rfl
theorem q231 : (Jvm.Cond.instanceMethod ({ cls := "java/lang/ArrayIndexOutOfBoundsException", name := "<init>", desc := "(Ljava/lang/String;)V" } : Jvm.MethodName)) ∈ lw_all := lw_g (lw_at lw_m1 173 rfl) rfl
theorem q232 : (Jvm.Cond.code ({ cls := "java/lang/ArrayIndexOutOfBoundsException", name := "<init>", desc := "(Ljava/lang/String;)V" } : Jvm.MethodName) prog_13_method_2_code (2 : Nat) (Option.none : Option Jvm.ClassFile.FieldType)) ∈ lw_all := lw_g (lw_at lw_m1 174 rfl) rfl
theorem q233 : (Jvm.Cond.methodLink "java/lang/ArrayIndexOutOfBoundsException" (7 : Nat) ({ cls := "java/lang/IndexOutOfBoundsException", name := "<init>", desc := "(Ljava/lang/String;)V" } : Jvm.MethodName)) ∈ lw_all := lw_g (lw_at lw_m1 175 rfl) rfl
theorem q254 : (Jvm.Cond.selects "java/lang/ArrayIndexOutOfBoundsException" ({ cls := "java/lang/Throwable", name := "fillInStackTrace", desc := "()Ljava/lang/Throwable;" } : Jvm.MethodName) ({ cls := "java/lang/Throwable", name := "fillInStackTrace", desc := "()Ljava/lang/Throwable;" } : Jvm.MethodName)) ∈ lw_all := lw_g (lw_at lw_m1 196 rfl) rfl
theorem q284 : (Jvm.Cond.lays "java/lang/ArrayIndexOutOfBoundsException" "java/lang/Throwable" "backtrace" "Ljava/lang/Object;") ∈ lw_all := lw_g (lw_at lw_m1 226 rfl) rfl
theorem q286 : (Jvm.Cond.lays "java/lang/ArrayIndexOutOfBoundsException" "java/lang/Throwable" "detailMessage" "Ljava/lang/String;") ∈ lw_all := lw_g (lw_at lw_m1 228 rfl) rfl
theorem q288 : (Jvm.Cond.lays "java/lang/ArrayIndexOutOfBoundsException" "java/lang/Throwable" "cause" "Ljava/lang/Throwable;") ∈ lw_all := lw_g (lw_at lw_m1 230 rfl) rfl
theorem q290 : (Jvm.Cond.lays "java/lang/ArrayIndexOutOfBoundsException" "java/lang/Throwable" "stackTrace" "[Ljava/lang/StackTraceElement;") ∈ lw_all := lw_g (lw_at lw_m1 232 rfl) rfl
theorem q292 : (Jvm.Cond.lays "java/lang/ArrayIndexOutOfBoundsException" "java/lang/Throwable" "depth" "I") ∈ lw_all := lw_g (lw_at lw_m1 234 rfl) rfl
theorem q294 : (Jvm.Cond.lays "java/lang/ArrayIndexOutOfBoundsException" "java/lang/Throwable" "suppressedExceptions" "Ljava/util/List;") ∈ lw_all := lw_g (lw_at lw_m1 236 rfl) rfl
theorem q296 : (Jvm.Cond.superclass "java/lang/ArrayIndexOutOfBoundsException" "java/lang/IndexOutOfBoundsException") ∈ lw_all := lw_g (lw_at lw_m1 238 rfl) rfl
theorem q297 : (Jvm.Cond.castable "java/lang/ArrayIndexOutOfBoundsException" "java/lang/ArrayIndexOutOfBoundsException") ∈ lw_tbl := lw_at lw_m1 239 rfl
theorem q306 : (Jvm.Cond.selects "java/lang/ArrayIndexOutOfBoundsException" ({ cls := "java/lang/Throwable", name := "fillInStackTrace", desc := "(I)Ljava/lang/Throwable;" } : Jvm.MethodName) ({ cls := "java/lang/Throwable", name := "fillInStackTrace", desc := "(I)Ljava/lang/Throwable;" } : Jvm.MethodName)) ∈ lw_all := lw_g (lw_at lw_m2 8 rfl) rfl
theorem q1220 : (Jvm.Cond.castable "java/lang/ArrayIndexOutOfBoundsException" "java/lang/IndexOutOfBoundsException") ∈ lw_tbl := lw_at lw_m5 202 rfl
theorem in_J4 : ∀ w ∈ wsJ40, w ∈ lw_all := lw_in wsJ40 [284, 286, 288, 290, 292, 294] (by decide +kernel) (by decide +kernel)
/-! java/lang/String -/
set_option maxRecDepth 100000
def RJ5 : String := "java/lang/String"
def TJ5 : u_T := fun k => match k with
  | 0 => ("java/lang/String", "value", "[B", true)
  | _ => ("java/lang/String", "code\x72", "B", true)
def tyJ5 : Nat → FieldType := fun k => match k with
  | 0 => .array .byte
  | _ => .byte
abbrev wsJ50 : List Cond := u_ws RJ5 TJ5 2
theorem nmJ5 : ∀ a, a < 2 → ∀ b, b < 2 → a ≠ b → (TJ5 a).2.1 ≠ (TJ5 b).2.1 := by decide +kernel
theorem tyJ5_ok : ∀ k, k < 2 → parseFieldDescriptor (TJ5 k).2.2.1 = some (tyJ5 k) := by decide +kernel
theorem q72 : (Jvm.Cond.initialized "java/lang/String") ∈ lw_all := lw_g (lw_at lw_m1 14 rfl) rfl
theorem q316 : (Jvm.Cond.instantiable "java/lang/String" (4 : Nat)) ∈ lw_all := lw_g (lw_at lw_m2 18 rfl) rfl
theorem q318 : (Jvm.Cond.laysFinal "java/lang/String" "java/lang/String" "value" "[B") ∈ lw_all := lw_g (lw_at lw_m2 20 rfl) rfl
theorem q319 : (Jvm.Cond.soleField "java/lang/String" "value") ∈ lw_all := lw_g (lw_at lw_m2 21 rfl) rfl
theorem q320 : (Jvm.Cond.laysFinal "java/lang/String" "java/lang/String" "code\x72" "B") ∈ lw_all := lw_g (lw_at lw_m2 22 rfl) rfl
theorem q321 : (Jvm.Cond.soleField "java/lang/String" "code\x72") ∈ lw_all := lw_g (lw_at lw_m2 23 rfl) rfl
theorem in_J5 : ∀ w ∈ wsJ50, w ∈ lw_all := lw_in wsJ50 [318, 320] (by decide +kernel) (by decide +kernel)
/-! java/lang/Integer -/
set_option maxRecDepth 100000
def RJ6 : String := "java/lang/Intege\x72"
abbrev cJ6_numberOfTrailingZeros : ByteArray := prog_21_method_48_code
def yJ6_numberOfTrailingZeros : MethodName := ⟨RJ6, "numberOfTrailingZeros", "(I)I"⟩
def dkwJ6_numberOfTrailingZeros_3 : List UInt8 := [5, 124, 59, 27, 26, 4, 124, 96, 172]
abbrev dktJ6_numberOfTrailingZeros_3 : List UInt8 := dkwJ6_numberOfTrailingZeros_3 ++ []
def dkwJ6_numberOfTrailingZeros_2 : List UInt8 := [124, 59, 26, 16, 16, 164, 0, 10, 132, 1, 4, 26, 7, 124, 59, 26, 7, 164, 0, 10, 132, 1, 2, 26]
abbrev dktJ6_numberOfTrailingZeros_2 : List UInt8 := dkwJ6_numberOfTrailingZeros_2 ++ dktJ6_numberOfTrailingZeros_3
def dkwJ6_numberOfTrailingZeros_1 : List UInt8 := [164, 0, 11, 132, 1, 16, 26, 16, 16, 124, 59, 26, 17, 1, 0, 164, 0, 11, 132, 1, 8, 26, 16, 8]
abbrev dktJ6_numberOfTrailingZeros_1 : List UInt8 := dkwJ6_numberOfTrailingZeros_1 ++ dktJ6_numberOfTrailingZeros_2
def dkwJ6_numberOfTrailingZeros_0 : List UInt8 := [26, 2, 130, 26, 4, 100, 126, 59, 26, 157, 0, 8, 26, 16, 32, 126, 172, 4, 60, 26, 19, 1, 8]
abbrev dktJ6_numberOfTrailingZeros_0 : List UInt8 := dkwJ6_numberOfTrailingZeros_0 ++ dktJ6_numberOfTrailingZeros_1
theorem dksJ6_numberOfTrailingZeros_0 : cJ6_numberOfTrailingZeros.data.toList.drop 0 = dktJ6_numberOfTrailingZeros_0 := by decide +kernel
theorem dksJ6_numberOfTrailingZeros_1 : cJ6_numberOfTrailingZeros.data.toList.drop 23 = dktJ6_numberOfTrailingZeros_1 := dk_seg dksJ6_numberOfTrailingZeros_0 23 rfl rfl
theorem dksJ6_numberOfTrailingZeros_2 : cJ6_numberOfTrailingZeros.data.toList.drop 47 = dktJ6_numberOfTrailingZeros_2 := dk_seg dksJ6_numberOfTrailingZeros_1 24 rfl rfl
theorem dksJ6_numberOfTrailingZeros_3 : cJ6_numberOfTrailingZeros.data.toList.drop 71 = dktJ6_numberOfTrailingZeros_3 := dk_seg dksJ6_numberOfTrailingZeros_2 24 rfl rfl
theorem dJ6_numberOfTrailingZeros_0 : decode cJ6_numberOfTrailingZeros 0 = .ok (.iload_n 0, 1) := dk_26 (dk_at dksJ6_numberOfTrailingZeros_0 0 rfl rfl)
theorem dJ6_numberOfTrailingZeros_1 : decode cJ6_numberOfTrailingZeros 1 = .ok (.iconst (-1), 1) := dk_2 (dk_at dksJ6_numberOfTrailingZeros_0 1 rfl rfl)
theorem dJ6_numberOfTrailingZeros_2 : decode cJ6_numberOfTrailingZeros 2 = .ok (.ixor, 1) := dk_130 (dk_at dksJ6_numberOfTrailingZeros_0 2 rfl rfl)
theorem dJ6_numberOfTrailingZeros_3 : decode cJ6_numberOfTrailingZeros 3 = .ok (.iload_n 0, 1) := dk_26 (dk_at dksJ6_numberOfTrailingZeros_0 3 rfl rfl)
theorem dJ6_numberOfTrailingZeros_4 : decode cJ6_numberOfTrailingZeros 4 = .ok (.iconst 1, 1) := dk_4 (dk_at dksJ6_numberOfTrailingZeros_0 4 rfl rfl)
theorem dJ6_numberOfTrailingZeros_5 : decode cJ6_numberOfTrailingZeros 5 = .ok (.isub, 1) := dk_100 (dk_at dksJ6_numberOfTrailingZeros_0 5 rfl rfl)
theorem dJ6_numberOfTrailingZeros_6 : decode cJ6_numberOfTrailingZeros 6 = .ok (.iand, 1) := dk_126 (dk_at dksJ6_numberOfTrailingZeros_0 6 rfl rfl)
theorem dJ6_numberOfTrailingZeros_7 : decode cJ6_numberOfTrailingZeros 7 = .ok (.istore_n 0, 1) := dk_59 (dk_at dksJ6_numberOfTrailingZeros_0 7 rfl rfl)
theorem dJ6_numberOfTrailingZeros_8 : decode cJ6_numberOfTrailingZeros 8 = .ok (.iload_n 0, 1) := dk_26 (dk_at dksJ6_numberOfTrailingZeros_0 8 rfl rfl)
theorem dJ6_numberOfTrailingZeros_9 : decode cJ6_numberOfTrailingZeros 9 = .ok (.ifCond .gt 8, 3) := dk_157 0 8 (dk_at dksJ6_numberOfTrailingZeros_0 9 rfl rfl)
theorem dJ6_numberOfTrailingZeros_12 : decode cJ6_numberOfTrailingZeros 12 = .ok (.iload_n 0, 1) := dk_26 (dk_at dksJ6_numberOfTrailingZeros_0 12 rfl rfl)
theorem dJ6_numberOfTrailingZeros_13 : decode cJ6_numberOfTrailingZeros 13 = .ok (.bipush 32, 2) := dk_16 32 (dk_at dksJ6_numberOfTrailingZeros_0 13 rfl rfl)
theorem dJ6_numberOfTrailingZeros_15 : decode cJ6_numberOfTrailingZeros 15 = .ok (.iand, 1) := dk_126 (dk_at dksJ6_numberOfTrailingZeros_0 15 rfl rfl)
theorem dJ6_numberOfTrailingZeros_16 : decode cJ6_numberOfTrailingZeros 16 = .ok (.ireturn, 1) := dk_172 (dk_at dksJ6_numberOfTrailingZeros_0 16 rfl rfl)
theorem dJ6_numberOfTrailingZeros_17 : decode cJ6_numberOfTrailingZeros 17 = .ok (.iconst 1, 1) := dk_4 (dk_at dksJ6_numberOfTrailingZeros_0 17 rfl rfl)
theorem dJ6_numberOfTrailingZeros_18 : decode cJ6_numberOfTrailingZeros 18 = .ok (.istore_n 1, 1) := dk_60 (dk_at dksJ6_numberOfTrailingZeros_0 18 rfl rfl)
theorem dJ6_numberOfTrailingZeros_19 : decode cJ6_numberOfTrailingZeros 19 = .ok (.iload_n 0, 1) := dk_26 (dk_at dksJ6_numberOfTrailingZeros_0 19 rfl rfl)
theorem dJ6_numberOfTrailingZeros_20 : decode cJ6_numberOfTrailingZeros 20 = .ok (.ldc_w 264, 3) := dk_19 1 8 (dk_at dksJ6_numberOfTrailingZeros_0 20 rfl rfl)
theorem dJ6_numberOfTrailingZeros_23 : decode cJ6_numberOfTrailingZeros 23 = .ok (.if_icmp .le 11, 3) := dk_164 0 11 (dk_at dksJ6_numberOfTrailingZeros_1 0 rfl rfl)
theorem dJ6_numberOfTrailingZeros_26 : decode cJ6_numberOfTrailingZeros 26 = .ok (.iinc 1 16, 3) := dk_132 1 16 (dk_at dksJ6_numberOfTrailingZeros_1 3 rfl rfl)
theorem dJ6_numberOfTrailingZeros_29 : decode cJ6_numberOfTrailingZeros 29 = .ok (.iload_n 0, 1) := dk_26 (dk_at dksJ6_numberOfTrailingZeros_1 6 rfl rfl)
theorem dJ6_numberOfTrailingZeros_30 : decode cJ6_numberOfTrailingZeros 30 = .ok (.bipush 16, 2) := dk_16 16 (dk_at dksJ6_numberOfTrailingZeros_1 7 rfl rfl)
theorem dJ6_numberOfTrailingZeros_32 : decode cJ6_numberOfTrailingZeros 32 = .ok (.iushr, 1) := dk_124 (dk_at dksJ6_numberOfTrailingZeros_1 9 rfl rfl)
theorem dJ6_numberOfTrailingZeros_33 : decode cJ6_numberOfTrailingZeros 33 = .ok (.istore_n 0, 1) := dk_59 (dk_at dksJ6_numberOfTrailingZeros_1 10 rfl rfl)
theorem dJ6_numberOfTrailingZeros_34 : decode cJ6_numberOfTrailingZeros 34 = .ok (.iload_n 0, 1) := dk_26 (dk_at dksJ6_numberOfTrailingZeros_1 11 rfl rfl)
theorem dJ6_numberOfTrailingZeros_35 : decode cJ6_numberOfTrailingZeros 35 = .ok (.sipush 256, 3) := dk_17 1 0 (dk_at dksJ6_numberOfTrailingZeros_1 12 rfl rfl)
theorem dJ6_numberOfTrailingZeros_38 : decode cJ6_numberOfTrailingZeros 38 = .ok (.if_icmp .le 11, 3) := dk_164 0 11 (dk_at dksJ6_numberOfTrailingZeros_1 15 rfl rfl)
theorem dJ6_numberOfTrailingZeros_41 : decode cJ6_numberOfTrailingZeros 41 = .ok (.iinc 1 8, 3) := dk_132 1 8 (dk_at dksJ6_numberOfTrailingZeros_1 18 rfl rfl)
theorem dJ6_numberOfTrailingZeros_44 : decode cJ6_numberOfTrailingZeros 44 = .ok (.iload_n 0, 1) := dk_26 (dk_at dksJ6_numberOfTrailingZeros_1 21 rfl rfl)
theorem dJ6_numberOfTrailingZeros_45 : decode cJ6_numberOfTrailingZeros 45 = .ok (.bipush 8, 2) := dk_16 8 (dk_at dksJ6_numberOfTrailingZeros_1 22 rfl rfl)
theorem dJ6_numberOfTrailingZeros_47 : decode cJ6_numberOfTrailingZeros 47 = .ok (.iushr, 1) := dk_124 (dk_at dksJ6_numberOfTrailingZeros_2 0 rfl rfl)
theorem dJ6_numberOfTrailingZeros_48 : decode cJ6_numberOfTrailingZeros 48 = .ok (.istore_n 0, 1) := dk_59 (dk_at dksJ6_numberOfTrailingZeros_2 1 rfl rfl)
theorem dJ6_numberOfTrailingZeros_49 : decode cJ6_numberOfTrailingZeros 49 = .ok (.iload_n 0, 1) := dk_26 (dk_at dksJ6_numberOfTrailingZeros_2 2 rfl rfl)
theorem dJ6_numberOfTrailingZeros_50 : decode cJ6_numberOfTrailingZeros 50 = .ok (.bipush 16, 2) := dk_16 16 (dk_at dksJ6_numberOfTrailingZeros_2 3 rfl rfl)
theorem dJ6_numberOfTrailingZeros_52 : decode cJ6_numberOfTrailingZeros 52 = .ok (.if_icmp .le 10, 3) := dk_164 0 10 (dk_at dksJ6_numberOfTrailingZeros_2 5 rfl rfl)
theorem dJ6_numberOfTrailingZeros_55 : decode cJ6_numberOfTrailingZeros 55 = .ok (.iinc 1 4, 3) := dk_132 1 4 (dk_at dksJ6_numberOfTrailingZeros_2 8 rfl rfl)
theorem dJ6_numberOfTrailingZeros_58 : decode cJ6_numberOfTrailingZeros 58 = .ok (.iload_n 0, 1) := dk_26 (dk_at dksJ6_numberOfTrailingZeros_2 11 rfl rfl)
theorem dJ6_numberOfTrailingZeros_59 : decode cJ6_numberOfTrailingZeros 59 = .ok (.iconst 4, 1) := dk_7 (dk_at dksJ6_numberOfTrailingZeros_2 12 rfl rfl)
theorem dJ6_numberOfTrailingZeros_60 : decode cJ6_numberOfTrailingZeros 60 = .ok (.iushr, 1) := dk_124 (dk_at dksJ6_numberOfTrailingZeros_2 13 rfl rfl)
theorem dJ6_numberOfTrailingZeros_61 : decode cJ6_numberOfTrailingZeros 61 = .ok (.istore_n 0, 1) := dk_59 (dk_at dksJ6_numberOfTrailingZeros_2 14 rfl rfl)
theorem dJ6_numberOfTrailingZeros_62 : decode cJ6_numberOfTrailingZeros 62 = .ok (.iload_n 0, 1) := dk_26 (dk_at dksJ6_numberOfTrailingZeros_2 15 rfl rfl)
theorem dJ6_numberOfTrailingZeros_63 : decode cJ6_numberOfTrailingZeros 63 = .ok (.iconst 4, 1) := dk_7 (dk_at dksJ6_numberOfTrailingZeros_2 16 rfl rfl)
theorem dJ6_numberOfTrailingZeros_64 : decode cJ6_numberOfTrailingZeros 64 = .ok (.if_icmp .le 10, 3) := dk_164 0 10 (dk_at dksJ6_numberOfTrailingZeros_2 17 rfl rfl)
theorem dJ6_numberOfTrailingZeros_67 : decode cJ6_numberOfTrailingZeros 67 = .ok (.iinc 1 2, 3) := dk_132 1 2 (dk_at dksJ6_numberOfTrailingZeros_2 20 rfl rfl)
theorem dJ6_numberOfTrailingZeros_70 : decode cJ6_numberOfTrailingZeros 70 = .ok (.iload_n 0, 1) := dk_26 (dk_at dksJ6_numberOfTrailingZeros_2 23 rfl rfl)
theorem dJ6_numberOfTrailingZeros_71 : decode cJ6_numberOfTrailingZeros 71 = .ok (.iconst 2, 1) := dk_5 (dk_at dksJ6_numberOfTrailingZeros_3 0 rfl rfl)
theorem dJ6_numberOfTrailingZeros_72 : decode cJ6_numberOfTrailingZeros 72 = .ok (.iushr, 1) := dk_124 (dk_at dksJ6_numberOfTrailingZeros_3 1 rfl rfl)
theorem dJ6_numberOfTrailingZeros_73 : decode cJ6_numberOfTrailingZeros 73 = .ok (.istore_n 0, 1) := dk_59 (dk_at dksJ6_numberOfTrailingZeros_3 2 rfl rfl)
theorem dJ6_numberOfTrailingZeros_74 : decode cJ6_numberOfTrailingZeros 74 = .ok (.iload_n 1, 1) := dk_27 (dk_at dksJ6_numberOfTrailingZeros_3 3 rfl rfl)
theorem dJ6_numberOfTrailingZeros_75 : decode cJ6_numberOfTrailingZeros 75 = .ok (.iload_n 0, 1) := dk_26 (dk_at dksJ6_numberOfTrailingZeros_3 4 rfl rfl)
theorem dJ6_numberOfTrailingZeros_76 : decode cJ6_numberOfTrailingZeros 76 = .ok (.iconst 1, 1) := dk_4 (dk_at dksJ6_numberOfTrailingZeros_3 5 rfl rfl)
theorem dJ6_numberOfTrailingZeros_77 : decode cJ6_numberOfTrailingZeros 77 = .ok (.iushr, 1) := dk_124 (dk_at dksJ6_numberOfTrailingZeros_3 6 rfl rfl)
theorem dJ6_numberOfTrailingZeros_78 : decode cJ6_numberOfTrailingZeros 78 = .ok (.iadd, 1) := dk_96 (dk_at dksJ6_numberOfTrailingZeros_3 7 rfl rfl)
theorem dJ6_numberOfTrailingZeros_79 : decode cJ6_numberOfTrailingZeros 79 = .ok (.ireturn, 1) := dk_172 (dk_at dksJ6_numberOfTrailingZeros_3 8 rfl rfl)
abbrev cJ6_compareUnsigned : ByteArray := prog_21_method_41_code
def yJ6_compareUnsigned : MethodName := ⟨RJ6, "compareUnsigned", "(II)I"⟩
def dkwJ6_compareUnsigned_0 : List UInt8 := [26, 18, 127, 96, 27, 18, 127, 96, 184, 1, 3, 172]
abbrev dktJ6_compareUnsigned_0 : List UInt8 := dkwJ6_compareUnsigned_0 ++ []
theorem dksJ6_compareUnsigned_0 : cJ6_compareUnsigned.data.toList.drop 0 = dktJ6_compareUnsigned_0 := by decide +kernel
theorem dJ6_compareUnsigned_0 : decode cJ6_compareUnsigned 0 = .ok (.iload_n 0, 1) := dk_26 (dk_at dksJ6_compareUnsigned_0 0 rfl rfl)
theorem dJ6_compareUnsigned_1 : decode cJ6_compareUnsigned 1 = .ok (.ldc 127, 2) := dk_18 127 (dk_at dksJ6_compareUnsigned_0 1 rfl rfl)
theorem dJ6_compareUnsigned_3 : decode cJ6_compareUnsigned 3 = .ok (.iadd, 1) := dk_96 (dk_at dksJ6_compareUnsigned_0 3 rfl rfl)
theorem dJ6_compareUnsigned_4 : decode cJ6_compareUnsigned 4 = .ok (.iload_n 1, 1) := dk_27 (dk_at dksJ6_compareUnsigned_0 4 rfl rfl)
theorem dJ6_compareUnsigned_5 : decode cJ6_compareUnsigned 5 = .ok (.ldc 127, 2) := dk_18 127 (dk_at dksJ6_compareUnsigned_0 5 rfl rfl)
theorem dJ6_compareUnsigned_7 : decode cJ6_compareUnsigned 7 = .ok (.iadd, 1) := dk_96 (dk_at dksJ6_compareUnsigned_0 7 rfl rfl)
theorem dJ6_compareUnsigned_8 : decode cJ6_compareUnsigned 8 = .ok (.invokestatic 259, 3) := dk_184 1 3 (dk_at dksJ6_compareUnsigned_0 8 rfl rfl)
theorem dJ6_compareUnsigned_11 : decode cJ6_compareUnsigned 11 = .ok (.ireturn, 1) := dk_172 (dk_at dksJ6_compareUnsigned_0 11 rfl rfl)
abbrev cJ6_compare : ByteArray := prog_21_method_40_code
def yJ6_compare : MethodName := ⟨RJ6, "compare", "(II)I"⟩
def dkwJ6_compare_0 : List UInt8 := [26, 27, 162, 0, 7, 2, 167, 0, 13, 26, 27, 160, 0, 7, 3, 167, 0, 4, 4, 172]
abbrev dktJ6_compare_0 : List UInt8 := dkwJ6_compare_0 ++ []
theorem dksJ6_compare_0 : cJ6_compare.data.toList.drop 0 = dktJ6_compare_0 := by decide +kernel
theorem dJ6_compare_0 : decode cJ6_compare 0 = .ok (.iload_n 0, 1) := dk_26 (dk_at dksJ6_compare_0 0 rfl rfl)
theorem dJ6_compare_1 : decode cJ6_compare 1 = .ok (.iload_n 1, 1) := dk_27 (dk_at dksJ6_compare_0 1 rfl rfl)
theorem dJ6_compare_2 : decode cJ6_compare 2 = .ok (.if_icmp .ge 7, 3) := dk_162 0 7 (dk_at dksJ6_compare_0 2 rfl rfl)
theorem dJ6_compare_5 : decode cJ6_compare 5 = .ok (.iconst (-1), 1) := dk_2 (dk_at dksJ6_compare_0 5 rfl rfl)
theorem dJ6_compare_6 : decode cJ6_compare 6 = .ok (.goto 13, 3) := dk_167 0 13 (dk_at dksJ6_compare_0 6 rfl rfl)
theorem dJ6_compare_9 : decode cJ6_compare 9 = .ok (.iload_n 0, 1) := dk_26 (dk_at dksJ6_compare_0 9 rfl rfl)
theorem dJ6_compare_10 : decode cJ6_compare 10 = .ok (.iload_n 1, 1) := dk_27 (dk_at dksJ6_compare_0 10 rfl rfl)
theorem dJ6_compare_11 : decode cJ6_compare 11 = .ok (.if_icmp .ne 7, 3) := dk_160 0 7 (dk_at dksJ6_compare_0 11 rfl rfl)
theorem dJ6_compare_14 : decode cJ6_compare 14 = .ok (.iconst 0, 1) := dk_3 (dk_at dksJ6_compare_0 14 rfl rfl)
theorem dJ6_compare_15 : decode cJ6_compare 15 = .ok (.goto 4, 3) := dk_167 0 4 (dk_at dksJ6_compare_0 15 rfl rfl)
theorem dJ6_compare_18 : decode cJ6_compare 18 = .ok (.iconst 1, 1) := dk_4 (dk_at dksJ6_compare_0 18 rfl rfl)
theorem dJ6_compare_19 : decode cJ6_compare 19 = .ok (.ireturn, 1) := dk_172 (dk_at dksJ6_compare_0 19 rfl rfl)
abbrev cJ6_numberOfLeadingZeros : ByteArray := prog_21_method_47_code
def yJ6_numberOfLeadingZeros : MethodName := ⟨RJ6, "numberOfLeadingZeros", "(I)I"⟩
def dkwJ6_numberOfLeadingZeros_3 : List UInt8 := [5, 124, 59, 27, 26, 4, 124, 100, 172]
abbrev dktJ6_numberOfLeadingZeros_3 : List UInt8 := dkwJ6_numberOfLeadingZeros_3 ++ []
def dkwJ6_numberOfLeadingZeros_2 : List UInt8 := [124, 59, 26, 16, 16, 161, 0, 10, 132, 1, 252, 26, 7, 124, 59, 26, 7, 161, 0, 10, 132, 1, 254, 26]
abbrev dktJ6_numberOfLeadingZeros_2 : List UInt8 := dkwJ6_numberOfLeadingZeros_2 ++ dktJ6_numberOfLeadingZeros_3
def dkwJ6_numberOfLeadingZeros_1 : List UInt8 := [161, 0, 11, 132, 1, 240, 26, 16, 16, 124, 59, 26, 17, 1, 0, 161, 0, 11, 132, 1, 248, 26, 16, 8]
abbrev dktJ6_numberOfLeadingZeros_1 : List UInt8 := dkwJ6_numberOfLeadingZeros_1 ++ dktJ6_numberOfLeadingZeros_2
def dkwJ6_numberOfLeadingZeros_0 : List UInt8 := [26, 157, 0, 14, 26, 154, 0, 8, 16, 32, 167, 0, 4, 3, 172, 16, 31, 60, 26, 19, 1, 8]
abbrev dktJ6_numberOfLeadingZeros_0 : List UInt8 := dkwJ6_numberOfLeadingZeros_0 ++ dktJ6_numberOfLeadingZeros_1
theorem dksJ6_numberOfLeadingZeros_0 : cJ6_numberOfLeadingZeros.data.toList.drop 0 = dktJ6_numberOfLeadingZeros_0 := by decide +kernel
theorem dksJ6_numberOfLeadingZeros_1 : cJ6_numberOfLeadingZeros.data.toList.drop 22 = dktJ6_numberOfLeadingZeros_1 := dk_seg dksJ6_numberOfLeadingZeros_0 22 rfl rfl
theorem dksJ6_numberOfLeadingZeros_2 : cJ6_numberOfLeadingZeros.data.toList.drop 46 = dktJ6_numberOfLeadingZeros_2 := dk_seg dksJ6_numberOfLeadingZeros_1 24 rfl rfl
theorem dksJ6_numberOfLeadingZeros_3 : cJ6_numberOfLeadingZeros.data.toList.drop 70 = dktJ6_numberOfLeadingZeros_3 := dk_seg dksJ6_numberOfLeadingZeros_2 24 rfl rfl
theorem dJ6_numberOfLeadingZeros_0 : decode cJ6_numberOfLeadingZeros 0 = .ok (.iload_n 0, 1) := dk_26 (dk_at dksJ6_numberOfLeadingZeros_0 0 rfl rfl)
theorem dJ6_numberOfLeadingZeros_1 : decode cJ6_numberOfLeadingZeros 1 = .ok (.ifCond .gt 14, 3) := dk_157 0 14 (dk_at dksJ6_numberOfLeadingZeros_0 1 rfl rfl)
theorem dJ6_numberOfLeadingZeros_4 : decode cJ6_numberOfLeadingZeros 4 = .ok (.iload_n 0, 1) := dk_26 (dk_at dksJ6_numberOfLeadingZeros_0 4 rfl rfl)
theorem dJ6_numberOfLeadingZeros_5 : decode cJ6_numberOfLeadingZeros 5 = .ok (.ifCond .ne 8, 3) := dk_154 0 8 (dk_at dksJ6_numberOfLeadingZeros_0 5 rfl rfl)
theorem dJ6_numberOfLeadingZeros_8 : decode cJ6_numberOfLeadingZeros 8 = .ok (.bipush 32, 2) := dk_16 32 (dk_at dksJ6_numberOfLeadingZeros_0 8 rfl rfl)
theorem dJ6_numberOfLeadingZeros_10 : decode cJ6_numberOfLeadingZeros 10 = .ok (.goto 4, 3) := dk_167 0 4 (dk_at dksJ6_numberOfLeadingZeros_0 10 rfl rfl)
theorem dJ6_numberOfLeadingZeros_13 : decode cJ6_numberOfLeadingZeros 13 = .ok (.iconst 0, 1) := dk_3 (dk_at dksJ6_numberOfLeadingZeros_0 13 rfl rfl)
theorem dJ6_numberOfLeadingZeros_14 : decode cJ6_numberOfLeadingZeros 14 = .ok (.ireturn, 1) := dk_172 (dk_at dksJ6_numberOfLeadingZeros_0 14 rfl rfl)
theorem dJ6_numberOfLeadingZeros_15 : decode cJ6_numberOfLeadingZeros 15 = .ok (.bipush 31, 2) := dk_16 31 (dk_at dksJ6_numberOfLeadingZeros_0 15 rfl rfl)
theorem dJ6_numberOfLeadingZeros_17 : decode cJ6_numberOfLeadingZeros 17 = .ok (.istore_n 1, 1) := dk_60 (dk_at dksJ6_numberOfLeadingZeros_0 17 rfl rfl)
theorem dJ6_numberOfLeadingZeros_18 : decode cJ6_numberOfLeadingZeros 18 = .ok (.iload_n 0, 1) := dk_26 (dk_at dksJ6_numberOfLeadingZeros_0 18 rfl rfl)
theorem dJ6_numberOfLeadingZeros_19 : decode cJ6_numberOfLeadingZeros 19 = .ok (.ldc_w 264, 3) := dk_19 1 8 (dk_at dksJ6_numberOfLeadingZeros_0 19 rfl rfl)
theorem dJ6_numberOfLeadingZeros_22 : decode cJ6_numberOfLeadingZeros 22 = .ok (.if_icmp .lt 11, 3) := dk_161 0 11 (dk_at dksJ6_numberOfLeadingZeros_1 0 rfl rfl)
theorem dJ6_numberOfLeadingZeros_25 : decode cJ6_numberOfLeadingZeros 25 = .ok (.iinc 1 (-16), 3) := dk_132 1 240 (dk_at dksJ6_numberOfLeadingZeros_1 3 rfl rfl)
theorem dJ6_numberOfLeadingZeros_28 : decode cJ6_numberOfLeadingZeros 28 = .ok (.iload_n 0, 1) := dk_26 (dk_at dksJ6_numberOfLeadingZeros_1 6 rfl rfl)
theorem dJ6_numberOfLeadingZeros_29 : decode cJ6_numberOfLeadingZeros 29 = .ok (.bipush 16, 2) := dk_16 16 (dk_at dksJ6_numberOfLeadingZeros_1 7 rfl rfl)
theorem dJ6_numberOfLeadingZeros_31 : decode cJ6_numberOfLeadingZeros 31 = .ok (.iushr, 1) := dk_124 (dk_at dksJ6_numberOfLeadingZeros_1 9 rfl rfl)
theorem dJ6_numberOfLeadingZeros_32 : decode cJ6_numberOfLeadingZeros 32 = .ok (.istore_n 0, 1) := dk_59 (dk_at dksJ6_numberOfLeadingZeros_1 10 rfl rfl)
theorem dJ6_numberOfLeadingZeros_33 : decode cJ6_numberOfLeadingZeros 33 = .ok (.iload_n 0, 1) := dk_26 (dk_at dksJ6_numberOfLeadingZeros_1 11 rfl rfl)
theorem dJ6_numberOfLeadingZeros_34 : decode cJ6_numberOfLeadingZeros 34 = .ok (.sipush 256, 3) := dk_17 1 0 (dk_at dksJ6_numberOfLeadingZeros_1 12 rfl rfl)
theorem dJ6_numberOfLeadingZeros_37 : decode cJ6_numberOfLeadingZeros 37 = .ok (.if_icmp .lt 11, 3) := dk_161 0 11 (dk_at dksJ6_numberOfLeadingZeros_1 15 rfl rfl)
theorem dJ6_numberOfLeadingZeros_40 : decode cJ6_numberOfLeadingZeros 40 = .ok (.iinc 1 (-8), 3) := dk_132 1 248 (dk_at dksJ6_numberOfLeadingZeros_1 18 rfl rfl)
theorem dJ6_numberOfLeadingZeros_43 : decode cJ6_numberOfLeadingZeros 43 = .ok (.iload_n 0, 1) := dk_26 (dk_at dksJ6_numberOfLeadingZeros_1 21 rfl rfl)
theorem dJ6_numberOfLeadingZeros_44 : decode cJ6_numberOfLeadingZeros 44 = .ok (.bipush 8, 2) := dk_16 8 (dk_at dksJ6_numberOfLeadingZeros_1 22 rfl rfl)
theorem dJ6_numberOfLeadingZeros_46 : decode cJ6_numberOfLeadingZeros 46 = .ok (.iushr, 1) := dk_124 (dk_at dksJ6_numberOfLeadingZeros_2 0 rfl rfl)
theorem dJ6_numberOfLeadingZeros_47 : decode cJ6_numberOfLeadingZeros 47 = .ok (.istore_n 0, 1) := dk_59 (dk_at dksJ6_numberOfLeadingZeros_2 1 rfl rfl)
theorem dJ6_numberOfLeadingZeros_48 : decode cJ6_numberOfLeadingZeros 48 = .ok (.iload_n 0, 1) := dk_26 (dk_at dksJ6_numberOfLeadingZeros_2 2 rfl rfl)
theorem dJ6_numberOfLeadingZeros_49 : decode cJ6_numberOfLeadingZeros 49 = .ok (.bipush 16, 2) := dk_16 16 (dk_at dksJ6_numberOfLeadingZeros_2 3 rfl rfl)
theorem dJ6_numberOfLeadingZeros_51 : decode cJ6_numberOfLeadingZeros 51 = .ok (.if_icmp .lt 10, 3) := dk_161 0 10 (dk_at dksJ6_numberOfLeadingZeros_2 5 rfl rfl)
theorem dJ6_numberOfLeadingZeros_54 : decode cJ6_numberOfLeadingZeros 54 = .ok (.iinc 1 (-4), 3) := dk_132 1 252 (dk_at dksJ6_numberOfLeadingZeros_2 8 rfl rfl)
theorem dJ6_numberOfLeadingZeros_57 : decode cJ6_numberOfLeadingZeros 57 = .ok (.iload_n 0, 1) := dk_26 (dk_at dksJ6_numberOfLeadingZeros_2 11 rfl rfl)
theorem dJ6_numberOfLeadingZeros_58 : decode cJ6_numberOfLeadingZeros 58 = .ok (.iconst 4, 1) := dk_7 (dk_at dksJ6_numberOfLeadingZeros_2 12 rfl rfl)
theorem dJ6_numberOfLeadingZeros_59 : decode cJ6_numberOfLeadingZeros 59 = .ok (.iushr, 1) := dk_124 (dk_at dksJ6_numberOfLeadingZeros_2 13 rfl rfl)
theorem dJ6_numberOfLeadingZeros_60 : decode cJ6_numberOfLeadingZeros 60 = .ok (.istore_n 0, 1) := dk_59 (dk_at dksJ6_numberOfLeadingZeros_2 14 rfl rfl)
theorem dJ6_numberOfLeadingZeros_61 : decode cJ6_numberOfLeadingZeros 61 = .ok (.iload_n 0, 1) := dk_26 (dk_at dksJ6_numberOfLeadingZeros_2 15 rfl rfl)
theorem dJ6_numberOfLeadingZeros_62 : decode cJ6_numberOfLeadingZeros 62 = .ok (.iconst 4, 1) := dk_7 (dk_at dksJ6_numberOfLeadingZeros_2 16 rfl rfl)
theorem dJ6_numberOfLeadingZeros_63 : decode cJ6_numberOfLeadingZeros 63 = .ok (.if_icmp .lt 10, 3) := dk_161 0 10 (dk_at dksJ6_numberOfLeadingZeros_2 17 rfl rfl)
theorem dJ6_numberOfLeadingZeros_66 : decode cJ6_numberOfLeadingZeros 66 = .ok (.iinc 1 (-2), 3) := dk_132 1 254 (dk_at dksJ6_numberOfLeadingZeros_2 20 rfl rfl)
theorem dJ6_numberOfLeadingZeros_69 : decode cJ6_numberOfLeadingZeros 69 = .ok (.iload_n 0, 1) := dk_26 (dk_at dksJ6_numberOfLeadingZeros_2 23 rfl rfl)
theorem dJ6_numberOfLeadingZeros_70 : decode cJ6_numberOfLeadingZeros 70 = .ok (.iconst 2, 1) := dk_5 (dk_at dksJ6_numberOfLeadingZeros_3 0 rfl rfl)
theorem dJ6_numberOfLeadingZeros_71 : decode cJ6_numberOfLeadingZeros 71 = .ok (.iushr, 1) := dk_124 (dk_at dksJ6_numberOfLeadingZeros_3 1 rfl rfl)
theorem dJ6_numberOfLeadingZeros_72 : decode cJ6_numberOfLeadingZeros 72 = .ok (.istore_n 0, 1) := dk_59 (dk_at dksJ6_numberOfLeadingZeros_3 2 rfl rfl)
theorem dJ6_numberOfLeadingZeros_73 : decode cJ6_numberOfLeadingZeros 73 = .ok (.iload_n 1, 1) := dk_27 (dk_at dksJ6_numberOfLeadingZeros_3 3 rfl rfl)
theorem dJ6_numberOfLeadingZeros_74 : decode cJ6_numberOfLeadingZeros 74 = .ok (.iload_n 0, 1) := dk_26 (dk_at dksJ6_numberOfLeadingZeros_3 4 rfl rfl)
theorem dJ6_numberOfLeadingZeros_75 : decode cJ6_numberOfLeadingZeros 75 = .ok (.iconst 1, 1) := dk_4 (dk_at dksJ6_numberOfLeadingZeros_3 5 rfl rfl)
theorem dJ6_numberOfLeadingZeros_76 : decode cJ6_numberOfLeadingZeros 76 = .ok (.iushr, 1) := dk_124 (dk_at dksJ6_numberOfLeadingZeros_3 6 rfl rfl)
theorem dJ6_numberOfLeadingZeros_77 : decode cJ6_numberOfLeadingZeros 77 = .ok (.isub, 1) := dk_100 (dk_at dksJ6_numberOfLeadingZeros_3 7 rfl rfl)
theorem dJ6_numberOfLeadingZeros_78 : decode cJ6_numberOfLeadingZeros 78 = .ok (.ireturn, 1) := dk_172 (dk_at dksJ6_numberOfLeadingZeros_3 8 rfl rfl)
theorem q75 : (Jvm.Cond.initialized "java/lang/Intege\x72") ∈ lw_all := lw_g (lw_at lw_m1 17 rfl) rfl
theorem q346 : (Jvm.Cond.static ({ cls := "java/lang/Intege\x72", name := "numberOfTrailingZeros", desc := "(I)I" } : Jvm.MethodName)) ∈ lw_all := lw_g (lw_at lw_m2 48 rfl) rfl
theorem q347 : (Jvm.Cond.code ({ cls := "java/lang/Intege\x72", name := "numberOfTrailingZeros", desc := "(I)I" } : Jvm.MethodName) prog_21_method_48_code (2 : Nat) (Option.some Jvm.ClassFile.FieldType.int)) ∈ lw_all := lw_g (lw_at lw_m2 49 rfl) rfl
theorem q348 : (Jvm.Cond.constant "java/lang/Intege\x72" (264 : Nat) (65536 : Int32)) ∈ lw_all := lw_g (lw_at lw_m2 50 rfl) rfl
theorem q369 : (Jvm.Cond.static ({ cls := "java/lang/Intege\x72", name := "compareUnsigned", desc := "(II)I" } : Jvm.MethodName)) ∈ lw_all := lw_g (lw_at lw_m2 71 rfl) rfl
theorem q370 : (Jvm.Cond.code ({ cls := "java/lang/Intege\x72", name := "compareUnsigned", desc := "(II)I" } : Jvm.MethodName) prog_21_method_41_code (2 : Nat) (Option.some Jvm.ClassFile.FieldType.int)) ∈ lw_all := lw_g (lw_at lw_m2 72 rfl) rfl
theorem q371 : (Jvm.Cond.constant "java/lang/Intege\x72" (127 : Nat) (-2147483648 : Int32)) ∈ lw_all := lw_g (lw_at lw_m2 73 rfl) rfl
theorem q372 : (Jvm.Cond.methodLink "java/lang/Intege\x72" (259 : Nat) ({ cls := "java/lang/Intege\x72", name := "compare", desc := "(II)I" } : Jvm.MethodName)) ∈ lw_all := lw_g (lw_at lw_m2 74 rfl) rfl
theorem q373 : (Jvm.Cond.static ({ cls := "java/lang/Intege\x72", name := "compare", desc := "(II)I" } : Jvm.MethodName)) ∈ lw_all := lw_g (lw_at lw_m2 75 rfl) rfl
theorem q374 : (Jvm.Cond.code ({ cls := "java/lang/Intege\x72", name := "compare", desc := "(II)I" } : Jvm.MethodName) prog_21_method_40_code (2 : Nat) (Option.some Jvm.ClassFile.FieldType.int)) ∈ lw_all := lw_g (lw_at lw_m2 76 rfl) rfl
theorem q392 : (Jvm.Cond.static ({ cls := "java/lang/Intege\x72", name := "numberOfLeadingZeros", desc := "(I)I" } : Jvm.MethodName)) ∈ lw_all := lw_g (lw_at lw_m2 94 rfl) rfl
theorem q393 : (Jvm.Cond.code ({ cls := "java/lang/Intege\x72", name := "numberOfLeadingZeros", desc := "(I)I" } : Jvm.MethodName) prog_21_method_47_code (2 : Nat) (Option.some Jvm.ClassFile.FieldType.int)) ∈ lw_all := lw_g (lw_at lw_m2 95 rfl) rfl
/-! java/lang/Math -/
set_option maxRecDepth 100000
def RJ7 : String := "java/lang/Math"
abbrev cJ7_min : ByteArray := prog_22_method_69_code
def yJ7_min : MethodName := ⟨RJ7, "min", "(II)I"⟩
def dkwJ7_min_0 : List UInt8 := [26, 27, 163, 0, 7, 26, 167, 0, 4, 27, 172]
abbrev dktJ7_min_0 : List UInt8 := dkwJ7_min_0 ++ []
theorem dksJ7_min_0 : cJ7_min.data.toList.drop 0 = dktJ7_min_0 := by decide +kernel
theorem dJ7_min_0 : decode cJ7_min 0 = .ok (.iload_n 0, 1) := dk_26 (dk_at dksJ7_min_0 0 rfl rfl)
theorem dJ7_min_1 : decode cJ7_min 1 = .ok (.iload_n 1, 1) := dk_27 (dk_at dksJ7_min_0 1 rfl rfl)
theorem dJ7_min_2 : decode cJ7_min 2 = .ok (.if_icmp .gt 7, 3) := dk_163 0 7 (dk_at dksJ7_min_0 2 rfl rfl)
theorem dJ7_min_5 : decode cJ7_min 5 = .ok (.iload_n 0, 1) := dk_26 (dk_at dksJ7_min_0 5 rfl rfl)
theorem dJ7_min_6 : decode cJ7_min 6 = .ok (.goto 4, 3) := dk_167 0 4 (dk_at dksJ7_min_0 6 rfl rfl)
theorem dJ7_min_9 : decode cJ7_min 9 = .ok (.iload_n 1, 1) := dk_27 (dk_at dksJ7_min_0 9 rfl rfl)
theorem dJ7_min_10 : decode cJ7_min 10 = .ok (.ireturn, 1) := dk_172 (dk_at dksJ7_min_0 10 rfl rfl)
abbrev cJ7_max : ByteArray := prog_22_method_65_code
def yJ7_max : MethodName := ⟨RJ7, "max", "(II)I"⟩
def dkwJ7_max_0 : List UInt8 := [26, 27, 161, 0, 7, 26, 167, 0, 4, 27, 172]
abbrev dktJ7_max_0 : List UInt8 := dkwJ7_max_0 ++ []
theorem dksJ7_max_0 : cJ7_max.data.toList.drop 0 = dktJ7_max_0 := by decide +kernel
theorem dJ7_max_0 : decode cJ7_max 0 = .ok (.iload_n 0, 1) := dk_26 (dk_at dksJ7_max_0 0 rfl rfl)
theorem dJ7_max_1 : decode cJ7_max 1 = .ok (.iload_n 1, 1) := dk_27 (dk_at dksJ7_max_0 1 rfl rfl)
theorem dJ7_max_2 : decode cJ7_max 2 = .ok (.if_icmp .lt 7, 3) := dk_161 0 7 (dk_at dksJ7_max_0 2 rfl rfl)
theorem dJ7_max_5 : decode cJ7_max 5 = .ok (.iload_n 0, 1) := dk_26 (dk_at dksJ7_max_0 5 rfl rfl)
theorem dJ7_max_6 : decode cJ7_max 6 = .ok (.goto 4, 3) := dk_167 0 4 (dk_at dksJ7_max_0 6 rfl rfl)
theorem dJ7_max_9 : decode cJ7_max 9 = .ok (.iload_n 1, 1) := dk_27 (dk_at dksJ7_max_0 9 rfl rfl)
theorem dJ7_max_10 : decode cJ7_max 10 = .ok (.ireturn, 1) := dk_172 (dk_at dksJ7_max_0 10 rfl rfl)
abbrev cJ7_abs : ByteArray := prog_22_method_64_code
def yJ7_abs : MethodName := ⟨RJ7, "abs", "(D)D"⟩
def dkwJ7_abs_0 : List UInt8 := [38, 184, 0, 79, 20, 0, 135, 127, 184, 0, 166, 175]
abbrev dktJ7_abs_0 : List UInt8 := dkwJ7_abs_0 ++ []
theorem dksJ7_abs_0 : cJ7_abs.data.toList.drop 0 = dktJ7_abs_0 := by decide +kernel
theorem dJ7_abs_0 : decode cJ7_abs 0 = .ok (.dload_n 0, 1) := dk_38 (dk_at dksJ7_abs_0 0 rfl rfl)
theorem dJ7_abs_1 : decode cJ7_abs 1 = .ok (.invokestatic 79, 3) := dk_184 0 79 (dk_at dksJ7_abs_0 1 rfl rfl)
theorem dJ7_abs_4 : decode cJ7_abs 4 = .ok (.ldc2_w 135, 3) := dk_20 0 135 (dk_at dksJ7_abs_0 4 rfl rfl)
theorem dJ7_abs_7 : decode cJ7_abs 7 = .ok (.land, 1) := dk_127 (dk_at dksJ7_abs_0 7 rfl rfl)
theorem dJ7_abs_8 : decode cJ7_abs 8 = .ok (.invokestatic 166, 3) := dk_184 0 166 (dk_at dksJ7_abs_0 8 rfl rfl)
theorem dJ7_abs_11 : decode cJ7_abs 11 = .ok (.dreturn, 1) := dk_175 (dk_at dksJ7_abs_0 11 rfl rfl)
abbrev cJ7_getExponent : ByteArray := prog_22_method_92_code
def yJ7_getExponent : MethodName := ⟨RJ7, "getExponent", "(D)I"⟩
def dkwJ7_getExponent_0 : List UInt8 := [38, 184, 0, 79, 20, 0, 87, 127, 16, 52, 123, 20, 1, 66, 101, 136, 172]
abbrev dktJ7_getExponent_0 : List UInt8 := dkwJ7_getExponent_0 ++ []
theorem dksJ7_getExponent_0 : cJ7_getExponent.data.toList.drop 0 = dktJ7_getExponent_0 := by decide +kernel
theorem dJ7_getExponent_0 : decode cJ7_getExponent 0 = .ok (.dload_n 0, 1) := dk_38 (dk_at dksJ7_getExponent_0 0 rfl rfl)
theorem dJ7_getExponent_1 : decode cJ7_getExponent 1 = .ok (.invokestatic 79, 3) := dk_184 0 79 (dk_at dksJ7_getExponent_0 1 rfl rfl)
theorem dJ7_getExponent_4 : decode cJ7_getExponent 4 = .ok (.ldc2_w 87, 3) := dk_20 0 87 (dk_at dksJ7_getExponent_0 4 rfl rfl)
theorem dJ7_getExponent_7 : decode cJ7_getExponent 7 = .ok (.land, 1) := dk_127 (dk_at dksJ7_getExponent_0 7 rfl rfl)
theorem dJ7_getExponent_8 : decode cJ7_getExponent 8 = .ok (.bipush 52, 2) := dk_16 52 (dk_at dksJ7_getExponent_0 8 rfl rfl)
theorem dJ7_getExponent_10 : decode cJ7_getExponent 10 = .ok (.lshr, 1) := dk_123 (dk_at dksJ7_getExponent_0 10 rfl rfl)
theorem dJ7_getExponent_11 : decode cJ7_getExponent 11 = .ok (.ldc2_w 322, 3) := dk_20 1 66 (dk_at dksJ7_getExponent_0 11 rfl rfl)
theorem dJ7_getExponent_14 : decode cJ7_getExponent 14 = .ok (.lsub, 1) := dk_101 (dk_at dksJ7_getExponent_0 14 rfl rfl)
theorem dJ7_getExponent_15 : decode cJ7_getExponent 15 = .ok (.l2i, 1) := dk_136 (dk_at dksJ7_getExponent_0 15 rfl rfl)
theorem dJ7_getExponent_16 : decode cJ7_getExponent 16 = .ok (.ireturn, 1) := dk_172 (dk_at dksJ7_getExponent_0 16 rfl rfl)
abbrev cJ7_scalb : ByteArray := prog_22_method_99_code
def yJ7_scalb : MethodName := ⟨RJ7, "scalb", "(DI)D"⟩
def dkwJ7_scalb_4 : List UInt8 := [153, 0, 16, 38, 24, 6, 107, 71, 28, 21, 5, 100, 61, 167, 255, 242, 38, 175]
abbrev dktJ7_scalb_4 : List UInt8 := dkwJ7_scalb_4 ++ []
def dkwJ7_scalb_3 : List UInt8 := [17, 1, 255, 126, 21, 8, 100, 54, 4, 38, 21, 4, 184, 1, 30, 107, 71, 28, 21, 4, 100, 61, 28]
abbrev dktJ7_scalb_3 : List UInt8 := dkwJ7_scalb_3 ++ dktJ7_scalb_4
def dkwJ7_scalb_2 : List UInt8 := [61, 17, 2, 0, 54, 5, 178, 1, 86, 57, 6, 28, 16, 8, 122, 16, 23, 124, 54, 8, 28, 21, 8, 96]
abbrev dktJ7_scalb_2 : List UInt8 := dkwJ7_scalb_2 ++ dktJ7_scalb_3
def dkwJ7_scalb_1 : List UInt8 := [184, 1, 77, 61, 17, 254, 0, 54, 5, 178, 1, 80, 57, 6, 167, 0, 21, 28, 17, 8, 51, 184, 1, 84]
abbrev dktJ7_scalb_1 : List UInt8 := dkwJ7_scalb_1 ++ dktJ7_scalb_2
def dkwJ7_scalb_0 : List UInt8 := [17, 8, 51, 62, 3, 54, 4, 3, 54, 5, 20, 0, 238, 57, 6, 28, 156, 0, 24, 28, 17, 247, 205]
abbrev dktJ7_scalb_0 : List UInt8 := dkwJ7_scalb_0 ++ dktJ7_scalb_1
theorem dksJ7_scalb_0 : cJ7_scalb.data.toList.drop 0 = dktJ7_scalb_0 := by decide +kernel
theorem dksJ7_scalb_1 : cJ7_scalb.data.toList.drop 23 = dktJ7_scalb_1 := dk_seg dksJ7_scalb_0 23 rfl rfl
theorem dksJ7_scalb_2 : cJ7_scalb.data.toList.drop 47 = dktJ7_scalb_2 := dk_seg dksJ7_scalb_1 24 rfl rfl
theorem dksJ7_scalb_3 : cJ7_scalb.data.toList.drop 71 = dktJ7_scalb_3 := dk_seg dksJ7_scalb_2 24 rfl rfl
theorem dksJ7_scalb_4 : cJ7_scalb.data.toList.drop 94 = dktJ7_scalb_4 := dk_seg dksJ7_scalb_3 23 rfl rfl
theorem dJ7_scalb_0 : decode cJ7_scalb 0 = .ok (.sipush 2099, 3) := dk_17 8 51 (dk_at dksJ7_scalb_0 0 rfl rfl)
theorem dJ7_scalb_3 : decode cJ7_scalb 3 = .ok (.istore_n 3, 1) := dk_62 (dk_at dksJ7_scalb_0 3 rfl rfl)
theorem dJ7_scalb_4 : decode cJ7_scalb 4 = .ok (.iconst 0, 1) := dk_3 (dk_at dksJ7_scalb_0 4 rfl rfl)
theorem dJ7_scalb_5 : decode cJ7_scalb 5 = .ok (.istore 4, 2) := dk_54 4 (dk_at dksJ7_scalb_0 5 rfl rfl)
theorem dJ7_scalb_7 : decode cJ7_scalb 7 = .ok (.iconst 0, 1) := dk_3 (dk_at dksJ7_scalb_0 7 rfl rfl)
theorem dJ7_scalb_8 : decode cJ7_scalb 8 = .ok (.istore 5, 2) := dk_54 5 (dk_at dksJ7_scalb_0 8 rfl rfl)
theorem dJ7_scalb_10 : decode cJ7_scalb 10 = .ok (.ldc2_w 238, 3) := dk_20 0 238 (dk_at dksJ7_scalb_0 10 rfl rfl)
theorem dJ7_scalb_13 : decode cJ7_scalb 13 = .ok (.dstore 6, 2) := dk_57 6 (dk_at dksJ7_scalb_0 13 rfl rfl)
theorem dJ7_scalb_15 : decode cJ7_scalb 15 = .ok (.iload_n 2, 1) := dk_28 (dk_at dksJ7_scalb_0 15 rfl rfl)
theorem dJ7_scalb_16 : decode cJ7_scalb 16 = .ok (.ifCond .ge 24, 3) := dk_156 0 24 (dk_at dksJ7_scalb_0 16 rfl rfl)
theorem dJ7_scalb_19 : decode cJ7_scalb 19 = .ok (.iload_n 2, 1) := dk_28 (dk_at dksJ7_scalb_0 19 rfl rfl)
theorem dJ7_scalb_20 : decode cJ7_scalb 20 = .ok (.sipush (-2099), 3) := dk_17 247 205 (dk_at dksJ7_scalb_0 20 rfl rfl)
theorem dJ7_scalb_23 : decode cJ7_scalb 23 = .ok (.invokestatic 333, 3) := dk_184 1 77 (dk_at dksJ7_scalb_1 0 rfl rfl)
theorem dJ7_scalb_26 : decode cJ7_scalb 26 = .ok (.istore_n 2, 1) := dk_61 (dk_at dksJ7_scalb_1 3 rfl rfl)
theorem dJ7_scalb_27 : decode cJ7_scalb 27 = .ok (.sipush (-512), 3) := dk_17 254 0 (dk_at dksJ7_scalb_1 4 rfl rfl)
theorem dJ7_scalb_30 : decode cJ7_scalb 30 = .ok (.istore 5, 2) := dk_54 5 (dk_at dksJ7_scalb_1 7 rfl rfl)
theorem dJ7_scalb_32 : decode cJ7_scalb 32 = .ok (.getstatic 336, 3) := dk_178 1 80 (dk_at dksJ7_scalb_1 9 rfl rfl)
theorem dJ7_scalb_35 : decode cJ7_scalb 35 = .ok (.dstore 6, 2) := dk_57 6 (dk_at dksJ7_scalb_1 12 rfl rfl)
theorem dJ7_scalb_37 : decode cJ7_scalb 37 = .ok (.goto 21, 3) := dk_167 0 21 (dk_at dksJ7_scalb_1 14 rfl rfl)
theorem dJ7_scalb_40 : decode cJ7_scalb 40 = .ok (.iload_n 2, 1) := dk_28 (dk_at dksJ7_scalb_1 17 rfl rfl)
theorem dJ7_scalb_41 : decode cJ7_scalb 41 = .ok (.sipush 2099, 3) := dk_17 8 51 (dk_at dksJ7_scalb_1 18 rfl rfl)
theorem dJ7_scalb_44 : decode cJ7_scalb 44 = .ok (.invokestatic 340, 3) := dk_184 1 84 (dk_at dksJ7_scalb_1 21 rfl rfl)
theorem dJ7_scalb_47 : decode cJ7_scalb 47 = .ok (.istore_n 2, 1) := dk_61 (dk_at dksJ7_scalb_2 0 rfl rfl)
theorem dJ7_scalb_48 : decode cJ7_scalb 48 = .ok (.sipush 512, 3) := dk_17 2 0 (dk_at dksJ7_scalb_2 1 rfl rfl)
theorem dJ7_scalb_51 : decode cJ7_scalb 51 = .ok (.istore 5, 2) := dk_54 5 (dk_at dksJ7_scalb_2 4 rfl rfl)
theorem dJ7_scalb_53 : decode cJ7_scalb 53 = .ok (.getstatic 342, 3) := dk_178 1 86 (dk_at dksJ7_scalb_2 6 rfl rfl)
theorem dJ7_scalb_56 : decode cJ7_scalb 56 = .ok (.dstore 6, 2) := dk_57 6 (dk_at dksJ7_scalb_2 9 rfl rfl)
theorem dJ7_scalb_58 : decode cJ7_scalb 58 = .ok (.iload_n 2, 1) := dk_28 (dk_at dksJ7_scalb_2 11 rfl rfl)
theorem dJ7_scalb_59 : decode cJ7_scalb 59 = .ok (.bipush 8, 2) := dk_16 8 (dk_at dksJ7_scalb_2 12 rfl rfl)
theorem dJ7_scalb_61 : decode cJ7_scalb 61 = .ok (.ishr, 1) := dk_122 (dk_at dksJ7_scalb_2 14 rfl rfl)
theorem dJ7_scalb_62 : decode cJ7_scalb 62 = .ok (.bipush 23, 2) := dk_16 23 (dk_at dksJ7_scalb_2 15 rfl rfl)
theorem dJ7_scalb_64 : decode cJ7_scalb 64 = .ok (.iushr, 1) := dk_124 (dk_at dksJ7_scalb_2 17 rfl rfl)
theorem dJ7_scalb_65 : decode cJ7_scalb 65 = .ok (.istore 8, 2) := dk_54 8 (dk_at dksJ7_scalb_2 18 rfl rfl)
theorem dJ7_scalb_67 : decode cJ7_scalb 67 = .ok (.iload_n 2, 1) := dk_28 (dk_at dksJ7_scalb_2 20 rfl rfl)
theorem dJ7_scalb_68 : decode cJ7_scalb 68 = .ok (.iload 8, 2) := dk_21 8 (dk_at dksJ7_scalb_2 21 rfl rfl)
theorem dJ7_scalb_70 : decode cJ7_scalb 70 = .ok (.iadd, 1) := dk_96 (dk_at dksJ7_scalb_2 23 rfl rfl)
theorem dJ7_scalb_71 : decode cJ7_scalb 71 = .ok (.sipush 511, 3) := dk_17 1 255 (dk_at dksJ7_scalb_3 0 rfl rfl)
theorem dJ7_scalb_74 : decode cJ7_scalb 74 = .ok (.iand, 1) := dk_126 (dk_at dksJ7_scalb_3 3 rfl rfl)
theorem dJ7_scalb_75 : decode cJ7_scalb 75 = .ok (.iload 8, 2) := dk_21 8 (dk_at dksJ7_scalb_3 4 rfl rfl)
theorem dJ7_scalb_77 : decode cJ7_scalb 77 = .ok (.isub, 1) := dk_100 (dk_at dksJ7_scalb_3 6 rfl rfl)
theorem dJ7_scalb_78 : decode cJ7_scalb 78 = .ok (.istore 4, 2) := dk_54 4 (dk_at dksJ7_scalb_3 7 rfl rfl)
theorem dJ7_scalb_80 : decode cJ7_scalb 80 = .ok (.dload_n 0, 1) := dk_38 (dk_at dksJ7_scalb_3 9 rfl rfl)
theorem dJ7_scalb_81 : decode cJ7_scalb 81 = .ok (.iload 4, 2) := dk_21 4 (dk_at dksJ7_scalb_3 10 rfl rfl)
theorem dJ7_scalb_83 : decode cJ7_scalb 83 = .ok (.invokestatic 286, 3) := dk_184 1 30 (dk_at dksJ7_scalb_3 12 rfl rfl)
theorem dJ7_scalb_86 : decode cJ7_scalb 86 = .ok (.dmul, 1) := dk_107 (dk_at dksJ7_scalb_3 15 rfl rfl)
theorem dJ7_scalb_87 : decode cJ7_scalb 87 = .ok (.dstore_n 0, 1) := dk_71 (dk_at dksJ7_scalb_3 16 rfl rfl)
theorem dJ7_scalb_88 : decode cJ7_scalb 88 = .ok (.iload_n 2, 1) := dk_28 (dk_at dksJ7_scalb_3 17 rfl rfl)
theorem dJ7_scalb_89 : decode cJ7_scalb 89 = .ok (.iload 4, 2) := dk_21 4 (dk_at dksJ7_scalb_3 18 rfl rfl)
theorem dJ7_scalb_91 : decode cJ7_scalb 91 = .ok (.isub, 1) := dk_100 (dk_at dksJ7_scalb_3 20 rfl rfl)
theorem dJ7_scalb_92 : decode cJ7_scalb 92 = .ok (.istore_n 2, 1) := dk_61 (dk_at dksJ7_scalb_3 21 rfl rfl)
theorem dJ7_scalb_93 : decode cJ7_scalb 93 = .ok (.iload_n 2, 1) := dk_28 (dk_at dksJ7_scalb_3 22 rfl rfl)
theorem dJ7_scalb_94 : decode cJ7_scalb 94 = .ok (.ifCond .eq 16, 3) := dk_153 0 16 (dk_at dksJ7_scalb_4 0 rfl rfl)
theorem dJ7_scalb_97 : decode cJ7_scalb 97 = .ok (.dload_n 0, 1) := dk_38 (dk_at dksJ7_scalb_4 3 rfl rfl)
theorem dJ7_scalb_98 : decode cJ7_scalb 98 = .ok (.dload 6, 2) := dk_24 6 (dk_at dksJ7_scalb_4 4 rfl rfl)
theorem dJ7_scalb_100 : decode cJ7_scalb 100 = .ok (.dmul, 1) := dk_107 (dk_at dksJ7_scalb_4 6 rfl rfl)
theorem dJ7_scalb_101 : decode cJ7_scalb 101 = .ok (.dstore_n 0, 1) := dk_71 (dk_at dksJ7_scalb_4 7 rfl rfl)
theorem dJ7_scalb_102 : decode cJ7_scalb 102 = .ok (.iload_n 2, 1) := dk_28 (dk_at dksJ7_scalb_4 8 rfl rfl)
theorem dJ7_scalb_103 : decode cJ7_scalb 103 = .ok (.iload 5, 2) := dk_21 5 (dk_at dksJ7_scalb_4 9 rfl rfl)
theorem dJ7_scalb_105 : decode cJ7_scalb 105 = .ok (.isub, 1) := dk_100 (dk_at dksJ7_scalb_4 11 rfl rfl)
theorem dJ7_scalb_106 : decode cJ7_scalb 106 = .ok (.istore_n 2, 1) := dk_61 (dk_at dksJ7_scalb_4 12 rfl rfl)
theorem dJ7_scalb_107 : decode cJ7_scalb 107 = .ok (.goto (-14), 3) := dk_167 255 242 (dk_at dksJ7_scalb_4 13 rfl rfl)
theorem dJ7_scalb_110 : decode cJ7_scalb 110 = .ok (.dload_n 0, 1) := dk_38 (dk_at dksJ7_scalb_4 16 rfl rfl)
theorem dJ7_scalb_111 : decode cJ7_scalb 111 = .ok (.dreturn, 1) := dk_175 (dk_at dksJ7_scalb_4 17 rfl rfl)
abbrev cJ7_powerOfTwoD : ByteArray := prog_22_method_101_code
def yJ7_powerOfTwoD : MethodName := ⟨RJ7, "powerOfTwoD", "(I)D"⟩
def dkwJ7_powerOfTwoD_1 : List UInt8 := [183, 0, 249, 191, 26, 133, 20, 1, 66, 97, 16, 52, 121, 20, 0, 87, 127, 184, 0, 166, 175]
abbrev dktJ7_powerOfTwoD_1 : List UInt8 := dkwJ7_powerOfTwoD_1 ++ []
def dkwJ7_powerOfTwoD_0 : List UInt8 := [178, 0, 243, 154, 0, 25, 26, 17, 252, 2, 161, 0, 10, 26, 17, 3, 255, 164, 0, 11, 187, 0, 247, 89]
abbrev dktJ7_powerOfTwoD_0 : List UInt8 := dkwJ7_powerOfTwoD_0 ++ dktJ7_powerOfTwoD_1
theorem dksJ7_powerOfTwoD_0 : cJ7_powerOfTwoD.data.toList.drop 0 = dktJ7_powerOfTwoD_0 := by decide +kernel
theorem dksJ7_powerOfTwoD_1 : cJ7_powerOfTwoD.data.toList.drop 24 = dktJ7_powerOfTwoD_1 := dk_seg dksJ7_powerOfTwoD_0 24 rfl rfl
theorem dJ7_powerOfTwoD_0 : decode cJ7_powerOfTwoD 0 = .ok (.getstatic 243, 3) := dk_178 0 243 (dk_at dksJ7_powerOfTwoD_0 0 rfl rfl)
theorem dJ7_powerOfTwoD_3 : decode cJ7_powerOfTwoD 3 = .ok (.ifCond .ne 25, 3) := dk_154 0 25 (dk_at dksJ7_powerOfTwoD_0 3 rfl rfl)
theorem dJ7_powerOfTwoD_6 : decode cJ7_powerOfTwoD 6 = .ok (.iload_n 0, 1) := dk_26 (dk_at dksJ7_powerOfTwoD_0 6 rfl rfl)
theorem dJ7_powerOfTwoD_7 : decode cJ7_powerOfTwoD 7 = .ok (.sipush (-1022), 3) := dk_17 252 2 (dk_at dksJ7_powerOfTwoD_0 7 rfl rfl)
theorem dJ7_powerOfTwoD_10 : decode cJ7_powerOfTwoD 10 = .ok (.if_icmp .lt 10, 3) := dk_161 0 10 (dk_at dksJ7_powerOfTwoD_0 10 rfl rfl)
theorem dJ7_powerOfTwoD_13 : decode cJ7_powerOfTwoD 13 = .ok (.iload_n 0, 1) := dk_26 (dk_at dksJ7_powerOfTwoD_0 13 rfl rfl)
theorem dJ7_powerOfTwoD_14 : decode cJ7_powerOfTwoD 14 = .ok (.sipush 1023, 3) := dk_17 3 255 (dk_at dksJ7_powerOfTwoD_0 14 rfl rfl)
theorem dJ7_powerOfTwoD_17 : decode cJ7_powerOfTwoD 17 = .ok (.if_icmp .le 11, 3) := dk_164 0 11 (dk_at dksJ7_powerOfTwoD_0 17 rfl rfl)
theorem dJ7_powerOfTwoD_20 : decode cJ7_powerOfTwoD 20 = .ok (.new 247, 3) := dk_187 0 247 (dk_at dksJ7_powerOfTwoD_0 20 rfl rfl)
theorem dJ7_powerOfTwoD_23 : decode cJ7_powerOfTwoD 23 = .ok (.dup, 1) := dk_89 (dk_at dksJ7_powerOfTwoD_0 23 rfl rfl)
theorem dJ7_powerOfTwoD_24 : decode cJ7_powerOfTwoD 24 = .ok (.invokespecial 249, 3) := dk_183 0 249 (dk_at dksJ7_powerOfTwoD_1 0 rfl rfl)
theorem dJ7_powerOfTwoD_27 : decode cJ7_powerOfTwoD 27 = .ok (.athrow, 1) := dk_191 (dk_at dksJ7_powerOfTwoD_1 3 rfl rfl)
theorem dJ7_powerOfTwoD_28 : decode cJ7_powerOfTwoD 28 = .ok (.iload_n 0, 1) := dk_26 (dk_at dksJ7_powerOfTwoD_1 4 rfl rfl)
theorem dJ7_powerOfTwoD_29 : decode cJ7_powerOfTwoD 29 = .ok (.i2l, 1) := dk_133 (dk_at dksJ7_powerOfTwoD_1 5 rfl rfl)
theorem dJ7_powerOfTwoD_30 : decode cJ7_powerOfTwoD 30 = .ok (.ldc2_w 322, 3) := dk_20 1 66 (dk_at dksJ7_powerOfTwoD_1 6 rfl rfl)
theorem dJ7_powerOfTwoD_33 : decode cJ7_powerOfTwoD 33 = .ok (.ladd, 1) := dk_97 (dk_at dksJ7_powerOfTwoD_1 9 rfl rfl)
theorem dJ7_powerOfTwoD_34 : decode cJ7_powerOfTwoD 34 = .ok (.bipush 52, 2) := dk_16 52 (dk_at dksJ7_powerOfTwoD_1 10 rfl rfl)
theorem dJ7_powerOfTwoD_36 : decode cJ7_powerOfTwoD 36 = .ok (.lshl, 1) := dk_121 (dk_at dksJ7_powerOfTwoD_1 12 rfl rfl)
theorem dJ7_powerOfTwoD_37 : decode cJ7_powerOfTwoD 37 = .ok (.ldc2_w 87, 3) := dk_20 0 87 (dk_at dksJ7_powerOfTwoD_1 13 rfl rfl)
theorem dJ7_powerOfTwoD_40 : decode cJ7_powerOfTwoD 40 = .ok (.land, 1) := dk_127 (dk_at dksJ7_powerOfTwoD_1 16 rfl rfl)
theorem dJ7_powerOfTwoD_41 : decode cJ7_powerOfTwoD 41 = .ok (.invokestatic 166, 3) := dk_184 0 166 (dk_at dksJ7_powerOfTwoD_1 17 rfl rfl)
theorem dJ7_powerOfTwoD_44 : decode cJ7_powerOfTwoD 44 = .ok (.dreturn, 1) := dk_175 (dk_at dksJ7_powerOfTwoD_1 20 rfl rfl)
abbrev cJ7_signum : ByteArray := prog_22_method_81_code
def yJ7_signum : MethodName := ⟨RJ7, "signum", "(D)D"⟩
def dkwJ7_signum_0 : List UInt8 := [38, 14, 151, 153, 0, 10, 38, 184, 0, 205, 153, 0, 7, 38, 167, 0, 8, 15, 38, 184, 1, 43, 175]
abbrev dktJ7_signum_0 : List UInt8 := dkwJ7_signum_0 ++ []
theorem dksJ7_signum_0 : cJ7_signum.data.toList.drop 0 = dktJ7_signum_0 := by decide +kernel
theorem dJ7_signum_0 : decode cJ7_signum 0 = .ok (.dload_n 0, 1) := dk_38 (dk_at dksJ7_signum_0 0 rfl rfl)
theorem dJ7_signum_1 : decode cJ7_signum 1 = .ok (.dconst 0, 1) := dk_14 (dk_at dksJ7_signum_0 1 rfl rfl)
theorem dJ7_signum_2 : decode cJ7_signum 2 = .ok (.dcmp .l, 1) := dk_151 (dk_at dksJ7_signum_0 2 rfl rfl)
theorem dJ7_signum_3 : decode cJ7_signum 3 = .ok (.ifCond .eq 10, 3) := dk_153 0 10 (dk_at dksJ7_signum_0 3 rfl rfl)
theorem dJ7_signum_6 : decode cJ7_signum 6 = .ok (.dload_n 0, 1) := dk_38 (dk_at dksJ7_signum_0 6 rfl rfl)
theorem dJ7_signum_7 : decode cJ7_signum 7 = .ok (.invokestatic 205, 3) := dk_184 0 205 (dk_at dksJ7_signum_0 7 rfl rfl)
theorem dJ7_signum_10 : decode cJ7_signum 10 = .ok (.ifCond .eq 7, 3) := dk_153 0 7 (dk_at dksJ7_signum_0 10 rfl rfl)
theorem dJ7_signum_13 : decode cJ7_signum 13 = .ok (.dload_n 0, 1) := dk_38 (dk_at dksJ7_signum_0 13 rfl rfl)
theorem dJ7_signum_14 : decode cJ7_signum 14 = .ok (.goto 8, 3) := dk_167 0 8 (dk_at dksJ7_signum_0 14 rfl rfl)
theorem dJ7_signum_17 : decode cJ7_signum 17 = .ok (.dconst 1, 1) := dk_15 (dk_at dksJ7_signum_0 17 rfl rfl)
theorem dJ7_signum_18 : decode cJ7_signum 18 = .ok (.dload_n 0, 1) := dk_38 (dk_at dksJ7_signum_0 18 rfl rfl)
theorem dJ7_signum_19 : decode cJ7_signum 19 = .ok (.invokestatic 299, 3) := dk_184 1 43 (dk_at dksJ7_signum_0 19 rfl rfl)
theorem dJ7_signum_22 : decode cJ7_signum 22 = .ok (.dreturn, 1) := dk_175 (dk_at dksJ7_signum_0 22 rfl rfl)
abbrev cJ7_copySign : ByteArray := prog_22_method_89_code
def yJ7_copySign : MethodName := ⟨RJ7, "copySign", "(DD)D"⟩
def dkwJ7_copySign_0 : List UInt8 := [40, 184, 0, 79, 20, 0, 128, 127, 38, 184, 0, 79, 20, 0, 135, 127, 129, 184, 0, 166, 175]
abbrev dktJ7_copySign_0 : List UInt8 := dkwJ7_copySign_0 ++ []
theorem dksJ7_copySign_0 : cJ7_copySign.data.toList.drop 0 = dktJ7_copySign_0 := by decide +kernel
theorem dJ7_copySign_0 : decode cJ7_copySign 0 = .ok (.dload_n 2, 1) := dk_40 (dk_at dksJ7_copySign_0 0 rfl rfl)
theorem dJ7_copySign_1 : decode cJ7_copySign 1 = .ok (.invokestatic 79, 3) := dk_184 0 79 (dk_at dksJ7_copySign_0 1 rfl rfl)
theorem dJ7_copySign_4 : decode cJ7_copySign 4 = .ok (.ldc2_w 128, 3) := dk_20 0 128 (dk_at dksJ7_copySign_0 4 rfl rfl)
theorem dJ7_copySign_7 : decode cJ7_copySign 7 = .ok (.land, 1) := dk_127 (dk_at dksJ7_copySign_0 7 rfl rfl)
theorem dJ7_copySign_8 : decode cJ7_copySign 8 = .ok (.dload_n 0, 1) := dk_38 (dk_at dksJ7_copySign_0 8 rfl rfl)
theorem dJ7_copySign_9 : decode cJ7_copySign 9 = .ok (.invokestatic 79, 3) := dk_184 0 79 (dk_at dksJ7_copySign_0 9 rfl rfl)
theorem dJ7_copySign_12 : decode cJ7_copySign 12 = .ok (.ldc2_w 135, 3) := dk_20 0 135 (dk_at dksJ7_copySign_0 12 rfl rfl)
theorem dJ7_copySign_15 : decode cJ7_copySign 15 = .ok (.land, 1) := dk_127 (dk_at dksJ7_copySign_0 15 rfl rfl)
theorem dJ7_copySign_16 : decode cJ7_copySign 16 = .ok (.lor, 1) := dk_129 (dk_at dksJ7_copySign_0 16 rfl rfl)
theorem dJ7_copySign_17 : decode cJ7_copySign 17 = .ok (.invokestatic 166, 3) := dk_184 0 166 (dk_at dksJ7_copySign_0 17 rfl rfl)
theorem dJ7_copySign_20 : decode cJ7_copySign 20 = .ok (.dreturn, 1) := dk_175 (dk_at dksJ7_copySign_0 20 rfl rfl)
abbrev cJ7_nextUp : ByteArray := prog_22_method_95_code
def yJ7_nextUp : MethodName := ⟨RJ7, "nextUp", "(D)D"⟩
def dkwJ7_nextUp_1 : List UInt8 := [167, 0, 6, 20, 0, 130, 97, 184, 0, 166, 175, 38, 175]
abbrev dktJ7_nextUp_1 : List UInt8 := dkwJ7_nextUp_1 ++ []
def dkwJ7_nextUp_0 : List UInt8 := [38, 20, 1, 71, 152, 156, 0, 29, 38, 14, 99, 184, 0, 79, 65, 32, 32, 9, 148, 155, 0, 7, 10]
abbrev dktJ7_nextUp_0 : List UInt8 := dkwJ7_nextUp_0 ++ dktJ7_nextUp_1
theorem dksJ7_nextUp_0 : cJ7_nextUp.data.toList.drop 0 = dktJ7_nextUp_0 := by decide +kernel
theorem dksJ7_nextUp_1 : cJ7_nextUp.data.toList.drop 23 = dktJ7_nextUp_1 := dk_seg dksJ7_nextUp_0 23 rfl rfl
theorem dJ7_nextUp_0 : decode cJ7_nextUp 0 = .ok (.dload_n 0, 1) := dk_38 (dk_at dksJ7_nextUp_0 0 rfl rfl)
theorem dJ7_nextUp_1 : decode cJ7_nextUp 1 = .ok (.ldc2_w 327, 3) := dk_20 1 71 (dk_at dksJ7_nextUp_0 1 rfl rfl)
theorem dJ7_nextUp_4 : decode cJ7_nextUp 4 = .ok (.dcmp .g, 1) := dk_152 (dk_at dksJ7_nextUp_0 4 rfl rfl)
theorem dJ7_nextUp_5 : decode cJ7_nextUp 5 = .ok (.ifCond .ge 29, 3) := dk_156 0 29 (dk_at dksJ7_nextUp_0 5 rfl rfl)
theorem dJ7_nextUp_8 : decode cJ7_nextUp 8 = .ok (.dload_n 0, 1) := dk_38 (dk_at dksJ7_nextUp_0 8 rfl rfl)
theorem dJ7_nextUp_9 : decode cJ7_nextUp 9 = .ok (.dconst 0, 1) := dk_14 (dk_at dksJ7_nextUp_0 9 rfl rfl)
theorem dJ7_nextUp_10 : decode cJ7_nextUp 10 = .ok (.dadd, 1) := dk_99 (dk_at dksJ7_nextUp_0 10 rfl rfl)
theorem dJ7_nextUp_11 : decode cJ7_nextUp 11 = .ok (.invokestatic 79, 3) := dk_184 0 79 (dk_at dksJ7_nextUp_0 11 rfl rfl)
theorem dJ7_nextUp_14 : decode cJ7_nextUp 14 = .ok (.lstore_n 2, 1) := dk_65 (dk_at dksJ7_nextUp_0 14 rfl rfl)
theorem dJ7_nextUp_15 : decode cJ7_nextUp 15 = .ok (.lload_n 2, 1) := dk_32 (dk_at dksJ7_nextUp_0 15 rfl rfl)
theorem dJ7_nextUp_16 : decode cJ7_nextUp 16 = .ok (.lload_n 2, 1) := dk_32 (dk_at dksJ7_nextUp_0 16 rfl rfl)
theorem dJ7_nextUp_17 : decode cJ7_nextUp 17 = .ok (.lconst 0, 1) := dk_9 (dk_at dksJ7_nextUp_0 17 rfl rfl)
theorem dJ7_nextUp_18 : decode cJ7_nextUp 18 = .ok (.lcmp, 1) := dk_148 (dk_at dksJ7_nextUp_0 18 rfl rfl)
theorem dJ7_nextUp_19 : decode cJ7_nextUp 19 = .ok (.ifCond .lt 7, 3) := dk_155 0 7 (dk_at dksJ7_nextUp_0 19 rfl rfl)
theorem dJ7_nextUp_22 : decode cJ7_nextUp 22 = .ok (.lconst 1, 1) := dk_10 (dk_at dksJ7_nextUp_0 22 rfl rfl)
theorem dJ7_nextUp_23 : decode cJ7_nextUp 23 = .ok (.goto 6, 3) := dk_167 0 6 (dk_at dksJ7_nextUp_1 0 rfl rfl)
theorem dJ7_nextUp_26 : decode cJ7_nextUp 26 = .ok (.ldc2_w 130, 3) := dk_20 0 130 (dk_at dksJ7_nextUp_1 3 rfl rfl)
theorem dJ7_nextUp_29 : decode cJ7_nextUp 29 = .ok (.ladd, 1) := dk_97 (dk_at dksJ7_nextUp_1 6 rfl rfl)
theorem dJ7_nextUp_30 : decode cJ7_nextUp 30 = .ok (.invokestatic 166, 3) := dk_184 0 166 (dk_at dksJ7_nextUp_1 7 rfl rfl)
theorem dJ7_nextUp_33 : decode cJ7_nextUp 33 = .ok (.dreturn, 1) := dk_175 (dk_at dksJ7_nextUp_1 10 rfl rfl)
theorem dJ7_nextUp_34 : decode cJ7_nextUp 34 = .ok (.dload_n 0, 1) := dk_38 (dk_at dksJ7_nextUp_1 11 rfl rfl)
theorem dJ7_nextUp_35 : decode cJ7_nextUp 35 = .ok (.dreturn, 1) := dk_175 (dk_at dksJ7_nextUp_1 12 rfl rfl)
abbrev cJ7_scalb_2 : ByteArray := prog_22_method_100_code
def yJ7_scalb_2 : MethodName := ⟨RJ7, "scalb", "(FI)F"⟩
def dkwJ7_scalb_2_1 : List UInt8 := [107, 144, 174]
abbrev dktJ7_scalb_2_1 : List UInt8 := dkwJ7_scalb_2_1 ++ []
def dkwJ7_scalb_2_0 : List UInt8 := [17, 1, 22, 61, 27, 17, 1, 22, 184, 1, 84, 17, 254, 234, 184, 1, 77, 60, 34, 141, 27, 184, 1, 30]
abbrev dktJ7_scalb_2_0 : List UInt8 := dkwJ7_scalb_2_0 ++ dktJ7_scalb_2_1
theorem dksJ7_scalb_2_0 : cJ7_scalb_2.data.toList.drop 0 = dktJ7_scalb_2_0 := by decide +kernel
theorem dksJ7_scalb_2_1 : cJ7_scalb_2.data.toList.drop 24 = dktJ7_scalb_2_1 := dk_seg dksJ7_scalb_2_0 24 rfl rfl
theorem dJ7_scalb_2_0 : decode cJ7_scalb_2 0 = .ok (.sipush 278, 3) := dk_17 1 22 (dk_at dksJ7_scalb_2_0 0 rfl rfl)
theorem dJ7_scalb_2_3 : decode cJ7_scalb_2 3 = .ok (.istore_n 2, 1) := dk_61 (dk_at dksJ7_scalb_2_0 3 rfl rfl)
theorem dJ7_scalb_2_4 : decode cJ7_scalb_2 4 = .ok (.iload_n 1, 1) := dk_27 (dk_at dksJ7_scalb_2_0 4 rfl rfl)
theorem dJ7_scalb_2_5 : decode cJ7_scalb_2 5 = .ok (.sipush 278, 3) := dk_17 1 22 (dk_at dksJ7_scalb_2_0 5 rfl rfl)
theorem dJ7_scalb_2_8 : decode cJ7_scalb_2 8 = .ok (.invokestatic 340, 3) := dk_184 1 84 (dk_at dksJ7_scalb_2_0 8 rfl rfl)
theorem dJ7_scalb_2_11 : decode cJ7_scalb_2 11 = .ok (.sipush (-278), 3) := dk_17 254 234 (dk_at dksJ7_scalb_2_0 11 rfl rfl)
theorem dJ7_scalb_2_14 : decode cJ7_scalb_2 14 = .ok (.invokestatic 333, 3) := dk_184 1 77 (dk_at dksJ7_scalb_2_0 14 rfl rfl)
theorem dJ7_scalb_2_17 : decode cJ7_scalb_2 17 = .ok (.istore_n 1, 1) := dk_60 (dk_at dksJ7_scalb_2_0 17 rfl rfl)
theorem dJ7_scalb_2_18 : decode cJ7_scalb_2 18 = .ok (.fload_n 0, 1) := dk_34 (dk_at dksJ7_scalb_2_0 18 rfl rfl)
theorem dJ7_scalb_2_19 : decode cJ7_scalb_2 19 = .ok (.f2d, 1) := dk_141 (dk_at dksJ7_scalb_2_0 19 rfl rfl)
theorem dJ7_scalb_2_20 : decode cJ7_scalb_2 20 = .ok (.iload_n 1, 1) := dk_27 (dk_at dksJ7_scalb_2_0 20 rfl rfl)
theorem dJ7_scalb_2_21 : decode cJ7_scalb_2 21 = .ok (.invokestatic 286, 3) := dk_184 1 30 (dk_at dksJ7_scalb_2_0 21 rfl rfl)
theorem dJ7_scalb_2_24 : decode cJ7_scalb_2 24 = .ok (.dmul, 1) := dk_107 (dk_at dksJ7_scalb_2_1 0 rfl rfl)
theorem dJ7_scalb_2_25 : decode cJ7_scalb_2 25 = .ok (.d2f, 1) := dk_144 (dk_at dksJ7_scalb_2_1 1 rfl rfl)
theorem dJ7_scalb_2_26 : decode cJ7_scalb_2 26 = .ok (.freturn, 1) := dk_174 (dk_at dksJ7_scalb_2_1 2 rfl rfl)
abbrev cJ7_nextUp_2 : ByteArray := prog_22_method_96_code
def yJ7_nextUp_2 : MethodName := ⟨RJ7, "nextUp", "(F)F"⟩
def dkwJ7_nextUp_2_1 : List UInt8 := [2, 96, 184, 0, 162, 174, 34, 174]
abbrev dktJ7_nextUp_2_1 : List UInt8 := dkwJ7_nextUp_2_1 ++ []
def dkwJ7_nextUp_2_0 : List UInt8 := [34, 19, 1, 73, 150, 156, 0, 25, 34, 11, 98, 184, 0, 68, 60, 27, 27, 155, 0, 7, 4, 167, 0, 4]
abbrev dktJ7_nextUp_2_0 : List UInt8 := dkwJ7_nextUp_2_0 ++ dktJ7_nextUp_2_1
theorem dksJ7_nextUp_2_0 : cJ7_nextUp_2.data.toList.drop 0 = dktJ7_nextUp_2_0 := by decide +kernel
theorem dksJ7_nextUp_2_1 : cJ7_nextUp_2.data.toList.drop 24 = dktJ7_nextUp_2_1 := dk_seg dksJ7_nextUp_2_0 24 rfl rfl
theorem dJ7_nextUp_2_0 : decode cJ7_nextUp_2 0 = .ok (.fload_n 0, 1) := dk_34 (dk_at dksJ7_nextUp_2_0 0 rfl rfl)
theorem dJ7_nextUp_2_1 : decode cJ7_nextUp_2 1 = .ok (.ldc_w 329, 3) := dk_19 1 73 (dk_at dksJ7_nextUp_2_0 1 rfl rfl)
theorem dJ7_nextUp_2_4 : decode cJ7_nextUp_2 4 = .ok (.fcmp .g, 1) := dk_150 (dk_at dksJ7_nextUp_2_0 4 rfl rfl)
theorem dJ7_nextUp_2_5 : decode cJ7_nextUp_2 5 = .ok (.ifCond .ge 25, 3) := dk_156 0 25 (dk_at dksJ7_nextUp_2_0 5 rfl rfl)
theorem dJ7_nextUp_2_8 : decode cJ7_nextUp_2 8 = .ok (.fload_n 0, 1) := dk_34 (dk_at dksJ7_nextUp_2_0 8 rfl rfl)
theorem dJ7_nextUp_2_9 : decode cJ7_nextUp_2 9 = .ok (.fconst 0, 1) := dk_11 (dk_at dksJ7_nextUp_2_0 9 rfl rfl)
theorem dJ7_nextUp_2_10 : decode cJ7_nextUp_2 10 = .ok (.fadd, 1) := dk_98 (dk_at dksJ7_nextUp_2_0 10 rfl rfl)
theorem dJ7_nextUp_2_11 : decode cJ7_nextUp_2 11 = .ok (.invokestatic 68, 3) := dk_184 0 68 (dk_at dksJ7_nextUp_2_0 11 rfl rfl)
theorem dJ7_nextUp_2_14 : decode cJ7_nextUp_2 14 = .ok (.istore_n 1, 1) := dk_60 (dk_at dksJ7_nextUp_2_0 14 rfl rfl)
theorem dJ7_nextUp_2_15 : decode cJ7_nextUp_2 15 = .ok (.iload_n 1, 1) := dk_27 (dk_at dksJ7_nextUp_2_0 15 rfl rfl)
theorem dJ7_nextUp_2_16 : decode cJ7_nextUp_2 16 = .ok (.iload_n 1, 1) := dk_27 (dk_at dksJ7_nextUp_2_0 16 rfl rfl)
theorem dJ7_nextUp_2_17 : decode cJ7_nextUp_2 17 = .ok (.ifCond .lt 7, 3) := dk_155 0 7 (dk_at dksJ7_nextUp_2_0 17 rfl rfl)
theorem dJ7_nextUp_2_20 : decode cJ7_nextUp_2 20 = .ok (.iconst 1, 1) := dk_4 (dk_at dksJ7_nextUp_2_0 20 rfl rfl)
theorem dJ7_nextUp_2_21 : decode cJ7_nextUp_2 21 = .ok (.goto 4, 3) := dk_167 0 4 (dk_at dksJ7_nextUp_2_0 21 rfl rfl)
theorem dJ7_nextUp_2_24 : decode cJ7_nextUp_2 24 = .ok (.iconst (-1), 1) := dk_2 (dk_at dksJ7_nextUp_2_1 0 rfl rfl)
theorem dJ7_nextUp_2_25 : decode cJ7_nextUp_2 25 = .ok (.iadd, 1) := dk_96 (dk_at dksJ7_nextUp_2_1 1 rfl rfl)
theorem dJ7_nextUp_2_26 : decode cJ7_nextUp_2 26 = .ok (.invokestatic 162, 3) := dk_184 0 162 (dk_at dksJ7_nextUp_2_1 2 rfl rfl)
theorem dJ7_nextUp_2_29 : decode cJ7_nextUp_2 29 = .ok (.freturn, 1) := dk_174 (dk_at dksJ7_nextUp_2_1 5 rfl rfl)
theorem dJ7_nextUp_2_30 : decode cJ7_nextUp_2 30 = .ok (.fload_n 0, 1) := dk_34 (dk_at dksJ7_nextUp_2_1 6 rfl rfl)
theorem dJ7_nextUp_2_31 : decode cJ7_nextUp_2 31 = .ok (.freturn, 1) := dk_174 (dk_at dksJ7_nextUp_2_1 7 rfl rfl)
abbrev cJ7_copySign_2 : ByteArray := prog_22_method_90_code
def yJ7_copySign_2 : MethodName := ⟨RJ7, "copySign", "(FF)F"⟩
def dkwJ7_copySign_2_0 : List UInt8 := [35, 184, 0, 68, 18, 137, 126, 34, 184, 0, 68, 18, 134, 126, 128, 184, 0, 162, 174]
abbrev dktJ7_copySign_2_0 : List UInt8 := dkwJ7_copySign_2_0 ++ []
theorem dksJ7_copySign_2_0 : cJ7_copySign_2.data.toList.drop 0 = dktJ7_copySign_2_0 := by decide +kernel
theorem dJ7_copySign_2_0 : decode cJ7_copySign_2 0 = .ok (.fload_n 1, 1) := dk_35 (dk_at dksJ7_copySign_2_0 0 rfl rfl)
theorem dJ7_copySign_2_1 : decode cJ7_copySign_2 1 = .ok (.invokestatic 68, 3) := dk_184 0 68 (dk_at dksJ7_copySign_2_0 1 rfl rfl)
theorem dJ7_copySign_2_4 : decode cJ7_copySign_2 4 = .ok (.ldc 137, 2) := dk_18 137 (dk_at dksJ7_copySign_2_0 4 rfl rfl)
theorem dJ7_copySign_2_6 : decode cJ7_copySign_2 6 = .ok (.iand, 1) := dk_126 (dk_at dksJ7_copySign_2_0 6 rfl rfl)
theorem dJ7_copySign_2_7 : decode cJ7_copySign_2 7 = .ok (.fload_n 0, 1) := dk_34 (dk_at dksJ7_copySign_2_0 7 rfl rfl)
theorem dJ7_copySign_2_8 : decode cJ7_copySign_2 8 = .ok (.invokestatic 68, 3) := dk_184 0 68 (dk_at dksJ7_copySign_2_0 8 rfl rfl)
theorem dJ7_copySign_2_11 : decode cJ7_copySign_2 11 = .ok (.ldc 134, 2) := dk_18 134 (dk_at dksJ7_copySign_2_0 11 rfl rfl)
theorem dJ7_copySign_2_13 : decode cJ7_copySign_2 13 = .ok (.iand, 1) := dk_126 (dk_at dksJ7_copySign_2_0 13 rfl rfl)
theorem dJ7_copySign_2_14 : decode cJ7_copySign_2 14 = .ok (.ior, 1) := dk_128 (dk_at dksJ7_copySign_2_0 14 rfl rfl)
theorem dJ7_copySign_2_15 : decode cJ7_copySign_2 15 = .ok (.invokestatic 162, 3) := dk_184 0 162 (dk_at dksJ7_copySign_2_0 15 rfl rfl)
theorem dJ7_copySign_2_18 : decode cJ7_copySign_2 18 = .ok (.freturn, 1) := dk_174 (dk_at dksJ7_copySign_2_0 18 rfl rfl)
abbrev cJ7_floor : ByteArray := prog_22_method_17_code
def yJ7_floor : MethodName := ⟨RJ7, "floo\x72", "(D)D"⟩
theorem dJ7_floor_0 : decode cJ7_floor 0 = .ok (.dload_n 0, 1) := by decide +kernel
theorem dJ7_floor_1 : decode cJ7_floor 1 = .ok (.invokestatic 56, 3) := by decide +kernel
theorem dJ7_floor_4 : decode cJ7_floor 4 = .ok (.dreturn, 1) := by decide +kernel
abbrev cJ7_ceil : ByteArray := prog_22_method_16_code
def yJ7_ceil : MethodName := ⟨RJ7, "ceil", "(D)D"⟩
theorem dJ7_ceil_0 : decode cJ7_ceil 0 = .ok (.dload_n 0, 1) := by decide +kernel
theorem dJ7_ceil_1 : decode cJ7_ceil 1 = .ok (.invokestatic 53, 3) := by decide +kernel
theorem dJ7_ceil_4 : decode cJ7_ceil 4 = .ok (.dreturn, 1) := by decide +kernel
abbrev cJ7_rint : ByteArray := prog_22_method_18_code
def yJ7_rint : MethodName := ⟨RJ7, "rint", "(D)D"⟩
theorem dJ7_rint_0 : decode cJ7_rint 0 = .ok (.dload_n 0, 1) := by decide +kernel
theorem dJ7_rint_1 : decode cJ7_rint 1 = .ok (.invokestatic 59, 3) := by decide +kernel
theorem dJ7_rint_4 : decode cJ7_rint 4 = .ok (.dreturn, 1) := by decide +kernel
abbrev cJ7_max_2 : ByteArray := prog_22_method_68_code
def yJ7_max_2 : MethodName := ⟨RJ7, "max", "(DD)D"⟩
def dkwJ7_max_2_1 : List UInt8 := [178, 0, 174, 148, 154, 0, 5, 40, 175, 38, 40, 151, 155, 0, 7, 38, 167, 0, 4, 40, 175]
abbrev dktJ7_max_2_1 : List UInt8 := dkwJ7_max_2_1 ++ []
def dkwJ7_max_2_0 : List UInt8 := [38, 38, 151, 153, 0, 5, 38, 175, 38, 14, 151, 154, 0, 22, 40, 14, 151, 154, 0, 16, 38, 184, 0, 79]
abbrev dktJ7_max_2_0 : List UInt8 := dkwJ7_max_2_0 ++ dktJ7_max_2_1
theorem dksJ7_max_2_0 : cJ7_max_2.data.toList.drop 0 = dktJ7_max_2_0 := by decide +kernel
theorem dksJ7_max_2_1 : cJ7_max_2.data.toList.drop 24 = dktJ7_max_2_1 := dk_seg dksJ7_max_2_0 24 rfl rfl
theorem dJ7_max_2_0 : decode cJ7_max_2 0 = .ok (.dload_n 0, 1) := dk_38 (dk_at dksJ7_max_2_0 0 rfl rfl)
theorem dJ7_max_2_1 : decode cJ7_max_2 1 = .ok (.dload_n 0, 1) := dk_38 (dk_at dksJ7_max_2_0 1 rfl rfl)
theorem dJ7_max_2_2 : decode cJ7_max_2 2 = .ok (.dcmp .l, 1) := dk_151 (dk_at dksJ7_max_2_0 2 rfl rfl)
theorem dJ7_max_2_3 : decode cJ7_max_2 3 = .ok (.ifCond .eq 5, 3) := dk_153 0 5 (dk_at dksJ7_max_2_0 3 rfl rfl)
theorem dJ7_max_2_6 : decode cJ7_max_2 6 = .ok (.dload_n 0, 1) := dk_38 (dk_at dksJ7_max_2_0 6 rfl rfl)
theorem dJ7_max_2_7 : decode cJ7_max_2 7 = .ok (.dreturn, 1) := dk_175 (dk_at dksJ7_max_2_0 7 rfl rfl)
theorem dJ7_max_2_8 : decode cJ7_max_2 8 = .ok (.dload_n 0, 1) := dk_38 (dk_at dksJ7_max_2_0 8 rfl rfl)
theorem dJ7_max_2_9 : decode cJ7_max_2 9 = .ok (.dconst 0, 1) := dk_14 (dk_at dksJ7_max_2_0 9 rfl rfl)
theorem dJ7_max_2_10 : decode cJ7_max_2 10 = .ok (.dcmp .l, 1) := dk_151 (dk_at dksJ7_max_2_0 10 rfl rfl)
theorem dJ7_max_2_11 : decode cJ7_max_2 11 = .ok (.ifCond .ne 22, 3) := dk_154 0 22 (dk_at dksJ7_max_2_0 11 rfl rfl)
theorem dJ7_max_2_14 : decode cJ7_max_2 14 = .ok (.dload_n 2, 1) := dk_40 (dk_at dksJ7_max_2_0 14 rfl rfl)
theorem dJ7_max_2_15 : decode cJ7_max_2 15 = .ok (.dconst 0, 1) := dk_14 (dk_at dksJ7_max_2_0 15 rfl rfl)
theorem dJ7_max_2_16 : decode cJ7_max_2 16 = .ok (.dcmp .l, 1) := dk_151 (dk_at dksJ7_max_2_0 16 rfl rfl)
theorem dJ7_max_2_17 : decode cJ7_max_2 17 = .ok (.ifCond .ne 16, 3) := dk_154 0 16 (dk_at dksJ7_max_2_0 17 rfl rfl)
theorem dJ7_max_2_20 : decode cJ7_max_2 20 = .ok (.dload_n 0, 1) := dk_38 (dk_at dksJ7_max_2_0 20 rfl rfl)
theorem dJ7_max_2_21 : decode cJ7_max_2 21 = .ok (.invokestatic 79, 3) := dk_184 0 79 (dk_at dksJ7_max_2_0 21 rfl rfl)
theorem dJ7_max_2_24 : decode cJ7_max_2 24 = .ok (.getstatic 174, 3) := dk_178 0 174 (dk_at dksJ7_max_2_1 0 rfl rfl)
theorem dJ7_max_2_27 : decode cJ7_max_2 27 = .ok (.lcmp, 1) := dk_148 (dk_at dksJ7_max_2_1 3 rfl rfl)
theorem dJ7_max_2_28 : decode cJ7_max_2 28 = .ok (.ifCond .ne 5, 3) := dk_154 0 5 (dk_at dksJ7_max_2_1 4 rfl rfl)
theorem dJ7_max_2_31 : decode cJ7_max_2 31 = .ok (.dload_n 2, 1) := dk_40 (dk_at dksJ7_max_2_1 7 rfl rfl)
theorem dJ7_max_2_32 : decode cJ7_max_2 32 = .ok (.dreturn, 1) := dk_175 (dk_at dksJ7_max_2_1 8 rfl rfl)
theorem dJ7_max_2_33 : decode cJ7_max_2 33 = .ok (.dload_n 0, 1) := dk_38 (dk_at dksJ7_max_2_1 9 rfl rfl)
theorem dJ7_max_2_34 : decode cJ7_max_2 34 = .ok (.dload_n 2, 1) := dk_40 (dk_at dksJ7_max_2_1 10 rfl rfl)
theorem dJ7_max_2_35 : decode cJ7_max_2 35 = .ok (.dcmp .l, 1) := dk_151 (dk_at dksJ7_max_2_1 11 rfl rfl)
theorem dJ7_max_2_36 : decode cJ7_max_2 36 = .ok (.ifCond .lt 7, 3) := dk_155 0 7 (dk_at dksJ7_max_2_1 12 rfl rfl)
theorem dJ7_max_2_39 : decode cJ7_max_2 39 = .ok (.dload_n 0, 1) := dk_38 (dk_at dksJ7_max_2_1 15 rfl rfl)
theorem dJ7_max_2_40 : decode cJ7_max_2 40 = .ok (.goto 4, 3) := dk_167 0 4 (dk_at dksJ7_max_2_1 16 rfl rfl)
theorem dJ7_max_2_43 : decode cJ7_max_2 43 = .ok (.dload_n 2, 1) := dk_40 (dk_at dksJ7_max_2_1 19 rfl rfl)
theorem dJ7_max_2_44 : decode cJ7_max_2 44 = .ok (.dreturn, 1) := dk_175 (dk_at dksJ7_max_2_1 20 rfl rfl)
abbrev cJ7_min_2 : ByteArray := prog_22_method_72_code
def yJ7_min_2 : MethodName := ⟨RJ7, "min", "(DD)D"⟩
def dkwJ7_min_2_1 : List UInt8 := [178, 0, 174, 148, 154, 0, 5, 40, 175, 38, 40, 152, 157, 0, 7, 38, 167, 0, 4, 40, 175]
abbrev dktJ7_min_2_1 : List UInt8 := dkwJ7_min_2_1 ++ []
def dkwJ7_min_2_0 : List UInt8 := [38, 38, 151, 153, 0, 5, 38, 175, 38, 14, 151, 154, 0, 22, 40, 14, 151, 154, 0, 16, 40, 184, 0, 79]
abbrev dktJ7_min_2_0 : List UInt8 := dkwJ7_min_2_0 ++ dktJ7_min_2_1
theorem dksJ7_min_2_0 : cJ7_min_2.data.toList.drop 0 = dktJ7_min_2_0 := by decide +kernel
theorem dksJ7_min_2_1 : cJ7_min_2.data.toList.drop 24 = dktJ7_min_2_1 := dk_seg dksJ7_min_2_0 24 rfl rfl
theorem dJ7_min_2_0 : decode cJ7_min_2 0 = .ok (.dload_n 0, 1) := dk_38 (dk_at dksJ7_min_2_0 0 rfl rfl)
theorem dJ7_min_2_1 : decode cJ7_min_2 1 = .ok (.dload_n 0, 1) := dk_38 (dk_at dksJ7_min_2_0 1 rfl rfl)
theorem dJ7_min_2_2 : decode cJ7_min_2 2 = .ok (.dcmp .l, 1) := dk_151 (dk_at dksJ7_min_2_0 2 rfl rfl)
theorem dJ7_min_2_3 : decode cJ7_min_2 3 = .ok (.ifCond .eq 5, 3) := dk_153 0 5 (dk_at dksJ7_min_2_0 3 rfl rfl)
theorem dJ7_min_2_6 : decode cJ7_min_2 6 = .ok (.dload_n 0, 1) := dk_38 (dk_at dksJ7_min_2_0 6 rfl rfl)
theorem dJ7_min_2_7 : decode cJ7_min_2 7 = .ok (.dreturn, 1) := dk_175 (dk_at dksJ7_min_2_0 7 rfl rfl)
theorem dJ7_min_2_8 : decode cJ7_min_2 8 = .ok (.dload_n 0, 1) := dk_38 (dk_at dksJ7_min_2_0 8 rfl rfl)
theorem dJ7_min_2_9 : decode cJ7_min_2 9 = .ok (.dconst 0, 1) := dk_14 (dk_at dksJ7_min_2_0 9 rfl rfl)
theorem dJ7_min_2_10 : decode cJ7_min_2 10 = .ok (.dcmp .l, 1) := dk_151 (dk_at dksJ7_min_2_0 10 rfl rfl)
theorem dJ7_min_2_11 : decode cJ7_min_2 11 = .ok (.ifCond .ne 22, 3) := dk_154 0 22 (dk_at dksJ7_min_2_0 11 rfl rfl)
theorem dJ7_min_2_14 : decode cJ7_min_2 14 = .ok (.dload_n 2, 1) := dk_40 (dk_at dksJ7_min_2_0 14 rfl rfl)
theorem dJ7_min_2_15 : decode cJ7_min_2 15 = .ok (.dconst 0, 1) := dk_14 (dk_at dksJ7_min_2_0 15 rfl rfl)
theorem dJ7_min_2_16 : decode cJ7_min_2 16 = .ok (.dcmp .l, 1) := dk_151 (dk_at dksJ7_min_2_0 16 rfl rfl)
theorem dJ7_min_2_17 : decode cJ7_min_2 17 = .ok (.ifCond .ne 16, 3) := dk_154 0 16 (dk_at dksJ7_min_2_0 17 rfl rfl)
theorem dJ7_min_2_20 : decode cJ7_min_2 20 = .ok (.dload_n 2, 1) := dk_40 (dk_at dksJ7_min_2_0 20 rfl rfl)
theorem dJ7_min_2_21 : decode cJ7_min_2 21 = .ok (.invokestatic 79, 3) := dk_184 0 79 (dk_at dksJ7_min_2_0 21 rfl rfl)
theorem dJ7_min_2_24 : decode cJ7_min_2 24 = .ok (.getstatic 174, 3) := dk_178 0 174 (dk_at dksJ7_min_2_1 0 rfl rfl)
theorem dJ7_min_2_27 : decode cJ7_min_2 27 = .ok (.lcmp, 1) := dk_148 (dk_at dksJ7_min_2_1 3 rfl rfl)
theorem dJ7_min_2_28 : decode cJ7_min_2 28 = .ok (.ifCond .ne 5, 3) := dk_154 0 5 (dk_at dksJ7_min_2_1 4 rfl rfl)
theorem dJ7_min_2_31 : decode cJ7_min_2 31 = .ok (.dload_n 2, 1) := dk_40 (dk_at dksJ7_min_2_1 7 rfl rfl)
theorem dJ7_min_2_32 : decode cJ7_min_2 32 = .ok (.dreturn, 1) := dk_175 (dk_at dksJ7_min_2_1 8 rfl rfl)
theorem dJ7_min_2_33 : decode cJ7_min_2 33 = .ok (.dload_n 0, 1) := dk_38 (dk_at dksJ7_min_2_1 9 rfl rfl)
theorem dJ7_min_2_34 : decode cJ7_min_2 34 = .ok (.dload_n 2, 1) := dk_40 (dk_at dksJ7_min_2_1 10 rfl rfl)
theorem dJ7_min_2_35 : decode cJ7_min_2 35 = .ok (.dcmp .g, 1) := dk_152 (dk_at dksJ7_min_2_1 11 rfl rfl)
theorem dJ7_min_2_36 : decode cJ7_min_2 36 = .ok (.ifCond .gt 7, 3) := dk_157 0 7 (dk_at dksJ7_min_2_1 12 rfl rfl)
theorem dJ7_min_2_39 : decode cJ7_min_2 39 = .ok (.dload_n 0, 1) := dk_38 (dk_at dksJ7_min_2_1 15 rfl rfl)
theorem dJ7_min_2_40 : decode cJ7_min_2 40 = .ok (.goto 4, 3) := dk_167 0 4 (dk_at dksJ7_min_2_1 16 rfl rfl)
theorem dJ7_min_2_43 : decode cJ7_min_2 43 = .ok (.dload_n 2, 1) := dk_40 (dk_at dksJ7_min_2_1 19 rfl rfl)
theorem dJ7_min_2_44 : decode cJ7_min_2 44 = .ok (.dreturn, 1) := dk_175 (dk_at dksJ7_min_2_1 20 rfl rfl)
abbrev cJ7_ulp : ByteArray := prog_22_method_79_code
def yJ7_ulp : MethodName := ⟨RJ7, "ulp", "(D)D"⟩
def dkwJ7_ulp_4 : List UInt8 := [17, 252, 2, 161, 0, 10, 28, 184, 1, 30, 167, 0, 13, 10, 28, 17, 251, 206, 100, 121, 184, 0, 166, 175]
abbrev dktJ7_ulp_4 : List UInt8 := dkwJ7_ulp_4 ++ []
def dkwJ7_ulp_3 : List UInt8 := [163, 0, 10, 28, 17, 252, 2, 162, 0, 11, 187, 0, 247, 89, 183, 0, 249, 191, 28, 16, 52, 100, 61, 28]
abbrev dktJ7_ulp_3 : List UInt8 := dkwJ7_ulp_3 ++ dktJ7_ulp_4
def dkwJ7_ulp_2 : List UInt8 := [38, 184, 1, 26, 167, 0, 66, 20, 1, 28, 167, 0, 60, 178, 0, 243, 154, 0, 25, 28, 17, 3, 255]
abbrev dktJ7_ulp_2 : List UInt8 := dkwJ7_ulp_2 ++ dktJ7_ulp_3
def dkwJ7_ulp_1 : List UInt8 := [171, 0, 0, 0, 0, 39, 0, 0, 0, 2, 255, 255, 252, 1, 0, 0, 0, 33, 0, 0, 4, 0, 0, 0, 0, 26]
abbrev dktJ7_ulp_1 : List UInt8 := dkwJ7_ulp_1 ++ dktJ7_ulp_2
def dkwJ7_ulp_0 : List UInt8 := [38, 184, 1, 22, 61, 28]
abbrev dktJ7_ulp_0 : List UInt8 := dkwJ7_ulp_0 ++ dktJ7_ulp_1
theorem dksJ7_ulp_0 : cJ7_ulp.data.toList.drop 0 = dktJ7_ulp_0 := by decide +kernel
theorem dksJ7_ulp_1 : cJ7_ulp.data.toList.drop 6 = dktJ7_ulp_1 := dk_seg dksJ7_ulp_0 6 rfl rfl
theorem dksJ7_ulp_2 : cJ7_ulp.data.toList.drop 32 = dktJ7_ulp_2 := dk_seg dksJ7_ulp_1 26 rfl rfl
theorem dksJ7_ulp_3 : cJ7_ulp.data.toList.drop 55 = dktJ7_ulp_3 := dk_seg dksJ7_ulp_2 23 rfl rfl
theorem dksJ7_ulp_4 : cJ7_ulp.data.toList.drop 79 = dktJ7_ulp_4 := dk_seg dksJ7_ulp_3 24 rfl rfl
theorem dJ7_ulp_0 : decode cJ7_ulp 0 = .ok (.dload_n 0, 1) := dk_38 (dk_at dksJ7_ulp_0 0 rfl rfl)
theorem dJ7_ulp_1 : decode cJ7_ulp 1 = .ok (.invokestatic 278, 3) := dk_184 1 22 (dk_at dksJ7_ulp_0 1 rfl rfl)
theorem dJ7_ulp_4 : decode cJ7_ulp 4 = .ok (.istore_n 2, 1) := dk_61 (dk_at dksJ7_ulp_0 4 rfl rfl)
theorem dJ7_ulp_5 : decode cJ7_ulp 5 = .ok (.iload_n 2, 1) := dk_28 (dk_at dksJ7_ulp_0 5 rfl rfl)
theorem dJ7_ulp_6 : decode cJ7_ulp 6 = .ok (.lookupswitch 39 #[(-1023, 33), (1024, 26)], 26) := by decide +kernel
theorem dJ7_ulp_32 : decode cJ7_ulp 32 = .ok (.dload_n 0, 1) := dk_38 (dk_at dksJ7_ulp_2 0 rfl rfl)
theorem dJ7_ulp_33 : decode cJ7_ulp 33 = .ok (.invokestatic 282, 3) := dk_184 1 26 (dk_at dksJ7_ulp_2 1 rfl rfl)
theorem dJ7_ulp_36 : decode cJ7_ulp 36 = .ok (.goto 66, 3) := dk_167 0 66 (dk_at dksJ7_ulp_2 4 rfl rfl)
theorem dJ7_ulp_39 : decode cJ7_ulp 39 = .ok (.ldc2_w 284, 3) := dk_20 1 28 (dk_at dksJ7_ulp_2 7 rfl rfl)
theorem dJ7_ulp_42 : decode cJ7_ulp 42 = .ok (.goto 60, 3) := dk_167 0 60 (dk_at dksJ7_ulp_2 10 rfl rfl)
theorem dJ7_ulp_45 : decode cJ7_ulp 45 = .ok (.getstatic 243, 3) := dk_178 0 243 (dk_at dksJ7_ulp_2 13 rfl rfl)
theorem dJ7_ulp_48 : decode cJ7_ulp 48 = .ok (.ifCond .ne 25, 3) := dk_154 0 25 (dk_at dksJ7_ulp_2 16 rfl rfl)
theorem dJ7_ulp_51 : decode cJ7_ulp 51 = .ok (.iload_n 2, 1) := dk_28 (dk_at dksJ7_ulp_2 19 rfl rfl)
theorem dJ7_ulp_52 : decode cJ7_ulp 52 = .ok (.sipush 1023, 3) := dk_17 3 255 (dk_at dksJ7_ulp_2 20 rfl rfl)
theorem dJ7_ulp_55 : decode cJ7_ulp 55 = .ok (.if_icmp .gt 10, 3) := dk_163 0 10 (dk_at dksJ7_ulp_3 0 rfl rfl)
theorem dJ7_ulp_58 : decode cJ7_ulp 58 = .ok (.iload_n 2, 1) := dk_28 (dk_at dksJ7_ulp_3 3 rfl rfl)
theorem dJ7_ulp_59 : decode cJ7_ulp 59 = .ok (.sipush (-1022), 3) := dk_17 252 2 (dk_at dksJ7_ulp_3 4 rfl rfl)
theorem dJ7_ulp_62 : decode cJ7_ulp 62 = .ok (.if_icmp .ge 11, 3) := dk_162 0 11 (dk_at dksJ7_ulp_3 7 rfl rfl)
theorem dJ7_ulp_65 : decode cJ7_ulp 65 = .ok (.new 247, 3) := dk_187 0 247 (dk_at dksJ7_ulp_3 10 rfl rfl)
theorem dJ7_ulp_68 : decode cJ7_ulp 68 = .ok (.dup, 1) := dk_89 (dk_at dksJ7_ulp_3 13 rfl rfl)
theorem dJ7_ulp_69 : decode cJ7_ulp 69 = .ok (.invokespecial 249, 3) := dk_183 0 249 (dk_at dksJ7_ulp_3 14 rfl rfl)
theorem dJ7_ulp_72 : decode cJ7_ulp 72 = .ok (.athrow, 1) := dk_191 (dk_at dksJ7_ulp_3 17 rfl rfl)
theorem dJ7_ulp_73 : decode cJ7_ulp 73 = .ok (.iload_n 2, 1) := dk_28 (dk_at dksJ7_ulp_3 18 rfl rfl)
theorem dJ7_ulp_74 : decode cJ7_ulp 74 = .ok (.bipush 52, 2) := dk_16 52 (dk_at dksJ7_ulp_3 19 rfl rfl)
theorem dJ7_ulp_76 : decode cJ7_ulp 76 = .ok (.isub, 1) := dk_100 (dk_at dksJ7_ulp_3 21 rfl rfl)
theorem dJ7_ulp_77 : decode cJ7_ulp 77 = .ok (.istore_n 2, 1) := dk_61 (dk_at dksJ7_ulp_3 22 rfl rfl)
theorem dJ7_ulp_78 : decode cJ7_ulp 78 = .ok (.iload_n 2, 1) := dk_28 (dk_at dksJ7_ulp_3 23 rfl rfl)
theorem dJ7_ulp_79 : decode cJ7_ulp 79 = .ok (.sipush (-1022), 3) := dk_17 252 2 (dk_at dksJ7_ulp_4 0 rfl rfl)
theorem dJ7_ulp_82 : decode cJ7_ulp 82 = .ok (.if_icmp .lt 10, 3) := dk_161 0 10 (dk_at dksJ7_ulp_4 3 rfl rfl)
theorem dJ7_ulp_85 : decode cJ7_ulp 85 = .ok (.iload_n 2, 1) := dk_28 (dk_at dksJ7_ulp_4 6 rfl rfl)
theorem dJ7_ulp_86 : decode cJ7_ulp 86 = .ok (.invokestatic 286, 3) := dk_184 1 30 (dk_at dksJ7_ulp_4 7 rfl rfl)
theorem dJ7_ulp_89 : decode cJ7_ulp 89 = .ok (.goto 13, 3) := dk_167 0 13 (dk_at dksJ7_ulp_4 10 rfl rfl)
theorem dJ7_ulp_92 : decode cJ7_ulp 92 = .ok (.lconst 1, 1) := dk_10 (dk_at dksJ7_ulp_4 13 rfl rfl)
theorem dJ7_ulp_93 : decode cJ7_ulp 93 = .ok (.iload_n 2, 1) := dk_28 (dk_at dksJ7_ulp_4 14 rfl rfl)
theorem dJ7_ulp_94 : decode cJ7_ulp 94 = .ok (.sipush (-1074), 3) := dk_17 251 206 (dk_at dksJ7_ulp_4 15 rfl rfl)
theorem dJ7_ulp_97 : decode cJ7_ulp 97 = .ok (.isub, 1) := dk_100 (dk_at dksJ7_ulp_4 18 rfl rfl)
theorem dJ7_ulp_98 : decode cJ7_ulp 98 = .ok (.lshl, 1) := dk_121 (dk_at dksJ7_ulp_4 19 rfl rfl)
theorem dJ7_ulp_99 : decode cJ7_ulp 99 = .ok (.invokestatic 166, 3) := dk_184 0 166 (dk_at dksJ7_ulp_4 20 rfl rfl)
theorem dJ7_ulp_102 : decode cJ7_ulp 102 = .ok (.dreturn, 1) := dk_175 (dk_at dksJ7_ulp_4 23 rfl rfl)
abbrev cJ7_min_3 : ByteArray := prog_22_method_70_code
def yJ7_min_3 : MethodName := ⟨RJ7, "min", "(JJ)J"⟩
def dkwJ7_min_3_0 : List UInt8 := [30, 32, 148, 157, 0, 7, 30, 167, 0, 4, 32, 173]
abbrev dktJ7_min_3_0 : List UInt8 := dkwJ7_min_3_0 ++ []
theorem dksJ7_min_3_0 : cJ7_min_3.data.toList.drop 0 = dktJ7_min_3_0 := by decide +kernel
theorem dJ7_min_3_0 : decode cJ7_min_3 0 = .ok (.lload_n 0, 1) := dk_30 (dk_at dksJ7_min_3_0 0 rfl rfl)
theorem dJ7_min_3_1 : decode cJ7_min_3 1 = .ok (.lload_n 2, 1) := dk_32 (dk_at dksJ7_min_3_0 1 rfl rfl)
theorem dJ7_min_3_2 : decode cJ7_min_3 2 = .ok (.lcmp, 1) := dk_148 (dk_at dksJ7_min_3_0 2 rfl rfl)
theorem dJ7_min_3_3 : decode cJ7_min_3 3 = .ok (.ifCond .gt 7, 3) := dk_157 0 7 (dk_at dksJ7_min_3_0 3 rfl rfl)
theorem dJ7_min_3_6 : decode cJ7_min_3 6 = .ok (.lload_n 0, 1) := dk_30 (dk_at dksJ7_min_3_0 6 rfl rfl)
theorem dJ7_min_3_7 : decode cJ7_min_3 7 = .ok (.goto 4, 3) := dk_167 0 4 (dk_at dksJ7_min_3_0 7 rfl rfl)
theorem dJ7_min_3_10 : decode cJ7_min_3 10 = .ok (.lload_n 2, 1) := dk_32 (dk_at dksJ7_min_3_0 10 rfl rfl)
theorem dJ7_min_3_11 : decode cJ7_min_3 11 = .ok (.lreturn, 1) := dk_173 (dk_at dksJ7_min_3_0 11 rfl rfl)
abbrev cJ7_max_3 : ByteArray := prog_22_method_66_code
def yJ7_max_3 : MethodName := ⟨RJ7, "max", "(JJ)J"⟩
def dkwJ7_max_3_0 : List UInt8 := [30, 32, 148, 155, 0, 7, 30, 167, 0, 4, 32, 173]
abbrev dktJ7_max_3_0 : List UInt8 := dkwJ7_max_3_0 ++ []
theorem dksJ7_max_3_0 : cJ7_max_3.data.toList.drop 0 = dktJ7_max_3_0 := by decide +kernel
theorem dJ7_max_3_0 : decode cJ7_max_3 0 = .ok (.lload_n 0, 1) := dk_30 (dk_at dksJ7_max_3_0 0 rfl rfl)
theorem dJ7_max_3_1 : decode cJ7_max_3 1 = .ok (.lload_n 2, 1) := dk_32 (dk_at dksJ7_max_3_0 1 rfl rfl)
theorem dJ7_max_3_2 : decode cJ7_max_3 2 = .ok (.lcmp, 1) := dk_148 (dk_at dksJ7_max_3_0 2 rfl rfl)
theorem dJ7_max_3_3 : decode cJ7_max_3 3 = .ok (.ifCond .lt 7, 3) := dk_155 0 7 (dk_at dksJ7_max_3_0 3 rfl rfl)
theorem dJ7_max_3_6 : decode cJ7_max_3 6 = .ok (.lload_n 0, 1) := dk_30 (dk_at dksJ7_max_3_0 6 rfl rfl)
theorem dJ7_max_3_7 : decode cJ7_max_3 7 = .ok (.goto 4, 3) := dk_167 0 4 (dk_at dksJ7_max_3_0 7 rfl rfl)
theorem dJ7_max_3_10 : decode cJ7_max_3 10 = .ok (.lload_n 2, 1) := dk_32 (dk_at dksJ7_max_3_0 10 rfl rfl)
theorem dJ7_max_3_11 : decode cJ7_max_3 11 = .ok (.lreturn, 1) := dk_173 (dk_at dksJ7_max_3_0 11 rfl rfl)
theorem q76 : (Jvm.Cond.initialized "java/lang/Math") ∈ lw_all := lw_g (lw_at lw_m1 18 rfl) rfl
theorem q350 : (Jvm.Cond.static ({ cls := "java/lang/Math", name := "min", desc := "(II)I" } : Jvm.MethodName)) ∈ lw_all := lw_g (lw_at lw_m2 52 rfl) rfl
theorem q351 : (Jvm.Cond.code ({ cls := "java/lang/Math", name := "min", desc := "(II)I" } : Jvm.MethodName) prog_22_method_69_code (2 : Nat) (Option.some Jvm.ClassFile.FieldType.int)) ∈ lw_all := lw_g (lw_at lw_m2 53 rfl) rfl
theorem q362 : (Jvm.Cond.static ({ cls := "java/lang/Math", name := "max", desc := "(II)I" } : Jvm.MethodName)) ∈ lw_all := lw_g (lw_at lw_m2 64 rfl) rfl
theorem q363 : (Jvm.Cond.code ({ cls := "java/lang/Math", name := "max", desc := "(II)I" } : Jvm.MethodName) prog_22_method_65_code (2 : Nat) (Option.some Jvm.ClassFile.FieldType.int)) ∈ lw_all := lw_g (lw_at lw_m2 65 rfl) rfl
theorem q492 : (Jvm.Cond.static ({ cls := "java/lang/Math", name := "abs", desc := "(D)D" } : Jvm.MethodName)) ∈ lw_all := lw_g (lw_at lw_m2 194 rfl) rfl
theorem q493 : (Jvm.Cond.code ({ cls := "java/lang/Math", name := "abs", desc := "(D)D" } : Jvm.MethodName) prog_22_method_64_code (2 : Nat) (Option.some Jvm.ClassFile.FieldType.double)) ∈ lw_all := lw_g (lw_at lw_m2 195 rfl) rfl
theorem q494 : (Jvm.Cond.methodLink "java/lang/Math" (79 : Nat) ({ cls := "java/lang/Double", name := "doubleToRawLongBits", desc := "(D)J" } : Jvm.MethodName)) ∈ lw_all := lw_g (lw_at lw_m2 196 rfl) rfl
theorem q497 : (Jvm.Cond.constantLong "java/lang/Math" (135 : Nat) (9223372036854775807 : Int64)) ∈ lw_all := lw_g (lw_at lw_m2 199 rfl) rfl
theorem q498 : (Jvm.Cond.methodLink "java/lang/Math" (166 : Nat) ({ cls := "java/lang/Double", name := "longBitsToDouble", desc := "(J)D" } : Jvm.MethodName)) ∈ lw_all := lw_g (lw_at lw_m2 200 rfl) rfl
theorem q505 : (Jvm.Cond.static ({ cls := "java/lang/Math", name := "getExponent", desc := "(D)I" } : Jvm.MethodName)) ∈ lw_all := lw_g (lw_at lw_m2 207 rfl) rfl
theorem q506 : (Jvm.Cond.code ({ cls := "java/lang/Math", name := "getExponent", desc := "(D)I" } : Jvm.MethodName) prog_22_method_92_code (2 : Nat) (Option.some Jvm.ClassFile.FieldType.int)) ∈ lw_all := lw_g (lw_at lw_m2 208 rfl) rfl
theorem q507 : (Jvm.Cond.constantLong "java/lang/Math" (87 : Nat) (9218868437227405312 : Int64)) ∈ lw_all := lw_g (lw_at lw_m2 209 rfl) rfl
theorem q508 : (Jvm.Cond.constantLong "java/lang/Math" (322 : Nat) (1023 : Int64)) ∈ lw_all := lw_g (lw_at lw_m2 210 rfl) rfl
theorem q511 : (Jvm.Cond.static ({ cls := "java/lang/Math", name := "scalb", desc := "(DI)D" } : Jvm.MethodName)) ∈ lw_all := lw_g (lw_at lw_m2 213 rfl) rfl
theorem q512 : (Jvm.Cond.code ({ cls := "java/lang/Math", name := "scalb", desc := "(DI)D" } : Jvm.MethodName) prog_22_method_99_code (9 : Nat) (Option.some Jvm.ClassFile.FieldType.double)) ∈ lw_all := lw_g (lw_at lw_m2 214 rfl) rfl
theorem q513 : (Jvm.Cond.constantDouble "java/lang/Math" (238 : Nat) (9221120237041090560 : UInt64)) ∈ lw_all := lw_g (lw_at lw_m2 215 rfl) rfl
theorem q514 : (Jvm.Cond.methodLink "java/lang/Math" (333 : Nat) ({ cls := "java/lang/Math", name := "max", desc := "(II)I" } : Jvm.MethodName)) ∈ lw_all := lw_g (lw_at lw_m2 216 rfl) rfl
theorem q515 : (Jvm.Cond.fieldLink "java/lang/Math" (336 : Nat) "java/lang/Math" "twoToTheDoubleScaleDown" "D") ∈ lw_all := lw_g (lw_at lw_m2 217 rfl) rfl
theorem q516 : (Jvm.Cond.laysStatic "java/lang/Math" "twoToTheDoubleScaleDown" "D") ∈ lw_tbl := lw_at lw_m2 218 rfl
theorem q517 : (Jvm.Cond.methodLink "java/lang/Math" (340 : Nat) ({ cls := "java/lang/Math", name := "min", desc := "(II)I" } : Jvm.MethodName)) ∈ lw_all := lw_g (lw_at lw_m2 219 rfl) rfl
theorem q518 : (Jvm.Cond.fieldLink "java/lang/Math" (342 : Nat) "java/lang/Math" "twoToTheDoubleScaleUp" "D") ∈ lw_all := lw_g (lw_at lw_m2 220 rfl) rfl
theorem q519 : (Jvm.Cond.laysStatic "java/lang/Math" "twoToTheDoubleScaleUp" "D") ∈ lw_tbl := lw_at lw_m2 221 rfl
theorem q520 : (Jvm.Cond.methodLink "java/lang/Math" (286 : Nat) ({ cls := "java/lang/Math", name := "powerOfTwoD", desc := "(I)D" } : Jvm.MethodName)) ∈ lw_all := lw_g (lw_at lw_m2 222 rfl) rfl
theorem q521 : (Jvm.Cond.static ({ cls := "java/lang/Math", name := "powerOfTwoD", desc := "(I)D" } : Jvm.MethodName)) ∈ lw_all := lw_g (lw_at lw_m2 223 rfl) rfl
theorem q522 : (Jvm.Cond.code ({ cls := "java/lang/Math", name := "powerOfTwoD", desc := "(I)D" } : Jvm.MethodName) prog_22_method_101_code (1 : Nat) (Option.some Jvm.ClassFile.FieldType.double)) ∈ lw_all := lw_g (lw_at lw_m2 224 rfl) rfl
theorem q523 : (Jvm.Cond.fieldLink "java/lang/Math" (243 : Nat) "java/lang/Math" "$assertionsDisabled" "Z") ∈ lw_all := lw_g (lw_at lw_m2 225 rfl) rfl
theorem q524 : (Jvm.Cond.laysStatic "java/lang/Math" "$assertionsDisabled" "Z") ∈ lw_tbl := lw_at lw_m2 226 rfl
theorem q705 : (Jvm.Cond.static ({ cls := "java/lang/Math", name := "signum", desc := "(D)D" } : Jvm.MethodName)) ∈ lw_all := lw_g (lw_at lw_m3 167 rfl) rfl
theorem q706 : (Jvm.Cond.code ({ cls := "java/lang/Math", name := "signum", desc := "(D)D" } : Jvm.MethodName) prog_22_method_81_code (2 : Nat) (Option.some Jvm.ClassFile.FieldType.double)) ∈ lw_all := lw_g (lw_at lw_m3 168 rfl) rfl
theorem q707 : (Jvm.Cond.methodLink "java/lang/Math" (205 : Nat) ({ cls := "java/lang/Double", name := "isNaN", desc := "(D)Z" } : Jvm.MethodName)) ∈ lw_all := lw_g (lw_at lw_m3 169 rfl) rfl
theorem q710 : (Jvm.Cond.methodLink "java/lang/Math" (299 : Nat) ({ cls := "java/lang/Math", name := "copySign", desc := "(DD)D" } : Jvm.MethodName)) ∈ lw_all := lw_g (lw_at lw_m3 172 rfl) rfl
theorem q711 : (Jvm.Cond.static ({ cls := "java/lang/Math", name := "copySign", desc := "(DD)D" } : Jvm.MethodName)) ∈ lw_all := lw_g (lw_at lw_m3 173 rfl) rfl
theorem q712 : (Jvm.Cond.code ({ cls := "java/lang/Math", name := "copySign", desc := "(DD)D" } : Jvm.MethodName) prog_22_method_89_code (4 : Nat) (Option.some Jvm.ClassFile.FieldType.double)) ∈ lw_all := lw_g (lw_at lw_m3 174 rfl) rfl
theorem q713 : (Jvm.Cond.constantLong "java/lang/Math" (128 : Nat) (-9223372036854775808 : Int64)) ∈ lw_all := lw_g (lw_at lw_m3 175 rfl) rfl
theorem q771 : (Jvm.Cond.static ({ cls := "java/lang/Math", name := "nextUp", desc := "(D)D" } : Jvm.MethodName)) ∈ lw_all := lw_g (lw_at lw_m3 233 rfl) rfl
theorem q772 : (Jvm.Cond.code ({ cls := "java/lang/Math", name := "nextUp", desc := "(D)D" } : Jvm.MethodName) prog_22_method_95_code (4 : Nat) (Option.some Jvm.ClassFile.FieldType.double)) ∈ lw_all := lw_g (lw_at lw_m3 234 rfl) rfl
theorem q773 : (Jvm.Cond.constantDouble "java/lang/Math" (327 : Nat) (9218868437227405312 : UInt64)) ∈ lw_all := lw_g (lw_at lw_m3 235 rfl) rfl
theorem q774 : (Jvm.Cond.constantLong "java/lang/Math" (130 : Nat) (-1 : Int64)) ∈ lw_all := lw_g (lw_at lw_m3 236 rfl) rfl
theorem q791 : (Jvm.Cond.static ({ cls := "java/lang/Math", name := "scalb", desc := "(FI)F" } : Jvm.MethodName)) ∈ lw_all := lw_g (lw_at lw_m4 13 rfl) rfl
theorem q792 : (Jvm.Cond.code ({ cls := "java/lang/Math", name := "scalb", desc := "(FI)F" } : Jvm.MethodName) prog_22_method_100_code (3 : Nat) (Option.some Jvm.ClassFile.FieldType.float)) ∈ lw_all := lw_g (lw_at lw_m4 14 rfl) rfl
theorem q794 : (Jvm.Cond.static ({ cls := "java/lang/Math", name := "nextUp", desc := "(F)F" } : Jvm.MethodName)) ∈ lw_all := lw_g (lw_at lw_m4 16 rfl) rfl
theorem q795 : (Jvm.Cond.code ({ cls := "java/lang/Math", name := "nextUp", desc := "(F)F" } : Jvm.MethodName) prog_22_method_96_code (2 : Nat) (Option.some Jvm.ClassFile.FieldType.float)) ∈ lw_all := lw_g (lw_at lw_m4 17 rfl) rfl
theorem q796 : (Jvm.Cond.constantFloat "java/lang/Math" (329 : Nat) (2139095040 : UInt32)) ∈ lw_all := lw_g (lw_at lw_m4 18 rfl) rfl
theorem q797 : (Jvm.Cond.methodLink "java/lang/Math" (68 : Nat) ({ cls := "java/lang/Float", name := "floatToRawIntBits", desc := "(F)I" } : Jvm.MethodName)) ∈ lw_all := lw_g (lw_at lw_m4 19 rfl) rfl
theorem q800 : (Jvm.Cond.methodLink "java/lang/Math" (162 : Nat) ({ cls := "java/lang/Float", name := "intBitsToFloat", desc := "(I)F" } : Jvm.MethodName)) ∈ lw_all := lw_g (lw_at lw_m4 22 rfl) rfl
theorem q804 : (Jvm.Cond.static ({ cls := "java/lang/Math", name := "copySign", desc := "(FF)F" } : Jvm.MethodName)) ∈ lw_all := lw_g (lw_at lw_m4 26 rfl) rfl
theorem q805 : (Jvm.Cond.code ({ cls := "java/lang/Math", name := "copySign", desc := "(FF)F" } : Jvm.MethodName) prog_22_method_90_code (2 : Nat) (Option.some Jvm.ClassFile.FieldType.float)) ∈ lw_all := lw_g (lw_at lw_m4 27 rfl) rfl
theorem q806 : (Jvm.Cond.constant "java/lang/Math" (137 : Nat) (-2147483648 : Int32)) ∈ lw_all := lw_g (lw_at lw_m4 28 rfl) rfl
theorem q807 : (Jvm.Cond.constant "java/lang/Math" (134 : Nat) (2147483647 : Int32)) ∈ lw_all := lw_g (lw_at lw_m4 29 rfl) rfl
theorem q829 : (Jvm.Cond.static ({ cls := "java/lang/Math", name := "floo\x72", desc := "(D)D" } : Jvm.MethodName)) ∈ lw_all := lw_g (lw_at lw_m4 51 rfl) rfl
theorem q830 : (Jvm.Cond.code ({ cls := "java/lang/Math", name := "floo\x72", desc := "(D)D" } : Jvm.MethodName) prog_22_method_17_code (2 : Nat) (Option.some Jvm.ClassFile.FieldType.double)) ∈ lw_all := lw_g (lw_at lw_m4 52 rfl) rfl
theorem q831 : (Jvm.Cond.methodLink "java/lang/Math" (56 : Nat) ({ cls := "java/lang/StrictMath", name := "floo\x72", desc := "(D)D" } : Jvm.MethodName)) ∈ lw_all := lw_g (lw_at lw_m4 53 rfl) rfl
theorem q846 : (Jvm.Cond.static ({ cls := "java/lang/Math", name := "ceil", desc := "(D)D" } : Jvm.MethodName)) ∈ lw_all := lw_g (lw_at lw_m4 68 rfl) rfl
theorem q847 : (Jvm.Cond.code ({ cls := "java/lang/Math", name := "ceil", desc := "(D)D" } : Jvm.MethodName) prog_22_method_16_code (2 : Nat) (Option.some Jvm.ClassFile.FieldType.double)) ∈ lw_all := lw_g (lw_at lw_m4 69 rfl) rfl
theorem q848 : (Jvm.Cond.methodLink "java/lang/Math" (53 : Nat) ({ cls := "java/lang/StrictMath", name := "ceil", desc := "(D)D" } : Jvm.MethodName)) ∈ lw_all := lw_g (lw_at lw_m4 70 rfl) rfl
theorem q853 : (Jvm.Cond.static ({ cls := "java/lang/Math", name := "rint", desc := "(D)D" } : Jvm.MethodName)) ∈ lw_all := lw_g (lw_at lw_m4 75 rfl) rfl
theorem q854 : (Jvm.Cond.code ({ cls := "java/lang/Math", name := "rint", desc := "(D)D" } : Jvm.MethodName) prog_22_method_18_code (2 : Nat) (Option.some Jvm.ClassFile.FieldType.double)) ∈ lw_all := lw_g (lw_at lw_m4 76 rfl) rfl
theorem q855 : (Jvm.Cond.methodLink "java/lang/Math" (59 : Nat) ({ cls := "java/lang/StrictMath", name := "rint", desc := "(D)D" } : Jvm.MethodName)) ∈ lw_all := lw_g (lw_at lw_m4 77 rfl) rfl
theorem q862 : (Jvm.Cond.static ({ cls := "java/lang/Math", name := "max", desc := "(DD)D" } : Jvm.MethodName)) ∈ lw_all := lw_g (lw_at lw_m4 84 rfl) rfl
theorem q863 : (Jvm.Cond.code ({ cls := "java/lang/Math", name := "max", desc := "(DD)D" } : Jvm.MethodName) prog_22_method_68_code (4 : Nat) (Option.some Jvm.ClassFile.FieldType.double)) ∈ lw_all := lw_g (lw_at lw_m4 85 rfl) rfl
theorem q864 : (Jvm.Cond.fieldLink "java/lang/Math" (174 : Nat) "java/lang/Math" "negativeZeroDoubleBits" "J") ∈ lw_all := lw_g (lw_at lw_m4 86 rfl) rfl
theorem q865 : (Jvm.Cond.laysStatic "java/lang/Math" "negativeZeroDoubleBits" "J") ∈ lw_tbl := lw_at lw_m4 87 rfl
theorem q867 : (Jvm.Cond.static ({ cls := "java/lang/Math", name := "min", desc := "(DD)D" } : Jvm.MethodName)) ∈ lw_all := lw_g (lw_at lw_m4 89 rfl) rfl
theorem q868 : (Jvm.Cond.code ({ cls := "java/lang/Math", name := "min", desc := "(DD)D" } : Jvm.MethodName) prog_22_method_72_code (4 : Nat) (Option.some Jvm.ClassFile.FieldType.double)) ∈ lw_all := lw_g (lw_at lw_m4 90 rfl) rfl
theorem q871 : (Jvm.Cond.static ({ cls := "java/lang/Math", name := "ulp", desc := "(D)D" } : Jvm.MethodName)) ∈ lw_all := lw_g (lw_at lw_m4 93 rfl) rfl
theorem q872 : (Jvm.Cond.code ({ cls := "java/lang/Math", name := "ulp", desc := "(D)D" } : Jvm.MethodName) prog_22_method_79_code (3 : Nat) (Option.some Jvm.ClassFile.FieldType.double)) ∈ lw_all := lw_g (lw_at lw_m4 94 rfl) rfl
theorem q873 : (Jvm.Cond.methodLink "java/lang/Math" (278 : Nat) ({ cls := "java/lang/Math", name := "getExponent", desc := "(D)I" } : Jvm.MethodName)) ∈ lw_all := lw_g (lw_at lw_m4 95 rfl) rfl
theorem q874 : (Jvm.Cond.methodLink "java/lang/Math" (282 : Nat) ({ cls := "java/lang/Math", name := "abs", desc := "(D)D" } : Jvm.MethodName)) ∈ lw_all := lw_g (lw_at lw_m4 96 rfl) rfl
theorem q875 : (Jvm.Cond.constantDouble "java/lang/Math" (284 : Nat) (1 : UInt64)) ∈ lw_all := lw_g (lw_at lw_m4 97 rfl) rfl
theorem q879 : (Jvm.Cond.static ({ cls := "java/lang/Math", name := "min", desc := "(JJ)J" } : Jvm.MethodName)) ∈ lw_all := lw_g (lw_at lw_m4 101 rfl) rfl
theorem q880 : (Jvm.Cond.code ({ cls := "java/lang/Math", name := "min", desc := "(JJ)J" } : Jvm.MethodName) prog_22_method_70_code (4 : Nat) (Option.some Jvm.ClassFile.FieldType.long)) ∈ lw_all := lw_g (lw_at lw_m4 102 rfl) rfl
theorem q882 : (Jvm.Cond.static ({ cls := "java/lang/Math", name := "max", desc := "(JJ)J" } : Jvm.MethodName)) ∈ lw_all := lw_g (lw_at lw_m4 104 rfl) rfl
theorem q883 : (Jvm.Cond.code ({ cls := "java/lang/Math", name := "max", desc := "(JJ)J" } : Jvm.MethodName) prog_22_method_66_code (4 : Nat) (Option.some Jvm.ClassFile.FieldType.long)) ∈ lw_all := lw_g (lw_at lw_m4 105 rfl) rfl
/-! java/lang/IllegalStateException -/
set_option maxRecDepth 100000
def RJ8 : String := "java/lang/IllegalStateException"
def TJ8 : u_T := fun k => match k with
  | 0 => ("java/lang/Throwable", "cause", "Ljava/lang/Throwable;", false)
  | 1 => ("java/lang/Throwable", "stackTrace", "[Ljava/lang/StackTraceElement;", false)
  | 2 => ("java/lang/Throwable", "suppressedExceptions", "Ljava/util/List;", false)
  | 3 => ("java/lang/Throwable", "detailMessage", "Ljava/lang/String;", false)
  | 4 => ("java/lang/Throwable", "backtrace", "Ljava/lang/Object;", false)
  | _ => ("java/lang/Throwable", "depth", "I", false)
def tyJ8 : Nat → FieldType := fun k => match k with
  | 0 => .object "java/lang/Throwable"
  | 1 => .array (.object "java/lang/StackTraceElement")
  | 2 => .object "java/util/List"
  | 3 => .object "java/lang/String"
  | 4 => .object "java/lang/Object"
  | _ => .int
abbrev wsJ80 : List Cond := u_ws RJ8 TJ8 6
theorem nmJ8 : ∀ a, a < 6 → ∀ b, b < 6 → a ≠ b → (TJ8 a).2.1 ≠ (TJ8 b).2.1 := by decide +kernel
theorem tyJ8_ok : ∀ k, k < 6 → parseFieldDescriptor (TJ8 k).2.2.1 = some (tyJ8 k) := by decide +kernel
abbrev cJ8_init : ByteArray := prog_19_method_1_code
def yJ8_init : MethodName := ⟨RJ8, "<init>", "()V"⟩
theorem dJ8_init_0 : decode cJ8_init 0 = .ok (.aload_n 0, 1) := by decide +kernel
theorem dJ8_init_1 : decode cJ8_init 1 = .ok (.invokespecial 1, 3) := by decide +kernel
theorem dJ8_init_4 : decode cJ8_init 4 = .ok (.return_, 1) := by decide +kernel
theorem q78 : (Jvm.Cond.initialized "java/lang/IllegalStateException") ∈ lw_all := lw_g (lw_at lw_m1 20 rfl) rfl
theorem q257 : (Jvm.Cond.selects "java/lang/IllegalStateException" ({ cls := "java/lang/Throwable", name := "fillInStackTrace", desc := "()Ljava/lang/Throwable;" } : Jvm.MethodName) ({ cls := "java/lang/Throwable", name := "fillInStackTrace", desc := "()Ljava/lang/Throwable;" } : Jvm.MethodName)) ∈ lw_all := lw_g (lw_at lw_m1 199 rfl) rfl
theorem q426 : (Jvm.Cond.instantiable "java/lang/IllegalStateException" (6 : Nat)) ∈ lw_all := lw_g (lw_at lw_m2 128 rfl) rfl
theorem q427 : (Jvm.Cond.castable "java/lang/IllegalStateException" "java/lang/IllegalStateException") ∈ lw_tbl := lw_at lw_m2 129 rfl
theorem q428 : (Jvm.Cond.selects "java/lang/IllegalStateException" ({ cls := "java/lang/Throwable", name := "fillInStackTrace", desc := "(I)Ljava/lang/Throwable;" } : Jvm.MethodName) ({ cls := "java/lang/Throwable", name := "fillInStackTrace", desc := "(I)Ljava/lang/Throwable;" } : Jvm.MethodName)) ∈ lw_all := lw_g (lw_at lw_m2 130 rfl) rfl
theorem q429 : (Jvm.Cond.lays "java/lang/IllegalStateException" "java/lang/Throwable" "cause" "Ljava/lang/Throwable;") ∈ lw_all := lw_g (lw_at lw_m2 131 rfl) rfl
theorem q430 : (Jvm.Cond.lays "java/lang/IllegalStateException" "java/lang/Throwable" "stackTrace" "[Ljava/lang/StackTraceElement;") ∈ lw_all := lw_g (lw_at lw_m2 132 rfl) rfl
theorem q431 : (Jvm.Cond.lays "java/lang/IllegalStateException" "java/lang/Throwable" "suppressedExceptions" "Ljava/util/List;") ∈ lw_all := lw_g (lw_at lw_m2 133 rfl) rfl
theorem q432 : (Jvm.Cond.lays "java/lang/IllegalStateException" "java/lang/Throwable" "detailMessage" "Ljava/lang/String;") ∈ lw_all := lw_g (lw_at lw_m2 134 rfl) rfl
theorem q433 : (Jvm.Cond.lays "java/lang/IllegalStateException" "java/lang/Throwable" "backtrace" "Ljava/lang/Object;") ∈ lw_all := lw_g (lw_at lw_m2 135 rfl) rfl
theorem q435 : (Jvm.Cond.instanceMethod ({ cls := "java/lang/IllegalStateException", name := "<init>", desc := "()V" } : Jvm.MethodName)) ∈ lw_all := lw_g (lw_at lw_m2 137 rfl) rfl
theorem q436 : (Jvm.Cond.code ({ cls := "java/lang/IllegalStateException", name := "<init>", desc := "()V" } : Jvm.MethodName) prog_19_method_1_code (1 : Nat) (Option.none : Option Jvm.ClassFile.FieldType)) ∈ lw_all := lw_g (lw_at lw_m2 138 rfl) rfl
theorem q437 : (Jvm.Cond.methodLink "java/lang/IllegalStateException" (1 : Nat) ({ cls := "java/lang/RuntimeException", name := "<init>", desc := "()V" } : Jvm.MethodName)) ∈ lw_all := lw_g (lw_at lw_m2 139 rfl) rfl
theorem q444 : (Jvm.Cond.lays "java/lang/IllegalStateException" "java/lang/Throwable" "depth" "I") ∈ lw_all := lw_g (lw_at lw_m2 146 rfl) rfl
theorem q445 : (Jvm.Cond.superclass "java/lang/IllegalStateException" "java/lang/RuntimeException") ∈ lw_all := lw_g (lw_at lw_m2 147 rfl) rfl
theorem in_J8 : ∀ w ∈ wsJ80, w ∈ lw_all := lw_in wsJ80 [429, 430, 431, 432, 433, 444] (by decide +kernel) (by decide +kernel)
/-! java/lang/ArithmeticException -/
set_option maxRecDepth 100000
def RJ9 : String := "java/lang/ArithmeticException"
def TJ9 : u_T := fun k => match k with
  | 0 => ("java/lang/Throwable", "backtrace", "Ljava/lang/Object;", false)
  | 1 => ("java/lang/Throwable", "detailMessage", "Ljava/lang/String;", false)
  | 2 => ("java/lang/Throwable", "cause", "Ljava/lang/Throwable;", false)
  | 3 => ("java/lang/Throwable", "stackTrace", "[Ljava/lang/StackTraceElement;", false)
  | 4 => ("java/lang/Throwable", "depth", "I", false)
  | _ => ("java/lang/Throwable", "suppressedExceptions", "Ljava/util/List;", false)
def tyJ9 : Nat → FieldType := fun k => match k with
  | 0 => .object "java/lang/Object"
  | 1 => .object "java/lang/String"
  | 2 => .object "java/lang/Throwable"
  | 3 => .array (.object "java/lang/StackTraceElement")
  | 4 => .int
  | _ => .object "java/util/List"
abbrev wsJ90 : List Cond := u_ws RJ9 TJ9 6
theorem nmJ9 : ∀ a, a < 6 → ∀ b, b < 6 → a ≠ b → (TJ9 a).2.1 ≠ (TJ9 b).2.1 := by decide +kernel
theorem tyJ9_ok : ∀ k, k < 6 → parseFieldDescriptor (TJ9 k).2.2.1 = some (tyJ9 k) := by decide +kernel
abbrev cJ9_init : ByteArray := prog_12_method_2_code
def yJ9_init : MethodName := ⟨RJ9, "<init>", "(Ljava/lang/String;)V"⟩
def dkwJ9_init_0 : List UInt8 := [42, 43, 183, 0, 7, 177]
abbrev dktJ9_init_0 : List UInt8 := dkwJ9_init_0 ++ []
theorem dksJ9_init_0 : cJ9_init.data.toList.drop 0 = dktJ9_init_0 := by decide +kernel
theorem dJ9_init_0 : decode cJ9_init 0 = .ok (.aload_n 0, 1) := dk_42 (dk_at dksJ9_init_0 0 rfl rfl)
theorem dJ9_init_1 : decode cJ9_init 1 = .ok (.aload_n 1, 1) := dk_43 (dk_at dksJ9_init_0 1 rfl rfl)
theorem dJ9_init_2 : decode cJ9_init 2 = .ok (.invokespecial 7, 3) := dk_183 0 7 (dk_at dksJ9_init_0 2 rfl rfl)
theorem dJ9_init_5 : decode cJ9_init 5 = .ok (.return_, 1) := dk_177 (dk_at dksJ9_init_0 5 rfl rfl)
abbrev cJ9_init_2 : ByteArray := prog_12_method_1_code
def yJ9_init_2 : MethodName := ⟨RJ9, "<init>", "()V"⟩
theorem dJ9_init_2_0 : decode cJ9_init_2 0 = .ok (.aload_n 0, 1) := by decide +kernel
theorem dJ9_init_2_1 : decode cJ9_init_2 1 = .ok (.invokespecial 1, 3) := by decide +kernel
theorem dJ9_init_2_4 : decode cJ9_init_2 4 = .ok (.return_, 1) := by decide +kernel
theorem q79 : (Jvm.Cond.initialized "java/lang/ArithmeticException") ∈ lw_all := lw_g (lw_at lw_m1 21 rfl) rfl
theorem q253 : (Jvm.Cond.selects "java/lang/ArithmeticException" ({ cls := "java/lang/Throwable", name := "fillInStackTrace", desc := "()Ljava/lang/Throwable;" } : Jvm.MethodName) ({ cls := "java/lang/Throwable", name := "fillInStackTrace", desc := "()Ljava/lang/Throwable;" } : Jvm.MethodName)) ∈ lw_all := lw_g (lw_at lw_m1 195 rfl) rfl
theorem q450 : (Jvm.Cond.instantiable "java/lang/ArithmeticException" (6 : Nat)) ∈ lw_all := lw_g (lw_at lw_m2 152 rfl) rfl
theorem q451 : (Jvm.Cond.instanceMethod ({ cls := "java/lang/ArithmeticException", name := "<init>", desc := "(Ljava/lang/String;)V" } : Jvm.MethodName)) ∈ lw_all := lw_g (lw_at lw_m2 153 rfl) rfl
theorem q452 : (Jvm.Cond.code ({ cls := "java/lang/ArithmeticException", name := "<init>", desc := "(Ljava/lang/String;)V" } : Jvm.MethodName) prog_12_method_2_code (2 : Nat) (Option.none : Option Jvm.ClassFile.FieldType)) ∈ lw_all := lw_g (lw_at lw_m2 154 rfl) rfl
theorem q453 : (Jvm.Cond.methodLink "java/lang/ArithmeticException" (7 : Nat) ({ cls := "java/lang/RuntimeException", name := "<init>", desc := "(Ljava/lang/String;)V" } : Jvm.MethodName)) ∈ lw_all := lw_g (lw_at lw_m2 155 rfl) rfl
theorem q454 : (Jvm.Cond.lays "java/lang/ArithmeticException" "java/lang/Throwable" "backtrace" "Ljava/lang/Object;") ∈ lw_all := lw_g (lw_at lw_m2 156 rfl) rfl
theorem q455 : (Jvm.Cond.lays "java/lang/ArithmeticException" "java/lang/Throwable" "detailMessage" "Ljava/lang/String;") ∈ lw_all := lw_g (lw_at lw_m2 157 rfl) rfl
theorem q456 : (Jvm.Cond.lays "java/lang/ArithmeticException" "java/lang/Throwable" "cause" "Ljava/lang/Throwable;") ∈ lw_all := lw_g (lw_at lw_m2 158 rfl) rfl
theorem q457 : (Jvm.Cond.lays "java/lang/ArithmeticException" "java/lang/Throwable" "stackTrace" "[Ljava/lang/StackTraceElement;") ∈ lw_all := lw_g (lw_at lw_m2 159 rfl) rfl
theorem q458 : (Jvm.Cond.lays "java/lang/ArithmeticException" "java/lang/Throwable" "depth" "I") ∈ lw_all := lw_g (lw_at lw_m2 160 rfl) rfl
theorem q459 : (Jvm.Cond.lays "java/lang/ArithmeticException" "java/lang/Throwable" "suppressedExceptions" "Ljava/util/List;") ∈ lw_all := lw_g (lw_at lw_m2 161 rfl) rfl
theorem q460 : (Jvm.Cond.superclass "java/lang/ArithmeticException" "java/lang/RuntimeException") ∈ lw_all := lw_g (lw_at lw_m2 162 rfl) rfl
theorem q461 : (Jvm.Cond.castable "java/lang/ArithmeticException" "java/lang/ArithmeticException") ∈ lw_tbl := lw_at lw_m2 163 rfl
theorem q462 : (Jvm.Cond.selects "java/lang/ArithmeticException" ({ cls := "java/lang/Throwable", name := "fillInStackTrace", desc := "(I)Ljava/lang/Throwable;" } : Jvm.MethodName) ({ cls := "java/lang/Throwable", name := "fillInStackTrace", desc := "(I)Ljava/lang/Throwable;" } : Jvm.MethodName)) ∈ lw_all := lw_g (lw_at lw_m2 164 rfl) rfl
theorem q472 : (Jvm.Cond.instanceMethod ({ cls := "java/lang/ArithmeticException", name := "<init>", desc := "()V" } : Jvm.MethodName)) ∈ lw_all := lw_g (lw_at lw_m2 174 rfl) rfl
theorem q473 : (Jvm.Cond.code ({ cls := "java/lang/ArithmeticException", name := "<init>", desc := "()V" } : Jvm.MethodName) prog_12_method_1_code (1 : Nat) (Option.none : Option Jvm.ClassFile.FieldType)) ∈ lw_all := lw_g (lw_at lw_m2 175 rfl) rfl
theorem q474 : (Jvm.Cond.methodLink "java/lang/ArithmeticException" (1 : Nat) ({ cls := "java/lang/RuntimeException", name := "<init>", desc := "()V" } : Jvm.MethodName)) ∈ lw_all := lw_g (lw_at lw_m2 176 rfl) rfl
theorem in_J9 : ∀ w ∈ wsJ90, w ∈ lw_all := lw_in wsJ90 [454, 455, 456, 457, 458, 459] (by decide +kernel) (by decide +kernel)
