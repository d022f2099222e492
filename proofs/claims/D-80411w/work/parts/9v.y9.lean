/-! the component: meets -/
set_option maxRecDepth 100000
theorem o_ltn {x y : Int} (h : x ≤ y) (n : ¬ x = y) : x < y := by omega
theorem o_o3 {o : Int} {P Q : Prop} (h : (o = 0 ∧ P) ∨ ((o = -1 ∨ o = 1) ∧ Q)) : In3 o := by
  rcases h with q | q
  · rw [q.1]; exact ⟨by decide, by decide⟩
  · rcases q.1 with w | w <;> (rw [w]; exact ⟨by decide, by decide⟩)
theorem o_g3 {o : Int} {P Q : Prop} (h : (o = 0 ∧ P) ∨ ((o = -1 ∨ o = 1) ∧ Q)) : o = -1 ∨ o = 0 ∨ o = 1 := by
  rcases h with q | q
  · exact Or.inr (Or.inl q.1)
  · rcases q.1 with w | w
    · exact Or.inl w
    · exact Or.inr (Or.inr w)
theorem o_f1 {o : Int} {P Q : Prop} (h : (o = 0 ∧ P) ∨ ((o = -1 ∨ o = 1) ∧ Q)) (n : ¬ o = 0) (c : 0 < o) : -1 = o * -1 ∧ 1 = o * 1 := by
  obtain rfl : o = 1 := by have := o_g3 h; omega
  exact ⟨rfl, rfl⟩
theorem o_f2 {o : Int} {P Q : Prop} (h : (o = 0 ∧ P) ∨ ((o = -1 ∨ o = 1) ∧ Q)) (n : ¬ o = 0) (c : o ≤ 0) : 1 = o * -1 ∧ -1 = o * 1 := by
  obtain rfl : o = -1 := by have := o_g3 h; omega
  exact ⟨rfl, rfl⟩
theorem o_pz {g o : Int} {p : Nat} (h : g = 0 ↔ p = 0) (e : g = o) (n : ¬ o = 0) : p ≠ 0 := fun q => n (e ▸ h.mpr q)
theorem o_kp {v : Int} (h : In6 v) (c : kX 0 < kX v) : ¬ v < 0 := fun q => by
  have h1 := (kX_c h).1 q
  have h2 : kX 0 = 0 := by decide
  have h3 := h.1
  omega
theorem o_ki {v : Int} (h : In6 v) (hi : eX v = 2047) (c : kX v ≤ kX 0) : v < 0 := by
  apply Classical.byContradiction
  intro q
  have h1 := (kX_c h).2.1 (Int.not_lt.mp q)
  have h2 : kX 0 = 0 := by decide
  obtain rfl : v = 0 := by omega
  revert hi
  decide
theorem o_t0 {z p : Int} (h : z = p) (c : 0 ≤ z) : (0 : Int).toNat = (-p).toNat := by omega
theorem o_t1 {z p : Int} (h : z = p) : (-z).toNat = (-p).toNat := by rw [h]
theorem o_t2 {z p : Int} (h : z = p) (c : z ≤ 0) : (0 : Int).toNat = p.toNat := by omega
theorem o_t3 {z p : Int} (h : z = p) : z.toNat = p.toNat := by rw [h]
theorem o_e9 {P Q x x1 y y1 : Nat} (h : x = x1) (g : y = y1) : cmpN (P * 2 ^ x) (Q * 2 ^ y) = cmpN (P * 2 ^ x1) (Q * 2 ^ y1) := by rw [h, g]
abbrev BmetX1_meets (dC : Nat → ClassId) (dI : Nat → Nat → Nat) (dA : Nat → ClassId) (A : Nat → Prop) (ax : Nat) (adr : Nat) (ait : Nat) (wp : Nat) (wq : Nat) (wr : Nat) (ws : Nat) (wt : Nat) (wu : Nat) (wv : Nat) (wx : Nat) (wy : Nat) (wz : Nat) (wpw : Nat) (wqw : Nat) (wrw : Nat) (wtw : Nat) (mn : Int) (sg : Int) (rch : Int) (lft : Int) (isl : Int) (nwp : Int) (fwp : Int → Int) (nwq : Int) (fwq : Int → Int) (nwr : Int) (fwr : Int → Int) (nwt : Int) (fwt : Int → Int) (it : Nat → Option Nat) (SG : Int → Int) (VL : Int → Int) (pl : va_W) (a : Int) (v : Int) : Int × Int × (Int → Int) × Int × (Int → Int) × Int × (Int → Int) × Int × (Int → Int) → State → Prop := fun u t => (fun (u : Int × Int × (Int → Int) × Int × (Int → Int) × Int × (Int → Int) × Int × (Int → Int)) => (fun (z : Int) (np1 : Int) (fp1 : Int → Int) (nq1 : Int) (fq1 : Int → Int) (nr1 : Int) (fr1 : Int → Int) (nt1 : Int) (ft1 : Int → Int) => va_P (dC, dI) vwCl [(ax, .inr (1, [.ref adr, .ref ait, .int (I3 mn), .ref wp, .ref wq, .ref wr, .ref ws, .ref wt, .ref wu, .ref wv, .ref wx, .ref wy, .ref wz, .int (I3 sg), .long (L6 rch), .int (I3 lft), .int (I3 isl)])), (wp, .inr (2, [.ref wpw, .int (I3 np1)])), (wpw, .inl (dA 0, 36, .inl (iA fp1))), (wq, .inr (2, [.ref wqw, .int (I3 nq1)])), (wqw, .inl (dA 0, 36, .inl (iA fq1))), (wr, .inr (2, [.ref wrw, .int (I3 nr1)])), (wrw, .inl (dA 0, 36, .inl (iA fr1))), (wt, .inr (2, [.ref wtw, .int (I3 nt1)])), (wtw, .inl (dA 0, 36, .inl (iA ft1))), (ait, .inl (dA 3, 60, .inr (.inr (.inr (.inr (it))))))] t.heap ∧ va_K (dC, dI) vwCl (tyA dA) t ∧ va_D A [(ax, .inr (1, [.ref adr, .ref ait, .int (I3 mn), .ref wp, .ref wq, .ref wr, .ref ws, .ref wt, .ref wu, .ref wv, .ref wx, .ref wy, .ref wz, .int (I3 sg), .long (L6 rch), .int (I3 lft), .int (I3 isl)])), (wp, .inr (2, [.ref wpw, .int (I3 np1)])), (wpw, .inl (dA 0, 36, .inl (iA fp1))), (wq, .inr (2, [.ref wqw, .int (I3 nq1)])), (wqw, .inl (dA 0, 36, .inl (iA fq1))), (wr, .inr (2, [.ref wrw, .int (I3 nr1)])), (wrw, .inl (dA 0, 36, .inl (iA fr1))), (wt, .inr (2, [.ref wtw, .int (I3 nt1)])), (wtw, .inl (dA 0, 36, .inl (iA ft1))), (ait, .inl (dA 3, 60, .inr (.inr (.inr (.inr (it))))))]) u.1 u.2.1 u.2.2.1 u.2.2.2.1 u.2.2.2.2.1 u.2.2.2.2.2.1 u.2.2.2.2.2.2.1 u.2.2.2.2.2.2.2.1 u.2.2.2.2.2.2.2.2) u
abbrev QmetX1_meets (dC : Nat → ClassId) (dI : Nat → Nat → Nat) (dA : Nat → ClassId) (A : Nat → Prop) (ax : Nat) (adr : Nat) (ait : Nat) (wp : Nat) (wq : Nat) (wr : Nat) (ws : Nat) (wt : Nat) (wu : Nat) (wv : Nat) (wx : Nat) (wy : Nat) (wz : Nat) (wpw : Nat) (wqw : Nat) (wrw : Nat) (wtw : Nat) (mn : Int) (sg : Int) (rch : Int) (lft : Int) (isl : Int) (nwp : Int) (fwp : Int → Int) (nwq : Int) (fwq : Int → Int) (nwr : Int) (fwr : Int → Int) (nwt : Int) (fwt : Int → Int) (it : Nat → Option Nat) (SG : Int → Int) (VL : Int → Int) (pl : va_W) (a : Int) (v : Int) := va_Qi (fun (rt_ : Int32) => fun (u : Int × Int × (Int → Int) × Int × (Int → Int) × Int × (Int → Int) × Int × (Int → Int)) => (fun (z : Int) (np1 : Int) (fp1 : Int → Int) (nq1 : Int) (fq1 : Int → Int) (nr1 : Int) (fr1 : Int → Int) (nt1 : Int) (ft1 : Int → Int) => rt_ = I3 z ∧ (z = meS SG VL a v) ∧ ((0 ≤ a ∧ a < mn)) ∧ (Dg fp1) ∧ (Dg fq1) ∧ (Dg fr1) ∧ (Dg ft1)) u.1 u.2.1 u.2.2.1 u.2.2.2.1 u.2.2.2.2.1 u.2.2.2.2.2.1 u.2.2.2.2.2.2.1 u.2.2.2.2.2.2.2.1 u.2.2.2.2.2.2.2.2) (BmetX1_meets dC dI dA A ax adr ait wp wq wr ws wt wu wv wx wy wz wpw wqw wrw wtw mn sg rch lft isl nwp fwp nwq fwq nwr fwr nwt fwt it SG VL pl a v) A
abbrev XmetX1_meets (dC : Nat → ClassId) (dI : Nat → Nat → Nat) (dA : Nat → ClassId) (A : Nat → Prop) (ax : Nat) (adr : Nat) (ait : Nat) (wp : Nat) (wq : Nat) (wr : Nat) (ws : Nat) (wt : Nat) (wu : Nat) (wv : Nat) (wx : Nat) (wy : Nat) (wz : Nat) (wpw : Nat) (wqw : Nat) (wrw : Nat) (wtw : Nat) (mn : Int) (sg : Int) (rch : Int) (lft : Int) (isl : Int) (nwp : Int) (fwp : Int → Int) (nwq : Int) (fwq : Int → Int) (nwr : Int) (fwr : Int → Int) (nwt : Int) (fwt : Int → Int) (it : Nat → Option Nat) (SG : Int → Int) (VL : Int → Int) (pl : va_W) (a : Int) (v : Int) : String → State → State → Prop := vx_X (S := Unit) (fun _ => True) (fun E u t => ((E = "java/lang/IndexOutOfBoundsException") ∧ (¬ (0 ≤ a ∧ a < mn))) ∧ va_P (dC, dI) vwCl [(ax, .inr (1, [.ref adr, .ref ait, .int (I3 mn), .ref wp, .ref wq, .ref wr, .ref ws, .ref wt, .ref wu, .ref wv, .ref wx, .ref wy, .ref wz, .int (I3 sg), .long (L6 rch), .int (I3 lft), .int (I3 isl)])), (wp, .inr (2, [.ref wpw, .int (I3 nwp)])), (wpw, .inl (dA 0, 36, .inl (iA fwp))), (wq, .inr (2, [.ref wqw, .int (I3 nwq)])), (wqw, .inl (dA 0, 36, .inl (iA fwq))), (wr, .inr (2, [.ref wrw, .int (I3 nwr)])), (wrw, .inl (dA 0, 36, .inl (iA fwr))), (wt, .inr (2, [.ref wtw, .int (I3 nwt)])), (wtw, .inl (dA 0, 36, .inl (iA fwt))), (ait, .inl (dA 3, 60, .inr (.inr (.inr (.inr (it))))))] t.heap ∧ va_K (dC, dI) vwCl (tyA dA) t ∧ va_D A [(ax, .inr (1, [.ref adr, .ref ait, .int (I3 mn), .ref wp, .ref wq, .ref wr, .ref ws, .ref wt, .ref wu, .ref wv, .ref wx, .ref wy, .ref wz, .int (I3 sg), .long (L6 rch), .int (I3 lft), .int (I3 isl)])), (wp, .inr (2, [.ref wpw, .int (I3 nwp)])), (wpw, .inl (dA 0, 36, .inl (iA fwp))), (wq, .inr (2, [.ref wqw, .int (I3 nwq)])), (wqw, .inl (dA 0, 36, .inl (iA fwq))), (wr, .inr (2, [.ref wrw, .int (I3 nwr)])), (wrw, .inl (dA 0, 36, .inl (iA fwr))), (wt, .inr (2, [.ref wtw, .int (I3 nwt)])), (wtw, .inl (dA 0, 36, .inl (iA fwt))), (ait, .inl (dA 3, 60, .inr (.inr (.inr (.inr (it))))))]) A
set_option maxHeartbeats 8000000 in
set_option maxRecDepth 100000 in
/-- meets -/
theorem metX1_meets (l : Launch) (hlt : l.stackTraces = false) (dC : Nat → ClassId) (dI : Nat → Nat → Nat) (dA : Nat → ClassId) (ax : Nat) (adr : Nat) (ait : Nat) (wp : Nat) (wq : Nat) (wr : Nat) (ws : Nat) (wt : Nat) (wu : Nat) (wv : Nat) (wx : Nat) (wy : Nat) (wz : Nat) (wpw : Nat) (wqw : Nat) (wrw : Nat) (wtw : Nat) (sz : Nat) (mn : Int) (sg : Int) (rch : Int) (lft : Int) (isl : Int) (nwp : Int) (fwp : Int → Int) (nwq : Int) (fwq : Int → Int) (nwr : Int) (fwr : Int → Int) (nwt : Int) (fwt : Int → Int) (it : Nat → Option Nat) (SG : Int → Int) (VL : Int → Int) (pl : va_W) (a : Int) (v : Int) (hDp : Dg fwp) (hDq : Dg fwq) (hDr : Dg fwr) (hDt : Dg fwt) (ha : In3 a) (hv : In6 v) (hRP : RP dA pl it mn SG VL) : vx_Met l yX1_meets (ws_ yX1_meets cX1_meets 11 (some .int)) ({ frames := 11, cells := 7, slots := 986, locals := 10500 }) (va_Pc [.ref ax, .int (I3 a), .long (L6 v)] (fun U => U.heap.size = sz ∧ va_P (dC, dI) vwCl [(ax, .inr (1, [.ref adr, .ref ait, .int (I3 mn), .ref wp, .ref wq, .ref wr, .ref ws, .ref wt, .ref wu, .ref wv, .ref wx, .ref wy, .ref wz, .int (I3 sg), .long (L6 rch), .int (I3 lft), .int (I3 isl)])), (wp, .inr (2, [.ref wpw, .int (I3 nwp)])), (wpw, .inl (dA 0, 36, .inl (iA fwp))), (wq, .inr (2, [.ref wqw, .int (I3 nwq)])), (wqw, .inl (dA 0, 36, .inl (iA fwq))), (wr, .inr (2, [.ref wrw, .int (I3 nwr)])), (wrw, .inl (dA 0, 36, .inl (iA fwr))), (wt, .inr (2, [.ref wtw, .int (I3 nwt)])), (wtw, .inl (dA 0, 36, .inl (iA fwt))), (ait, .inl (dA 3, 60, .inr (.inr (.inr (.inr (it))))))] U.heap ∧ va_K (dC, dI) vwCl (tyA dA) U ∧ va_D (fun _ => True) [(ax, .inr (1, [.ref adr, .ref ait, .int (I3 mn), .ref wp, .ref wq, .ref wr, .ref ws, .ref wt, .ref wu, .ref wv, .ref wx, .ref wy, .ref wz, .int (I3 sg), .long (L6 rch), .int (I3 lft), .int (I3 isl)])), (wp, .inr (2, [.ref wpw, .int (I3 nwp)])), (wpw, .inl (dA 0, 36, .inl (iA fwp))), (wq, .inr (2, [.ref wqw, .int (I3 nwq)])), (wqw, .inl (dA 0, 36, .inl (iA fwq))), (wr, .inr (2, [.ref wrw, .int (I3 nwr)])), (wrw, .inl (dA 0, 36, .inl (iA fwr))), (wt, .inr (2, [.ref wtw, .int (I3 nwt)])), (wtw, .inl (dA 0, 36, .inl (iA fwt))), (ait, .inl (dA 3, 60, .inr (.inr (.inr (.inr (it))))))] ∧ FX (va_A [(ax, .inr (1, [.ref adr, .ref ait, .int (I3 mn), .ref wp, .ref wq, .ref wr, .ref ws, .ref wt, .ref wu, .ref wv, .ref wx, .ref wy, .ref wz, .int (I3 sg), .long (L6 rch), .int (I3 lft), .int (I3 isl)])), (wp, .inr (2, [.ref wpw, .int (I3 nwp)])), (wpw, .inl (dA 0, 36, .inl (iA fwp))), (wq, .inr (2, [.ref wqw, .int (I3 nwq)])), (wqw, .inl (dA 0, 36, .inl (iA fwq))), (wr, .inr (2, [.ref wrw, .int (I3 nwr)])), (wrw, .inl (dA 0, 36, .inl (iA fwr))), (wt, .inr (2, [.ref wtw, .int (I3 nwt)])), (wtw, .inl (dA 0, 36, .inl (iA fwt))), (ait, .inl (dA 3, 60, .inr (.inr (.inr (.inr (it))))))] sz) U U.heap ∧ MX (va_A [(ax, .inr (1, [.ref adr, .ref ait, .int (I3 mn), .ref wp, .ref wq, .ref wr, .ref ws, .ref wt, .ref wu, .ref wv, .ref wx, .ref wy, .ref wz, .int (I3 sg), .long (L6 rch), .int (I3 lft), .int (I3 isl)])), (wp, .inr (2, [.ref wpw, .int (I3 nwp)])), (wpw, .inl (dA 0, 36, .inl (iA fwp))), (wq, .inr (2, [.ref wqw, .int (I3 nwq)])), (wqw, .inl (dA 0, 36, .inl (iA fwq))), (wr, .inr (2, [.ref wrw, .int (I3 nwr)])), (wrw, .inl (dA 0, 36, .inl (iA fwr))), (wt, .inr (2, [.ref wtw, .int (I3 nwt)])), (wtw, .inl (dA 0, 36, .inl (iA fwt))), (ait, .inl (dA 3, 60, .inr (.inr (.inr (.inr (it))))))] sz) U U.heap ∧ roP (dC, dI) pl (va_A [(ax, .inr (1, [.ref adr, .ref ait, .int (I3 mn), .ref wp, .ref wq, .ref wr, .ref ws, .ref wt, .ref wu, .ref wv, .ref wx, .ref wy, .ref wz, .int (I3 sg), .long (L6 rch), .int (I3 lft), .int (I3 isl)])), (wp, .inr (2, [.ref wpw, .int (I3 nwp)])), (wpw, .inl (dA 0, 36, .inl (iA fwp))), (wq, .inr (2, [.ref wqw, .int (I3 nwq)])), (wqw, .inl (dA 0, 36, .inl (iA fwq))), (wr, .inr (2, [.ref wrw, .int (I3 nwr)])), (wrw, .inl (dA 0, 36, .inl (iA fwr))), (wt, .inr (2, [.ref wtw, .int (I3 nwt)])), (wtw, .inl (dA 0, 36, .inl (iA fwt))), (ait, .inl (dA 3, 60, .inr (.inr (.inr (.inr (it))))))] sz) U U.heap)) (QmetX1_meets dC dI dA (va_A [(ax, .inr (1, [.ref adr, .ref ait, .int (I3 mn), .ref wp, .ref wq, .ref wr, .ref ws, .ref wt, .ref wu, .ref wv, .ref wx, .ref wy, .ref wz, .int (I3 sg), .long (L6 rch), .int (I3 lft), .int (I3 isl)])), (wp, .inr (2, [.ref wpw, .int (I3 nwp)])), (wpw, .inl (dA 0, 36, .inl (iA fwp))), (wq, .inr (2, [.ref wqw, .int (I3 nwq)])), (wqw, .inl (dA 0, 36, .inl (iA fwq))), (wr, .inr (2, [.ref wrw, .int (I3 nwr)])), (wrw, .inl (dA 0, 36, .inl (iA fwr))), (wt, .inr (2, [.ref wtw, .int (I3 nwt)])), (wtw, .inl (dA 0, 36, .inl (iA fwt))), (ait, .inl (dA 3, 60, .inr (.inr (.inr (.inr (it))))))] sz) ax adr ait wp wq wr ws wt wu wv wx wy wz wpw wqw wrw wtw mn sg rch lft isl nwp fwp nwq fwq nwr fwr nwt fwt it SG VL pl a v) (XmetX1_meets dC dI dA (va_A [(ax, .inr (1, [.ref adr, .ref ait, .int (I3 mn), .ref wp, .ref wq, .ref wr, .ref ws, .ref wt, .ref wu, .ref wv, .ref wx, .ref wy, .ref wz, .int (I3 sg), .long (L6 rch), .int (I3 lft), .int (I3 isl)])), (wp, .inr (2, [.ref wpw, .int (I3 nwp)])), (wpw, .inl (dA 0, 36, .inl (iA fwp))), (wq, .inr (2, [.ref wqw, .int (I3 nwq)])), (wqw, .inl (dA 0, 36, .inl (iA fwq))), (wr, .inr (2, [.ref wrw, .int (I3 nwr)])), (wrw, .inl (dA 0, 36, .inl (iA fwr))), (wt, .inr (2, [.ref wtw, .int (I3 nwt)])), (wtw, .inl (dA 0, 36, .inl (iA fwt))), (ait, .inl (dA 3, 60, .inr (.inr (.inr (.inr (it))))))] sz) ax adr ait wp wq wr ws wt wu wv wx wy wz wpw wqw wrw wtw mn sg rch lft isl nwp fwp nwq fwq nwr fwr nwt fwt it SG VL pl a v) 7 986 (va_A [(ax, .inr (1, [.ref adr, .ref ait, .int (I3 mn), .ref wp, .ref wq, .ref wr, .ref ws, .ref wt, .ref wu, .ref wv, .ref wx, .ref wy, .ref wz, .int (I3 sg), .long (L6 rch), .int (I3 lft), .int (I3 isl)])), (wp, .inr (2, [.ref wpw, .int (I3 nwp)])), (wpw, .inl (dA 0, 36, .inl (iA fwp))), (wq, .inr (2, [.ref wqw, .int (I3 nwq)])), (wqw, .inl (dA 0, 36, .inl (iA fwq))), (wr, .inr (2, [.ref wrw, .int (I3 nwr)])), (wrw, .inl (dA 0, 36, .inl (iA fwr))), (wt, .inr (2, [.ref wtw, .int (I3 nwt)])), (wtw, .inl (dA 0, 36, .inl (iA fwt))), (ait, .inl (dA 3, 60, .inr (.inr (.inr (.inr (it))))))] sz) := by
  refine vx_ofW (cc := cX1_meets) (maxL := 11) (ret := (some .int)) (by decide) rfl ?_
  intro p e s m args below meth c s₁ B hml htb hv
  obtain ⟨rfl, hsz, hP, hK, hD0, hq0, hq1, hq2⟩ := hv
  have hx := B.exec
  have hb := B.bytes
  have hr := B.returns
  have hts := atoms_spec (ws := (ws_ yX1_meets cX1_meets 11 (some .int))) B.pre
  have hts : ∀ w ∈ lw_all, w.before _ s = true := fun w h => hts w (List.mem_cons_of_mem _ h)
  have hown : s.vm.findClass RX1 = some m.cls := findClass_of_methodNamed B.named
  have hlocks := B.notSynchronized
  subst hsz
  have hD := hD0.self (sz := s.heap.size)
  generalize hAe : va_A [(ax, .inr (1, [.ref adr, .ref ait, .int (I3 mn), .ref wp, .ref wq, .ref wr, .ref ws, .ref wt, .ref wu, .ref wv, .ref wx, .ref wy, .ref wz, .int (I3 sg), .long (L6 rch), .int (I3 lft), .int (I3 isl)])), (wp, .inr (2, [.ref wpw, .int (I3 nwp)])), (wpw, .inl (dA 0, 36, .inl (iA fwp))), (wq, .inr (2, [.ref wqw, .int (I3 nwq)])), (wqw, .inl (dA 0, 36, .inl (iA fwq))), (wr, .inr (2, [.ref wrw, .int (I3 nwr)])), (wrw, .inl (dA 0, 36, .inl (iA fwr))), (wt, .inr (2, [.ref wtw, .int (I3 nwt)])), (wtw, .inl (dA 0, 36, .inl (iA fwt))), (ait, .inl (dA 3, 60, .inr (.inr (.inr (.inr (it))))))] s.heap.size = A at hD hq0 hq1 hq2 ⊢
  have hA : ∀ q : Nat, s.heap.size ≤ q → A q := fun q h => by rw [← hAe]; exact Or.inr h
  have hS : va_S A s.heap s.heap [] := va_S.rf
  have hP : va_P (dC, dI) vwCl [(ax, .inr (1, [.ref adr, .ref ait, .int (I3 mn), .ref wp, .ref wq, .ref wr, .ref ws, .ref wt, .ref wu, .ref wv, .ref wx, .ref wy, .ref wz, .int (I3 sg), .long (L6 rch), .int (I3 lft), .int (I3 isl)])), (wp, .inr (2, [.ref wpw, .int (I3 nwp)])), (wpw, .inl (dA 0, 36, .inl (iA fwp))), (wq, .inr (2, [.ref wqw, .int (I3 nwq)])), (wqw, .inl (dA 0, 36, .inl (iA fwq))), (wr, .inr (2, [.ref wrw, .int (I3 nwr)])), (wrw, .inl (dA 0, 36, .inl (iA fwr))), (wt, .inr (2, [.ref wtw, .int (I3 nwt)])), (wtw, .inl (dA 0, 36, .inl (iA fwt))), (ait, .inl (dA 3, 60, .inr (.inr (.inr (.inr (it))))))] s.heap := hP
  have hl := lv_entry ([.ref ax, .int (I3 a), .long (L6 v)]) (n := 11) (Nat.le_of_ble_eq_true rfl)
  rw [lg_entry_eq]
  generalize (lg_sl ([.ref ax, .int (I3 a), .long (L6 v)]) ++ List.replicate (11 - (lg_sl ([.ref ax, .int (I3 a), .long (L6 v)])).length) Slot.unset).toArray = ls at hl ⊢
  have hl : lv_has ls 11 [(0, .ref ax), (1, .int (I3 a)), (2, .long (L6 v))] := hl
  have cut_29 : ∀ (ai : Nat), ((0 ≤ a ∧ a < mn)) → (ItAt dA pl ai (SG a) (pv VL a) (qv VL a)) → (¬ noX v) → ∀ (H : Heap) (locs : List Loc), va_P (dC, dI) vwCl [(ax, .inr (1, [.ref adr, .ref ait, .int (I3 mn), .ref wp, .ref wq, .ref wr, .ref ws, .ref wt, .ref wu, .ref wv, .ref wx, .ref wy, .ref wz, .int (I3 sg), .long (L6 rch), .int (I3 lft), .int (I3 isl)])), (wp, .inr (2, [.ref wpw, .int (I3 nwp)])), (wpw, .inl (dA 0, 36, .inl (iA fwp))), (wq, .inr (2, [.ref wqw, .int (I3 nwq)])), (wqw, .inl (dA 0, 36, .inl (iA fwq))), (wr, .inr (2, [.ref wrw, .int (I3 nwr)])), (wrw, .inl (dA 0, 36, .inl (iA fwr))), (wt, .inr (2, [.ref wtw, .int (I3 nwt)])), (wtw, .inl (dA 0, 36, .inl (iA fwt))), (ait, .inl (dA 3, 60, .inr (.inr (.inr (.inr (it))))))] H → va_D A [(ax, .inr (1, [.ref adr, .ref ait, .int (I3 mn), .ref wp, .ref wq, .ref wr, .ref ws, .ref wt, .ref wu, .ref wv, .ref wx, .ref wy, .ref wz, .int (I3 sg), .long (L6 rch), .int (I3 lft), .int (I3 isl)])), (wp, .inr (2, [.ref wpw, .int (I3 nwp)])), (wpw, .inl (dA 0, 36, .inl (iA fwp))), (wq, .inr (2, [.ref wqw, .int (I3 nwq)])), (wqw, .inl (dA 0, 36, .inl (iA fwq))), (wr, .inr (2, [.ref wrw, .int (I3 nwr)])), (wrw, .inl (dA 0, 36, .inl (iA fwr))), (wt, .inr (2, [.ref wtw, .int (I3 nwt)])), (wtw, .inl (dA 0, 36, .inl (iA fwt))), (ait, .inl (dA 3, 60, .inr (.inr (.inr (.inr (it))))))] → va_S A s.heap H locs → ∀ (ls : Array Slot), lv_has ls 11 [(0, .ref ax), (1, .int (I3 a)), (2, .long (L6 v)), (4, .ref ai), (5, .double (dX v))] → W p l e (headSpec (ws_ yX1_meets cX1_meets 11 (some .int)) ({ frames := 11, cells := 7, slots := 986, locals := 10500 })).room s m ([.ref ax, .int (I3 a), .long (L6 v)] : List Value).toArray below meth c H locs 4 496 (vx_MQ below (QmetX1_meets dC dI dA A ax adr ait wp wq wr ws wt wu wv wx wy wz wpw wqw wrw wtw mn sg rch lft isl nwp fwp nwq fwq nwr fwr nwt fwt it SG VL pl a v) (XmetX1_meets dC dI dA A ax adr ait wp wq wr ws wt wu wv wx wy wz wpw wqw wrw wtw mn sg rch lft isl nwp fwp nwq fwq nwr fwr nwt fwt it SG VL pl a v) ([.ref ax, .int (I3 a), .long (L6 v)] : List Value).toArray s 7 986 A) (F0 m 29 ls []) := by
    intro ai hnum hiti hnn H locs hP hD hS ls hl
    have hI_ := hRP.1
    have ia_ := hI_.2.2 a hnum.1 hnum.2
    obtain ⟨fa_i, hm_i, -⟩ := id hiti
    obtain ⟨j_i, hj_i⟩ := List.getElem?_of_mem hm_i
    have hx_ := eX_r v
    have hf_ := fX_r v
    have hp_ := plX_r v
    have hq_ := pX_r v
    have hs_ : sgX v = if v < 0 then -1 else 1 := rfl
    have ak_ := abs_k (v := v)
    have kM_ : kX 9218868437227405311 = 9218868437227405311 := by decide
    have k0_ : kX 0 = 0 := by decide
    have kc_ := kX_c hv
    have sa_ := ia_.1
    refine lv_dload hx hb dX1_meets_29 (lv_at hl 4 rfl) ?_
    refine ix_mabs hx hb (hml.trans hl.1.symm) hown (hts _ q491) (hts _ q492) (hts _ q76) (hts _ q493) (by exact hnn) (Nat.le_of_ble_eq_true rfl) (Nat.le_of_ble_eq_true rfl) dX1_meets_31 ?_
    refine lv_ldc2d hx hb hown (hts _ q499) dX1_meets_34 ?_
    refine ix_dc (x := 9218868437227405311) (by decide) ?_
    refine ix_dci_le (tgt := 54) hx hb (by exact ak_.1) (by decide) (by exact ak_.2.2 hnn) (by decide) dX1_meets_37 dX1_meets_38 (by decide) (fun c_37 => ?_) (fun c_37 => ?_)
    · skip
      have hfin : eX v ≠ 2047 := fin_k.mp (by omega)
      have fm_ := f0_m hfin
      refine lv_dload hx hb dX1_meets_54 (lv_at hl 4 rfl) ?_
      refine ix_msig hx hb (hml.trans hl.1.symm) hown (hts _ q704) (hts _ q705) (hts _ q76) (hts _ q706) (by exact hv) (by exact hnn) (Nat.le_of_ble_eq_true rfl) (Nat.le_of_ble_eq_true rfl) dX1_meets_56 ?_
      refine ix_d2i (u := (if fX v = 0 then 0 else sgX v)) hx hb (by exact sig_i hv hfin) dX1_meets_59 ?_
      refine ix_ni (fun o9 eo9 => ?_)
      have ho3 : (o9 = 0 ∧ fX v = 0) ∨ ((o9 = -1 ∨ o9 = 1) ∧ fX v ≠ 0) := by rw [eo9]; by_cases q : fX v = 0; (rw [if_pos q]; exact Or.inl ⟨rfl, q⟩); (rw [if_neg q, hs_]; right; split <;> exact ⟨by omega, q⟩)
      have hm_ : meS SG VL a v = meT (SG a) o9 (cmpN (pv VL a * 2 ^ (-plX v).toNat) (qv VL a * (fX v).toNat * 2 ^ (plX v).toNat)) := by unfold meS meT; rw [if_neg hfin, ← eo9]
      clear eo9
      refine lv_istore (lv' := [(7, .int (I3 o9)), (0, .ref ax), (1, .int (I3 a)), (2, .long (L6 v)), (4, .ref ai), (5, .double (dX v))]) hx hb dX1_meets_60 hl (by decide) rfl (fun ls hl => ?_)
      refine lv_aload hx hb dX1_meets_62 (lv_at hl 4 rfl) ?_
      refine va_getN (D := (dC, dI)) (ci := 3) (v := .int (I3 ((SG a)))) (C := RX9) (T := TX9) (N := 2) hx hb hts in_X9 hown hK (roP.at hq2 hS) j_i hj_i rfl 0 (by decide) (hq0.2.2.1.use q417 rfl) (fun _ h9 => h9) rfl dX1_meets_64 ?_
      refine lv_iload hx hb dX1_meets_67 (lv_at hl 0 rfl) ?_
      refine ix_icmp_eq (tgt := 88) hx hb (by exact o_in3 ia_.1) (by exact o_o3 ho3) dX1_meets_69 (by decide) (fun c_69 => ?_) (fun c_69 => ?_)
      · skip
        refine lv_iload hx hb dX1_meets_88 (lv_at hl 0 rfl) ?_
        refine ix_if_ne (tgt := 95) hx hb (by exact o_o3 ho3) dX1_meets_90 (by decide) (fun c_90 => ?_) (fun c_90 => ?_)
        · skip
          refine lv_dload hx hb dX1_meets_95 (lv_at hl 5 rfl) ?_
          have h_1 : In6 v := by first | assumption | (and_intros <;> omega)
          have hPc := hP.sub (ws' := []) [] rfl
          have hDc := hD.sub (ws' := []) [] (by decide) rfl
          have hFc := va_free (wc := []) hD hS hA [] rfl
          refine va_calli (va_runS (As := [.double (dX v)]) (rest := []) ⟨hx, hb, hml, hown, hts⟩ (metJ7_getExponent l dC dI dA H.size v h_1) (va_cwS 1 hts (lw_S q504 q505 q76 q506) rfl rfl rfl (by decide +kernel) ⟨Nat.le_of_ble_eq_true rfl, Nat.le_of_ble_eq_true rfl⟩) ⟨fun a U g mk q => by obtain ⟨q0, q1, qP, qK, qD⟩ := q; exact ⟨q0, q1, qP, va_K.moved (u := U) (U := U.calling g mk a) (Vm.Alike.refl U.vm) qK, qD⟩, fun U hU hW => ⟨rfl, by rw [hU], by rw [hU]; exact hPc, va_K.moved hW.alike hK, hDc.weaken (fun _ _ _ _ => trivial)⟩⟩ rfl rfl hl.1 rfl (lv_room (Nat.le_of_ble_eq_true rfl)) dX1_meets_97 ⟨Nat.le_of_ble_eq_true rfl, Nat.le_of_ble_eq_true rfl⟩) hS (fun q _ h => hFc q h) hFc (fun r_97 u t H1 locs ht hvm hw hB hz1 hk1 hS => ?_)
          obtain ⟨z_97, rfl⟩ : ∃ z, z = u := ⟨_, rfl⟩
          obtain ⟨rfl, p0_97⟩ : r_97 = I3 z_97 ∧ (z_97 = eX v - 1023) := hw
          obtain ⟨hP1, hK1, hD1⟩ := hB
          rw [ht] at hP1
          obtain ⟨hP, hD⟩ := va_join (wr := [(ax, .inr (1, [.ref adr, .ref ait, .int (I3 mn), .ref wp, .ref wq, .ref wr, .ref ws, .ref wt, .ref wu, .ref wv, .ref wx, .ref wy, .ref wz, .int (I3 sg), .long (L6 rch), .int (I3 lft), .int (I3 isl)])), (wp, .inr (2, [.ref wpw, .int (I3 nwp)])), (wpw, .inl (dA 0, 36, .inl (iA fwp))), (wq, .inr (2, [.ref wqw, .int (I3 nwq)])), (wqw, .inl (dA 0, 36, .inl (iA fwq))), (wr, .inr (2, [.ref wrw, .int (I3 nwr)])), (wrw, .inl (dA 0, 36, .inl (iA fwr))), (wt, .inr (2, [.ref wtw, .int (I3 nwt)])), (wtw, .inl (dA 0, 36, .inl (iA fwt))), (ait, .inl (dA 3, 60, .inr (.inr (.inr (.inr (it))))))]) (w1 := []) hP hD [] [0, 1, 2, 3, 4, 5, 6, 7, 8, 9] rfl rfl (by decide) (by decide) hk1 hFc hP1 hD1
          have hP : va_P (dC, dI) vwCl [(ax, .inr (1, [.ref adr, .ref ait, .int (I3 mn), .ref wp, .ref wq, .ref wr, .ref ws, .ref wt, .ref wu, .ref wv, .ref wx, .ref wy, .ref wz, .int (I3 sg), .long (L6 rch), .int (I3 lft), .int (I3 isl)])), (wp, .inr (2, [.ref wpw, .int (I3 nwp)])), (wpw, .inl (dA 0, 36, .inl (iA fwp))), (wq, .inr (2, [.ref wqw, .int (I3 nwq)])), (wqw, .inl (dA 0, 36, .inl (iA fwq))), (wr, .inr (2, [.ref wrw, .int (I3 nwr)])), (wrw, .inl (dA 0, 36, .inl (iA fwr))), (wt, .inr (2, [.ref wtw, .int (I3 nwt)])), (wtw, .inl (dA 0, 36, .inl (iA fwt))), (ait, .inl (dA 3, 60, .inr (.inr (.inr (.inr (it))))))] H1 := hP
          have hD : va_D A [(ax, .inr (1, [.ref adr, .ref ait, .int (I3 mn), .ref wp, .ref wq, .ref wr, .ref ws, .ref wt, .ref wu, .ref wv, .ref wx, .ref wy, .ref wz, .int (I3 sg), .long (L6 rch), .int (I3 lft), .int (I3 isl)])), (wp, .inr (2, [.ref wpw, .int (I3 nwp)])), (wpw, .inl (dA 0, 36, .inl (iA fwp))), (wq, .inr (2, [.ref wqw, .int (I3 nwq)])), (wqw, .inl (dA 0, 36, .inl (iA fwq))), (wr, .inr (2, [.ref wrw, .int (I3 nwr)])), (wrw, .inl (dA 0, 36, .inl (iA fwr))), (wt, .inr (2, [.ref wtw, .int (I3 nwt)])), (wtw, .inl (dA 0, 36, .inl (iA fwt))), (ait, .inl (dA 3, 60, .inr (.inr (.inr (.inr (it))))))] := hD
          generalize H1 = H at hP hS ⊢
          have y_97 : z_97 = eX v - 1023 := p0_97
          refine lv_istore (lv' := [(8, .int (I3 z_97)), (7, .int (I3 o9)), (0, .ref ax), (1, .int (I3 a)), (2, .long (L6 v)), (4, .ref ai), (5, .double (dX v))]) hx hb dX1_meets_100 hl (by decide) rfl (fun ls hl => ?_)
          refine lv_iload hx hb dX1_meets_102 (lv_at hl 0 rfl) ?_
          refine lv_sipush (v := I3 (300)) hx hb dX1_meets_104 (by decide) ?_
          refine ix_icmp_gt (tgt := 118) hx hb (by first | assumption | decide | (constructor <;> omega)) (by first | assumption | decide | (constructor <;> omega)) dX1_meets_107 (by decide) (fun c_107 => ?_) (fun c_107 => ?_)
          · skip
            refine lv_iload hx hb dX1_meets_118 (lv_at hl 0 rfl) ?_
            refine lv_sipush (v := I3 (300)) hx hb dX1_meets_120 (by decide) ?_
            refine ix_icmp_le (tgt := 130) hx hb (by first | assumption | decide | (constructor <;> omega)) (by first | assumption | decide | (constructor <;> omega)) dX1_meets_123 (by decide) (fun c_123 => ?_) (fun c_123 => ?_)
            · skip
              refine lv_iconst (v := I3 (0)) hx hb dX1_meets_130 rfl ?_
              refine lv_iload hx hb dX1_meets_131 (lv_at hl 1 rfl) ?_
              refine ix_if_le (tgt := 140) hx hb (by exact o_o3 ho3) dX1_meets_133 (by decide) (fun c_133 => ?_) (fun c_133 => ?_)
              · skip
                refine lv_iconst (v := I3 (0)) hx hb dX1_meets_140 rfl ?_
                refine ix_icmp_ne (tgt := 148) hx hb (by first | assumption | decide | (constructor <;> omega)) (by first | assumption | decide | (constructor <;> omega)) dX1_meets_141 (by decide) (fun c_141 => ?_) (fun c_141 => ?_)
                · skip
                  exact absurd c_141 (by decide)
                · skip
                  refine lv_iconst (v := I3 (-1)) hx hb dX1_meets_144 rfl ?_
                  refine lv_goto (tgt := 149) hx hb dX1_meets_145 (by decide) ?_
                  refine W.widen (k := 7) (n := 986) (Nat.le_of_ble_eq_true rfl) (Nat.le_of_ble_eq_true rfl) ?_
                  have o_2 : (-1 : Int) = meS SG VL a v := by rw [hm_, meT_e c_69]; first | exact absurd c_107 (Int.not_lt.mpr c_123) | exact absurd c_123 (Int.not_lt.mpr (Int.le_trans (Int.le_of_lt c_115) (by decide))) | (rw [far_hi hiti.lt.1 ia_.2.2.1 (by rw [← y_97]; exact c_107)]; first | exact (o_f1 ho3 c_90 c_133).1 | exact (o_f2 ho3 c_90 c_133).1) | (rw [far_lo (o_pz ia_.2.1 c_69 c_90) hiti.lt.2 (by rw [← y_97]; exact c_115)]; first | exact (o_f1 ho3 c_90 c_133).2 | exact (o_f2 ho3 c_90 c_133).2)
                  have o_3 : (0 ≤ a ∧ a < mn) := by exact hnum
                  have o_4 : Dg fwp := by exact hDp
                  have o_5 : Dg fwq := by exact hDq
                  have o_6 : Dg fwr := by exact hDr
                  have o_7 : Dg fwt := by exact hDt
                  refine vx_ret ?_
                  exact W.iret (v := I3 (-1)) hx hb hr (fun t ht hW => ⟨⟨I3 (-1), ((-1), nwp, fwp, nwq, fwq, nwr, fwr, nwt, fwt), rfl, ⟨rfl, ⟨o_2, o_3, o_4, o_5, o_6, o_7⟩⟩, by rw [ht]; exact hP, va_K.moved hW.alike hK, hD⟩, hS.F ht⟩) hS.2.2 dX1_meets_149
              · skip
                refine lv_iconst (v := I3 (1)) hx hb dX1_meets_136 rfl ?_
                refine lv_goto (tgt := 141) hx hb dX1_meets_137 (by decide) ?_
                refine ix_icmp_ne (tgt := 148) hx hb (by first | assumption | decide | (constructor <;> omega)) (by first | assumption | decide | (constructor <;> omega)) dX1_meets_141 (by decide) (fun c_141 => ?_) (fun c_141 => ?_)
                · skip
                  refine lv_iconst (v := I3 (1)) hx hb dX1_meets_148 rfl ?_
                  refine W.widen (k := 7) (n := 986) (Nat.le_of_ble_eq_true rfl) (Nat.le_of_ble_eq_true rfl) ?_
                  have o_8 : (1 : Int) = meS SG VL a v := by rw [hm_, meT_e c_69]; first | exact absurd c_107 (Int.not_lt.mpr c_123) | exact absurd c_123 (Int.not_lt.mpr (Int.le_trans (Int.le_of_lt c_115) (by decide))) | (rw [far_hi hiti.lt.1 ia_.2.2.1 (by rw [← y_97]; exact c_107)]; first | exact (o_f1 ho3 c_90 c_133).1 | exact (o_f2 ho3 c_90 c_133).1) | (rw [far_lo (o_pz ia_.2.1 c_69 c_90) hiti.lt.2 (by rw [← y_97]; exact c_115)]; first | exact (o_f1 ho3 c_90 c_133).2 | exact (o_f2 ho3 c_90 c_133).2)
                  have o_9 : (0 ≤ a ∧ a < mn) := by exact hnum
                  have o_10 : Dg fwp := by exact hDp
                  have o_11 : Dg fwq := by exact hDq
                  have o_12 : Dg fwr := by exact hDr
                  have o_13 : Dg fwt := by exact hDt
                  refine vx_ret ?_
                  exact W.iret (v := I3 1) hx hb hr (fun t ht hW => ⟨⟨I3 1, (1, nwp, fwp, nwq, fwq, nwr, fwr, nwt, fwt), rfl, ⟨rfl, ⟨o_8, o_9, o_10, o_11, o_12, o_13⟩⟩, by rw [ht]; exact hP, va_K.moved hW.alike hK, hD⟩, hS.F ht⟩) hS.2.2 dX1_meets_149
                · skip
                  exact absurd c_141 (by decide)
            · skip
              refine lv_iconst (v := I3 (1)) hx hb dX1_meets_126 rfl ?_
              refine lv_goto (tgt := 131) hx hb dX1_meets_127 (by decide) ?_
              refine lv_iload hx hb dX1_meets_131 (lv_at hl 1 rfl) ?_
              refine ix_if_le (tgt := 140) hx hb (by exact o_o3 ho3) dX1_meets_133 (by decide) (fun c_133 => ?_) (fun c_133 => ?_)
              · skip
                refine lv_iconst (v := I3 (0)) hx hb dX1_meets_140 rfl ?_
                refine ix_icmp_ne (tgt := 148) hx hb (by first | assumption | decide | (constructor <;> omega)) (by first | assumption | decide | (constructor <;> omega)) dX1_meets_141 (by decide) (fun c_141 => ?_) (fun c_141 => ?_)
                · skip
                  refine lv_iconst (v := I3 (1)) hx hb dX1_meets_148 rfl ?_
                  refine W.widen (k := 7) (n := 986) (Nat.le_of_ble_eq_true rfl) (Nat.le_of_ble_eq_true rfl) ?_
                  have o_14 : (1 : Int) = meS SG VL a v := by rw [hm_, meT_e c_69]; first | exact absurd c_107 (Int.not_lt.mpr c_123) | exact absurd c_123 (Int.not_lt.mpr (Int.le_trans (Int.le_of_lt c_115) (by decide))) | (rw [far_hi hiti.lt.1 ia_.2.2.1 (by rw [← y_97]; exact c_107)]; first | exact (o_f1 ho3 c_90 c_133).1 | exact (o_f2 ho3 c_90 c_133).1) | (rw [far_lo (o_pz ia_.2.1 c_69 c_90) hiti.lt.2 (by rw [← y_97]; exact c_115)]; first | exact (o_f1 ho3 c_90 c_133).2 | exact (o_f2 ho3 c_90 c_133).2)
                  have o_15 : (0 ≤ a ∧ a < mn) := by exact hnum
                  have o_16 : Dg fwp := by exact hDp
                  have o_17 : Dg fwq := by exact hDq
                  have o_18 : Dg fwr := by exact hDr
                  have o_19 : Dg fwt := by exact hDt
                  refine vx_ret ?_
                  exact W.iret (v := I3 1) hx hb hr (fun t ht hW => ⟨⟨I3 1, (1, nwp, fwp, nwq, fwq, nwr, fwr, nwt, fwt), rfl, ⟨rfl, ⟨o_14, o_15, o_16, o_17, o_18, o_19⟩⟩, by rw [ht]; exact hP, va_K.moved hW.alike hK, hD⟩, hS.F ht⟩) hS.2.2 dX1_meets_149
                · skip
                  exact absurd c_141 (by decide)
              · skip
                refine lv_iconst (v := I3 (1)) hx hb dX1_meets_136 rfl ?_
                refine lv_goto (tgt := 141) hx hb dX1_meets_137 (by decide) ?_
                refine ix_icmp_ne (tgt := 148) hx hb (by first | assumption | decide | (constructor <;> omega)) (by first | assumption | decide | (constructor <;> omega)) dX1_meets_141 (by decide) (fun c_141 => ?_) (fun c_141 => ?_)
                · skip
                  exact absurd c_141 (by decide)
                · skip
                  refine lv_iconst (v := I3 (-1)) hx hb dX1_meets_144 rfl ?_
                  refine lv_goto (tgt := 149) hx hb dX1_meets_145 (by decide) ?_
                  refine W.widen (k := 7) (n := 986) (Nat.le_of_ble_eq_true rfl) (Nat.le_of_ble_eq_true rfl) ?_
                  have o_20 : (-1 : Int) = meS SG VL a v := by rw [hm_, meT_e c_69]; first | exact absurd c_107 (Int.not_lt.mpr c_123) | exact absurd c_123 (Int.not_lt.mpr (Int.le_trans (Int.le_of_lt c_115) (by decide))) | (rw [far_hi hiti.lt.1 ia_.2.2.1 (by rw [← y_97]; exact c_107)]; first | exact (o_f1 ho3 c_90 c_133).1 | exact (o_f2 ho3 c_90 c_133).1) | (rw [far_lo (o_pz ia_.2.1 c_69 c_90) hiti.lt.2 (by rw [← y_97]; exact c_115)]; first | exact (o_f1 ho3 c_90 c_133).2 | exact (o_f2 ho3 c_90 c_133).2)
                  have o_21 : (0 ≤ a ∧ a < mn) := by exact hnum
                  have o_22 : Dg fwp := by exact hDp
                  have o_23 : Dg fwq := by exact hDq
                  have o_24 : Dg fwr := by exact hDr
                  have o_25 : Dg fwt := by exact hDt
                  refine vx_ret ?_
                  exact W.iret (v := I3 (-1)) hx hb hr (fun t ht hW => ⟨⟨I3 (-1), ((-1), nwp, fwp, nwq, fwq, nwr, fwr, nwt, fwt), rfl, ⟨rfl, ⟨o_20, o_21, o_22, o_23, o_24, o_25⟩⟩, by rw [ht]; exact hP, va_K.moved hW.alike hK, hD⟩, hS.F ht⟩) hS.2.2 dX1_meets_149
          · skip
            refine lv_iload hx hb dX1_meets_110 (lv_at hl 0 rfl) ?_
            refine lv_sipush (v := I3 (-300)) hx hb dX1_meets_112 (by decide) ?_
            refine ix_icmp_ge (tgt := 150) hx hb (by first | assumption | decide | (constructor <;> omega)) (by first | assumption | decide | (constructor <;> omega)) dX1_meets_115 (by decide) (fun c_115 => ?_) (fun c_115 => ?_)
            · skip
              have pe_ : plX v = eX v - 1075 := (plX_c v).2 (by omega)
              refine lv_aload_n hx hb dX1_meets_150 rfl (lv_at hl 2 rfl) ?_
              refine lv_dload hx hb dX1_meets_151 (lv_at hl 6 rfl) ?_
              have h_26 : In6 v := by exact hv
              have h_27 : eX v ≠ 2047 := by exact hfin
              have h_28 : Dg fwp := by exact hDp
              have hPc := hP.sub (ws' := [(ax, .inr (1, [.ref adr, .ref ait, .int (I3 mn), .ref wp, .ref wq, .ref wr, .ref ws, .ref wt, .ref wu, .ref wv, .ref wx, .ref wy, .ref wz, .int (I3 sg), .long (L6 rch), .int (I3 lft), .int (I3 isl)])), (wp, .inr (2, [.ref wpw, .int (I3 nwp)])), (wpw, .inl (dA 0, 36, .inl (iA fwp)))]) [0, 1, 2] rfl
              have hDc := hD.sub (ws' := [(ax, .inr (1, [.ref adr, .ref ait, .int (I3 mn), .ref wp, .ref wq, .ref wr, .ref ws, .ref wt, .ref wu, .ref wv, .ref wx, .ref wy, .ref wz, .int (I3 sg), .long (L6 rch), .int (I3 lft), .int (I3 isl)])), (wp, .inr (2, [.ref wpw, .int (I3 nwp)])), (wpw, .inl (dA 0, 36, .inl (iA fwp)))]) [0, 1, 2] (by decide) rfl
              have hFc := va_free (wc := [(ax, .inr (1, [.ref adr, .ref ait, .int (I3 mn), .ref wp, .ref wq, .ref wr, .ref ws, .ref wt, .ref wu, .ref wv, .ref wx, .ref wy, .ref wz, .int (I3 sg), .long (L6 rch), .int (I3 lft), .int (I3 isl)])), (wp, .inr (2, [.ref wpw, .int (I3 nwp)])), (wpw, .inl (dA 0, 36, .inl (iA fwp)))]) hD hS hA [0, 1, 2] rfl
              refine va_calli (va_runV (As := [.double (dX v)]) (rest := []) ⟨hx, hb, hml, hown, hts⟩ (metX1_digits l dC dI dA ax adr ait wp wq wr ws wt wu wv wx wy wz wpw H.size mn sg rch lft isl nwp fwp v h_26 h_27 h_28) (cwV 1 hts (lw_V q500 q502 qs8 q59 q503) rfl rfl rfl (by decide +kernel) ⟨Nat.le_of_ble_eq_true rfl, Nat.le_of_ble_eq_true rfl⟩) ⟨fun a U g mk q => by obtain ⟨q0, q1, qP, qK, qD, qF0⟩ := q; exact ⟨q0, q1, qP, va_K.moved (u := U) (U := U.calling g mk a) (Vm.Alike.refl U.vm) qK, qD, MX.moved (u := U) (U := U.calling g mk a) (State.WarmedH.refl U) qF0⟩, va_recv hK hP (ci := 1) (q0 := 0) rfl rfl, fun U hU hW => ⟨rfl, by rw [hU], by rw [hU]; exact hPc, va_K.moved hW.alike hK, hDc.weaken (fun _ _ _ _ => trivial), by rw [hU]; exact MX.moved hW ((MX.kept hq1 hS).narrow hFc)⟩⟩ rfl rfl hl.1 rfl (lv_room (Nat.le_of_ble_eq_true rfl)) dX1_meets_153 ⟨Nat.le_of_ble_eq_true rfl, Nat.le_of_ble_eq_true rfl⟩) hS (fun q _ h => hFc q h) hFc (fun r_153 u t H1 locs ht hvm hw hB hz1 hk1 hS => ?_)
              obtain ⟨z_153, np1_153, fp1_153⟩ := u
              obtain ⟨rfl, p0_153, p1_153, p2_153⟩ : r_153 = I3 z_153 ∧ (z_153 = plX v) ∧ (OKw np1_153 fp1_153) ∧ (wN np1_153 fp1_153 = (fX v).toNat) := hw
              obtain ⟨hP1, hK1, hD1⟩ := hB
              rw [ht] at hP1
              obtain ⟨hP, hD⟩ := va_join (wr := [(wq, .inr (2, [.ref wqw, .int (I3 nwq)])), (wqw, .inl (dA 0, 36, .inl (iA fwq))), (wr, .inr (2, [.ref wrw, .int (I3 nwr)])), (wrw, .inl (dA 0, 36, .inl (iA fwr))), (wt, .inr (2, [.ref wtw, .int (I3 nwt)])), (wtw, .inl (dA 0, 36, .inl (iA fwt))), (ait, .inl (dA 3, 60, .inr (.inr (.inr (.inr (it))))))]) (w1 := [(ax, .inr (1, [.ref adr, .ref ait, .int (I3 mn), .ref wp, .ref wq, .ref wr, .ref ws, .ref wt, .ref wu, .ref wv, .ref wx, .ref wy, .ref wz, .int (I3 sg), .long (L6 rch), .int (I3 lft), .int (I3 isl)])), (wp, .inr (2, [.ref wpw, .int (I3 np1_153)])), (wpw, .inl (dA 0, 36, .inl (iA fp1_153)))]) hP hD [0, 1, 2] [3, 4, 5, 6, 7, 8, 9] rfl rfl (by decide) (by decide) hk1 hFc hP1 hD1
              have hP := hP.sub (ws' := [(ax, .inr (1, [.ref adr, .ref ait, .int (I3 mn), .ref wp, .ref wq, .ref wr, .ref ws, .ref wt, .ref wu, .ref wv, .ref wx, .ref wy, .ref wz, .int (I3 sg), .long (L6 rch), .int (I3 lft), .int (I3 isl)])), (wp, .inr (2, [.ref wpw, .int (I3 np1_153)])), (wpw, .inl (dA 0, 36, .inl (iA fp1_153))), (wq, .inr (2, [.ref wqw, .int (I3 nwq)])), (wqw, .inl (dA 0, 36, .inl (iA fwq))), (wr, .inr (2, [.ref wrw, .int (I3 nwr)])), (wrw, .inl (dA 0, 36, .inl (iA fwr))), (wt, .inr (2, [.ref wtw, .int (I3 nwt)])), (wtw, .inl (dA 0, 36, .inl (iA fwt))), (ait, .inl (dA 3, 60, .inr (.inr (.inr (.inr (it))))))]) [7, 8, 9, 0, 1, 2, 3, 4, 5, 6] rfl
              have hD := hD.sub (ws' := [(ax, .inr (1, [.ref adr, .ref ait, .int (I3 mn), .ref wp, .ref wq, .ref wr, .ref ws, .ref wt, .ref wu, .ref wv, .ref wx, .ref wy, .ref wz, .int (I3 sg), .long (L6 rch), .int (I3 lft), .int (I3 isl)])), (wp, .inr (2, [.ref wpw, .int (I3 np1_153)])), (wpw, .inl (dA 0, 36, .inl (iA fp1_153))), (wq, .inr (2, [.ref wqw, .int (I3 nwq)])), (wqw, .inl (dA 0, 36, .inl (iA fwq))), (wr, .inr (2, [.ref wrw, .int (I3 nwr)])), (wrw, .inl (dA 0, 36, .inl (iA fwr))), (wt, .inr (2, [.ref wtw, .int (I3 nwt)])), (wtw, .inl (dA 0, 36, .inl (iA fwt))), (ait, .inl (dA 3, 60, .inr (.inr (.inr (.inr (it))))))]) [7, 8, 9, 0, 1, 2, 3, 4, 5, 6] (by decide) rfl
              generalize H1 = H at hP hS ⊢
              have s153 := wN_szb p1_153 (k := 2) (by rw [p2_153]; omega)
              refine lv_istore (lv' := [(9, .int (I3 z_153)), (8, .int (I3 z_97)), (7, .int (I3 o9)), (0, .ref ax), (1, .int (I3 a)), (2, .long (L6 v)), (4, .ref ai), (5, .double (dX v))]) hx hb dX1_meets_156 hl (by decide) rfl (fun ls hl => ?_)
              refine lv_aload_n hx hb dX1_meets_158 rfl (lv_at hl 3 rfl) ?_
              refine va_get (D := (dC, dI)) (ci := 1) (v := .ref wr) (C := RX1) (T := TX1) (N := 17) hx hb hts in_X1 hown hK hP 0 rfl rfl 5 (by decide) (hts _ q150) (fun _ h9 => h9) rfl dX1_meets_159 ?_
              refine lv_aload_n hx hb dX1_meets_162 rfl (lv_at hl 3 rfl) ?_
              refine va_get (D := (dC, dI)) (ci := 1) (v := .ref wp) (C := RX1) (T := TX1) (N := 17) hx hb hts in_X1 hown hK hP 0 rfl rfl 3 (by decide) (hts _ q148) (fun _ h9 => h9) rfl dX1_meets_163 ?_
              have h_29 : Dg fwr := by exact hDr
              have h_30 : OKw np1_153 fp1_153 := by exact p1_153
              have hPc := hP.sub (ws' := [(wr, .inr (2, [.ref wrw, .int (I3 nwr)])), (wrw, .inl (dA 0, 36, .inl (iA fwr))), (wp, .inr (2, [.ref wpw, .int (I3 np1_153)])), (wpw, .inl (dA 0, 36, .inl (iA fp1_153)))]) [5, 6, 1, 2] rfl
              have hDc := hD.sub (ws' := [(wr, .inr (2, [.ref wrw, .int (I3 nwr)])), (wrw, .inl (dA 0, 36, .inl (iA fwr))), (wp, .inr (2, [.ref wpw, .int (I3 np1_153)])), (wpw, .inl (dA 0, 36, .inl (iA fp1_153)))]) [5, 6, 1, 2] (by decide) rfl
              have hFc := va_free (wc := [(wr, .inr (2, [.ref wrw, .int (I3 nwr)])), (wrw, .inl (dA 0, 36, .inl (iA fwr))), (wp, .inr (2, [.ref wpw, .int (I3 np1_153)])), (wpw, .inl (dA 0, 36, .inl (iA fp1_153)))]) hD hS hA [5, 6, 1, 2] rfl
              refine va_callr (va_runV (As := [.ref wp]) (rest := []) ⟨hx, hb, hml, hown, hts⟩ (metX7_set_2 l dC dI dA wr wrw wp wpw H.size nwr fwr np1_153 fp1_153 h_29 h_30) (cwV 1 hts (lw_V q334 q335 q336 q65 q337) rfl rfl rfl (by decide +kernel) ⟨Nat.le_of_ble_eq_true rfl, Nat.le_of_ble_eq_true rfl⟩) ⟨fun a U g mk q => by obtain ⟨q0, q1, qP, qK, qD⟩ := q; exact ⟨q0, q1, qP, va_K.moved (u := U) (U := U.calling g mk a) (Vm.Alike.refl U.vm) qK, qD⟩, va_recv hK hP (ci := 2) (q0 := 5) rfl rfl, fun U hU hW => ⟨rfl, by rw [hU], by rw [hU]; exact hPc, va_K.moved hW.alike hK, hDc.weaken (fun _ _ _ _ => trivial)⟩⟩ rfl rfl hl.1 rfl (lv_room (Nat.le_of_ble_eq_true rfl)) dX1_meets_166 ⟨Nat.le_of_ble_eq_true rfl, Nat.le_of_ble_eq_true rfl⟩) hS (fun q _ h => hFc q h) hFc (fun u ra_166 t H1 locs ht hvm hw hB hz1 hk1 hS => ?_)
              obtain ⟨n1_166, f1_166⟩ := u
              obtain ⟨p0_166, p1_166⟩ : (OKw n1_166 f1_166) ∧ (wN n1_166 f1_166 = wN np1_153 fp1_153) := hw
              obtain ⟨hra_166, hP1, hK1, hD1⟩ := hB
              subst ra_166
              rw [ht] at hP1
              obtain ⟨hP, hD⟩ := va_join (wr := [(ax, .inr (1, [.ref adr, .ref ait, .int (I3 mn), .ref wp, .ref wq, .ref wr, .ref ws, .ref wt, .ref wu, .ref wv, .ref wx, .ref wy, .ref wz, .int (I3 sg), .long (L6 rch), .int (I3 lft), .int (I3 isl)])), (wq, .inr (2, [.ref wqw, .int (I3 nwq)])), (wqw, .inl (dA 0, 36, .inl (iA fwq))), (wt, .inr (2, [.ref wtw, .int (I3 nwt)])), (wtw, .inl (dA 0, 36, .inl (iA fwt))), (ait, .inl (dA 3, 60, .inr (.inr (.inr (.inr (it))))))]) (w1 := [(wr, .inr (2, [.ref wrw, .int (I3 n1_166)])), (wrw, .inl (dA 0, 36, .inl (iA f1_166))), (wp, .inr (2, [.ref wpw, .int (I3 np1_153)])), (wpw, .inl (dA 0, 36, .inl (iA fp1_153)))]) hP hD [5, 6, 1, 2] [0, 3, 4, 7, 8, 9] rfl rfl (by decide) (by decide) hk1 hFc hP1 hD1
              have hP := hP.sub (ws' := [(ax, .inr (1, [.ref adr, .ref ait, .int (I3 mn), .ref wp, .ref wq, .ref wr, .ref ws, .ref wt, .ref wu, .ref wv, .ref wx, .ref wy, .ref wz, .int (I3 sg), .long (L6 rch), .int (I3 lft), .int (I3 isl)])), (wp, .inr (2, [.ref wpw, .int (I3 np1_153)])), (wpw, .inl (dA 0, 36, .inl (iA fp1_153))), (wq, .inr (2, [.ref wqw, .int (I3 nwq)])), (wqw, .inl (dA 0, 36, .inl (iA fwq))), (wr, .inr (2, [.ref wrw, .int (I3 n1_166)])), (wrw, .inl (dA 0, 36, .inl (iA f1_166))), (wt, .inr (2, [.ref wtw, .int (I3 nwt)])), (wtw, .inl (dA 0, 36, .inl (iA fwt))), (ait, .inl (dA 3, 60, .inr (.inr (.inr (.inr (it))))))]) [0, 8, 9, 1, 2, 6, 7, 3, 4, 5] rfl
              have hD := hD.sub (ws' := [(ax, .inr (1, [.ref adr, .ref ait, .int (I3 mn), .ref wp, .ref wq, .ref wr, .ref ws, .ref wt, .ref wu, .ref wv, .ref wx, .ref wy, .ref wz, .int (I3 sg), .long (L6 rch), .int (I3 lft), .int (I3 isl)])), (wp, .inr (2, [.ref wpw, .int (I3 np1_153)])), (wpw, .inl (dA 0, 36, .inl (iA fp1_153))), (wq, .inr (2, [.ref wqw, .int (I3 nwq)])), (wqw, .inl (dA 0, 36, .inl (iA fwq))), (wr, .inr (2, [.ref wrw, .int (I3 n1_166)])), (wrw, .inl (dA 0, 36, .inl (iA f1_166))), (wt, .inr (2, [.ref wtw, .int (I3 nwt)])), (wtw, .inl (dA 0, 36, .inl (iA fwt))), (ait, .inl (dA 3, 60, .inr (.inr (.inr (.inr (it))))))]) [0, 8, 9, 1, 2, 6, 7, 3, 4, 5] (by decide) rfl
              generalize H1 = H at hP hS ⊢
              refine lv_pop hx hb dX1_meets_169 rfl ?_
              refine lv_aload hx hb dX1_meets_170 (lv_at hl 6 rfl) ?_
              refine lv_aload_n hx hb dX1_meets_172 rfl (lv_at hl 3 rfl) ?_
              refine va_get (D := (dC, dI)) (ci := 1) (v := .ref wp) (C := RX1) (T := TX1) (N := 17) hx hb hts in_X1 hown hK hP 0 rfl rfl 3 (by decide) (hts _ q148) (fun _ h9 => h9) rfl dX1_meets_173 ?_
              refine lv_aload_n hx hb dX1_meets_176 rfl (lv_at hl 3 rfl) ?_
              refine va_get (D := (dC, dI)) (ci := 1) (v := .ref wq) (C := RX1) (T := TX1) (N := 17) hx hb hts in_X1 hown hK hP 0 rfl rfl 4 (by decide) (hts _ q149) (fun _ h9 => h9) rfl dX1_meets_177 ?_
              have h_31 : ItAt dA pl ai ((SG a)) ((pv VL a)) ((qv VL a)) := by exact hiti
              have h_32 : Dg fp1_153 := by exact p1_153.2.1
              have h_33 : Dg fwq := by exact hDq
              have hPc := hP.sub (ws' := [(wp, .inr (2, [.ref wpw, .int (I3 np1_153)])), (wpw, .inl (dA 0, 36, .inl (iA fp1_153))), (wq, .inr (2, [.ref wqw, .int (I3 nwq)])), (wqw, .inl (dA 0, 36, .inl (iA fwq)))]) [1, 2, 3, 4] rfl
              have hDc := hD.sub (ws' := [(wp, .inr (2, [.ref wpw, .int (I3 np1_153)])), (wpw, .inl (dA 0, 36, .inl (iA fp1_153))), (wq, .inr (2, [.ref wqw, .int (I3 nwq)])), (wqw, .inl (dA 0, 36, .inl (iA fwq)))]) [1, 2, 3, 4] (by decide) rfl
              have hFc := va_free (wc := [(wp, .inr (2, [.ref wpw, .int (I3 np1_153)])), (wpw, .inl (dA 0, 36, .inl (iA fp1_153))), (wq, .inr (2, [.ref wqw, .int (I3 nwq)])), (wqw, .inl (dA 0, 36, .inl (iA fwq)))]) hD hS hA [1, 2, 3, 4] rfl
              refine vx_callv (vx_runVX (As := [.ref wp, .ref wq]) (rest := []) ⟨hx, hb, hml, hown, hts⟩ (metX9_take l hlt dC dI dA ai wp wpw wq wqw H.size np1_153 fp1_153 nwq fwq pl ((SG a)) ((pv VL a)) ((qv VL a)) h_31 h_32 h_33) (vx_cwVW 2 hts (lw_VW q596 q597 q598 q77 q599) rfl rfl rfl (by decide +kernel) ⟨Nat.le_of_ble_eq_true rfl, Nat.le_of_ble_eq_true rfl⟩) ⟨fun a U g mk q => by obtain ⟨q0, q1, qP, qK, qD, qF0, qF1⟩ := q; exact ⟨q0, q1, qP, va_K.moved (u := U) (U := U.calling g mk a) (Vm.Alike.refl U.vm) qK, qD, FX.moved (u := U) (U := U.calling g mk a) (State.WarmedH.refl U) qF0, roP.moved (u := U) (U := U.calling g mk a) (State.WarmedH.refl U) qF1⟩, va_recv hK (roP.at hq2 hS) (ci := 3) (q0 := j_i) rfl hj_i, fun U hU hW => ⟨rfl, by rw [hU], by rw [hU]; exact hPc, va_K.moved hW.alike hK, hDc.weaken (fun _ _ _ _ => trivial), by rw [hU]; exact FX.moved hW ((FX.kept hq0 hS).narrow hFc), by rw [hU]; exact roP.moved hW ((roP.kept hq2 hS).narrow hFc)⟩⟩ rfl rfl hl.1 rfl (lv_room (Nat.le_of_ble_eq_true rfl)) dX1_meets_180 ⟨Nat.le_of_ble_eq_true rfl, Nat.le_of_ble_eq_true rfl⟩) hS (fun q _ h => hFc q h) hFc (fun q _ h => hFc q h) (fun E_180 ce_180 q9_180 u t H1 locs ht hvm _ hB hz1 hk1 hS hce_180 hcv_180 hcl_180 => ?_) (fun u t H1 locs ht hvm hw hB hz1 hk1 hS => ?_)
              · skip
                obtain ⟨x0_180, hP1, hK1, hD1⟩ := hB
                have x0_180 : False := x0_180
                exact x0_180.elim
              skip
              obtain ⟨n1_180, f1_180, n2_180, f2_180⟩ := u
              obtain ⟨p0_180, p1_180, p2_180, p3_180⟩ : (OKw n1_180 f1_180) ∧ (wN n1_180 f1_180 = ((pv VL a))) ∧ (OKw n2_180 f2_180) ∧ (wN n2_180 f2_180 = ((qv VL a))) := hw
              obtain ⟨hP1, hK1, hD1⟩ := hB
              rw [ht] at hP1
              obtain ⟨hP, hD⟩ := va_join (wr := [(ax, .inr (1, [.ref adr, .ref ait, .int (I3 mn), .ref wp, .ref wq, .ref wr, .ref ws, .ref wt, .ref wu, .ref wv, .ref wx, .ref wy, .ref wz, .int (I3 sg), .long (L6 rch), .int (I3 lft), .int (I3 isl)])), (wr, .inr (2, [.ref wrw, .int (I3 n1_166)])), (wrw, .inl (dA 0, 36, .inl (iA f1_166))), (wt, .inr (2, [.ref wtw, .int (I3 nwt)])), (wtw, .inl (dA 0, 36, .inl (iA fwt))), (ait, .inl (dA 3, 60, .inr (.inr (.inr (.inr (it))))))]) (w1 := [(wp, .inr (2, [.ref wpw, .int (I3 n1_180)])), (wpw, .inl (dA 0, 36, .inl (iA f1_180))), (wq, .inr (2, [.ref wqw, .int (I3 n2_180)])), (wqw, .inl (dA 0, 36, .inl (iA f2_180)))]) hP hD [1, 2, 3, 4] [0, 5, 6, 7, 8, 9] rfl rfl (by decide) (by decide) hk1 hFc hP1 hD1
              have hP := hP.sub (ws' := [(ax, .inr (1, [.ref adr, .ref ait, .int (I3 mn), .ref wp, .ref wq, .ref wr, .ref ws, .ref wt, .ref wu, .ref wv, .ref wx, .ref wy, .ref wz, .int (I3 sg), .long (L6 rch), .int (I3 lft), .int (I3 isl)])), (wp, .inr (2, [.ref wpw, .int (I3 n1_180)])), (wpw, .inl (dA 0, 36, .inl (iA f1_180))), (wq, .inr (2, [.ref wqw, .int (I3 n2_180)])), (wqw, .inl (dA 0, 36, .inl (iA f2_180))), (wr, .inr (2, [.ref wrw, .int (I3 n1_166)])), (wrw, .inl (dA 0, 36, .inl (iA f1_166))), (wt, .inr (2, [.ref wtw, .int (I3 nwt)])), (wtw, .inl (dA 0, 36, .inl (iA fwt))), (ait, .inl (dA 3, 60, .inr (.inr (.inr (.inr (it))))))]) [0, 6, 7, 8, 9, 1, 2, 3, 4, 5] rfl
              have hD := hD.sub (ws' := [(ax, .inr (1, [.ref adr, .ref ait, .int (I3 mn), .ref wp, .ref wq, .ref wr, .ref ws, .ref wt, .ref wu, .ref wv, .ref wx, .ref wy, .ref wz, .int (I3 sg), .long (L6 rch), .int (I3 lft), .int (I3 isl)])), (wp, .inr (2, [.ref wpw, .int (I3 n1_180)])), (wpw, .inl (dA 0, 36, .inl (iA f1_180))), (wq, .inr (2, [.ref wqw, .int (I3 n2_180)])), (wqw, .inl (dA 0, 36, .inl (iA f2_180))), (wr, .inr (2, [.ref wrw, .int (I3 n1_166)])), (wrw, .inl (dA 0, 36, .inl (iA f1_166))), (wt, .inr (2, [.ref wtw, .int (I3 nwt)])), (wtw, .inl (dA 0, 36, .inl (iA fwt))), (ait, .inl (dA 3, 60, .inr (.inr (.inr (.inr (it))))))]) [0, 6, 7, 8, 9, 1, 2, 3, 4, 5] (by decide) rfl
              generalize H1 = H at hP hS ⊢
              refine W.widen (k := 7) (n := 986) (Nat.le_of_ble_eq_true rfl) (Nat.le_of_ble_eq_true rfl) ?_
              have zp_ := lt8s p0_180 p1_180 hiti.lt.1
              have zq_ := lt8s p2_180 p3_180 hiti.lt.2
              have zr_ := wN_szle p0_166 p1_153 (by rw [p1_166]; exact Nat.le_refl _)
              refine lv_aload_n hx hb dX1_meets_183 rfl (lv_at hl 3 rfl) ?_
              refine va_get (D := (dC, dI)) (ci := 1) (v := .ref wt) (C := RX1) (T := TX1) (N := 17) hx hb hts in_X1 hown hK hP 0 rfl rfl 7 (by decide) (hts _ q152) (fun _ h9 => h9) rfl dX1_meets_184 ?_
              refine lv_aload_n hx hb dX1_meets_187 rfl (lv_at hl 3 rfl) ?_
              refine va_get (D := (dC, dI)) (ci := 1) (v := .ref wr) (C := RX1) (T := TX1) (N := 17) hx hb hts in_X1 hown hK hP 0 rfl rfl 5 (by decide) (hts _ q150) (fun _ h9 => h9) rfl dX1_meets_188 ?_
              refine lv_aload_n hx hb dX1_meets_191 rfl (lv_at hl 3 rfl) ?_
              refine va_get (D := (dC, dI)) (ci := 1) (v := .ref wq) (C := RX1) (T := TX1) (N := 17) hx hb hts in_X1 hown hK hP 0 rfl rfl 4 (by decide) (hts _ q149) (fun _ h9 => h9) rfl dX1_meets_192 ?_
              have h_34 : Dg fwt := by exact hDt
              have h_35 : OKw n1_166 f1_166 := by exact p0_166
              have h_36 : OKw n2_180 f2_180 := by exact p2_180
              have h_37 : n1_166 + n2_180 ≤ 36 := by first | assumption | omega | (constructor <;> omega)
              have hPc := hP.sub (ws' := [(wt, .inr (2, [.ref wtw, .int (I3 nwt)])), (wtw, .inl (dA 0, 36, .inl (iA fwt))), (wr, .inr (2, [.ref wrw, .int (I3 n1_166)])), (wrw, .inl (dA 0, 36, .inl (iA f1_166))), (wq, .inr (2, [.ref wqw, .int (I3 n2_180)])), (wqw, .inl (dA 0, 36, .inl (iA f2_180)))]) [7, 8, 5, 6, 3, 4] rfl
              have hDc := hD.sub (ws' := [(wt, .inr (2, [.ref wtw, .int (I3 nwt)])), (wtw, .inl (dA 0, 36, .inl (iA fwt))), (wr, .inr (2, [.ref wrw, .int (I3 n1_166)])), (wrw, .inl (dA 0, 36, .inl (iA f1_166))), (wq, .inr (2, [.ref wqw, .int (I3 n2_180)])), (wqw, .inl (dA 0, 36, .inl (iA f2_180)))]) [7, 8, 5, 6, 3, 4] (by decide) rfl
              have hFc := va_free (wc := [(wt, .inr (2, [.ref wtw, .int (I3 nwt)])), (wtw, .inl (dA 0, 36, .inl (iA fwt))), (wr, .inr (2, [.ref wrw, .int (I3 n1_166)])), (wrw, .inl (dA 0, 36, .inl (iA f1_166))), (wq, .inr (2, [.ref wqw, .int (I3 n2_180)])), (wqw, .inl (dA 0, 36, .inl (iA f2_180)))]) hD hS hA [7, 8, 5, 6, 3, 4] rfl
              refine va_callv (va_runV (As := [.ref wr, .ref wq]) (rest := []) ⟨hx, hb, hml, hown, hts⟩ (metX7_multiply l dC dI dA wt wtw wr wrw wq wqw H.size nwt fwt n1_166 f1_166 n2_180 f2_180 h_34 h_35 h_36 h_37) (cwV 2 hts (lw_V q623 q624 q625 q65 q626) rfl rfl rfl (by decide +kernel) ⟨Nat.le_of_ble_eq_true rfl, Nat.le_of_ble_eq_true rfl⟩) ⟨fun a U g mk q => by obtain ⟨q0, q1, qP, qK, qD⟩ := q; exact ⟨q0, q1, qP, va_K.moved (u := U) (U := U.calling g mk a) (Vm.Alike.refl U.vm) qK, qD⟩, va_recv hK hP (ci := 2) (q0 := 7) rfl rfl, fun U hU hW => ⟨rfl, by rw [hU], by rw [hU]; exact hPc, va_K.moved hW.alike hK, hDc.weaken (fun _ _ _ _ => trivial)⟩⟩ rfl rfl hl.1 rfl (lv_room (Nat.le_of_ble_eq_true rfl)) dX1_meets_195 ⟨Nat.le_of_ble_eq_true rfl, Nat.le_of_ble_eq_true rfl⟩) hS (fun q _ h => hFc q h) hFc (fun u t H1 locs ht hvm hw hB hz1 hk1 hS => ?_)
              obtain ⟨n1_195, f1_195⟩ := u
              obtain ⟨p0_195, p1_195⟩ : (OKw n1_195 f1_195) ∧ (wN n1_195 f1_195 = wN n1_166 f1_166 * wN n2_180 f2_180) := hw
              obtain ⟨hP1, hK1, hD1⟩ := hB
              rw [ht] at hP1
              obtain ⟨hP, hD⟩ := va_join (wr := [(ax, .inr (1, [.ref adr, .ref ait, .int (I3 mn), .ref wp, .ref wq, .ref wr, .ref ws, .ref wt, .ref wu, .ref wv, .ref wx, .ref wy, .ref wz, .int (I3 sg), .long (L6 rch), .int (I3 lft), .int (I3 isl)])), (wp, .inr (2, [.ref wpw, .int (I3 n1_180)])), (wpw, .inl (dA 0, 36, .inl (iA f1_180))), (ait, .inl (dA 3, 60, .inr (.inr (.inr (.inr (it))))))]) (w1 := [(wt, .inr (2, [.ref wtw, .int (I3 n1_195)])), (wtw, .inl (dA 0, 36, .inl (iA f1_195))), (wr, .inr (2, [.ref wrw, .int (I3 n1_166)])), (wrw, .inl (dA 0, 36, .inl (iA f1_166))), (wq, .inr (2, [.ref wqw, .int (I3 n2_180)])), (wqw, .inl (dA 0, 36, .inl (iA f2_180)))]) hP hD [7, 8, 5, 6, 3, 4] [0, 1, 2, 9] rfl rfl (by decide) (by decide) hk1 hFc hP1 hD1
              have hP := hP.sub (ws' := [(ax, .inr (1, [.ref adr, .ref ait, .int (I3 mn), .ref wp, .ref wq, .ref wr, .ref ws, .ref wt, .ref wu, .ref wv, .ref wx, .ref wy, .ref wz, .int (I3 sg), .long (L6 rch), .int (I3 lft), .int (I3 isl)])), (wp, .inr (2, [.ref wpw, .int (I3 n1_180)])), (wpw, .inl (dA 0, 36, .inl (iA f1_180))), (wq, .inr (2, [.ref wqw, .int (I3 n2_180)])), (wqw, .inl (dA 0, 36, .inl (iA f2_180))), (wr, .inr (2, [.ref wrw, .int (I3 n1_166)])), (wrw, .inl (dA 0, 36, .inl (iA f1_166))), (wt, .inr (2, [.ref wtw, .int (I3 n1_195)])), (wtw, .inl (dA 0, 36, .inl (iA f1_195))), (ait, .inl (dA 3, 60, .inr (.inr (.inr (.inr (it))))))]) [0, 1, 2, 8, 9, 6, 7, 4, 5, 3] rfl
              have hD := hD.sub (ws' := [(ax, .inr (1, [.ref adr, .ref ait, .int (I3 mn), .ref wp, .ref wq, .ref wr, .ref ws, .ref wt, .ref wu, .ref wv, .ref wx, .ref wy, .ref wz, .int (I3 sg), .long (L6 rch), .int (I3 lft), .int (I3 isl)])), (wp, .inr (2, [.ref wpw, .int (I3 n1_180)])), (wpw, .inl (dA 0, 36, .inl (iA f1_180))), (wq, .inr (2, [.ref wqw, .int (I3 n2_180)])), (wqw, .inl (dA 0, 36, .inl (iA f2_180))), (wr, .inr (2, [.ref wrw, .int (I3 n1_166)])), (wrw, .inl (dA 0, 36, .inl (iA f1_166))), (wt, .inr (2, [.ref wtw, .int (I3 n1_195)])), (wtw, .inl (dA 0, 36, .inl (iA f1_195))), (ait, .inl (dA 3, 60, .inr (.inr (.inr (.inr (it))))))]) [0, 1, 2, 8, 9, 6, 7, 4, 5, 3] (by decide) rfl
              generalize H1 = H at hP hS ⊢
              have zt_ := wN_mulsz p0_166 p2_180 p0_195 p1_195
              refine lv_aload_n hx hb dX1_meets_198 rfl (lv_at hl 3 rfl) ?_
              refine va_get (D := (dC, dI)) (ci := 1) (v := .ref wp) (C := RX1) (T := TX1) (N := 17) hx hb hts in_X1 hown hK hP 0 rfl rfl 3 (by decide) (hts _ q148) (fun _ h9 => h9) rfl dX1_meets_199 ?_
              refine lv_iload hx hb dX1_meets_202 (lv_at hl 0 rfl) ?_
              refine ix_if_ge (tgt := 213) hx hb (by first | assumption | decide | (constructor <;> omega)) dX1_meets_204 (by decide) (fun c_204 => ?_) (fun c_204 => ?_)
              · skip
                refine lv_iconst (v := I3 (0)) hx hb dX1_meets_213 rfl ?_
                have h_38 : OKw n1_180 f1_180 := by exact p0_180
                have h_39 : 0 ≤ (0 : Int) ∧ (0 : Int) < 100000 := by exact ⟨by omega, by omega⟩
                have h_40 : n1_180 = 0 ∨ n1_180 + (0 : Int) / 32 + 1 ≤ 36 := by right; omega
                have hPc := hP.sub (ws' := [(wp, .inr (2, [.ref wpw, .int (I3 n1_180)])), (wpw, .inl (dA 0, 36, .inl (iA f1_180)))]) [1, 2] rfl
                have hDc := hD.sub (ws' := [(wp, .inr (2, [.ref wpw, .int (I3 n1_180)])), (wpw, .inl (dA 0, 36, .inl (iA f1_180)))]) [1, 2] (by decide) rfl
                have hFc := va_free (wc := [(wp, .inr (2, [.ref wpw, .int (I3 n1_180)])), (wpw, .inl (dA 0, 36, .inl (iA f1_180)))]) hD hS hA [1, 2] rfl
                refine va_callv (va_runV (As := [.int (I3 0)]) (rest := []) ⟨hx, hb, hml, hown, hts⟩ (metX7_up l dC dI dA wp wpw H.size n1_180 f1_180 0 h_38 h_39 h_40) (cwV 1 hts (lw_V q379 q380 q381 q65 q382) rfl rfl rfl (by decide +kernel) ⟨Nat.le_of_ble_eq_true rfl, Nat.le_of_ble_eq_true rfl⟩) ⟨fun a U g mk q => by obtain ⟨q0, q1, qP, qK, qD⟩ := q; exact ⟨q0, q1, qP, va_K.moved (u := U) (U := U.calling g mk a) (Vm.Alike.refl U.vm) qK, qD⟩, va_recv hK hP (ci := 2) (q0 := 1) rfl rfl, fun U hU hW => ⟨rfl, by rw [hU], by rw [hU]; exact hPc, va_K.moved hW.alike hK, hDc.weaken (fun _ _ _ _ => trivial)⟩⟩ rfl rfl hl.1 rfl (lv_room (Nat.le_of_ble_eq_true rfl)) dX1_meets_214 ⟨Nat.le_of_ble_eq_true rfl, Nat.le_of_ble_eq_true rfl⟩) hS (fun q _ h => hFc q h) hFc (fun u t H1 locs ht hvm hw hB hz1 hk1 hS => ?_)
                obtain ⟨n1_214, f1_214⟩ := u
                obtain ⟨p0_214, p1_214⟩ : (OKw n1_214 f1_214) ∧ (wN n1_214 f1_214 = wN n1_180 f1_180 * 2 ^ (0 : Int).toNat) := hw
                obtain ⟨hP1, hK1, hD1⟩ := hB
                rw [ht] at hP1
                obtain ⟨hP, hD⟩ := va_join (wr := [(ax, .inr (1, [.ref adr, .ref ait, .int (I3 mn), .ref wp, .ref wq, .ref wr, .ref ws, .ref wt, .ref wu, .ref wv, .ref wx, .ref wy, .ref wz, .int (I3 sg), .long (L6 rch), .int (I3 lft), .int (I3 isl)])), (wq, .inr (2, [.ref wqw, .int (I3 n2_180)])), (wqw, .inl (dA 0, 36, .inl (iA f2_180))), (wr, .inr (2, [.ref wrw, .int (I3 n1_166)])), (wrw, .inl (dA 0, 36, .inl (iA f1_166))), (wt, .inr (2, [.ref wtw, .int (I3 n1_195)])), (wtw, .inl (dA 0, 36, .inl (iA f1_195))), (ait, .inl (dA 3, 60, .inr (.inr (.inr (.inr (it))))))]) (w1 := [(wp, .inr (2, [.ref wpw, .int (I3 n1_214)])), (wpw, .inl (dA 0, 36, .inl (iA f1_214)))]) hP hD [1, 2] [0, 3, 4, 5, 6, 7, 8, 9] rfl rfl (by decide) (by decide) hk1 hFc hP1 hD1
                have hP := hP.sub (ws' := [(ax, .inr (1, [.ref adr, .ref ait, .int (I3 mn), .ref wp, .ref wq, .ref wr, .ref ws, .ref wt, .ref wu, .ref wv, .ref wx, .ref wy, .ref wz, .int (I3 sg), .long (L6 rch), .int (I3 lft), .int (I3 isl)])), (wp, .inr (2, [.ref wpw, .int (I3 n1_214)])), (wpw, .inl (dA 0, 36, .inl (iA f1_214))), (wq, .inr (2, [.ref wqw, .int (I3 n2_180)])), (wqw, .inl (dA 0, 36, .inl (iA f2_180))), (wr, .inr (2, [.ref wrw, .int (I3 n1_166)])), (wrw, .inl (dA 0, 36, .inl (iA f1_166))), (wt, .inr (2, [.ref wtw, .int (I3 n1_195)])), (wtw, .inl (dA 0, 36, .inl (iA f1_195))), (ait, .inl (dA 3, 60, .inr (.inr (.inr (.inr (it))))))]) [0, 8, 9, 1, 2, 3, 4, 5, 6, 7] rfl
                have hD := hD.sub (ws' := [(ax, .inr (1, [.ref adr, .ref ait, .int (I3 mn), .ref wp, .ref wq, .ref wr, .ref ws, .ref wt, .ref wu, .ref wv, .ref wx, .ref wy, .ref wz, .int (I3 sg), .long (L6 rch), .int (I3 lft), .int (I3 isl)])), (wp, .inr (2, [.ref wpw, .int (I3 n1_214)])), (wpw, .inl (dA 0, 36, .inl (iA f1_214))), (wq, .inr (2, [.ref wqw, .int (I3 n2_180)])), (wqw, .inl (dA 0, 36, .inl (iA f2_180))), (wr, .inr (2, [.ref wrw, .int (I3 n1_166)])), (wrw, .inl (dA 0, 36, .inl (iA f1_166))), (wt, .inr (2, [.ref wtw, .int (I3 n1_195)])), (wtw, .inl (dA 0, 36, .inl (iA f1_195))), (ait, .inl (dA 3, 60, .inr (.inr (.inr (.inr (it))))))]) [0, 8, 9, 1, 2, 3, 4, 5, 6, 7] (by decide) rfl
                generalize H1 = H at hP hS ⊢
                refine lv_aload_n hx hb dX1_meets_217 rfl (lv_at hl 3 rfl) ?_
                refine va_get (D := (dC, dI)) (ci := 1) (v := .ref wt) (C := RX1) (T := TX1) (N := 17) hx hb hts in_X1 hown hK hP 0 rfl rfl 7 (by decide) (hts _ q152) (fun _ h9 => h9) rfl dX1_meets_218 ?_
                refine lv_iload hx hb dX1_meets_221 (lv_at hl 0 rfl) ?_
                refine ix_if_le (tgt := 231) hx hb (by first | assumption | decide | (constructor <;> omega)) dX1_meets_223 (by decide) (fun c_223 => ?_) (fun c_223 => ?_)
                · skip
                  refine lv_iconst (v := I3 (0)) hx hb dX1_meets_231 rfl ?_
                  have h_41 : OKw n1_195 f1_195 := by exact p0_195
                  have h_42 : 0 ≤ (0 : Int) ∧ (0 : Int) < 100000 := by exact ⟨by omega, by omega⟩
                  have h_43 : n1_195 = 0 ∨ n1_195 + (0 : Int) / 32 + 1 ≤ 36 := by right; omega
                  have hPc := hP.sub (ws' := [(wt, .inr (2, [.ref wtw, .int (I3 n1_195)])), (wtw, .inl (dA 0, 36, .inl (iA f1_195)))]) [7, 8] rfl
                  have hDc := hD.sub (ws' := [(wt, .inr (2, [.ref wtw, .int (I3 n1_195)])), (wtw, .inl (dA 0, 36, .inl (iA f1_195)))]) [7, 8] (by decide) rfl
                  have hFc := va_free (wc := [(wt, .inr (2, [.ref wtw, .int (I3 n1_195)])), (wtw, .inl (dA 0, 36, .inl (iA f1_195)))]) hD hS hA [7, 8] rfl
                  refine va_callv (va_runV (As := [.int (I3 0)]) (rest := []) ⟨hx, hb, hml, hown, hts⟩ (metX7_up l dC dI dA wt wtw H.size n1_195 f1_195 0 h_41 h_42 h_43) (cwV 1 hts (lw_V q379 q380 q381 q65 q382) rfl rfl rfl (by decide +kernel) ⟨Nat.le_of_ble_eq_true rfl, Nat.le_of_ble_eq_true rfl⟩) ⟨fun a U g mk q => by obtain ⟨q0, q1, qP, qK, qD⟩ := q; exact ⟨q0, q1, qP, va_K.moved (u := U) (U := U.calling g mk a) (Vm.Alike.refl U.vm) qK, qD⟩, va_recv hK hP (ci := 2) (q0 := 7) rfl rfl, fun U hU hW => ⟨rfl, by rw [hU], by rw [hU]; exact hPc, va_K.moved hW.alike hK, hDc.weaken (fun _ _ _ _ => trivial)⟩⟩ rfl rfl hl.1 rfl (lv_room (Nat.le_of_ble_eq_true rfl)) dX1_meets_232 ⟨Nat.le_of_ble_eq_true rfl, Nat.le_of_ble_eq_true rfl⟩) hS (fun q _ h => hFc q h) hFc (fun u t H1 locs ht hvm hw hB hz1 hk1 hS => ?_)
                  obtain ⟨n1_232, f1_232⟩ := u
                  obtain ⟨p0_232, p1_232⟩ : (OKw n1_232 f1_232) ∧ (wN n1_232 f1_232 = wN n1_195 f1_195 * 2 ^ (0 : Int).toNat) := hw
                  obtain ⟨hP1, hK1, hD1⟩ := hB
                  rw [ht] at hP1
                  obtain ⟨hP, hD⟩ := va_join (wr := [(ax, .inr (1, [.ref adr, .ref ait, .int (I3 mn), .ref wp, .ref wq, .ref wr, .ref ws, .ref wt, .ref wu, .ref wv, .ref wx, .ref wy, .ref wz, .int (I3 sg), .long (L6 rch), .int (I3 lft), .int (I3 isl)])), (wp, .inr (2, [.ref wpw, .int (I3 n1_214)])), (wpw, .inl (dA 0, 36, .inl (iA f1_214))), (wq, .inr (2, [.ref wqw, .int (I3 n2_180)])), (wqw, .inl (dA 0, 36, .inl (iA f2_180))), (wr, .inr (2, [.ref wrw, .int (I3 n1_166)])), (wrw, .inl (dA 0, 36, .inl (iA f1_166))), (ait, .inl (dA 3, 60, .inr (.inr (.inr (.inr (it))))))]) (w1 := [(wt, .inr (2, [.ref wtw, .int (I3 n1_232)])), (wtw, .inl (dA 0, 36, .inl (iA f1_232)))]) hP hD [7, 8] [0, 1, 2, 3, 4, 5, 6, 9] rfl rfl (by decide) (by decide) hk1 hFc hP1 hD1
                  have hP := hP.sub (ws' := [(ax, .inr (1, [.ref adr, .ref ait, .int (I3 mn), .ref wp, .ref wq, .ref wr, .ref ws, .ref wt, .ref wu, .ref wv, .ref wx, .ref wy, .ref wz, .int (I3 sg), .long (L6 rch), .int (I3 lft), .int (I3 isl)])), (wp, .inr (2, [.ref wpw, .int (I3 n1_214)])), (wpw, .inl (dA 0, 36, .inl (iA f1_214))), (wq, .inr (2, [.ref wqw, .int (I3 n2_180)])), (wqw, .inl (dA 0, 36, .inl (iA f2_180))), (wr, .inr (2, [.ref wrw, .int (I3 n1_166)])), (wrw, .inl (dA 0, 36, .inl (iA f1_166))), (wt, .inr (2, [.ref wtw, .int (I3 n1_232)])), (wtw, .inl (dA 0, 36, .inl (iA f1_232))), (ait, .inl (dA 3, 60, .inr (.inr (.inr (.inr (it))))))]) [0, 1, 2, 3, 4, 5, 6, 8, 9, 7] rfl
                  have hD := hD.sub (ws' := [(ax, .inr (1, [.ref adr, .ref ait, .int (I3 mn), .ref wp, .ref wq, .ref wr, .ref ws, .ref wt, .ref wu, .ref wv, .ref wx, .ref wy, .ref wz, .int (I3 sg), .long (L6 rch), .int (I3 lft), .int (I3 isl)])), (wp, .inr (2, [.ref wpw, .int (I3 n1_214)])), (wpw, .inl (dA 0, 36, .inl (iA f1_214))), (wq, .inr (2, [.ref wqw, .int (I3 n2_180)])), (wqw, .inl (dA 0, 36, .inl (iA f2_180))), (wr, .inr (2, [.ref wrw, .int (I3 n1_166)])), (wrw, .inl (dA 0, 36, .inl (iA f1_166))), (wt, .inr (2, [.ref wtw, .int (I3 n1_232)])), (wtw, .inl (dA 0, 36, .inl (iA f1_232))), (ait, .inl (dA 3, 60, .inr (.inr (.inr (.inr (it))))))]) [0, 1, 2, 3, 4, 5, 6, 8, 9, 7] (by decide) rfl
                  generalize H1 = H at hP hS ⊢
                  refine lv_aload_n hx hb dX1_meets_235 rfl (lv_at hl 3 rfl) ?_
                  refine va_get (D := (dC, dI)) (ci := 1) (v := .ref wp) (C := RX1) (T := TX1) (N := 17) hx hb hts in_X1 hown hK hP 0 rfl rfl 3 (by decide) (hts _ q148) (fun _ h9 => h9) rfl dX1_meets_236 ?_
                  refine lv_aload_n hx hb dX1_meets_239 rfl (lv_at hl 3 rfl) ?_
                  refine va_get (D := (dC, dI)) (ci := 1) (v := .ref wt) (C := RX1) (T := TX1) (N := 17) hx hb hts in_X1 hown hK hP 0 rfl rfl 7 (by decide) (hts _ q152) (fun _ h9 => h9) rfl dX1_meets_240 ?_
                  have h_44 : OKw n1_214 f1_214 := by exact p0_214
                  have h_45 : OKw n1_232 f1_232 := by exact p0_232
                  have hPc := hP.sub (ws' := [(wp, .inr (2, [.ref wpw, .int (I3 n1_214)])), (wpw, .inl (dA 0, 36, .inl (iA f1_214))), (wt, .inr (2, [.ref wtw, .int (I3 n1_232)])), (wtw, .inl (dA 0, 36, .inl (iA f1_232)))]) [1, 2, 7, 8] rfl
                  have hDc := hD.sub (ws' := [(wp, .inr (2, [.ref wpw, .int (I3 n1_214)])), (wpw, .inl (dA 0, 36, .inl (iA f1_214))), (wt, .inr (2, [.ref wtw, .int (I3 n1_232)])), (wtw, .inl (dA 0, 36, .inl (iA f1_232)))]) [1, 2, 7, 8] (by decide) rfl
                  have hFc := va_free (wc := [(wp, .inr (2, [.ref wpw, .int (I3 n1_214)])), (wpw, .inl (dA 0, 36, .inl (iA f1_214))), (wt, .inr (2, [.ref wtw, .int (I3 n1_232)])), (wtw, .inl (dA 0, 36, .inl (iA f1_232)))]) hD hS hA [1, 2, 7, 8] rfl
                  refine va_calli (va_runV (As := [.ref wt]) (rest := []) ⟨hx, hb, hml, hown, hts⟩ (metX7_compare l dC dI dA wp wpw wt wtw H.size n1_214 f1_214 n1_232 f1_232 h_44 h_45) (cwV 1 hts (lw_V q364 q365 q366 q65 q367) rfl rfl rfl (by decide +kernel) ⟨Nat.le_of_ble_eq_true rfl, Nat.le_of_ble_eq_true rfl⟩) ⟨fun a U g mk q => by obtain ⟨q0, q1, qP, qK, qD⟩ := q; exact ⟨q0, q1, qP, va_K.moved (u := U) (U := U.calling g mk a) (Vm.Alike.refl U.vm) qK, qD⟩, va_recv hK hP (ci := 2) (q0 := 1) rfl rfl, fun U hU hW => ⟨rfl, by rw [hU], by rw [hU]; exact hPc, va_K.moved hW.alike hK, hDc.weaken (fun _ _ _ _ => trivial)⟩⟩ rfl rfl hl.1 rfl (lv_room (Nat.le_of_ble_eq_true rfl)) dX1_meets_243 ⟨Nat.le_of_ble_eq_true rfl, Nat.le_of_ble_eq_true rfl⟩) hS (fun q _ h => hFc q h) hFc (fun r_243 u t H1 locs ht hvm hw hB hz1 hk1 hS => ?_)
                  obtain ⟨z_243, rfl⟩ : ∃ z, z = u := ⟨_, rfl⟩
                  obtain ⟨rfl, p0_243⟩ : r_243 = I3 z_243 ∧ (z_243 = cmpN (wN n1_214 f1_214) (wN n1_232 f1_232)) := hw
                  obtain ⟨hP1, hK1, hD1⟩ := hB
                  rw [ht] at hP1
                  obtain ⟨hP, hD⟩ := va_join (wr := [(ax, .inr (1, [.ref adr, .ref ait, .int (I3 mn), .ref wp, .ref wq, .ref wr, .ref ws, .ref wt, .ref wu, .ref wv, .ref wx, .ref wy, .ref wz, .int (I3 sg), .long (L6 rch), .int (I3 lft), .int (I3 isl)])), (wq, .inr (2, [.ref wqw, .int (I3 n2_180)])), (wqw, .inl (dA 0, 36, .inl (iA f2_180))), (wr, .inr (2, [.ref wrw, .int (I3 n1_166)])), (wrw, .inl (dA 0, 36, .inl (iA f1_166))), (ait, .inl (dA 3, 60, .inr (.inr (.inr (.inr (it))))))]) (w1 := [(wp, .inr (2, [.ref wpw, .int (I3 n1_214)])), (wpw, .inl (dA 0, 36, .inl (iA f1_214))), (wt, .inr (2, [.ref wtw, .int (I3 n1_232)])), (wtw, .inl (dA 0, 36, .inl (iA f1_232)))]) hP hD [1, 2, 7, 8] [0, 3, 4, 5, 6, 9] rfl rfl (by decide) (by decide) hk1 hFc hP1 hD1
                  have hP := hP.sub (ws' := [(ax, .inr (1, [.ref adr, .ref ait, .int (I3 mn), .ref wp, .ref wq, .ref wr, .ref ws, .ref wt, .ref wu, .ref wv, .ref wx, .ref wy, .ref wz, .int (I3 sg), .long (L6 rch), .int (I3 lft), .int (I3 isl)])), (wp, .inr (2, [.ref wpw, .int (I3 n1_214)])), (wpw, .inl (dA 0, 36, .inl (iA f1_214))), (wq, .inr (2, [.ref wqw, .int (I3 n2_180)])), (wqw, .inl (dA 0, 36, .inl (iA f2_180))), (wr, .inr (2, [.ref wrw, .int (I3 n1_166)])), (wrw, .inl (dA 0, 36, .inl (iA f1_166))), (wt, .inr (2, [.ref wtw, .int (I3 n1_232)])), (wtw, .inl (dA 0, 36, .inl (iA f1_232))), (ait, .inl (dA 3, 60, .inr (.inr (.inr (.inr (it))))))]) [0, 6, 7, 1, 2, 3, 4, 8, 9, 5] rfl
                  have hD := hD.sub (ws' := [(ax, .inr (1, [.ref adr, .ref ait, .int (I3 mn), .ref wp, .ref wq, .ref wr, .ref ws, .ref wt, .ref wu, .ref wv, .ref wx, .ref wy, .ref wz, .int (I3 sg), .long (L6 rch), .int (I3 lft), .int (I3 isl)])), (wp, .inr (2, [.ref wpw, .int (I3 n1_214)])), (wpw, .inl (dA 0, 36, .inl (iA f1_214))), (wq, .inr (2, [.ref wqw, .int (I3 n2_180)])), (wqw, .inl (dA 0, 36, .inl (iA f2_180))), (wr, .inr (2, [.ref wrw, .int (I3 n1_166)])), (wrw, .inl (dA 0, 36, .inl (iA f1_166))), (wt, .inr (2, [.ref wtw, .int (I3 n1_232)])), (wtw, .inl (dA 0, 36, .inl (iA f1_232))), (ait, .inl (dA 3, 60, .inr (.inr (.inr (.inr (it))))))]) [0, 6, 7, 1, 2, 3, 4, 8, 9, 5] (by decide) rfl
                  generalize H1 = H at hP hS ⊢
                  have e_243 : z_243 = cmpN (pv VL a * 2 ^ (-plX v).toNat) (qv VL a * (fX v).toNat * 2 ^ (plX v).toNat) := by rw [p0_243, p1_214, p1_180, p1_232, p1_195, p1_166, p2_153, p3_180, Nat.mul_comm (fX v).toNat]; exact o_e9 (by first | exact o_t1 p0_153 | exact o_t0 p0_153 c_204) (by first | exact o_t3 p0_153 | exact o_t2 p0_153 c_223)
                  have y_243 := cmpN3 p0_243
                  refine lv_istore (lv' := [(10, .int (I3 z_243)), (9, .int (I3 z_153)), (8, .int (I3 z_97)), (7, .int (I3 o9)), (0, .ref ax), (1, .int (I3 a)), (2, .long (L6 v)), (4, .ref ai), (5, .double (dX v))]) hx hb dX1_meets_246 hl (by decide) rfl (fun ls hl => ?_)
                  refine lv_iload hx hb dX1_meets_248 (lv_at hl 0 rfl) ?_
                  refine ix_if_ne (tgt := 257) hx hb (by exact o_in3 (o_c3 y_243)) dX1_meets_250 (by decide) (fun c_250 => ?_) (fun c_250 => ?_)
                  · skip
                    refine lv_iload hx hb dX1_meets_257 (lv_at hl 0 rfl) ?_
                    refine ix_if_ge (tgt := 266) hx hb (by exact o_in3 (o_c3 y_243)) dX1_meets_259 (by decide) (fun c_259 => ?_) (fun c_259 => ?_)
                    · skip
                      refine lv_iconst (v := I3 (0)) hx hb dX1_meets_266 rfl ?_
                      refine lv_iload hx hb dX1_meets_267 (lv_at hl 3 rfl) ?_
                      refine ix_if_le (tgt := 276) hx hb (by exact o_o3 ho3) dX1_meets_269 (by decide) (fun c_269 => ?_) (fun c_269 => ?_)
                      · skip
                        refine lv_iconst (v := I3 (0)) hx hb dX1_meets_276 rfl ?_
                        refine ix_icmp_ne (tgt := 284) hx hb (by first | assumption | decide | (constructor <;> omega)) (by first | assumption | decide | (constructor <;> omega)) dX1_meets_277 (by decide) (fun c_277 => ?_) (fun c_277 => ?_)
                        · skip
                          exact absurd c_277 (by decide)
                        · skip
                          refine lv_iconst (v := I3 (-1)) hx hb dX1_meets_280 rfl ?_
                          refine lv_goto (tgt := 285) hx hb dX1_meets_281 (by decide) ?_
                          have o_46 : (-1 : Int) = meS SG VL a v := by rw [hm_, meT_e c_69, ← e_243]; first | exact o_cm0 c_250 | exact o_cm1 (o_g3 ho3) (o_c3 y_243) c_259 c_269 | exact o_cm2 (o_g3 ho3) (o_c3 y_243) (fun q => absurd q c_90) c_250 c_259 c_269 | exact o_cm3 (o_g3 ho3) (o_c3 y_243) (fun q => absurd q c_90) c_259 c_269 | exact o_cm4 (o_g3 ho3) (o_c3 y_243) c_250 c_259 c_269
                          have o_47 : (0 ≤ a ∧ a < mn) := by exact hnum
                          have o_48 : Dg f1_214 := by exact p0_214.2.1
                          have o_49 : Dg f2_180 := by exact p2_180.2.1
                          have o_50 : Dg f1_166 := by exact p0_166.2.1
                          have o_51 : Dg f1_232 := by exact p0_232.2.1
                          refine vx_ret ?_
                          exact W.iret (v := I3 (-1)) hx hb hr (fun t ht hW => ⟨⟨I3 (-1), ((-1), n1_214, f1_214, n2_180, f2_180, n1_166, f1_166, n1_232, f1_232), rfl, ⟨rfl, ⟨o_46, o_47, o_48, o_49, o_50, o_51⟩⟩, by rw [ht]; exact hP, va_K.moved hW.alike hK, hD⟩, hS.F ht⟩) hS.2.2 dX1_meets_285
                      · skip
                        refine lv_iconst (v := I3 (1)) hx hb dX1_meets_272 rfl ?_
                        refine lv_goto (tgt := 277) hx hb dX1_meets_273 (by decide) ?_
                        refine ix_icmp_ne (tgt := 284) hx hb (by first | assumption | decide | (constructor <;> omega)) (by first | assumption | decide | (constructor <;> omega)) dX1_meets_277 (by decide) (fun c_277 => ?_) (fun c_277 => ?_)
                        · skip
                          refine lv_iconst (v := I3 (1)) hx hb dX1_meets_284 rfl ?_
                          have o_52 : (1 : Int) = meS SG VL a v := by rw [hm_, meT_e c_69, ← e_243]; first | exact o_cm0 c_250 | exact o_cm1 (o_g3 ho3) (o_c3 y_243) c_259 c_269 | exact o_cm2 (o_g3 ho3) (o_c3 y_243) (fun q => absurd q c_90) c_250 c_259 c_269 | exact o_cm3 (o_g3 ho3) (o_c3 y_243) (fun q => absurd q c_90) c_259 c_269 | exact o_cm4 (o_g3 ho3) (o_c3 y_243) c_250 c_259 c_269
                          have o_53 : (0 ≤ a ∧ a < mn) := by exact hnum
                          have o_54 : Dg f1_214 := by exact p0_214.2.1
                          have o_55 : Dg f2_180 := by exact p2_180.2.1
                          have o_56 : Dg f1_166 := by exact p0_166.2.1
                          have o_57 : Dg f1_232 := by exact p0_232.2.1
                          refine vx_ret ?_
                          exact W.iret (v := I3 1) hx hb hr (fun t ht hW => ⟨⟨I3 1, (1, n1_214, f1_214, n2_180, f2_180, n1_166, f1_166, n1_232, f1_232), rfl, ⟨rfl, ⟨o_52, o_53, o_54, o_55, o_56, o_57⟩⟩, by rw [ht]; exact hP, va_K.moved hW.alike hK, hD⟩, hS.F ht⟩) hS.2.2 dX1_meets_285
                        · skip
                          exact absurd c_277 (by decide)
                    · skip
                      refine lv_iconst (v := I3 (1)) hx hb dX1_meets_262 rfl ?_
                      refine lv_goto (tgt := 267) hx hb dX1_meets_263 (by decide) ?_
                      refine lv_iload hx hb dX1_meets_267 (lv_at hl 3 rfl) ?_
                      refine ix_if_le (tgt := 276) hx hb (by exact o_o3 ho3) dX1_meets_269 (by decide) (fun c_269 => ?_) (fun c_269 => ?_)
                      · skip
                        refine lv_iconst (v := I3 (0)) hx hb dX1_meets_276 rfl ?_
                        refine ix_icmp_ne (tgt := 284) hx hb (by first | assumption | decide | (constructor <;> omega)) (by first | assumption | decide | (constructor <;> omega)) dX1_meets_277 (by decide) (fun c_277 => ?_) (fun c_277 => ?_)
                        · skip
                          refine lv_iconst (v := I3 (1)) hx hb dX1_meets_284 rfl ?_
                          have o_58 : (1 : Int) = meS SG VL a v := by rw [hm_, meT_e c_69, ← e_243]; first | exact o_cm0 c_250 | exact o_cm1 (o_g3 ho3) (o_c3 y_243) c_259 c_269 | exact o_cm2 (o_g3 ho3) (o_c3 y_243) (fun q => absurd q c_90) c_250 c_259 c_269 | exact o_cm3 (o_g3 ho3) (o_c3 y_243) (fun q => absurd q c_90) c_259 c_269 | exact o_cm4 (o_g3 ho3) (o_c3 y_243) c_250 c_259 c_269
                          have o_59 : (0 ≤ a ∧ a < mn) := by exact hnum
                          have o_60 : Dg f1_214 := by exact p0_214.2.1
                          have o_61 : Dg f2_180 := by exact p2_180.2.1
                          have o_62 : Dg f1_166 := by exact p0_166.2.1
                          have o_63 : Dg f1_232 := by exact p0_232.2.1
                          refine vx_ret ?_
                          exact W.iret (v := I3 1) hx hb hr (fun t ht hW => ⟨⟨I3 1, (1, n1_214, f1_214, n2_180, f2_180, n1_166, f1_166, n1_232, f1_232), rfl, ⟨rfl, ⟨o_58, o_59, o_60, o_61, o_62, o_63⟩⟩, by rw [ht]; exact hP, va_K.moved hW.alike hK, hD⟩, hS.F ht⟩) hS.2.2 dX1_meets_285
                        · skip
                          exact absurd c_277 (by decide)
                      · skip
                        refine lv_iconst (v := I3 (1)) hx hb dX1_meets_272 rfl ?_
                        refine lv_goto (tgt := 277) hx hb dX1_meets_273 (by decide) ?_
                        refine ix_icmp_ne (tgt := 284) hx hb (by first | assumption | decide | (constructor <;> omega)) (by first | assumption | decide | (constructor <;> omega)) dX1_meets_277 (by decide) (fun c_277 => ?_) (fun c_277 => ?_)
                        · skip
                          exact absurd c_277 (by decide)
                        · skip
                          refine lv_iconst (v := I3 (-1)) hx hb dX1_meets_280 rfl ?_
                          refine lv_goto (tgt := 285) hx hb dX1_meets_281 (by decide) ?_
                          have o_64 : (-1 : Int) = meS SG VL a v := by rw [hm_, meT_e c_69, ← e_243]; first | exact o_cm0 c_250 | exact o_cm1 (o_g3 ho3) (o_c3 y_243) c_259 c_269 | exact o_cm2 (o_g3 ho3) (o_c3 y_243) (fun q => absurd q c_90) c_250 c_259 c_269 | exact o_cm3 (o_g3 ho3) (o_c3 y_243) (fun q => absurd q c_90) c_259 c_269 | exact o_cm4 (o_g3 ho3) (o_c3 y_243) c_250 c_259 c_269
                          have o_65 : (0 ≤ a ∧ a < mn) := by exact hnum
                          have o_66 : Dg f1_214 := by exact p0_214.2.1
                          have o_67 : Dg f2_180 := by exact p2_180.2.1
                          have o_68 : Dg f1_166 := by exact p0_166.2.1
                          have o_69 : Dg f1_232 := by exact p0_232.2.1
                          refine vx_ret ?_
                          exact W.iret (v := I3 (-1)) hx hb hr (fun t ht hW => ⟨⟨I3 (-1), ((-1), n1_214, f1_214, n2_180, f2_180, n1_166, f1_166, n1_232, f1_232), rfl, ⟨rfl, ⟨o_64, o_65, o_66, o_67, o_68, o_69⟩⟩, by rw [ht]; exact hP, va_K.moved hW.alike hK, hD⟩, hS.F ht⟩) hS.2.2 dX1_meets_285
                  · skip
                    refine lv_iconst (v := I3 (0)) hx hb dX1_meets_253 rfl ?_
                    refine lv_goto (tgt := 285) hx hb dX1_meets_254 (by decide) ?_
                    have o_70 : (0 : Int) = meS SG VL a v := by rw [hm_, meT_e c_69, ← e_243]; first | exact o_cm0 c_250 | exact o_cm1 (o_g3 ho3) (o_c3 y_243) c_259 c_269 | exact o_cm2 (o_g3 ho3) (o_c3 y_243) (fun q => absurd q c_90) c_250 c_259 c_269 | exact o_cm3 (o_g3 ho3) (o_c3 y_243) (fun q => absurd q c_90) c_259 c_269 | exact o_cm4 (o_g3 ho3) (o_c3 y_243) c_250 c_259 c_269
                    have o_71 : (0 ≤ a ∧ a < mn) := by exact hnum
                    have o_72 : Dg f1_214 := by exact p0_214.2.1
                    have o_73 : Dg f2_180 := by exact p2_180.2.1
                    have o_74 : Dg f1_166 := by exact p0_166.2.1
                    have o_75 : Dg f1_232 := by exact p0_232.2.1
                    refine vx_ret ?_
                    exact W.iret (v := I3 0) hx hb hr (fun t ht hW => ⟨⟨I3 0, (0, n1_214, f1_214, n2_180, f2_180, n1_166, f1_166, n1_232, f1_232), rfl, ⟨rfl, ⟨o_70, o_71, o_72, o_73, o_74, o_75⟩⟩, by rw [ht]; exact hP, va_K.moved hW.alike hK, hD⟩, hS.F ht⟩) hS.2.2 dX1_meets_285
                · skip
                  refine lv_iload hx hb dX1_meets_226 (lv_at hl 0 rfl) ?_
                  refine lv_goto (tgt := 232) hx hb dX1_meets_228 (by decide) ?_
                  have h_76 : OKw n1_195 f1_195 := by exact p0_195
                  have h_77 : 0 ≤ z_153 ∧ z_153 < 100000 := by exact ⟨by omega, by omega⟩
                  have h_78 : n1_195 = 0 ∨ n1_195 + z_153 / 32 + 1 ≤ 36 := by right; omega
                  have hPc := hP.sub (ws' := [(wt, .inr (2, [.ref wtw, .int (I3 n1_195)])), (wtw, .inl (dA 0, 36, .inl (iA f1_195)))]) [7, 8] rfl
                  have hDc := hD.sub (ws' := [(wt, .inr (2, [.ref wtw, .int (I3 n1_195)])), (wtw, .inl (dA 0, 36, .inl (iA f1_195)))]) [7, 8] (by decide) rfl
                  have hFc := va_free (wc := [(wt, .inr (2, [.ref wtw, .int (I3 n1_195)])), (wtw, .inl (dA 0, 36, .inl (iA f1_195)))]) hD hS hA [7, 8] rfl
                  refine va_callv (va_runV (As := [.int (I3 z_153)]) (rest := []) ⟨hx, hb, hml, hown, hts⟩ (metX7_up l dC dI dA wt wtw H.size n1_195 f1_195 z_153 h_76 h_77 h_78) (cwV 1 hts (lw_V q379 q380 q381 q65 q382) rfl rfl rfl (by decide +kernel) ⟨Nat.le_of_ble_eq_true rfl, Nat.le_of_ble_eq_true rfl⟩) ⟨fun a U g mk q => by obtain ⟨q0, q1, qP, qK, qD⟩ := q; exact ⟨q0, q1, qP, va_K.moved (u := U) (U := U.calling g mk a) (Vm.Alike.refl U.vm) qK, qD⟩, va_recv hK hP (ci := 2) (q0 := 7) rfl rfl, fun U hU hW => ⟨rfl, by rw [hU], by rw [hU]; exact hPc, va_K.moved hW.alike hK, hDc.weaken (fun _ _ _ _ => trivial)⟩⟩ rfl rfl hl.1 rfl (lv_room (Nat.le_of_ble_eq_true rfl)) dX1_meets_232 ⟨Nat.le_of_ble_eq_true rfl, Nat.le_of_ble_eq_true rfl⟩) hS (fun q _ h => hFc q h) hFc (fun u t H1 locs ht hvm hw hB hz1 hk1 hS => ?_)
                  obtain ⟨n1_232, f1_232⟩ := u
                  obtain ⟨p0_232, p1_232⟩ : (OKw n1_232 f1_232) ∧ (wN n1_232 f1_232 = wN n1_195 f1_195 * 2 ^ z_153.toNat) := hw
                  obtain ⟨hP1, hK1, hD1⟩ := hB
                  rw [ht] at hP1
                  obtain ⟨hP, hD⟩ := va_join (wr := [(ax, .inr (1, [.ref adr, .ref ait, .int (I3 mn), .ref wp, .ref wq, .ref wr, .ref ws, .ref wt, .ref wu, .ref wv, .ref wx, .ref wy, .ref wz, .int (I3 sg), .long (L6 rch), .int (I3 lft), .int (I3 isl)])), (wp, .inr (2, [.ref wpw, .int (I3 n1_214)])), (wpw, .inl (dA 0, 36, .inl (iA f1_214))), (wq, .inr (2, [.ref wqw, .int (I3 n2_180)])), (wqw, .inl (dA 0, 36, .inl (iA f2_180))), (wr, .inr (2, [.ref wrw, .int (I3 n1_166)])), (wrw, .inl (dA 0, 36, .inl (iA f1_166))), (ait, .inl (dA 3, 60, .inr (.inr (.inr (.inr (it))))))]) (w1 := [(wt, .inr (2, [.ref wtw, .int (I3 n1_232)])), (wtw, .inl (dA 0, 36, .inl (iA f1_232)))]) hP hD [7, 8] [0, 1, 2, 3, 4, 5, 6, 9] rfl rfl (by decide) (by decide) hk1 hFc hP1 hD1
                  have hP := hP.sub (ws' := [(ax, .inr (1, [.ref adr, .ref ait, .int (I3 mn), .ref wp, .ref wq, .ref wr, .ref ws, .ref wt, .ref wu, .ref wv, .ref wx, .ref wy, .ref wz, .int (I3 sg), .long (L6 rch), .int (I3 lft), .int (I3 isl)])), (wp, .inr (2, [.ref wpw, .int (I3 n1_214)])), (wpw, .inl (dA 0, 36, .inl (iA f1_214))), (wq, .inr (2, [.ref wqw, .int (I3 n2_180)])), (wqw, .inl (dA 0, 36, .inl (iA f2_180))), (wr, .inr (2, [.ref wrw, .int (I3 n1_166)])), (wrw, .inl (dA 0, 36, .inl (iA f1_166))), (wt, .inr (2, [.ref wtw, .int (I3 n1_232)])), (wtw, .inl (dA 0, 36, .inl (iA f1_232))), (ait, .inl (dA 3, 60, .inr (.inr (.inr (.inr (it))))))]) [0, 1, 2, 3, 4, 5, 6, 8, 9, 7] rfl
                  have hD := hD.sub (ws' := [(ax, .inr (1, [.ref adr, .ref ait, .int (I3 mn), .ref wp, .ref wq, .ref wr, .ref ws, .ref wt, .ref wu, .ref wv, .ref wx, .ref wy, .ref wz, .int (I3 sg), .long (L6 rch), .int (I3 lft), .int (I3 isl)])), (wp, .inr (2, [.ref wpw, .int (I3 n1_214)])), (wpw, .inl (dA 0, 36, .inl (iA f1_214))), (wq, .inr (2, [.ref wqw, .int (I3 n2_180)])), (wqw, .inl (dA 0, 36, .inl (iA f2_180))), (wr, .inr (2, [.ref wrw, .int (I3 n1_166)])), (wrw, .inl (dA 0, 36, .inl (iA f1_166))), (wt, .inr (2, [.ref wtw, .int (I3 n1_232)])), (wtw, .inl (dA 0, 36, .inl (iA f1_232))), (ait, .inl (dA 3, 60, .inr (.inr (.inr (.inr (it))))))]) [0, 1, 2, 3, 4, 5, 6, 8, 9, 7] (by decide) rfl
                  generalize H1 = H at hP hS ⊢
                  refine lv_aload_n hx hb dX1_meets_235 rfl (lv_at hl 3 rfl) ?_
                  refine va_get (D := (dC, dI)) (ci := 1) (v := .ref wp) (C := RX1) (T := TX1) (N := 17) hx hb hts in_X1 hown hK hP 0 rfl rfl 3 (by decide) (hts _ q148) (fun _ h9 => h9) rfl dX1_meets_236 ?_
                  refine lv_aload_n hx hb dX1_meets_239 rfl (lv_at hl 3 rfl) ?_
                  refine va_get (D := (dC, dI)) (ci := 1) (v := .ref wt) (C := RX1) (T := TX1) (N := 17) hx hb hts in_X1 hown hK hP 0 rfl rfl 7 (by decide) (hts _ q152) (fun _ h9 => h9) rfl dX1_meets_240 ?_
                  have h_79 : OKw n1_214 f1_214 := by exact p0_214
                  have h_80 : OKw n1_232 f1_232 := by exact p0_232
                  have hPc := hP.sub (ws' := [(wp, .inr (2, [.ref wpw, .int (I3 n1_214)])), (wpw, .inl (dA 0, 36, .inl (iA f1_214))), (wt, .inr (2, [.ref wtw, .int (I3 n1_232)])), (wtw, .inl (dA 0, 36, .inl (iA f1_232)))]) [1, 2, 7, 8] rfl
                  have hDc := hD.sub (ws' := [(wp, .inr (2, [.ref wpw, .int (I3 n1_214)])), (wpw, .inl (dA 0, 36, .inl (iA f1_214))), (wt, .inr (2, [.ref wtw, .int (I3 n1_232)])), (wtw, .inl (dA 0, 36, .inl (iA f1_232)))]) [1, 2, 7, 8] (by decide) rfl
                  have hFc := va_free (wc := [(wp, .inr (2, [.ref wpw, .int (I3 n1_214)])), (wpw, .inl (dA 0, 36, .inl (iA f1_214))), (wt, .inr (2, [.ref wtw, .int (I3 n1_232)])), (wtw, .inl (dA 0, 36, .inl (iA f1_232)))]) hD hS hA [1, 2, 7, 8] rfl
                  refine va_calli (va_runV (As := [.ref wt]) (rest := []) ⟨hx, hb, hml, hown, hts⟩ (metX7_compare l dC dI dA wp wpw wt wtw H.size n1_214 f1_214 n1_232 f1_232 h_79 h_80) (cwV 1 hts (lw_V q364 q365 q366 q65 q367) rfl rfl rfl (by decide +kernel) ⟨Nat.le_of_ble_eq_true rfl, Nat.le_of_ble_eq_true rfl⟩) ⟨fun a U g mk q => by obtain ⟨q0, q1, qP, qK, qD⟩ := q; exact ⟨q0, q1, qP, va_K.moved (u := U) (U := U.calling g mk a) (Vm.Alike.refl U.vm) qK, qD⟩, va_recv hK hP (ci := 2) (q0 := 1) rfl rfl, fun U hU hW => ⟨rfl, by rw [hU], by rw [hU]; exact hPc, va_K.moved hW.alike hK, hDc.weaken (fun _ _ _ _ => trivial)⟩⟩ rfl rfl hl.1 rfl (lv_room (Nat.le_of_ble_eq_true rfl)) dX1_meets_243 ⟨Nat.le_of_ble_eq_true rfl, Nat.le_of_ble_eq_true rfl⟩) hS (fun q _ h => hFc q h) hFc (fun r_243 u t H1 locs ht hvm hw hB hz1 hk1 hS => ?_)
                  obtain ⟨z_243, rfl⟩ : ∃ z, z = u := ⟨_, rfl⟩
                  obtain ⟨rfl, p0_243⟩ : r_243 = I3 z_243 ∧ (z_243 = cmpN (wN n1_214 f1_214) (wN n1_232 f1_232)) := hw
                  obtain ⟨hP1, hK1, hD1⟩ := hB
                  rw [ht] at hP1
                  obtain ⟨hP, hD⟩ := va_join (wr := [(ax, .inr (1, [.ref adr, .ref ait, .int (I3 mn), .ref wp, .ref wq, .ref wr, .ref ws, .ref wt, .ref wu, .ref wv, .ref wx, .ref wy, .ref wz, .int (I3 sg), .long (L6 rch), .int (I3 lft), .int (I3 isl)])), (wq, .inr (2, [.ref wqw, .int (I3 n2_180)])), (wqw, .inl (dA 0, 36, .inl (iA f2_180))), (wr, .inr (2, [.ref wrw, .int (I3 n1_166)])), (wrw, .inl (dA 0, 36, .inl (iA f1_166))), (ait, .inl (dA 3, 60, .inr (.inr (.inr (.inr (it))))))]) (w1 := [(wp, .inr (2, [.ref wpw, .int (I3 n1_214)])), (wpw, .inl (dA 0, 36, .inl (iA f1_214))), (wt, .inr (2, [.ref wtw, .int (I3 n1_232)])), (wtw, .inl (dA 0, 36, .inl (iA f1_232)))]) hP hD [1, 2, 7, 8] [0, 3, 4, 5, 6, 9] rfl rfl (by decide) (by decide) hk1 hFc hP1 hD1
                  have hP := hP.sub (ws' := [(ax, .inr (1, [.ref adr, .ref ait, .int (I3 mn), .ref wp, .ref wq, .ref wr, .ref ws, .ref wt, .ref wu, .ref wv, .ref wx, .ref wy, .ref wz, .int (I3 sg), .long (L6 rch), .int (I3 lft), .int (I3 isl)])), (wp, .inr (2, [.ref wpw, .int (I3 n1_214)])), (wpw, .inl (dA 0, 36, .inl (iA f1_214))), (wq, .inr (2, [.ref wqw, .int (I3 n2_180)])), (wqw, .inl (dA 0, 36, .inl (iA f2_180))), (wr, .inr (2, [.ref wrw, .int (I3 n1_166)])), (wrw, .inl (dA 0, 36, .inl (iA f1_166))), (wt, .inr (2, [.ref wtw, .int (I3 n1_232)])), (wtw, .inl (dA 0, 36, .inl (iA f1_232))), (ait, .inl (dA 3, 60, .inr (.inr (.inr (.inr (it))))))]) [0, 6, 7, 1, 2, 3, 4, 8, 9, 5] rfl
                  have hD := hD.sub (ws' := [(ax, .inr (1, [.ref adr, .ref ait, .int (I3 mn), .ref wp, .ref wq, .ref wr, .ref ws, .ref wt, .ref wu, .ref wv, .ref wx, .ref wy, .ref wz, .int (I3 sg), .long (L6 rch), .int (I3 lft), .int (I3 isl)])), (wp, .inr (2, [.ref wpw, .int (I3 n1_214)])), (wpw, .inl (dA 0, 36, .inl (iA f1_214))), (wq, .inr (2, [.ref wqw, .int (I3 n2_180)])), (wqw, .inl (dA 0, 36, .inl (iA f2_180))), (wr, .inr (2, [.ref wrw, .int (I3 n1_166)])), (wrw, .inl (dA 0, 36, .inl (iA f1_166))), (wt, .inr (2, [.ref wtw, .int (I3 n1_232)])), (wtw, .inl (dA 0, 36, .inl (iA f1_232))), (ait, .inl (dA 3, 60, .inr (.inr (.inr (.inr (it))))))]) [0, 6, 7, 1, 2, 3, 4, 8, 9, 5] (by decide) rfl
                  generalize H1 = H at hP hS ⊢
                  have e_243 : z_243 = cmpN (pv VL a * 2 ^ (-plX v).toNat) (qv VL a * (fX v).toNat * 2 ^ (plX v).toNat) := by rw [p0_243, p1_214, p1_180, p1_232, p1_195, p1_166, p2_153, p3_180, Nat.mul_comm (fX v).toNat]; exact o_e9 (by first | exact o_t1 p0_153 | exact o_t0 p0_153 c_204) (by first | exact o_t3 p0_153 | exact o_t2 p0_153 c_223)
                  have y_243 := cmpN3 p0_243
                  refine lv_istore (lv' := [(10, .int (I3 z_243)), (9, .int (I3 z_153)), (8, .int (I3 z_97)), (7, .int (I3 o9)), (0, .ref ax), (1, .int (I3 a)), (2, .long (L6 v)), (4, .ref ai), (5, .double (dX v))]) hx hb dX1_meets_246 hl (by decide) rfl (fun ls hl => ?_)
                  refine lv_iload hx hb dX1_meets_248 (lv_at hl 0 rfl) ?_
                  refine ix_if_ne (tgt := 257) hx hb (by exact o_in3 (o_c3 y_243)) dX1_meets_250 (by decide) (fun c_250 => ?_) (fun c_250 => ?_)
                  · skip
                    refine lv_iload hx hb dX1_meets_257 (lv_at hl 0 rfl) ?_
                    refine ix_if_ge (tgt := 266) hx hb (by exact o_in3 (o_c3 y_243)) dX1_meets_259 (by decide) (fun c_259 => ?_) (fun c_259 => ?_)
                    · skip
                      refine lv_iconst (v := I3 (0)) hx hb dX1_meets_266 rfl ?_
                      refine lv_iload hx hb dX1_meets_267 (lv_at hl 3 rfl) ?_
                      refine ix_if_le (tgt := 276) hx hb (by exact o_o3 ho3) dX1_meets_269 (by decide) (fun c_269 => ?_) (fun c_269 => ?_)
                      · skip
                        refine lv_iconst (v := I3 (0)) hx hb dX1_meets_276 rfl ?_
                        refine ix_icmp_ne (tgt := 284) hx hb (by first | assumption | decide | (constructor <;> omega)) (by first | assumption | decide | (constructor <;> omega)) dX1_meets_277 (by decide) (fun c_277 => ?_) (fun c_277 => ?_)
                        · skip
                          exact absurd c_277 (by decide)
                        · skip
                          refine lv_iconst (v := I3 (-1)) hx hb dX1_meets_280 rfl ?_
                          refine lv_goto (tgt := 285) hx hb dX1_meets_281 (by decide) ?_
                          have o_81 : (-1 : Int) = meS SG VL a v := by rw [hm_, meT_e c_69, ← e_243]; first | exact o_cm0 c_250 | exact o_cm1 (o_g3 ho3) (o_c3 y_243) c_259 c_269 | exact o_cm2 (o_g3 ho3) (o_c3 y_243) (fun q => absurd q c_90) c_250 c_259 c_269 | exact o_cm3 (o_g3 ho3) (o_c3 y_243) (fun q => absurd q c_90) c_259 c_269 | exact o_cm4 (o_g3 ho3) (o_c3 y_243) c_250 c_259 c_269
                          have o_82 : (0 ≤ a ∧ a < mn) := by exact hnum
                          have o_83 : Dg f1_214 := by exact p0_214.2.1
                          have o_84 : Dg f2_180 := by exact p2_180.2.1
                          have o_85 : Dg f1_166 := by exact p0_166.2.1
                          have o_86 : Dg f1_232 := by exact p0_232.2.1
                          refine vx_ret ?_
                          exact W.iret (v := I3 (-1)) hx hb hr (fun t ht hW => ⟨⟨I3 (-1), ((-1), n1_214, f1_214, n2_180, f2_180, n1_166, f1_166, n1_232, f1_232), rfl, ⟨rfl, ⟨o_81, o_82, o_83, o_84, o_85, o_86⟩⟩, by rw [ht]; exact hP, va_K.moved hW.alike hK, hD⟩, hS.F ht⟩) hS.2.2 dX1_meets_285
                      · skip
                        refine lv_iconst (v := I3 (1)) hx hb dX1_meets_272 rfl ?_
                        refine lv_goto (tgt := 277) hx hb dX1_meets_273 (by decide) ?_
                        refine ix_icmp_ne (tgt := 284) hx hb (by first | assumption | decide | (constructor <;> omega)) (by first | assumption | decide | (constructor <;> omega)) dX1_meets_277 (by decide) (fun c_277 => ?_) (fun c_277 => ?_)
                        · skip
                          refine lv_iconst (v := I3 (1)) hx hb dX1_meets_284 rfl ?_
                          have o_87 : (1 : Int) = meS SG VL a v := by rw [hm_, meT_e c_69, ← e_243]; first | exact o_cm0 c_250 | exact o_cm1 (o_g3 ho3) (o_c3 y_243) c_259 c_269 | exact o_cm2 (o_g3 ho3) (o_c3 y_243) (fun q => absurd q c_90) c_250 c_259 c_269 | exact o_cm3 (o_g3 ho3) (o_c3 y_243) (fun q => absurd q c_90) c_259 c_269 | exact o_cm4 (o_g3 ho3) (o_c3 y_243) c_250 c_259 c_269
                          have o_88 : (0 ≤ a ∧ a < mn) := by exact hnum
                          have o_89 : Dg f1_214 := by exact p0_214.2.1
                          have o_90 : Dg f2_180 := by exact p2_180.2.1
                          have o_91 : Dg f1_166 := by exact p0_166.2.1
                          have o_92 : Dg f1_232 := by exact p0_232.2.1
                          refine vx_ret ?_
                          exact W.iret (v := I3 1) hx hb hr (fun t ht hW => ⟨⟨I3 1, (1, n1_214, f1_214, n2_180, f2_180, n1_166, f1_166, n1_232, f1_232), rfl, ⟨rfl, ⟨o_87, o_88, o_89, o_90, o_91, o_92⟩⟩, by rw [ht]; exact hP, va_K.moved hW.alike hK, hD⟩, hS.F ht⟩) hS.2.2 dX1_meets_285
                        · skip
                          exact absurd c_277 (by decide)
                    · skip
                      refine lv_iconst (v := I3 (1)) hx hb dX1_meets_262 rfl ?_
                      refine lv_goto (tgt := 267) hx hb dX1_meets_263 (by decide) ?_
                      refine lv_iload hx hb dX1_meets_267 (lv_at hl 3 rfl) ?_
                      refine ix_if_le (tgt := 276) hx hb (by exact o_o3 ho3) dX1_meets_269 (by decide) (fun c_269 => ?_) (fun c_269 => ?_)
                      · skip
                        refine lv_iconst (v := I3 (0)) hx hb dX1_meets_276 rfl ?_
                        refine ix_icmp_ne (tgt := 284) hx hb (by first | assumption | decide | (constructor <;> omega)) (by first | assumption | decide | (constructor <;> omega)) dX1_meets_277 (by decide) (fun c_277 => ?_) (fun c_277 => ?_)
                        · skip
                          refine lv_iconst (v := I3 (1)) hx hb dX1_meets_284 rfl ?_
                          have o_93 : (1 : Int) = meS SG VL a v := by rw [hm_, meT_e c_69, ← e_243]; first | exact o_cm0 c_250 | exact o_cm1 (o_g3 ho3) (o_c3 y_243) c_259 c_269 | exact o_cm2 (o_g3 ho3) (o_c3 y_243) (fun q => absurd q c_90) c_250 c_259 c_269 | exact o_cm3 (o_g3 ho3) (o_c3 y_243) (fun q => absurd q c_90) c_259 c_269 | exact o_cm4 (o_g3 ho3) (o_c3 y_243) c_250 c_259 c_269
                          have o_94 : (0 ≤ a ∧ a < mn) := by exact hnum
                          have o_95 : Dg f1_214 := by exact p0_214.2.1
                          have o_96 : Dg f2_180 := by exact p2_180.2.1
                          have o_97 : Dg f1_166 := by exact p0_166.2.1
                          have o_98 : Dg f1_232 := by exact p0_232.2.1
                          refine vx_ret ?_
                          exact W.iret (v := I3 1) hx hb hr (fun t ht hW => ⟨⟨I3 1, (1, n1_214, f1_214, n2_180, f2_180, n1_166, f1_166, n1_232, f1_232), rfl, ⟨rfl, ⟨o_93, o_94, o_95, o_96, o_97, o_98⟩⟩, by rw [ht]; exact hP, va_K.moved hW.alike hK, hD⟩, hS.F ht⟩) hS.2.2 dX1_meets_285
                        · skip
                          exact absurd c_277 (by decide)
                      · skip
                        refine lv_iconst (v := I3 (1)) hx hb dX1_meets_272 rfl ?_
                        refine lv_goto (tgt := 277) hx hb dX1_meets_273 (by decide) ?_
                        refine ix_icmp_ne (tgt := 284) hx hb (by first | assumption | decide | (constructor <;> omega)) (by first | assumption | decide | (constructor <;> omega)) dX1_meets_277 (by decide) (fun c_277 => ?_) (fun c_277 => ?_)
                        · skip
                          exact absurd c_277 (by decide)
                        · skip
                          refine lv_iconst (v := I3 (-1)) hx hb dX1_meets_280 rfl ?_
                          refine lv_goto (tgt := 285) hx hb dX1_meets_281 (by decide) ?_
                          have o_99 : (-1 : Int) = meS SG VL a v := by rw [hm_, meT_e c_69, ← e_243]; first | exact o_cm0 c_250 | exact o_cm1 (o_g3 ho3) (o_c3 y_243) c_259 c_269 | exact o_cm2 (o_g3 ho3) (o_c3 y_243) (fun q => absurd q c_90) c_250 c_259 c_269 | exact o_cm3 (o_g3 ho3) (o_c3 y_243) (fun q => absurd q c_90) c_259 c_269 | exact o_cm4 (o_g3 ho3) (o_c3 y_243) c_250 c_259 c_269
                          have o_100 : (0 ≤ a ∧ a < mn) := by exact hnum
                          have o_101 : Dg f1_214 := by exact p0_214.2.1
                          have o_102 : Dg f2_180 := by exact p2_180.2.1
                          have o_103 : Dg f1_166 := by exact p0_166.2.1
                          have o_104 : Dg f1_232 := by exact p0_232.2.1
                          refine vx_ret ?_
                          exact W.iret (v := I3 (-1)) hx hb hr (fun t ht hW => ⟨⟨I3 (-1), ((-1), n1_214, f1_214, n2_180, f2_180, n1_166, f1_166, n1_232, f1_232), rfl, ⟨rfl, ⟨o_99, o_100, o_101, o_102, o_103, o_104⟩⟩, by rw [ht]; exact hP, va_K.moved hW.alike hK, hD⟩, hS.F ht⟩) hS.2.2 dX1_meets_285
                  · skip
                    refine lv_iconst (v := I3 (0)) hx hb dX1_meets_253 rfl ?_
                    refine lv_goto (tgt := 285) hx hb dX1_meets_254 (by decide) ?_
                    have o_105 : (0 : Int) = meS SG VL a v := by rw [hm_, meT_e c_69, ← e_243]; first | exact o_cm0 c_250 | exact o_cm1 (o_g3 ho3) (o_c3 y_243) c_259 c_269 | exact o_cm2 (o_g3 ho3) (o_c3 y_243) (fun q => absurd q c_90) c_250 c_259 c_269 | exact o_cm3 (o_g3 ho3) (o_c3 y_243) (fun q => absurd q c_90) c_259 c_269 | exact o_cm4 (o_g3 ho3) (o_c3 y_243) c_250 c_259 c_269
                    have o_106 : (0 ≤ a ∧ a < mn) := by exact hnum
                    have o_107 : Dg f1_214 := by exact p0_214.2.1
                    have o_108 : Dg f2_180 := by exact p2_180.2.1
                    have o_109 : Dg f1_166 := by exact p0_166.2.1
                    have o_110 : Dg f1_232 := by exact p0_232.2.1
                    refine vx_ret ?_
                    exact W.iret (v := I3 0) hx hb hr (fun t ht hW => ⟨⟨I3 0, (0, n1_214, f1_214, n2_180, f2_180, n1_166, f1_166, n1_232, f1_232), rfl, ⟨rfl, ⟨o_105, o_106, o_107, o_108, o_109, o_110⟩⟩, by rw [ht]; exact hP, va_K.moved hW.alike hK, hD⟩, hS.F ht⟩) hS.2.2 dX1_meets_285
              · skip
                refine lv_iload hx hb dX1_meets_207 (lv_at hl 0 rfl) ?_
                refine ix_ineg hx hb dX1_meets_209 ?_
                refine lv_goto (tgt := 214) hx hb dX1_meets_210 (by decide) ?_
                have h_111 : OKw n1_180 f1_180 := by exact p0_180
                have h_112 : 0 ≤ (-z_153) ∧ (-z_153) < 100000 := by exact ⟨by omega, by omega⟩
                have h_113 : n1_180 = 0 ∨ n1_180 + (-z_153) / 32 + 1 ≤ 36 := by right; omega
                have hPc := hP.sub (ws' := [(wp, .inr (2, [.ref wpw, .int (I3 n1_180)])), (wpw, .inl (dA 0, 36, .inl (iA f1_180)))]) [1, 2] rfl
                have hDc := hD.sub (ws' := [(wp, .inr (2, [.ref wpw, .int (I3 n1_180)])), (wpw, .inl (dA 0, 36, .inl (iA f1_180)))]) [1, 2] (by decide) rfl
                have hFc := va_free (wc := [(wp, .inr (2, [.ref wpw, .int (I3 n1_180)])), (wpw, .inl (dA 0, 36, .inl (iA f1_180)))]) hD hS hA [1, 2] rfl
                refine va_callv (va_runV (As := [.int (I3 (-z_153))]) (rest := []) ⟨hx, hb, hml, hown, hts⟩ (metX7_up l dC dI dA wp wpw H.size n1_180 f1_180 (-z_153) h_111 h_112 h_113) (cwV 1 hts (lw_V q379 q380 q381 q65 q382) rfl rfl rfl (by decide +kernel) ⟨Nat.le_of_ble_eq_true rfl, Nat.le_of_ble_eq_true rfl⟩) ⟨fun a U g mk q => by obtain ⟨q0, q1, qP, qK, qD⟩ := q; exact ⟨q0, q1, qP, va_K.moved (u := U) (U := U.calling g mk a) (Vm.Alike.refl U.vm) qK, qD⟩, va_recv hK hP (ci := 2) (q0 := 1) rfl rfl, fun U hU hW => ⟨rfl, by rw [hU], by rw [hU]; exact hPc, va_K.moved hW.alike hK, hDc.weaken (fun _ _ _ _ => trivial)⟩⟩ rfl rfl hl.1 rfl (lv_room (Nat.le_of_ble_eq_true rfl)) dX1_meets_214 ⟨Nat.le_of_ble_eq_true rfl, Nat.le_of_ble_eq_true rfl⟩) hS (fun q _ h => hFc q h) hFc (fun u t H1 locs ht hvm hw hB hz1 hk1 hS => ?_)
                obtain ⟨n1_214, f1_214⟩ := u
                obtain ⟨p0_214, p1_214⟩ : (OKw n1_214 f1_214) ∧ (wN n1_214 f1_214 = wN n1_180 f1_180 * 2 ^ (-z_153).toNat) := hw
                obtain ⟨hP1, hK1, hD1⟩ := hB
                rw [ht] at hP1
                obtain ⟨hP, hD⟩ := va_join (wr := [(ax, .inr (1, [.ref adr, .ref ait, .int (I3 mn), .ref wp, .ref wq, .ref wr, .ref ws, .ref wt, .ref wu, .ref wv, .ref wx, .ref wy, .ref wz, .int (I3 sg), .long (L6 rch), .int (I3 lft), .int (I3 isl)])), (wq, .inr (2, [.ref wqw, .int (I3 n2_180)])), (wqw, .inl (dA 0, 36, .inl (iA f2_180))), (wr, .inr (2, [.ref wrw, .int (I3 n1_166)])), (wrw, .inl (dA 0, 36, .inl (iA f1_166))), (wt, .inr (2, [.ref wtw, .int (I3 n1_195)])), (wtw, .inl (dA 0, 36, .inl (iA f1_195))), (ait, .inl (dA 3, 60, .inr (.inr (.inr (.inr (it))))))]) (w1 := [(wp, .inr (2, [.ref wpw, .int (I3 n1_214)])), (wpw, .inl (dA 0, 36, .inl (iA f1_214)))]) hP hD [1, 2] [0, 3, 4, 5, 6, 7, 8, 9] rfl rfl (by decide) (by decide) hk1 hFc hP1 hD1
                have hP := hP.sub (ws' := [(ax, .inr (1, [.ref adr, .ref ait, .int (I3 mn), .ref wp, .ref wq, .ref wr, .ref ws, .ref wt, .ref wu, .ref wv, .ref wx, .ref wy, .ref wz, .int (I3 sg), .long (L6 rch), .int (I3 lft), .int (I3 isl)])), (wp, .inr (2, [.ref wpw, .int (I3 n1_214)])), (wpw, .inl (dA 0, 36, .inl (iA f1_214))), (wq, .inr (2, [.ref wqw, .int (I3 n2_180)])), (wqw, .inl (dA 0, 36, .inl (iA f2_180))), (wr, .inr (2, [.ref wrw, .int (I3 n1_166)])), (wrw, .inl (dA 0, 36, .inl (iA f1_166))), (wt, .inr (2, [.ref wtw, .int (I3 n1_195)])), (wtw, .inl (dA 0, 36, .inl (iA f1_195))), (ait, .inl (dA 3, 60, .inr (.inr (.inr (.inr (it))))))]) [0, 8, 9, 1, 2, 3, 4, 5, 6, 7] rfl
                have hD := hD.sub (ws' := [(ax, .inr (1, [.ref adr, .ref ait, .int (I3 mn), .ref wp, .ref wq, .ref wr, .ref ws, .ref wt, .ref wu, .ref wv, .ref wx, .ref wy, .ref wz, .int (I3 sg), .long (L6 rch), .int (I3 lft), .int (I3 isl)])), (wp, .inr (2, [.ref wpw, .int (I3 n1_214)])), (wpw, .inl (dA 0, 36, .inl (iA f1_214))), (wq, .inr (2, [.ref wqw, .int (I3 n2_180)])), (wqw, .inl (dA 0, 36, .inl (iA f2_180))), (wr, .inr (2, [.ref wrw, .int (I3 n1_166)])), (wrw, .inl (dA 0, 36, .inl (iA f1_166))), (wt, .inr (2, [.ref wtw, .int (I3 n1_195)])), (wtw, .inl (dA 0, 36, .inl (iA f1_195))), (ait, .inl (dA 3, 60, .inr (.inr (.inr (.inr (it))))))]) [0, 8, 9, 1, 2, 3, 4, 5, 6, 7] (by decide) rfl
                generalize H1 = H at hP hS ⊢
                refine lv_aload_n hx hb dX1_meets_217 rfl (lv_at hl 3 rfl) ?_
                refine va_get (D := (dC, dI)) (ci := 1) (v := .ref wt) (C := RX1) (T := TX1) (N := 17) hx hb hts in_X1 hown hK hP 0 rfl rfl 7 (by decide) (hts _ q152) (fun _ h9 => h9) rfl dX1_meets_218 ?_
                refine lv_iload hx hb dX1_meets_221 (lv_at hl 0 rfl) ?_
                refine ix_if_le (tgt := 231) hx hb (by first | assumption | decide | (constructor <;> omega)) dX1_meets_223 (by decide) (fun c_223 => ?_) (fun c_223 => ?_)
                · skip
                  refine lv_iconst (v := I3 (0)) hx hb dX1_meets_231 rfl ?_
                  have h_114 : OKw n1_195 f1_195 := by exact p0_195
                  have h_115 : 0 ≤ (0 : Int) ∧ (0 : Int) < 100000 := by exact ⟨by omega, by omega⟩
                  have h_116 : n1_195 = 0 ∨ n1_195 + (0 : Int) / 32 + 1 ≤ 36 := by right; omega
                  have hPc := hP.sub (ws' := [(wt, .inr (2, [.ref wtw, .int (I3 n1_195)])), (wtw, .inl (dA 0, 36, .inl (iA f1_195)))]) [7, 8] rfl
                  have hDc := hD.sub (ws' := [(wt, .inr (2, [.ref wtw, .int (I3 n1_195)])), (wtw, .inl (dA 0, 36, .inl (iA f1_195)))]) [7, 8] (by decide) rfl
                  have hFc := va_free (wc := [(wt, .inr (2, [.ref wtw, .int (I3 n1_195)])), (wtw, .inl (dA 0, 36, .inl (iA f1_195)))]) hD hS hA [7, 8] rfl
                  refine va_callv (va_runV (As := [.int (I3 0)]) (rest := []) ⟨hx, hb, hml, hown, hts⟩ (metX7_up l dC dI dA wt wtw H.size n1_195 f1_195 0 h_114 h_115 h_116) (cwV 1 hts (lw_V q379 q380 q381 q65 q382) rfl rfl rfl (by decide +kernel) ⟨Nat.le_of_ble_eq_true rfl, Nat.le_of_ble_eq_true rfl⟩) ⟨fun a U g mk q => by obtain ⟨q0, q1, qP, qK, qD⟩ := q; exact ⟨q0, q1, qP, va_K.moved (u := U) (U := U.calling g mk a) (Vm.Alike.refl U.vm) qK, qD⟩, va_recv hK hP (ci := 2) (q0 := 7) rfl rfl, fun U hU hW => ⟨rfl, by rw [hU], by rw [hU]; exact hPc, va_K.moved hW.alike hK, hDc.weaken (fun _ _ _ _ => trivial)⟩⟩ rfl rfl hl.1 rfl (lv_room (Nat.le_of_ble_eq_true rfl)) dX1_meets_232 ⟨Nat.le_of_ble_eq_true rfl, Nat.le_of_ble_eq_true rfl⟩) hS (fun q _ h => hFc q h) hFc (fun u t H1 locs ht hvm hw hB hz1 hk1 hS => ?_)
                  obtain ⟨n1_232, f1_232⟩ := u
                  obtain ⟨p0_232, p1_232⟩ : (OKw n1_232 f1_232) ∧ (wN n1_232 f1_232 = wN n1_195 f1_195 * 2 ^ (0 : Int).toNat) := hw
                  obtain ⟨hP1, hK1, hD1⟩ := hB
                  rw [ht] at hP1
                  obtain ⟨hP, hD⟩ := va_join (wr := [(ax, .inr (1, [.ref adr, .ref ait, .int (I3 mn), .ref wp, .ref wq, .ref wr, .ref ws, .ref wt, .ref wu, .ref wv, .ref wx, .ref wy, .ref wz, .int (I3 sg), .long (L6 rch), .int (I3 lft), .int (I3 isl)])), (wp, .inr (2, [.ref wpw, .int (I3 n1_214)])), (wpw, .inl (dA 0, 36, .inl (iA f1_214))), (wq, .inr (2, [.ref wqw, .int (I3 n2_180)])), (wqw, .inl (dA 0, 36, .inl (iA f2_180))), (wr, .inr (2, [.ref wrw, .int (I3 n1_166)])), (wrw, .inl (dA 0, 36, .inl (iA f1_166))), (ait, .inl (dA 3, 60, .inr (.inr (.inr (.inr (it))))))]) (w1 := [(wt, .inr (2, [.ref wtw, .int (I3 n1_232)])), (wtw, .inl (dA 0, 36, .inl (iA f1_232)))]) hP hD [7, 8] [0, 1, 2, 3, 4, 5, 6, 9] rfl rfl (by decide) (by decide) hk1 hFc hP1 hD1
                  have hP := hP.sub (ws' := [(ax, .inr (1, [.ref adr, .ref ait, .int (I3 mn), .ref wp, .ref wq, .ref wr, .ref ws, .ref wt, .ref wu, .ref wv, .ref wx, .ref wy, .ref wz, .int (I3 sg), .long (L6 rch), .int (I3 lft), .int (I3 isl)])), (wp, .inr (2, [.ref wpw, .int (I3 n1_214)])), (wpw, .inl (dA 0, 36, .inl (iA f1_214))), (wq, .inr (2, [.ref wqw, .int (I3 n2_180)])), (wqw, .inl (dA 0, 36, .inl (iA f2_180))), (wr, .inr (2, [.ref wrw, .int (I3 n1_166)])), (wrw, .inl (dA 0, 36, .inl (iA f1_166))), (wt, .inr (2, [.ref wtw, .int (I3 n1_232)])), (wtw, .inl (dA 0, 36, .inl (iA f1_232))), (ait, .inl (dA 3, 60, .inr (.inr (.inr (.inr (it))))))]) [0, 1, 2, 3, 4, 5, 6, 8, 9, 7] rfl
                  have hD := hD.sub (ws' := [(ax, .inr (1, [.ref adr, .ref ait, .int (I3 mn), .ref wp, .ref wq, .ref wr, .ref ws, .ref wt, .ref wu, .ref wv, .ref wx, .ref wy, .ref wz, .int (I3 sg), .long (L6 rch), .int (I3 lft), .int (I3 isl)])), (wp, .inr (2, [.ref wpw, .int (I3 n1_214)])), (wpw, .inl (dA 0, 36, .inl (iA f1_214))), (wq, .inr (2, [.ref wqw, .int (I3 n2_180)])), (wqw, .inl (dA 0, 36, .inl (iA f2_180))), (wr, .inr (2, [.ref wrw, .int (I3 n1_166)])), (wrw, .inl (dA 0, 36, .inl (iA f1_166))), (wt, .inr (2, [.ref wtw, .int (I3 n1_232)])), (wtw, .inl (dA 0, 36, .inl (iA f1_232))), (ait, .inl (dA 3, 60, .inr (.inr (.inr (.inr (it))))))]) [0, 1, 2, 3, 4, 5, 6, 8, 9, 7] (by decide) rfl
                  generalize H1 = H at hP hS ⊢
                  refine lv_aload_n hx hb dX1_meets_235 rfl (lv_at hl 3 rfl) ?_
                  refine va_get (D := (dC, dI)) (ci := 1) (v := .ref wp) (C := RX1) (T := TX1) (N := 17) hx hb hts in_X1 hown hK hP 0 rfl rfl 3 (by decide) (hts _ q148) (fun _ h9 => h9) rfl dX1_meets_236 ?_
                  refine lv_aload_n hx hb dX1_meets_239 rfl (lv_at hl 3 rfl) ?_
                  refine va_get (D := (dC, dI)) (ci := 1) (v := .ref wt) (C := RX1) (T := TX1) (N := 17) hx hb hts in_X1 hown hK hP 0 rfl rfl 7 (by decide) (hts _ q152) (fun _ h9 => h9) rfl dX1_meets_240 ?_
                  have h_117 : OKw n1_214 f1_214 := by exact p0_214
                  have h_118 : OKw n1_232 f1_232 := by exact p0_232
                  have hPc := hP.sub (ws' := [(wp, .inr (2, [.ref wpw, .int (I3 n1_214)])), (wpw, .inl (dA 0, 36, .inl (iA f1_214))), (wt, .inr (2, [.ref wtw, .int (I3 n1_232)])), (wtw, .inl (dA 0, 36, .inl (iA f1_232)))]) [1, 2, 7, 8] rfl
                  have hDc := hD.sub (ws' := [(wp, .inr (2, [.ref wpw, .int (I3 n1_214)])), (wpw, .inl (dA 0, 36, .inl (iA f1_214))), (wt, .inr (2, [.ref wtw, .int (I3 n1_232)])), (wtw, .inl (dA 0, 36, .inl (iA f1_232)))]) [1, 2, 7, 8] (by decide) rfl
                  have hFc := va_free (wc := [(wp, .inr (2, [.ref wpw, .int (I3 n1_214)])), (wpw, .inl (dA 0, 36, .inl (iA f1_214))), (wt, .inr (2, [.ref wtw, .int (I3 n1_232)])), (wtw, .inl (dA 0, 36, .inl (iA f1_232)))]) hD hS hA [1, 2, 7, 8] rfl
                  refine va_calli (va_runV (As := [.ref wt]) (rest := []) ⟨hx, hb, hml, hown, hts⟩ (metX7_compare l dC dI dA wp wpw wt wtw H.size n1_214 f1_214 n1_232 f1_232 h_117 h_118) (cwV 1 hts (lw_V q364 q365 q366 q65 q367) rfl rfl rfl (by decide +kernel) ⟨Nat.le_of_ble_eq_true rfl, Nat.le_of_ble_eq_true rfl⟩) ⟨fun a U g mk q => by obtain ⟨q0, q1, qP, qK, qD⟩ := q; exact ⟨q0, q1, qP, va_K.moved (u := U) (U := U.calling g mk a) (Vm.Alike.refl U.vm) qK, qD⟩, va_recv hK hP (ci := 2) (q0 := 1) rfl rfl, fun U hU hW => ⟨rfl, by rw [hU], by rw [hU]; exact hPc, va_K.moved hW.alike hK, hDc.weaken (fun _ _ _ _ => trivial)⟩⟩ rfl rfl hl.1 rfl (lv_room (Nat.le_of_ble_eq_true rfl)) dX1_meets_243 ⟨Nat.le_of_ble_eq_true rfl, Nat.le_of_ble_eq_true rfl⟩) hS (fun q _ h => hFc q h) hFc (fun r_243 u t H1 locs ht hvm hw hB hz1 hk1 hS => ?_)
                  obtain ⟨z_243, rfl⟩ : ∃ z, z = u := ⟨_, rfl⟩
                  obtain ⟨rfl, p0_243⟩ : r_243 = I3 z_243 ∧ (z_243 = cmpN (wN n1_214 f1_214) (wN n1_232 f1_232)) := hw
                  obtain ⟨hP1, hK1, hD1⟩ := hB
                  rw [ht] at hP1
                  obtain ⟨hP, hD⟩ := va_join (wr := [(ax, .inr (1, [.ref adr, .ref ait, .int (I3 mn), .ref wp, .ref wq, .ref wr, .ref ws, .ref wt, .ref wu, .ref wv, .ref wx, .ref wy, .ref wz, .int (I3 sg), .long (L6 rch), .int (I3 lft), .int (I3 isl)])), (wq, .inr (2, [.ref wqw, .int (I3 n2_180)])), (wqw, .inl (dA 0, 36, .inl (iA f2_180))), (wr, .inr (2, [.ref wrw, .int (I3 n1_166)])), (wrw, .inl (dA 0, 36, .inl (iA f1_166))), (ait, .inl (dA 3, 60, .inr (.inr (.inr (.inr (it))))))]) (w1 := [(wp, .inr (2, [.ref wpw, .int (I3 n1_214)])), (wpw, .inl (dA 0, 36, .inl (iA f1_214))), (wt, .inr (2, [.ref wtw, .int (I3 n1_232)])), (wtw, .inl (dA 0, 36, .inl (iA f1_232)))]) hP hD [1, 2, 7, 8] [0, 3, 4, 5, 6, 9] rfl rfl (by decide) (by decide) hk1 hFc hP1 hD1
                  have hP := hP.sub (ws' := [(ax, .inr (1, [.ref adr, .ref ait, .int (I3 mn), .ref wp, .ref wq, .ref wr, .ref ws, .ref wt, .ref wu, .ref wv, .ref wx, .ref wy, .ref wz, .int (I3 sg), .long (L6 rch), .int (I3 lft), .int (I3 isl)])), (wp, .inr (2, [.ref wpw, .int (I3 n1_214)])), (wpw, .inl (dA 0, 36, .inl (iA f1_214))), (wq, .inr (2, [.ref wqw, .int (I3 n2_180)])), (wqw, .inl (dA 0, 36, .inl (iA f2_180))), (wr, .inr (2, [.ref wrw, .int (I3 n1_166)])), (wrw, .inl (dA 0, 36, .inl (iA f1_166))), (wt, .inr (2, [.ref wtw, .int (I3 n1_232)])), (wtw, .inl (dA 0, 36, .inl (iA f1_232))), (ait, .inl (dA 3, 60, .inr (.inr (.inr (.inr (it))))))]) [0, 6, 7, 1, 2, 3, 4, 8, 9, 5] rfl
                  have hD := hD.sub (ws' := [(ax, .inr (1, [.ref adr, .ref ait, .int (I3 mn), .ref wp, .ref wq, .ref wr, .ref ws, .ref wt, .ref wu, .ref wv, .ref wx, .ref wy, .ref wz, .int (I3 sg), .long (L6 rch), .int (I3 lft), .int (I3 isl)])), (wp, .inr (2, [.ref wpw, .int (I3 n1_214)])), (wpw, .inl (dA 0, 36, .inl (iA f1_214))), (wq, .inr (2, [.ref wqw, .int (I3 n2_180)])), (wqw, .inl (dA 0, 36, .inl (iA f2_180))), (wr, .inr (2, [.ref wrw, .int (I3 n1_166)])), (wrw, .inl (dA 0, 36, .inl (iA f1_166))), (wt, .inr (2, [.ref wtw, .int (I3 n1_232)])), (wtw, .inl (dA 0, 36, .inl (iA f1_232))), (ait, .inl (dA 3, 60, .inr (.inr (.inr (.inr (it))))))]) [0, 6, 7, 1, 2, 3, 4, 8, 9, 5] (by decide) rfl
                  generalize H1 = H at hP hS ⊢
                  have e_243 : z_243 = cmpN (pv VL a * 2 ^ (-plX v).toNat) (qv VL a * (fX v).toNat * 2 ^ (plX v).toNat) := by rw [p0_243, p1_214, p1_180, p1_232, p1_195, p1_166, p2_153, p3_180, Nat.mul_comm (fX v).toNat]; exact o_e9 (by first | exact o_t1 p0_153 | exact o_t0 p0_153 c_204) (by first | exact o_t3 p0_153 | exact o_t2 p0_153 c_223)
                  have y_243 := cmpN3 p0_243
                  refine lv_istore (lv' := [(10, .int (I3 z_243)), (9, .int (I3 z_153)), (8, .int (I3 z_97)), (7, .int (I3 o9)), (0, .ref ax), (1, .int (I3 a)), (2, .long (L6 v)), (4, .ref ai), (5, .double (dX v))]) hx hb dX1_meets_246 hl (by decide) rfl (fun ls hl => ?_)
                  refine lv_iload hx hb dX1_meets_248 (lv_at hl 0 rfl) ?_
                  refine ix_if_ne (tgt := 257) hx hb (by exact o_in3 (o_c3 y_243)) dX1_meets_250 (by decide) (fun c_250 => ?_) (fun c_250 => ?_)
                  · skip
                    refine lv_iload hx hb dX1_meets_257 (lv_at hl 0 rfl) ?_
                    refine ix_if_ge (tgt := 266) hx hb (by exact o_in3 (o_c3 y_243)) dX1_meets_259 (by decide) (fun c_259 => ?_) (fun c_259 => ?_)
                    · skip
                      refine lv_iconst (v := I3 (0)) hx hb dX1_meets_266 rfl ?_
                      refine lv_iload hx hb dX1_meets_267 (lv_at hl 3 rfl) ?_
                      refine ix_if_le (tgt := 276) hx hb (by exact o_o3 ho3) dX1_meets_269 (by decide) (fun c_269 => ?_) (fun c_269 => ?_)
                      · skip
                        refine lv_iconst (v := I3 (0)) hx hb dX1_meets_276 rfl ?_
                        refine ix_icmp_ne (tgt := 284) hx hb (by first | assumption | decide | (constructor <;> omega)) (by first | assumption | decide | (constructor <;> omega)) dX1_meets_277 (by decide) (fun c_277 => ?_) (fun c_277 => ?_)
                        · skip
                          exact absurd c_277 (by decide)
                        · skip
                          refine lv_iconst (v := I3 (-1)) hx hb dX1_meets_280 rfl ?_
                          refine lv_goto (tgt := 285) hx hb dX1_meets_281 (by decide) ?_
                          have o_119 : (-1 : Int) = meS SG VL a v := by rw [hm_, meT_e c_69, ← e_243]; first | exact o_cm0 c_250 | exact o_cm1 (o_g3 ho3) (o_c3 y_243) c_259 c_269 | exact o_cm2 (o_g3 ho3) (o_c3 y_243) (fun q => absurd q c_90) c_250 c_259 c_269 | exact o_cm3 (o_g3 ho3) (o_c3 y_243) (fun q => absurd q c_90) c_259 c_269 | exact o_cm4 (o_g3 ho3) (o_c3 y_243) c_250 c_259 c_269
                          have o_120 : (0 ≤ a ∧ a < mn) := by exact hnum
                          have o_121 : Dg f1_214 := by exact p0_214.2.1
                          have o_122 : Dg f2_180 := by exact p2_180.2.1
                          have o_123 : Dg f1_166 := by exact p0_166.2.1
                          have o_124 : Dg f1_232 := by exact p0_232.2.1
                          refine vx_ret ?_
                          exact W.iret (v := I3 (-1)) hx hb hr (fun t ht hW => ⟨⟨I3 (-1), ((-1), n1_214, f1_214, n2_180, f2_180, n1_166, f1_166, n1_232, f1_232), rfl, ⟨rfl, ⟨o_119, o_120, o_121, o_122, o_123, o_124⟩⟩, by rw [ht]; exact hP, va_K.moved hW.alike hK, hD⟩, hS.F ht⟩) hS.2.2 dX1_meets_285
                      · skip
                        refine lv_iconst (v := I3 (1)) hx hb dX1_meets_272 rfl ?_
                        refine lv_goto (tgt := 277) hx hb dX1_meets_273 (by decide) ?_
                        refine ix_icmp_ne (tgt := 284) hx hb (by first | assumption | decide | (constructor <;> omega)) (by first | assumption | decide | (constructor <;> omega)) dX1_meets_277 (by decide) (fun c_277 => ?_) (fun c_277 => ?_)
                        · skip
                          refine lv_iconst (v := I3 (1)) hx hb dX1_meets_284 rfl ?_
                          have o_125 : (1 : Int) = meS SG VL a v := by rw [hm_, meT_e c_69, ← e_243]; first | exact o_cm0 c_250 | exact o_cm1 (o_g3 ho3) (o_c3 y_243) c_259 c_269 | exact o_cm2 (o_g3 ho3) (o_c3 y_243) (fun q => absurd q c_90) c_250 c_259 c_269 | exact o_cm3 (o_g3 ho3) (o_c3 y_243) (fun q => absurd q c_90) c_259 c_269 | exact o_cm4 (o_g3 ho3) (o_c3 y_243) c_250 c_259 c_269
                          have o_126 : (0 ≤ a ∧ a < mn) := by exact hnum
                          have o_127 : Dg f1_214 := by exact p0_214.2.1
                          have o_128 : Dg f2_180 := by exact p2_180.2.1
                          have o_129 : Dg f1_166 := by exact p0_166.2.1
                          have o_130 : Dg f1_232 := by exact p0_232.2.1
                          refine vx_ret ?_
                          exact W.iret (v := I3 1) hx hb hr (fun t ht hW => ⟨⟨I3 1, (1, n1_214, f1_214, n2_180, f2_180, n1_166, f1_166, n1_232, f1_232), rfl, ⟨rfl, ⟨o_125, o_126, o_127, o_128, o_129, o_130⟩⟩, by rw [ht]; exact hP, va_K.moved hW.alike hK, hD⟩, hS.F ht⟩) hS.2.2 dX1_meets_285
                        · skip
                          exact absurd c_277 (by decide)
                    · skip
                      refine lv_iconst (v := I3 (1)) hx hb dX1_meets_262 rfl ?_
                      refine lv_goto (tgt := 267) hx hb dX1_meets_263 (by decide) ?_
                      refine lv_iload hx hb dX1_meets_267 (lv_at hl 3 rfl) ?_
                      refine ix_if_le (tgt := 276) hx hb (by exact o_o3 ho3) dX1_meets_269 (by decide) (fun c_269 => ?_) (fun c_269 => ?_)
                      · skip
                        refine lv_iconst (v := I3 (0)) hx hb dX1_meets_276 rfl ?_
                        refine ix_icmp_ne (tgt := 284) hx hb (by first | assumption | decide | (constructor <;> omega)) (by first | assumption | decide | (constructor <;> omega)) dX1_meets_277 (by decide) (fun c_277 => ?_) (fun c_277 => ?_)
                        · skip
                          refine lv_iconst (v := I3 (1)) hx hb dX1_meets_284 rfl ?_
                          have o_131 : (1 : Int) = meS SG VL a v := by rw [hm_, meT_e c_69, ← e_243]; first | exact o_cm0 c_250 | exact o_cm1 (o_g3 ho3) (o_c3 y_243) c_259 c_269 | exact o_cm2 (o_g3 ho3) (o_c3 y_243) (fun q => absurd q c_90) c_250 c_259 c_269 | exact o_cm3 (o_g3 ho3) (o_c3 y_243) (fun q => absurd q c_90) c_259 c_269 | exact o_cm4 (o_g3 ho3) (o_c3 y_243) c_250 c_259 c_269
                          have o_132 : (0 ≤ a ∧ a < mn) := by exact hnum
                          have o_133 : Dg f1_214 := by exact p0_214.2.1
                          have o_134 : Dg f2_180 := by exact p2_180.2.1
                          have o_135 : Dg f1_166 := by exact p0_166.2.1
                          have o_136 : Dg f1_232 := by exact p0_232.2.1
                          refine vx_ret ?_
                          exact W.iret (v := I3 1) hx hb hr (fun t ht hW => ⟨⟨I3 1, (1, n1_214, f1_214, n2_180, f2_180, n1_166, f1_166, n1_232, f1_232), rfl, ⟨rfl, ⟨o_131, o_132, o_133, o_134, o_135, o_136⟩⟩, by rw [ht]; exact hP, va_K.moved hW.alike hK, hD⟩, hS.F ht⟩) hS.2.2 dX1_meets_285
                        · skip
                          exact absurd c_277 (by decide)
                      · skip
                        refine lv_iconst (v := I3 (1)) hx hb dX1_meets_272 rfl ?_
                        refine lv_goto (tgt := 277) hx hb dX1_meets_273 (by decide) ?_
                        refine ix_icmp_ne (tgt := 284) hx hb (by first | assumption | decide | (constructor <;> omega)) (by first | assumption | decide | (constructor <;> omega)) dX1_meets_277 (by decide) (fun c_277 => ?_) (fun c_277 => ?_)
                        · skip
                          exact absurd c_277 (by decide)
                        · skip
                          refine lv_iconst (v := I3 (-1)) hx hb dX1_meets_280 rfl ?_
                          refine lv_goto (tgt := 285) hx hb dX1_meets_281 (by decide) ?_
                          have o_137 : (-1 : Int) = meS SG VL a v := by rw [hm_, meT_e c_69, ← e_243]; first | exact o_cm0 c_250 | exact o_cm1 (o_g3 ho3) (o_c3 y_243) c_259 c_269 | exact o_cm2 (o_g3 ho3) (o_c3 y_243) (fun q => absurd q c_90) c_250 c_259 c_269 | exact o_cm3 (o_g3 ho3) (o_c3 y_243) (fun q => absurd q c_90) c_259 c_269 | exact o_cm4 (o_g3 ho3) (o_c3 y_243) c_250 c_259 c_269
                          have o_138 : (0 ≤ a ∧ a < mn) := by exact hnum
                          have o_139 : Dg f1_214 := by exact p0_214.2.1
                          have o_140 : Dg f2_180 := by exact p2_180.2.1
                          have o_141 : Dg f1_166 := by exact p0_166.2.1
                          have o_142 : Dg f1_232 := by exact p0_232.2.1
                          refine vx_ret ?_
                          exact W.iret (v := I3 (-1)) hx hb hr (fun t ht hW => ⟨⟨I3 (-1), ((-1), n1_214, f1_214, n2_180, f2_180, n1_166, f1_166, n1_232, f1_232), rfl, ⟨rfl, ⟨o_137, o_138, o_139, o_140, o_141, o_142⟩⟩, by rw [ht]; exact hP, va_K.moved hW.alike hK, hD⟩, hS.F ht⟩) hS.2.2 dX1_meets_285
                  · skip
                    refine lv_iconst (v := I3 (0)) hx hb dX1_meets_253 rfl ?_
                    refine lv_goto (tgt := 285) hx hb dX1_meets_254 (by decide) ?_
                    have o_143 : (0 : Int) = meS SG VL a v := by rw [hm_, meT_e c_69, ← e_243]; first | exact o_cm0 c_250 | exact o_cm1 (o_g3 ho3) (o_c3 y_243) c_259 c_269 | exact o_cm2 (o_g3 ho3) (o_c3 y_243) (fun q => absurd q c_90) c_250 c_259 c_269 | exact o_cm3 (o_g3 ho3) (o_c3 y_243) (fun q => absurd q c_90) c_259 c_269 | exact o_cm4 (o_g3 ho3) (o_c3 y_243) c_250 c_259 c_269
                    have o_144 : (0 ≤ a ∧ a < mn) := by exact hnum
                    have o_145 : Dg f1_214 := by exact p0_214.2.1
                    have o_146 : Dg f2_180 := by exact p2_180.2.1
                    have o_147 : Dg f1_166 := by exact p0_166.2.1
                    have o_148 : Dg f1_232 := by exact p0_232.2.1
                    refine vx_ret ?_
                    exact W.iret (v := I3 0) hx hb hr (fun t ht hW => ⟨⟨I3 0, (0, n1_214, f1_214, n2_180, f2_180, n1_166, f1_166, n1_232, f1_232), rfl, ⟨rfl, ⟨o_143, o_144, o_145, o_146, o_147, o_148⟩⟩, by rw [ht]; exact hP, va_K.moved hW.alike hK, hD⟩, hS.F ht⟩) hS.2.2 dX1_meets_285
                · skip
                  refine lv_iload hx hb dX1_meets_226 (lv_at hl 0 rfl) ?_
                  refine lv_goto (tgt := 232) hx hb dX1_meets_228 (by decide) ?_
                  have h_149 : OKw n1_195 f1_195 := by exact p0_195
                  have h_150 : 0 ≤ z_153 ∧ z_153 < 100000 := by exact ⟨by omega, by omega⟩
                  have h_151 : n1_195 = 0 ∨ n1_195 + z_153 / 32 + 1 ≤ 36 := by right; omega
                  have hPc := hP.sub (ws' := [(wt, .inr (2, [.ref wtw, .int (I3 n1_195)])), (wtw, .inl (dA 0, 36, .inl (iA f1_195)))]) [7, 8] rfl
                  have hDc := hD.sub (ws' := [(wt, .inr (2, [.ref wtw, .int (I3 n1_195)])), (wtw, .inl (dA 0, 36, .inl (iA f1_195)))]) [7, 8] (by decide) rfl
                  have hFc := va_free (wc := [(wt, .inr (2, [.ref wtw, .int (I3 n1_195)])), (wtw, .inl (dA 0, 36, .inl (iA f1_195)))]) hD hS hA [7, 8] rfl
                  refine va_callv (va_runV (As := [.int (I3 z_153)]) (rest := []) ⟨hx, hb, hml, hown, hts⟩ (metX7_up l dC dI dA wt wtw H.size n1_195 f1_195 z_153 h_149 h_150 h_151) (cwV 1 hts (lw_V q379 q380 q381 q65 q382) rfl rfl rfl (by decide +kernel) ⟨Nat.le_of_ble_eq_true rfl, Nat.le_of_ble_eq_true rfl⟩) ⟨fun a U g mk q => by obtain ⟨q0, q1, qP, qK, qD⟩ := q; exact ⟨q0, q1, qP, va_K.moved (u := U) (U := U.calling g mk a) (Vm.Alike.refl U.vm) qK, qD⟩, va_recv hK hP (ci := 2) (q0 := 7) rfl rfl, fun U hU hW => ⟨rfl, by rw [hU], by rw [hU]; exact hPc, va_K.moved hW.alike hK, hDc.weaken (fun _ _ _ _ => trivial)⟩⟩ rfl rfl hl.1 rfl (lv_room (Nat.le_of_ble_eq_true rfl)) dX1_meets_232 ⟨Nat.le_of_ble_eq_true rfl, Nat.le_of_ble_eq_true rfl⟩) hS (fun q _ h => hFc q h) hFc (fun u t H1 locs ht hvm hw hB hz1 hk1 hS => ?_)
                  obtain ⟨n1_232, f1_232⟩ := u
                  obtain ⟨p0_232, p1_232⟩ : (OKw n1_232 f1_232) ∧ (wN n1_232 f1_232 = wN n1_195 f1_195 * 2 ^ z_153.toNat) := hw
                  obtain ⟨hP1, hK1, hD1⟩ := hB
                  rw [ht] at hP1
                  obtain ⟨hP, hD⟩ := va_join (wr := [(ax, .inr (1, [.ref adr, .ref ait, .int (I3 mn), .ref wp, .ref wq, .ref wr, .ref ws, .ref wt, .ref wu, .ref wv, .ref wx, .ref wy, .ref wz, .int (I3 sg), .long (L6 rch), .int (I3 lft), .int (I3 isl)])), (wp, .inr (2, [.ref wpw, .int (I3 n1_214)])), (wpw, .inl (dA 0, 36, .inl (iA f1_214))), (wq, .inr (2, [.ref wqw, .int (I3 n2_180)])), (wqw, .inl (dA 0, 36, .inl (iA f2_180))), (wr, .inr (2, [.ref wrw, .int (I3 n1_166)])), (wrw, .inl (dA 0, 36, .inl (iA f1_166))), (ait, .inl (dA 3, 60, .inr (.inr (.inr (.inr (it))))))]) (w1 := [(wt, .inr (2, [.ref wtw, .int (I3 n1_232)])), (wtw, .inl (dA 0, 36, .inl (iA f1_232)))]) hP hD [7, 8] [0, 1, 2, 3, 4, 5, 6, 9] rfl rfl (by decide) (by decide) hk1 hFc hP1 hD1
                  have hP := hP.sub (ws' := [(ax, .inr (1, [.ref adr, .ref ait, .int (I3 mn), .ref wp, .ref wq, .ref wr, .ref ws, .ref wt, .ref wu, .ref wv, .ref wx, .ref wy, .ref wz, .int (I3 sg), .long (L6 rch), .int (I3 lft), .int (I3 isl)])), (wp, .inr (2, [.ref wpw, .int (I3 n1_214)])), (wpw, .inl (dA 0, 36, .inl (iA f1_214))), (wq, .inr (2, [.ref wqw, .int (I3 n2_180)])), (wqw, .inl (dA 0, 36, .inl (iA f2_180))), (wr, .inr (2, [.ref wrw, .int (I3 n1_166)])), (wrw, .inl (dA 0, 36, .inl (iA f1_166))), (wt, .inr (2, [.ref wtw, .int (I3 n1_232)])), (wtw, .inl (dA 0, 36, .inl (iA f1_232))), (ait, .inl (dA 3, 60, .inr (.inr (.inr (.inr (it))))))]) [0, 1, 2, 3, 4, 5, 6, 8, 9, 7] rfl
                  have hD := hD.sub (ws' := [(ax, .inr (1, [.ref adr, .ref ait, .int (I3 mn), .ref wp, .ref wq, .ref wr, .ref ws, .ref wt, .ref wu, .ref wv, .ref wx, .ref wy, .ref wz, .int (I3 sg), .long (L6 rch), .int (I3 lft), .int (I3 isl)])), (wp, .inr (2, [.ref wpw, .int (I3 n1_214)])), (wpw, .inl (dA 0, 36, .inl (iA f1_214))), (wq, .inr (2, [.ref wqw, .int (I3 n2_180)])), (wqw, .inl (dA 0, 36, .inl (iA f2_180))), (wr, .inr (2, [.ref wrw, .int (I3 n1_166)])), (wrw, .inl (dA 0, 36, .inl (iA f1_166))), (wt, .inr (2, [.ref wtw, .int (I3 n1_232)])), (wtw, .inl (dA 0, 36, .inl (iA f1_232))), (ait, .inl (dA 3, 60, .inr (.inr (.inr (.inr (it))))))]) [0, 1, 2, 3, 4, 5, 6, 8, 9, 7] (by decide) rfl
                  generalize H1 = H at hP hS ⊢
                  refine lv_aload_n hx hb dX1_meets_235 rfl (lv_at hl 3 rfl) ?_
                  refine va_get (D := (dC, dI)) (ci := 1) (v := .ref wp) (C := RX1) (T := TX1) (N := 17) hx hb hts in_X1 hown hK hP 0 rfl rfl 3 (by decide) (hts _ q148) (fun _ h9 => h9) rfl dX1_meets_236 ?_
                  refine lv_aload_n hx hb dX1_meets_239 rfl (lv_at hl 3 rfl) ?_
                  refine va_get (D := (dC, dI)) (ci := 1) (v := .ref wt) (C := RX1) (T := TX1) (N := 17) hx hb hts in_X1 hown hK hP 0 rfl rfl 7 (by decide) (hts _ q152) (fun _ h9 => h9) rfl dX1_meets_240 ?_
                  have h_152 : OKw n1_214 f1_214 := by exact p0_214
                  have h_153 : OKw n1_232 f1_232 := by exact p0_232
                  have hPc := hP.sub (ws' := [(wp, .inr (2, [.ref wpw, .int (I3 n1_214)])), (wpw, .inl (dA 0, 36, .inl (iA f1_214))), (wt, .inr (2, [.ref wtw, .int (I3 n1_232)])), (wtw, .inl (dA 0, 36, .inl (iA f1_232)))]) [1, 2, 7, 8] rfl
                  have hDc := hD.sub (ws' := [(wp, .inr (2, [.ref wpw, .int (I3 n1_214)])), (wpw, .inl (dA 0, 36, .inl (iA f1_214))), (wt, .inr (2, [.ref wtw, .int (I3 n1_232)])), (wtw, .inl (dA 0, 36, .inl (iA f1_232)))]) [1, 2, 7, 8] (by decide) rfl
                  have hFc := va_free (wc := [(wp, .inr (2, [.ref wpw, .int (I3 n1_214)])), (wpw, .inl (dA 0, 36, .inl (iA f1_214))), (wt, .inr (2, [.ref wtw, .int (I3 n1_232)])), (wtw, .inl (dA 0, 36, .inl (iA f1_232)))]) hD hS hA [1, 2, 7, 8] rfl
                  refine va_calli (va_runV (As := [.ref wt]) (rest := []) ⟨hx, hb, hml, hown, hts⟩ (metX7_compare l dC dI dA wp wpw wt wtw H.size n1_214 f1_214 n1_232 f1_232 h_152 h_153) (cwV 1 hts (lw_V q364 q365 q366 q65 q367) rfl rfl rfl (by decide +kernel) ⟨Nat.le_of_ble_eq_true rfl, Nat.le_of_ble_eq_true rfl⟩) ⟨fun a U g mk q => by obtain ⟨q0, q1, qP, qK, qD⟩ := q; exact ⟨q0, q1, qP, va_K.moved (u := U) (U := U.calling g mk a) (Vm.Alike.refl U.vm) qK, qD⟩, va_recv hK hP (ci := 2) (q0 := 1) rfl rfl, fun U hU hW => ⟨rfl, by rw [hU], by rw [hU]; exact hPc, va_K.moved hW.alike hK, hDc.weaken (fun _ _ _ _ => trivial)⟩⟩ rfl rfl hl.1 rfl (lv_room (Nat.le_of_ble_eq_true rfl)) dX1_meets_243 ⟨Nat.le_of_ble_eq_true rfl, Nat.le_of_ble_eq_true rfl⟩) hS (fun q _ h => hFc q h) hFc (fun r_243 u t H1 locs ht hvm hw hB hz1 hk1 hS => ?_)
                  obtain ⟨z_243, rfl⟩ : ∃ z, z = u := ⟨_, rfl⟩
                  obtain ⟨rfl, p0_243⟩ : r_243 = I3 z_243 ∧ (z_243 = cmpN (wN n1_214 f1_214) (wN n1_232 f1_232)) := hw
                  obtain ⟨hP1, hK1, hD1⟩ := hB
                  rw [ht] at hP1
                  obtain ⟨hP, hD⟩ := va_join (wr := [(ax, .inr (1, [.ref adr, .ref ait, .int (I3 mn), .ref wp, .ref wq, .ref wr, .ref ws, .ref wt, .ref wu, .ref wv, .ref wx, .ref wy, .ref wz, .int (I3 sg), .long (L6 rch), .int (I3 lft), .int (I3 isl)])), (wq, .inr (2, [.ref wqw, .int (I3 n2_180)])), (wqw, .inl (dA 0, 36, .inl (iA f2_180))), (wr, .inr (2, [.ref wrw, .int (I3 n1_166)])), (wrw, .inl (dA 0, 36, .inl (iA f1_166))), (ait, .inl (dA 3, 60, .inr (.inr (.inr (.inr (it))))))]) (w1 := [(wp, .inr (2, [.ref wpw, .int (I3 n1_214)])), (wpw, .inl (dA 0, 36, .inl (iA f1_214))), (wt, .inr (2, [.ref wtw, .int (I3 n1_232)])), (wtw, .inl (dA 0, 36, .inl (iA f1_232)))]) hP hD [1, 2, 7, 8] [0, 3, 4, 5, 6, 9] rfl rfl (by decide) (by decide) hk1 hFc hP1 hD1
                  have hP := hP.sub (ws' := [(ax, .inr (1, [.ref adr, .ref ait, .int (I3 mn), .ref wp, .ref wq, .ref wr, .ref ws, .ref wt, .ref wu, .ref wv, .ref wx, .ref wy, .ref wz, .int (I3 sg), .long (L6 rch), .int (I3 lft), .int (I3 isl)])), (wp, .inr (2, [.ref wpw, .int (I3 n1_214)])), (wpw, .inl (dA 0, 36, .inl (iA f1_214))), (wq, .inr (2, [.ref wqw, .int (I3 n2_180)])), (wqw, .inl (dA 0, 36, .inl (iA f2_180))), (wr, .inr (2, [.ref wrw, .int (I3 n1_166)])), (wrw, .inl (dA 0, 36, .inl (iA f1_166))), (wt, .inr (2, [.ref wtw, .int (I3 n1_232)])), (wtw, .inl (dA 0, 36, .inl (iA f1_232))), (ait, .inl (dA 3, 60, .inr (.inr (.inr (.inr (it))))))]) [0, 6, 7, 1, 2, 3, 4, 8, 9, 5] rfl
                  have hD := hD.sub (ws' := [(ax, .inr (1, [.ref adr, .ref ait, .int (I3 mn), .ref wp, .ref wq, .ref wr, .ref ws, .ref wt, .ref wu, .ref wv, .ref wx, .ref wy, .ref wz, .int (I3 sg), .long (L6 rch), .int (I3 lft), .int (I3 isl)])), (wp, .inr (2, [.ref wpw, .int (I3 n1_214)])), (wpw, .inl (dA 0, 36, .inl (iA f1_214))), (wq, .inr (2, [.ref wqw, .int (I3 n2_180)])), (wqw, .inl (dA 0, 36, .inl (iA f2_180))), (wr, .inr (2, [.ref wrw, .int (I3 n1_166)])), (wrw, .inl (dA 0, 36, .inl (iA f1_166))), (wt, .inr (2, [.ref wtw, .int (I3 n1_232)])), (wtw, .inl (dA 0, 36, .inl (iA f1_232))), (ait, .inl (dA 3, 60, .inr (.inr (.inr (.inr (it))))))]) [0, 6, 7, 1, 2, 3, 4, 8, 9, 5] (by decide) rfl
                  generalize H1 = H at hP hS ⊢
                  have e_243 : z_243 = cmpN (pv VL a * 2 ^ (-plX v).toNat) (qv VL a * (fX v).toNat * 2 ^ (plX v).toNat) := by rw [p0_243, p1_214, p1_180, p1_232, p1_195, p1_166, p2_153, p3_180, Nat.mul_comm (fX v).toNat]; exact o_e9 (by first | exact o_t1 p0_153 | exact o_t0 p0_153 c_204) (by first | exact o_t3 p0_153 | exact o_t2 p0_153 c_223)
                  have y_243 := cmpN3 p0_243
                  refine lv_istore (lv' := [(10, .int (I3 z_243)), (9, .int (I3 z_153)), (8, .int (I3 z_97)), (7, .int (I3 o9)), (0, .ref ax), (1, .int (I3 a)), (2, .long (L6 v)), (4, .ref ai), (5, .double (dX v))]) hx hb dX1_meets_246 hl (by decide) rfl (fun ls hl => ?_)
                  refine lv_iload hx hb dX1_meets_248 (lv_at hl 0 rfl) ?_
                  refine ix_if_ne (tgt := 257) hx hb (by exact o_in3 (o_c3 y_243)) dX1_meets_250 (by decide) (fun c_250 => ?_) (fun c_250 => ?_)
                  · skip
                    refine lv_iload hx hb dX1_meets_257 (lv_at hl 0 rfl) ?_
                    refine ix_if_ge (tgt := 266) hx hb (by exact o_in3 (o_c3 y_243)) dX1_meets_259 (by decide) (fun c_259 => ?_) (fun c_259 => ?_)
                    · skip
                      refine lv_iconst (v := I3 (0)) hx hb dX1_meets_266 rfl ?_
                      refine lv_iload hx hb dX1_meets_267 (lv_at hl 3 rfl) ?_
                      refine ix_if_le (tgt := 276) hx hb (by exact o_o3 ho3) dX1_meets_269 (by decide) (fun c_269 => ?_) (fun c_269 => ?_)
                      · skip
                        refine lv_iconst (v := I3 (0)) hx hb dX1_meets_276 rfl ?_
                        refine ix_icmp_ne (tgt := 284) hx hb (by first | assumption | decide | (constructor <;> omega)) (by first | assumption | decide | (constructor <;> omega)) dX1_meets_277 (by decide) (fun c_277 => ?_) (fun c_277 => ?_)
                        · skip
                          exact absurd c_277 (by decide)
                        · skip
                          refine lv_iconst (v := I3 (-1)) hx hb dX1_meets_280 rfl ?_
                          refine lv_goto (tgt := 285) hx hb dX1_meets_281 (by decide) ?_
                          have o_154 : (-1 : Int) = meS SG VL a v := by rw [hm_, meT_e c_69, ← e_243]; first | exact o_cm0 c_250 | exact o_cm1 (o_g3 ho3) (o_c3 y_243) c_259 c_269 | exact o_cm2 (o_g3 ho3) (o_c3 y_243) (fun q => absurd q c_90) c_250 c_259 c_269 | exact o_cm3 (o_g3 ho3) (o_c3 y_243) (fun q => absurd q c_90) c_259 c_269 | exact o_cm4 (o_g3 ho3) (o_c3 y_243) c_250 c_259 c_269
                          have o_155 : (0 ≤ a ∧ a < mn) := by exact hnum
                          have o_156 : Dg f1_214 := by exact p0_214.2.1
                          have o_157 : Dg f2_180 := by exact p2_180.2.1
                          have o_158 : Dg f1_166 := by exact p0_166.2.1
                          have o_159 : Dg f1_232 := by exact p0_232.2.1
                          refine vx_ret ?_
                          exact W.iret (v := I3 (-1)) hx hb hr (fun t ht hW => ⟨⟨I3 (-1), ((-1), n1_214, f1_214, n2_180, f2_180, n1_166, f1_166, n1_232, f1_232), rfl, ⟨rfl, ⟨o_154, o_155, o_156, o_157, o_158, o_159⟩⟩, by rw [ht]; exact hP, va_K.moved hW.alike hK, hD⟩, hS.F ht⟩) hS.2.2 dX1_meets_285
                      · skip
                        refine lv_iconst (v := I3 (1)) hx hb dX1_meets_272 rfl ?_
                        refine lv_goto (tgt := 277) hx hb dX1_meets_273 (by decide) ?_
                        refine ix_icmp_ne (tgt := 284) hx hb (by first | assumption | decide | (constructor <;> omega)) (by first | assumption | decide | (constructor <;> omega)) dX1_meets_277 (by decide) (fun c_277 => ?_) (fun c_277 => ?_)
                        · skip
                          refine lv_iconst (v := I3 (1)) hx hb dX1_meets_284 rfl ?_
                          have o_160 : (1 : Int) = meS SG VL a v := by rw [hm_, meT_e c_69, ← e_243]; first | exact o_cm0 c_250 | exact o_cm1 (o_g3 ho3) (o_c3 y_243) c_259 c_269 | exact o_cm2 (o_g3 ho3) (o_c3 y_243) (fun q => absurd q c_90) c_250 c_259 c_269 | exact o_cm3 (o_g3 ho3) (o_c3 y_243) (fun q => absurd q c_90) c_259 c_269 | exact o_cm4 (o_g3 ho3) (o_c3 y_243) c_250 c_259 c_269
                          have o_161 : (0 ≤ a ∧ a < mn) := by exact hnum
                          have o_162 : Dg f1_214 := by exact p0_214.2.1
                          have o_163 : Dg f2_180 := by exact p2_180.2.1
                          have o_164 : Dg f1_166 := by exact p0_166.2.1
                          have o_165 : Dg f1_232 := by exact p0_232.2.1
                          refine vx_ret ?_
                          exact W.iret (v := I3 1) hx hb hr (fun t ht hW => ⟨⟨I3 1, (1, n1_214, f1_214, n2_180, f2_180, n1_166, f1_166, n1_232, f1_232), rfl, ⟨rfl, ⟨o_160, o_161, o_162, o_163, o_164, o_165⟩⟩, by rw [ht]; exact hP, va_K.moved hW.alike hK, hD⟩, hS.F ht⟩) hS.2.2 dX1_meets_285
                        · skip
                          exact absurd c_277 (by decide)
                    · skip
                      refine lv_iconst (v := I3 (1)) hx hb dX1_meets_262 rfl ?_
                      refine lv_goto (tgt := 267) hx hb dX1_meets_263 (by decide) ?_
                      refine lv_iload hx hb dX1_meets_267 (lv_at hl 3 rfl) ?_
                      refine ix_if_le (tgt := 276) hx hb (by exact o_o3 ho3) dX1_meets_269 (by decide) (fun c_269 => ?_) (fun c_269 => ?_)
                      · skip
                        refine lv_iconst (v := I3 (0)) hx hb dX1_meets_276 rfl ?_
                        refine ix_icmp_ne (tgt := 284) hx hb (by first | assumption | decide | (constructor <;> omega)) (by first | assumption | decide | (constructor <;> omega)) dX1_meets_277 (by decide) (fun c_277 => ?_) (fun c_277 => ?_)
                        · skip
                          refine lv_iconst (v := I3 (1)) hx hb dX1_meets_284 rfl ?_
                          have o_166 : (1 : Int) = meS SG VL a v := by rw [hm_, meT_e c_69, ← e_243]; first | exact o_cm0 c_250 | exact o_cm1 (o_g3 ho3) (o_c3 y_243) c_259 c_269 | exact o_cm2 (o_g3 ho3) (o_c3 y_243) (fun q => absurd q c_90) c_250 c_259 c_269 | exact o_cm3 (o_g3 ho3) (o_c3 y_243) (fun q => absurd q c_90) c_259 c_269 | exact o_cm4 (o_g3 ho3) (o_c3 y_243) c_250 c_259 c_269
                          have o_167 : (0 ≤ a ∧ a < mn) := by exact hnum
                          have o_168 : Dg f1_214 := by exact p0_214.2.1
                          have o_169 : Dg f2_180 := by exact p2_180.2.1
                          have o_170 : Dg f1_166 := by exact p0_166.2.1
                          have o_171 : Dg f1_232 := by exact p0_232.2.1
                          refine vx_ret ?_
                          exact W.iret (v := I3 1) hx hb hr (fun t ht hW => ⟨⟨I3 1, (1, n1_214, f1_214, n2_180, f2_180, n1_166, f1_166, n1_232, f1_232), rfl, ⟨rfl, ⟨o_166, o_167, o_168, o_169, o_170, o_171⟩⟩, by rw [ht]; exact hP, va_K.moved hW.alike hK, hD⟩, hS.F ht⟩) hS.2.2 dX1_meets_285
                        · skip
                          exact absurd c_277 (by decide)
                      · skip
                        refine lv_iconst (v := I3 (1)) hx hb dX1_meets_272 rfl ?_
                        refine lv_goto (tgt := 277) hx hb dX1_meets_273 (by decide) ?_
                        refine ix_icmp_ne (tgt := 284) hx hb (by first | assumption | decide | (constructor <;> omega)) (by first | assumption | decide | (constructor <;> omega)) dX1_meets_277 (by decide) (fun c_277 => ?_) (fun c_277 => ?_)
                        · skip
                          exact absurd c_277 (by decide)
                        · skip
                          refine lv_iconst (v := I3 (-1)) hx hb dX1_meets_280 rfl ?_
                          refine lv_goto (tgt := 285) hx hb dX1_meets_281 (by decide) ?_
                          have o_172 : (-1 : Int) = meS SG VL a v := by rw [hm_, meT_e c_69, ← e_243]; first | exact o_cm0 c_250 | exact o_cm1 (o_g3 ho3) (o_c3 y_243) c_259 c_269 | exact o_cm2 (o_g3 ho3) (o_c3 y_243) (fun q => absurd q c_90) c_250 c_259 c_269 | exact o_cm3 (o_g3 ho3) (o_c3 y_243) (fun q => absurd q c_90) c_259 c_269 | exact o_cm4 (o_g3 ho3) (o_c3 y_243) c_250 c_259 c_269
                          have o_173 : (0 ≤ a ∧ a < mn) := by exact hnum
                          have o_174 : Dg f1_214 := by exact p0_214.2.1
                          have o_175 : Dg f2_180 := by exact p2_180.2.1
                          have o_176 : Dg f1_166 := by exact p0_166.2.1
                          have o_177 : Dg f1_232 := by exact p0_232.2.1
                          refine vx_ret ?_
                          exact W.iret (v := I3 (-1)) hx hb hr (fun t ht hW => ⟨⟨I3 (-1), ((-1), n1_214, f1_214, n2_180, f2_180, n1_166, f1_166, n1_232, f1_232), rfl, ⟨rfl, ⟨o_172, o_173, o_174, o_175, o_176, o_177⟩⟩, by rw [ht]; exact hP, va_K.moved hW.alike hK, hD⟩, hS.F ht⟩) hS.2.2 dX1_meets_285
                  · skip
                    refine lv_iconst (v := I3 (0)) hx hb dX1_meets_253 rfl ?_
                    refine lv_goto (tgt := 285) hx hb dX1_meets_254 (by decide) ?_
                    have o_178 : (0 : Int) = meS SG VL a v := by rw [hm_, meT_e c_69, ← e_243]; first | exact o_cm0 c_250 | exact o_cm1 (o_g3 ho3) (o_c3 y_243) c_259 c_269 | exact o_cm2 (o_g3 ho3) (o_c3 y_243) (fun q => absurd q c_90) c_250 c_259 c_269 | exact o_cm3 (o_g3 ho3) (o_c3 y_243) (fun q => absurd q c_90) c_259 c_269 | exact o_cm4 (o_g3 ho3) (o_c3 y_243) c_250 c_259 c_269
                    have o_179 : (0 ≤ a ∧ a < mn) := by exact hnum
                    have o_180 : Dg f1_214 := by exact p0_214.2.1
                    have o_181 : Dg f2_180 := by exact p2_180.2.1
                    have o_182 : Dg f1_166 := by exact p0_166.2.1
                    have o_183 : Dg f1_232 := by exact p0_232.2.1
                    refine vx_ret ?_
                    exact W.iret (v := I3 0) hx hb hr (fun t ht hW => ⟨⟨I3 0, (0, n1_214, f1_214, n2_180, f2_180, n1_166, f1_166, n1_232, f1_232), rfl, ⟨rfl, ⟨o_178, o_179, o_180, o_181, o_182, o_183⟩⟩, by rw [ht]; exact hP, va_K.moved hW.alike hK, hD⟩, hS.F ht⟩) hS.2.2 dX1_meets_285
            · skip
              refine lv_iload hx hb dX1_meets_118 (lv_at hl 0 rfl) ?_
              refine lv_sipush (v := I3 (300)) hx hb dX1_meets_120 (by decide) ?_
              refine ix_icmp_le (tgt := 130) hx hb (by first | assumption | decide | (constructor <;> omega)) (by first | assumption | decide | (constructor <;> omega)) dX1_meets_123 (by decide) (fun c_123 => ?_) (fun c_123 => ?_)
              · skip
                refine lv_iconst (v := I3 (0)) hx hb dX1_meets_130 rfl ?_
                refine lv_iload hx hb dX1_meets_131 (lv_at hl 1 rfl) ?_
                refine ix_if_le (tgt := 140) hx hb (by exact o_o3 ho3) dX1_meets_133 (by decide) (fun c_133 => ?_) (fun c_133 => ?_)
                · skip
                  refine lv_iconst (v := I3 (0)) hx hb dX1_meets_140 rfl ?_
                  refine ix_icmp_ne (tgt := 148) hx hb (by first | assumption | decide | (constructor <;> omega)) (by first | assumption | decide | (constructor <;> omega)) dX1_meets_141 (by decide) (fun c_141 => ?_) (fun c_141 => ?_)
                  · skip
                    exact absurd c_141 (by decide)
                  · skip
                    refine lv_iconst (v := I3 (-1)) hx hb dX1_meets_144 rfl ?_
                    refine lv_goto (tgt := 149) hx hb dX1_meets_145 (by decide) ?_
                    refine W.widen (k := 7) (n := 986) (Nat.le_of_ble_eq_true rfl) (Nat.le_of_ble_eq_true rfl) ?_
                    have o_184 : (-1 : Int) = meS SG VL a v := by rw [hm_, meT_e c_69]; first | exact absurd c_107 (Int.not_lt.mpr c_123) | exact absurd c_123 (Int.not_lt.mpr (Int.le_trans (Int.le_of_lt c_115) (by decide))) | (rw [far_hi hiti.lt.1 ia_.2.2.1 (by rw [← y_97]; exact c_107)]; first | exact (o_f1 ho3 c_90 c_133).1 | exact (o_f2 ho3 c_90 c_133).1) | (rw [far_lo (o_pz ia_.2.1 c_69 c_90) hiti.lt.2 (by rw [← y_97]; exact c_115)]; first | exact (o_f1 ho3 c_90 c_133).2 | exact (o_f2 ho3 c_90 c_133).2)
                    have o_185 : (0 ≤ a ∧ a < mn) := by exact hnum
                    have o_186 : Dg fwp := by exact hDp
                    have o_187 : Dg fwq := by exact hDq
                    have o_188 : Dg fwr := by exact hDr
                    have o_189 : Dg fwt := by exact hDt
                    refine vx_ret ?_
                    exact W.iret (v := I3 (-1)) hx hb hr (fun t ht hW => ⟨⟨I3 (-1), ((-1), nwp, fwp, nwq, fwq, nwr, fwr, nwt, fwt), rfl, ⟨rfl, ⟨o_184, o_185, o_186, o_187, o_188, o_189⟩⟩, by rw [ht]; exact hP, va_K.moved hW.alike hK, hD⟩, hS.F ht⟩) hS.2.2 dX1_meets_149
                · skip
                  refine lv_iconst (v := I3 (1)) hx hb dX1_meets_136 rfl ?_
                  refine lv_goto (tgt := 141) hx hb dX1_meets_137 (by decide) ?_
                  refine ix_icmp_ne (tgt := 148) hx hb (by first | assumption | decide | (constructor <;> omega)) (by first | assumption | decide | (constructor <;> omega)) dX1_meets_141 (by decide) (fun c_141 => ?_) (fun c_141 => ?_)
                  · skip
                    refine lv_iconst (v := I3 (1)) hx hb dX1_meets_148 rfl ?_
                    refine W.widen (k := 7) (n := 986) (Nat.le_of_ble_eq_true rfl) (Nat.le_of_ble_eq_true rfl) ?_
                    have o_190 : (1 : Int) = meS SG VL a v := by rw [hm_, meT_e c_69]; first | exact absurd c_107 (Int.not_lt.mpr c_123) | exact absurd c_123 (Int.not_lt.mpr (Int.le_trans (Int.le_of_lt c_115) (by decide))) | (rw [far_hi hiti.lt.1 ia_.2.2.1 (by rw [← y_97]; exact c_107)]; first | exact (o_f1 ho3 c_90 c_133).1 | exact (o_f2 ho3 c_90 c_133).1) | (rw [far_lo (o_pz ia_.2.1 c_69 c_90) hiti.lt.2 (by rw [← y_97]; exact c_115)]; first | exact (o_f1 ho3 c_90 c_133).2 | exact (o_f2 ho3 c_90 c_133).2)
                    have o_191 : (0 ≤ a ∧ a < mn) := by exact hnum
                    have o_192 : Dg fwp := by exact hDp
                    have o_193 : Dg fwq := by exact hDq
                    have o_194 : Dg fwr := by exact hDr
                    have o_195 : Dg fwt := by exact hDt
                    refine vx_ret ?_
                    exact W.iret (v := I3 1) hx hb hr (fun t ht hW => ⟨⟨I3 1, (1, nwp, fwp, nwq, fwq, nwr, fwr, nwt, fwt), rfl, ⟨rfl, ⟨o_190, o_191, o_192, o_193, o_194, o_195⟩⟩, by rw [ht]; exact hP, va_K.moved hW.alike hK, hD⟩, hS.F ht⟩) hS.2.2 dX1_meets_149
                  · skip
                    exact absurd c_141 (by decide)
              · skip
                refine lv_iconst (v := I3 (1)) hx hb dX1_meets_126 rfl ?_
                refine lv_goto (tgt := 131) hx hb dX1_meets_127 (by decide) ?_
                refine lv_iload hx hb dX1_meets_131 (lv_at hl 1 rfl) ?_
                refine ix_if_le (tgt := 140) hx hb (by exact o_o3 ho3) dX1_meets_133 (by decide) (fun c_133 => ?_) (fun c_133 => ?_)
                · skip
                  refine lv_iconst (v := I3 (0)) hx hb dX1_meets_140 rfl ?_
                  refine ix_icmp_ne (tgt := 148) hx hb (by first | assumption | decide | (constructor <;> omega)) (by first | assumption | decide | (constructor <;> omega)) dX1_meets_141 (by decide) (fun c_141 => ?_) (fun c_141 => ?_)
                  · skip
                    refine lv_iconst (v := I3 (1)) hx hb dX1_meets_148 rfl ?_
                    refine W.widen (k := 7) (n := 986) (Nat.le_of_ble_eq_true rfl) (Nat.le_of_ble_eq_true rfl) ?_
                    have o_196 : (1 : Int) = meS SG VL a v := by rw [hm_, meT_e c_69]; first | exact absurd c_107 (Int.not_lt.mpr c_123) | exact absurd c_123 (Int.not_lt.mpr (Int.le_trans (Int.le_of_lt c_115) (by decide))) | (rw [far_hi hiti.lt.1 ia_.2.2.1 (by rw [← y_97]; exact c_107)]; first | exact (o_f1 ho3 c_90 c_133).1 | exact (o_f2 ho3 c_90 c_133).1) | (rw [far_lo (o_pz ia_.2.1 c_69 c_90) hiti.lt.2 (by rw [← y_97]; exact c_115)]; first | exact (o_f1 ho3 c_90 c_133).2 | exact (o_f2 ho3 c_90 c_133).2)
                    have o_197 : (0 ≤ a ∧ a < mn) := by exact hnum
                    have o_198 : Dg fwp := by exact hDp
                    have o_199 : Dg fwq := by exact hDq
                    have o_200 : Dg fwr := by exact hDr
                    have o_201 : Dg fwt := by exact hDt
                    refine vx_ret ?_
                    exact W.iret (v := I3 1) hx hb hr (fun t ht hW => ⟨⟨I3 1, (1, nwp, fwp, nwq, fwq, nwr, fwr, nwt, fwt), rfl, ⟨rfl, ⟨o_196, o_197, o_198, o_199, o_200, o_201⟩⟩, by rw [ht]; exact hP, va_K.moved hW.alike hK, hD⟩, hS.F ht⟩) hS.2.2 dX1_meets_149
                  · skip
                    exact absurd c_141 (by decide)
                · skip
                  refine lv_iconst (v := I3 (1)) hx hb dX1_meets_136 rfl ?_
                  refine lv_goto (tgt := 141) hx hb dX1_meets_137 (by decide) ?_
                  refine ix_icmp_ne (tgt := 148) hx hb (by first | assumption | decide | (constructor <;> omega)) (by first | assumption | decide | (constructor <;> omega)) dX1_meets_141 (by decide) (fun c_141 => ?_) (fun c_141 => ?_)
                  · skip
                    exact absurd c_141 (by decide)
                  · skip
                    refine lv_iconst (v := I3 (-1)) hx hb dX1_meets_144 rfl ?_
                    refine lv_goto (tgt := 149) hx hb dX1_meets_145 (by decide) ?_
                    refine W.widen (k := 7) (n := 986) (Nat.le_of_ble_eq_true rfl) (Nat.le_of_ble_eq_true rfl) ?_
                    have o_202 : (-1 : Int) = meS SG VL a v := by rw [hm_, meT_e c_69]; first | exact absurd c_107 (Int.not_lt.mpr c_123) | exact absurd c_123 (Int.not_lt.mpr (Int.le_trans (Int.le_of_lt c_115) (by decide))) | (rw [far_hi hiti.lt.1 ia_.2.2.1 (by rw [← y_97]; exact c_107)]; first | exact (o_f1 ho3 c_90 c_133).1 | exact (o_f2 ho3 c_90 c_133).1) | (rw [far_lo (o_pz ia_.2.1 c_69 c_90) hiti.lt.2 (by rw [← y_97]; exact c_115)]; first | exact (o_f1 ho3 c_90 c_133).2 | exact (o_f2 ho3 c_90 c_133).2)
                    have o_203 : (0 ≤ a ∧ a < mn) := by exact hnum
                    have o_204 : Dg fwp := by exact hDp
                    have o_205 : Dg fwq := by exact hDq
                    have o_206 : Dg fwr := by exact hDr
                    have o_207 : Dg fwt := by exact hDt
                    refine vx_ret ?_
                    exact W.iret (v := I3 (-1)) hx hb hr (fun t ht hW => ⟨⟨I3 (-1), ((-1), nwp, fwp, nwq, fwq, nwr, fwr, nwt, fwt), rfl, ⟨rfl, ⟨o_202, o_203, o_204, o_205, o_206, o_207⟩⟩, by rw [ht]; exact hP, va_K.moved hW.alike hK, hD⟩, hS.F ht⟩) hS.2.2 dX1_meets_149
        · skip
          refine lv_iconst (v := I3 (0)) hx hb dX1_meets_93 rfl ?_
          refine W.widen (k := 7) (n := 986) (Nat.le_of_ble_eq_true rfl) (Nat.le_of_ble_eq_true rfl) ?_
          have o_208 : (0 : Int) = meS SG VL a v := by rw [hm_, meT_e c_69, c_90, Int.zero_mul]
          have o_209 : (0 ≤ a ∧ a < mn) := by exact hnum
          have o_210 : Dg fwp := by exact hDp
          have o_211 : Dg fwq := by exact hDq
          have o_212 : Dg fwr := by exact hDr
          have o_213 : Dg fwt := by exact hDt
          refine vx_ret ?_
          exact W.iret (v := I3 0) hx hb hr (fun t ht hW => ⟨⟨I3 0, (0, nwp, fwp, nwq, fwq, nwr, fwr, nwt, fwt), rfl, ⟨rfl, ⟨o_208, o_209, o_210, o_211, o_212, o_213⟩⟩, by rw [ht]; exact hP, va_K.moved hW.alike hK, hD⟩, hS.F ht⟩) hS.2.2 dX1_meets_94
      · skip
        refine lv_aload hx hb dX1_meets_72 (lv_at hl 4 rfl) ?_
        refine va_getN (D := (dC, dI)) (ci := 3) (v := .int (I3 ((SG a)))) (C := RX9) (T := TX9) (N := 2) hx hb hts in_X9 hown hK (roP.at hq2 hS) j_i hj_i rfl 0 (by decide) (hq0.2.2.1.use q417 rfl) (fun _ h9 => h9) rfl dX1_meets_74 ?_
        refine lv_iload hx hb dX1_meets_77 (lv_at hl 0 rfl) ?_
        refine ix_icmp_ge (tgt := 86) hx hb (by exact o_in3 ia_.1) (by exact o_o3 ho3) dX1_meets_79 (by decide) (fun c_79 => ?_) (fun c_79 => ?_)
        · skip
          refine lv_iconst (v := I3 (1)) hx hb dX1_meets_86 rfl ?_
          refine W.widen (k := 7) (n := 986) (Nat.le_of_ble_eq_true rfl) (Nat.le_of_ble_eq_true rfl) ?_
          have o_214 : (1 : Int) = meS SG VL a v := by first | (rw [hm_, meT_l c_79]; done) | (rw [hm_, meT_g (o_ltn c_79 (fun q => c_69 q.symm))]; done)
          have o_215 : (0 ≤ a ∧ a < mn) := by exact hnum
          have o_216 : Dg fwp := by exact hDp
          have o_217 : Dg fwq := by exact hDq
          have o_218 : Dg fwr := by exact hDr
          have o_219 : Dg fwt := by exact hDt
          refine vx_ret ?_
          exact W.iret (v := I3 1) hx hb hr (fun t ht hW => ⟨⟨I3 1, (1, nwp, fwp, nwq, fwq, nwr, fwr, nwt, fwt), rfl, ⟨rfl, ⟨o_214, o_215, o_216, o_217, o_218, o_219⟩⟩, by rw [ht]; exact hP, va_K.moved hW.alike hK, hD⟩, hS.F ht⟩) hS.2.2 dX1_meets_87
        · skip
          refine lv_iconst (v := I3 (-1)) hx hb dX1_meets_82 rfl ?_
          refine lv_goto (tgt := 87) hx hb dX1_meets_83 (by decide) ?_
          refine W.widen (k := 7) (n := 986) (Nat.le_of_ble_eq_true rfl) (Nat.le_of_ble_eq_true rfl) ?_
          have o_220 : (-1 : Int) = meS SG VL a v := by first | (rw [hm_, meT_l c_79]; done) | (rw [hm_, meT_g (o_ltn c_79 (fun q => c_69 q.symm))]; done)
          have o_221 : (0 ≤ a ∧ a < mn) := by exact hnum
          have o_222 : Dg fwp := by exact hDp
          have o_223 : Dg fwq := by exact hDq
          have o_224 : Dg fwr := by exact hDr
          have o_225 : Dg fwt := by exact hDt
          refine vx_ret ?_
          exact W.iret (v := I3 (-1)) hx hb hr (fun t ht hW => ⟨⟨I3 (-1), ((-1), nwp, fwp, nwq, fwq, nwr, fwr, nwt, fwt), rfl, ⟨rfl, ⟨o_220, o_221, o_222, o_223, o_224, o_225⟩⟩, by rw [ht]; exact hP, va_K.moved hW.alike hK, hD⟩, hS.F ht⟩) hS.2.2 dX1_meets_87
    · skip
      have hinf : eX v = 2047 := Classical.byContradiction fun q => by have h9 := fin_k.mpr q; omega
      have hp0 : pX v = 0 := Classical.byContradiction fun q => hnn ⟨hinf, q⟩
      refine lv_dload hx hb dX1_meets_41 (lv_at hl 4 rfl) ?_
      refine lv_dconst0 hx hb dX1_meets_43 ?_
      refine ix_dc (x := 0) rfl ?_
      refine ix_dci_le (tgt := 52) hx hb (by exact hv) (by decide) (by exact hnn) (by decide) dX1_meets_44 dX1_meets_45 (by decide) (fun c_44 => ?_) (fun c_44 => ?_)
      · skip
        refine lv_iconst (v := I3 (1)) hx hb dX1_meets_52 rfl ?_
        refine W.widen (k := 7) (n := 986) (Nat.le_of_ble_eq_true rfl) (Nat.le_of_ble_eq_true rfl) ?_
        have o_226 : (1 : Int) = meS SG VL a v := by unfold meS; rw [if_pos hinf, if_pos hp0, hs_]; first | (rw [if_neg (o_kp hv c_44)]; done) | (rw [if_pos (o_ki hv hinf c_44)]; done) | (rw [if_pos (o_ki hv hinf c_44)]; rfl)
        have o_227 : (0 ≤ a ∧ a < mn) := by exact hnum
        have o_228 : Dg fwp := by exact hDp
        have o_229 : Dg fwq := by exact hDq
        have o_230 : Dg fwr := by exact hDr
        have o_231 : Dg fwt := by exact hDt
        refine vx_ret ?_
        exact W.iret (v := I3 1) hx hb hr (fun t ht hW => ⟨⟨I3 1, (1, nwp, fwp, nwq, fwq, nwr, fwr, nwt, fwt), rfl, ⟨rfl, ⟨o_226, o_227, o_228, o_229, o_230, o_231⟩⟩, by rw [ht]; exact hP, va_K.moved hW.alike hK, hD⟩, hS.F ht⟩) hS.2.2 dX1_meets_53
      · skip
        refine lv_iconst (v := I3 (-1)) hx hb dX1_meets_48 rfl ?_
        refine lv_goto (tgt := 53) hx hb dX1_meets_49 (by decide) ?_
        refine W.widen (k := 7) (n := 986) (Nat.le_of_ble_eq_true rfl) (Nat.le_of_ble_eq_true rfl) ?_
        have o_232 : (-1 : Int) = meS SG VL a v := by unfold meS; rw [if_pos hinf, if_pos hp0, hs_]; first | (rw [if_neg (o_kp hv c_44)]; done) | (rw [if_pos (o_ki hv hinf c_44)]; done) | (rw [if_pos (o_ki hv hinf c_44)]; rfl)
        have o_233 : (0 ≤ a ∧ a < mn) := by exact hnum
        have o_234 : Dg fwp := by exact hDp
        have o_235 : Dg fwq := by exact hDq
        have o_236 : Dg fwr := by exact hDr
        have o_237 : Dg fwt := by exact hDt
        refine vx_ret ?_
        exact W.iret (v := I3 (-1)) hx hb hr (fun t ht hW => ⟨⟨I3 (-1), ((-1), nwp, fwp, nwq, fwq, nwr, fwr, nwt, fwt), rfl, ⟨rfl, ⟨o_232, o_233, o_234, o_235, o_236, o_237⟩⟩, by rw [ht]; exact hP, va_K.moved hW.alike hK, hD⟩, hS.F ht⟩) hS.2.2 dX1_meets_53
  refine lv_aload_n hx hb dX1_meets_0 rfl (lv_at hl 0 rfl) ?_
  refine lv_iload_n hx hb dX1_meets_1 rfl (lv_at hl 1 rfl) ?_
  have h_238 : In3 a := by exact ha
  have h_239 : RP dA pl it mn SG VL := by exact hRP
  have hPc := hP.sub (ws' := [(ax, .inr (1, [.ref adr, .ref ait, .int (I3 mn), .ref wp, .ref wq, .ref wr, .ref ws, .ref wt, .ref wu, .ref wv, .ref wx, .ref wy, .ref wz, .int (I3 sg), .long (L6 rch), .int (I3 lft), .int (I3 isl)])), (ait, .inl (dA 3, 60, .inr (.inr (.inr (.inr (it))))))]) [0, 9] rfl
  have hDc := hD.sub (ws' := [(ax, .inr (1, [.ref adr, .ref ait, .int (I3 mn), .ref wp, .ref wq, .ref wr, .ref ws, .ref wt, .ref wu, .ref wv, .ref wx, .ref wy, .ref wz, .int (I3 sg), .long (L6 rch), .int (I3 lft), .int (I3 isl)])), (ait, .inl (dA 3, 60, .inr (.inr (.inr (.inr (it))))))]) [0, 9] (by decide) rfl
  have hFc := va_free (wc := [(ax, .inr (1, [.ref adr, .ref ait, .int (I3 mn), .ref wp, .ref wq, .ref wr, .ref ws, .ref wt, .ref wu, .ref wv, .ref wx, .ref wy, .ref wz, .int (I3 sg), .long (L6 rch), .int (I3 lft), .int (I3 isl)])), (ait, .inl (dA 3, 60, .inr (.inr (.inr (.inr (it))))))]) hD hS hA [0, 9] rfl
  refine vx_callr (vx_runVX (As := [.int (I3 a)]) (rest := []) ⟨hx, hb, hml, hown, hts⟩ (metX1_item l hlt dC dI dA ax adr ait wp wq wr ws wt wu wv wx wy wz s.heap.size mn sg rch lft isl it SG VL pl a h_238 h_239) (vx_cwVW 1 hts (lw_VW q534 q536 qs9 q59 q537) rfl rfl rfl (by decide +kernel) ⟨Nat.le_of_ble_eq_true rfl, Nat.le_of_ble_eq_true rfl⟩) ⟨fun a U g mk q => by obtain ⟨q0, q1, qP, qK, qD, qF0, qF1⟩ := q; exact ⟨q0, q1, qP, va_K.moved (u := U) (U := U.calling g mk a) (Vm.Alike.refl U.vm) qK, qD, FX.moved (u := U) (U := U.calling g mk a) (State.WarmedH.refl U) qF0, roP.moved (u := U) (U := U.calling g mk a) (State.WarmedH.refl U) qF1⟩, va_recv hK hP (ci := 1) (q0 := 0) rfl rfl, fun U hU hW => ⟨rfl, by rw [hU], by rw [hU]; exact hPc, va_K.moved hW.alike hK, hDc.weaken (fun _ _ _ _ => trivial), by rw [hU]; exact FX.moved hW ((FX.kept hq0 hS).narrow hFc), by rw [hU]; exact roP.moved hW ((roP.kept hq2 hS).narrow hFc)⟩⟩ rfl rfl hl.1 rfl (lv_room (Nat.le_of_ble_eq_true rfl)) dX1_meets_2 ⟨Nat.le_of_ble_eq_true rfl, Nat.le_of_ble_eq_true rfl⟩) hS (fun q _ h => hFc q h) hFc (fun q _ h => hFc q h) (fun E_2 ce_2 q9_2 u t H1 locs ht hvm _ hB hz1 hk1 hS hce_2 hcv_2 hcl_2 => ?_) (fun u ra_2 t H1 locs ht hvm hw hB hz1 hk1 hS => ?_)
  · skip
    obtain ⟨⟨x0_2, x1_2⟩, hP1, hK1, hD1⟩ := hB
    have x0_2 : E_2 = "java/lang/IndexOutOfBoundsException" := x0_2
    have x1_2 : ¬ (0 ≤ a ∧ a < mn) := x1_2
    rw [ht] at hP1
    obtain ⟨hP, hD⟩ := va_join (wr := [(wp, .inr (2, [.ref wpw, .int (I3 nwp)])), (wpw, .inl (dA 0, 36, .inl (iA fwp))), (wq, .inr (2, [.ref wqw, .int (I3 nwq)])), (wqw, .inl (dA 0, 36, .inl (iA fwq))), (wr, .inr (2, [.ref wrw, .int (I3 nwr)])), (wrw, .inl (dA 0, 36, .inl (iA fwr))), (wt, .inr (2, [.ref wtw, .int (I3 nwt)])), (wtw, .inl (dA 0, 36, .inl (iA fwt)))]) (w1 := [(ax, .inr (1, [.ref adr, .ref ait, .int (I3 mn), .ref wp, .ref wq, .ref wr, .ref ws, .ref wt, .ref wu, .ref wv, .ref wx, .ref wy, .ref wz, .int (I3 sg), .long (L6 rch), .int (I3 lft), .int (I3 isl)])), (ait, .inl (dA 3, 60, .inr (.inr (.inr (.inr (it))))))]) hP hD [0, 9] [1, 2, 3, 4, 5, 6, 7, 8] rfl rfl (by decide) (by decide) hk1 hFc hP1 hD1
    clear hP1 hD1
    have hP := hP.sub (ws' := [(ax, .inr (1, [.ref adr, .ref ait, .int (I3 mn), .ref wp, .ref wq, .ref wr, .ref ws, .ref wt, .ref wu, .ref wv, .ref wx, .ref wy, .ref wz, .int (I3 sg), .long (L6 rch), .int (I3 lft), .int (I3 isl)])), (wp, .inr (2, [.ref wpw, .int (I3 nwp)])), (wpw, .inl (dA 0, 36, .inl (iA fwp))), (wq, .inr (2, [.ref wqw, .int (I3 nwq)])), (wqw, .inl (dA 0, 36, .inl (iA fwq))), (wr, .inr (2, [.ref wrw, .int (I3 nwr)])), (wrw, .inl (dA 0, 36, .inl (iA fwr))), (wt, .inr (2, [.ref wtw, .int (I3 nwt)])), (wtw, .inl (dA 0, 36, .inl (iA fwt))), (ait, .inl (dA 3, 60, .inr (.inr (.inr (.inr (it))))))]) [8, 0, 1, 2, 3, 4, 5, 6, 7, 9] rfl
    have hD := hD.sub (ws' := [(ax, .inr (1, [.ref adr, .ref ait, .int (I3 mn), .ref wp, .ref wq, .ref wr, .ref ws, .ref wt, .ref wu, .ref wv, .ref wx, .ref wy, .ref wz, .int (I3 sg), .long (L6 rch), .int (I3 lft), .int (I3 isl)])), (wp, .inr (2, [.ref wpw, .int (I3 nwp)])), (wpw, .inl (dA 0, 36, .inl (iA fwp))), (wq, .inr (2, [.ref wqw, .int (I3 nwq)])), (wqw, .inl (dA 0, 36, .inl (iA fwq))), (wr, .inr (2, [.ref wrw, .int (I3 nwr)])), (wrw, .inl (dA 0, 36, .inl (iA fwr))), (wt, .inr (2, [.ref wtw, .int (I3 nwt)])), (wtw, .inl (dA 0, 36, .inl (iA fwt))), (ait, .inl (dA 3, 60, .inr (.inr (.inr (.inr (it))))))]) [8, 0, 1, 2, 3, 4, 5, 6, 7, 9] (by decide) rfl
    refine vx_widen (k := 4) (n := 496) (Nat.le_of_ble_eq_true rfl) (Nat.le_of_ble_eq_true rfl) ?_
    have y_240 : E_2 = "java/lang/IndexOutOfBoundsException" := by assumption
    have y_241 : ¬ (0 ≤ a ∧ a < mn) := by intro q; exact x1_2 q
    exact vx_out (E := E_2) (fun x hx => (htb x hx).elim) hlocks hce_2 hcv_2 hcl_2 (fun t ht hvm => ⟨(), trivial, ⟨⟨y_240, y_241⟩, by rw [ht]; exact hP, va_K.moved hvm hK, hD⟩, hS.F ht⟩) hS.2.2 (Nat.le_of_ble_eq_true rfl) (Nat.le_of_ble_eq_true rfl)
  skip
  obtain ⟨ad_2, rfl⟩ : ∃ z, z = u := ⟨_, rfl⟩
  obtain ⟨p0_2, p1_2, p2_2⟩ : (0 ≤ a ∧ a < mn) ∧ (it a.toNat = some ad_2) ∧ (ItAt dA pl ad_2 (SG a) (pv VL a) (qv VL a)) := hw
  obtain ⟨hra_2, hP1, hK1, hD1⟩ := hB
  subst ra_2
  rw [ht] at hP1
  obtain ⟨hP, hD⟩ := va_join (wr := [(wp, .inr (2, [.ref wpw, .int (I3 nwp)])), (wpw, .inl (dA 0, 36, .inl (iA fwp))), (wq, .inr (2, [.ref wqw, .int (I3 nwq)])), (wqw, .inl (dA 0, 36, .inl (iA fwq))), (wr, .inr (2, [.ref wrw, .int (I3 nwr)])), (wrw, .inl (dA 0, 36, .inl (iA fwr))), (wt, .inr (2, [.ref wtw, .int (I3 nwt)])), (wtw, .inl (dA 0, 36, .inl (iA fwt)))]) (w1 := [(ax, .inr (1, [.ref adr, .ref ait, .int (I3 mn), .ref wp, .ref wq, .ref wr, .ref ws, .ref wt, .ref wu, .ref wv, .ref wx, .ref wy, .ref wz, .int (I3 sg), .long (L6 rch), .int (I3 lft), .int (I3 isl)])), (ait, .inl (dA 3, 60, .inr (.inr (.inr (.inr (it))))))]) hP hD [0, 9] [1, 2, 3, 4, 5, 6, 7, 8] rfl rfl (by decide) (by decide) hk1 hFc hP1 hD1
  have hP := hP.sub (ws' := [(ax, .inr (1, [.ref adr, .ref ait, .int (I3 mn), .ref wp, .ref wq, .ref wr, .ref ws, .ref wt, .ref wu, .ref wv, .ref wx, .ref wy, .ref wz, .int (I3 sg), .long (L6 rch), .int (I3 lft), .int (I3 isl)])), (wp, .inr (2, [.ref wpw, .int (I3 nwp)])), (wpw, .inl (dA 0, 36, .inl (iA fwp))), (wq, .inr (2, [.ref wqw, .int (I3 nwq)])), (wqw, .inl (dA 0, 36, .inl (iA fwq))), (wr, .inr (2, [.ref wrw, .int (I3 nwr)])), (wrw, .inl (dA 0, 36, .inl (iA fwr))), (wt, .inr (2, [.ref wtw, .int (I3 nwt)])), (wtw, .inl (dA 0, 36, .inl (iA fwt))), (ait, .inl (dA 3, 60, .inr (.inr (.inr (.inr (it))))))]) [8, 0, 1, 2, 3, 4, 5, 6, 7, 9] rfl
  have hD := hD.sub (ws' := [(ax, .inr (1, [.ref adr, .ref ait, .int (I3 mn), .ref wp, .ref wq, .ref wr, .ref ws, .ref wt, .ref wu, .ref wv, .ref wx, .ref wy, .ref wz, .int (I3 sg), .long (L6 rch), .int (I3 lft), .int (I3 isl)])), (wp, .inr (2, [.ref wpw, .int (I3 nwp)])), (wpw, .inl (dA 0, 36, .inl (iA fwp))), (wq, .inr (2, [.ref wqw, .int (I3 nwq)])), (wqw, .inl (dA 0, 36, .inl (iA fwq))), (wr, .inr (2, [.ref wrw, .int (I3 nwr)])), (wrw, .inl (dA 0, 36, .inl (iA fwr))), (wt, .inr (2, [.ref wtw, .int (I3 nwt)])), (wtw, .inl (dA 0, 36, .inl (iA fwt))), (ait, .inl (dA 3, 60, .inr (.inr (.inr (.inr (it))))))]) [8, 0, 1, 2, 3, 4, 5, 6, 7, 9] (by decide) rfl
  generalize H1 = H at hP hS ⊢
  refine W.widen (k := 4) (n := 496) (Nat.le_of_ble_eq_true rfl) (Nat.le_of_ble_eq_true rfl) ?_
  refine lv_astore (lv' := [(4, .ref ad_2), (0, .ref ax), (1, .int (I3 a)), (2, .long (L6 v))]) hx hb dX1_meets_5 hl (by decide) rfl (fun ls hl => ?_)
  refine lv_lload_n hx hb dX1_meets_7 rfl (lv_at hl 3 rfl) ?_
  have h_242 : In6 v := by first | assumption | (and_intros <;> omega)
  have hPc := hP.sub (ws' := []) [] rfl
  have hDc := hD.sub (ws' := []) [] (by decide) rfl
  have hFc := va_free (wc := []) hD hS hA [] rfl
  refine va_calld (va_runS (As := [.long (L6 v)]) (rest := []) ⟨hx, hb, hml, hown, hts⟩ (metX1_doubleOf l dC dI dA H.size v h_242) (va_cwS 1 hts (lw_S q482 q483 q59 q484) rfl rfl rfl (by decide +kernel) ⟨Nat.le_of_ble_eq_true rfl, Nat.le_of_ble_eq_true rfl⟩) ⟨fun a U g mk q => by obtain ⟨q0, q1, qP, qK, qD⟩ := q; exact ⟨q0, q1, qP, va_K.moved (u := U) (U := U.calling g mk a) (Vm.Alike.refl U.vm) qK, qD⟩, fun U hU hW => ⟨rfl, by rw [hU], by rw [hU]; exact hPc, va_K.moved hW.alike hK, hDc.weaken (fun _ _ _ _ => trivial)⟩⟩ rfl rfl hl.1 rfl (lv_room (Nat.le_of_ble_eq_true rfl)) dX1_meets_8 ⟨Nat.le_of_ble_eq_true rfl, Nat.le_of_ble_eq_true rfl⟩) hS (fun q _ h => hFc q h) hFc (fun r_8 u t H1 locs ht hvm hw hB hz1 hk1 hS => ?_)
  obtain ⟨z_8, rfl⟩ : ∃ z, z = u := ⟨_, rfl⟩
  obtain ⟨rfl, p0_8, p1_8⟩ : r_8 = dX z_8 ∧ (z_8 = if noX v then 9221120237041090560 else v) ∧ (In6 z_8) := hw
  obtain ⟨hP1, hK1, hD1⟩ := hB
  rw [ht] at hP1
  obtain ⟨hP, hD⟩ := va_join (wr := [(ax, .inr (1, [.ref adr, .ref ait, .int (I3 mn), .ref wp, .ref wq, .ref wr, .ref ws, .ref wt, .ref wu, .ref wv, .ref wx, .ref wy, .ref wz, .int (I3 sg), .long (L6 rch), .int (I3 lft), .int (I3 isl)])), (wp, .inr (2, [.ref wpw, .int (I3 nwp)])), (wpw, .inl (dA 0, 36, .inl (iA fwp))), (wq, .inr (2, [.ref wqw, .int (I3 nwq)])), (wqw, .inl (dA 0, 36, .inl (iA fwq))), (wr, .inr (2, [.ref wrw, .int (I3 nwr)])), (wrw, .inl (dA 0, 36, .inl (iA fwr))), (wt, .inr (2, [.ref wtw, .int (I3 nwt)])), (wtw, .inl (dA 0, 36, .inl (iA fwt))), (ait, .inl (dA 3, 60, .inr (.inr (.inr (.inr (it))))))]) (w1 := []) hP hD [] [0, 1, 2, 3, 4, 5, 6, 7, 8, 9] rfl rfl (by decide) (by decide) hk1 hFc hP1 hD1
  have hP : va_P (dC, dI) vwCl [(ax, .inr (1, [.ref adr, .ref ait, .int (I3 mn), .ref wp, .ref wq, .ref wr, .ref ws, .ref wt, .ref wu, .ref wv, .ref wx, .ref wy, .ref wz, .int (I3 sg), .long (L6 rch), .int (I3 lft), .int (I3 isl)])), (wp, .inr (2, [.ref wpw, .int (I3 nwp)])), (wpw, .inl (dA 0, 36, .inl (iA fwp))), (wq, .inr (2, [.ref wqw, .int (I3 nwq)])), (wqw, .inl (dA 0, 36, .inl (iA fwq))), (wr, .inr (2, [.ref wrw, .int (I3 nwr)])), (wrw, .inl (dA 0, 36, .inl (iA fwr))), (wt, .inr (2, [.ref wtw, .int (I3 nwt)])), (wtw, .inl (dA 0, 36, .inl (iA fwt))), (ait, .inl (dA 3, 60, .inr (.inr (.inr (.inr (it))))))] H1 := hP
  have hD : va_D A [(ax, .inr (1, [.ref adr, .ref ait, .int (I3 mn), .ref wp, .ref wq, .ref wr, .ref ws, .ref wt, .ref wu, .ref wv, .ref wx, .ref wy, .ref wz, .int (I3 sg), .long (L6 rch), .int (I3 lft), .int (I3 isl)])), (wp, .inr (2, [.ref wpw, .int (I3 nwp)])), (wpw, .inl (dA 0, 36, .inl (iA fwp))), (wq, .inr (2, [.ref wqw, .int (I3 nwq)])), (wqw, .inl (dA 0, 36, .inl (iA fwq))), (wr, .inr (2, [.ref wrw, .int (I3 nwr)])), (wrw, .inl (dA 0, 36, .inl (iA fwr))), (wt, .inr (2, [.ref wtw, .int (I3 nwt)])), (wtw, .inl (dA 0, 36, .inl (iA fwt))), (ait, .inl (dA 3, 60, .inr (.inr (.inr (.inr (it))))))] := hD
  generalize H1 = H at hP hS ⊢
  refine lv_dstore (lv' := [(5, .double (dX z_8)), (4, .ref ad_2), (0, .ref ax), (1, .int (I3 a)), (2, .long (L6 v))]) hx hb dX1_meets_11 hl (by decide) rfl (fun ls hl => ?_)
  by_cases hnan : noX z_8
  · skip
    have hv2_ := nan_n p0_8 hnan
    refine lv_dload hx hb dX1_meets_13 (lv_at hl 0 rfl) ?_
    refine lv_dconst0 hx hb dX1_meets_15 ?_
    refine ix_dc (x := 0) rfl ?_
    refine ix_dcmpN (z := 1) hx hb (by exact p1_8) (by decide) (Or.inl hnan) rfl dX1_meets_16 ?_
    refine ix_if_le (tgt := 29) hx hb (by first | assumption | decide | (constructor <;> omega)) dX1_meets_17 (by decide) (fun c_17 => ?_) (fun c_17 => ?_)
    · skip
      exact absurd c_17 (by decide)
    · skip
      refine lv_dload hx hb dX1_meets_20 (lv_at hl 0 rfl) ?_
      refine lv_dconst0 hx hb dX1_meets_22 ?_
      refine ix_dc (x := 0) rfl ?_
      refine ix_dcmpN (z := -1) hx hb (by exact p1_8) (by decide) (Or.inl hnan) rfl dX1_meets_23 ?_
      refine ix_if_ge (tgt := 29) hx hb (by first | assumption | decide | (constructor <;> omega)) dX1_meets_24 (by decide) (fun c_24 => ?_) (fun c_24 => ?_)
      · skip
        exact absurd c_24 (by decide)
      · skip
        refine lv_iconst (v := I3 (2)) hx hb dX1_meets_27 rfl ?_
        refine W.widen (k := 7) (n := 986) (Nat.le_of_ble_eq_true rfl) (Nat.le_of_ble_eq_true rfl) ?_
        have o_243 : (2 : Int) = meS SG VL a v := by first | (unfold meS; rw [if_pos hv2_.1, if_neg hv2_.2]; done) | (exfalso; omega)
        have o_244 : (0 ≤ a ∧ a < mn) := by exact ⟨p0_2.1, p0_2.2⟩
        have o_245 : Dg fwp := by exact hDp
        have o_246 : Dg fwq := by exact hDq
        have o_247 : Dg fwr := by exact hDr
        have o_248 : Dg fwt := by exact hDt
        refine vx_ret ?_
        exact W.iret (v := I3 2) hx hb hr (fun t ht hW => ⟨⟨I3 2, (2, nwp, fwp, nwq, fwq, nwr, fwr, nwt, fwt), rfl, ⟨rfl, ⟨o_243, o_244, o_245, o_246, o_247, o_248⟩⟩, by rw [ht]; exact hP, va_K.moved hW.alike hK, hD⟩, hS.F ht⟩) hS.2.2 dX1_meets_28
  · skip
    have e1_ := nan_v p0_8 hnan
    have er_ : v = z_8 := e1_.1.symm; subst er_
    refine lv_dload hx hb dX1_meets_13 (lv_at hl 0 rfl) ?_
    refine lv_dconst0 hx hb dX1_meets_15 ?_
    refine ix_dc (x := 0) rfl ?_
    refine ix_dci_le (tgt := 29) hx hb (by exact p1_8) (by decide) (by exact hnan) (by decide) dX1_meets_16 dX1_meets_17 (by decide) (fun c_16 => ?_) (fun c_16 => ?_)
    · skip
      have e_249 : (0 ≤ a ∧ a < mn) := by exact ⟨p0_2.1, p0_2.2⟩
      have e_250 : ItAt dA pl ad_2 (SG a) (pv VL a) (qv VL a) := by exact p2_2
      have e_251 : ¬ noX v := by first | exact e1_.2 | exact hnan
      exact cut_29 ad_2 e_249 e_250 e_251 _ _ hP hD hS ls (lv_sub hl [2, 3, 4, 1, 0] rfl)
    · skip
      refine lv_dload hx hb dX1_meets_20 (lv_at hl 0 rfl) ?_
      refine lv_dconst0 hx hb dX1_meets_22 ?_
      refine ix_dc (x := 0) rfl ?_
      refine ix_dci_ge (tgt := 29) hx hb (by exact p1_8) (by decide) (by exact hnan) (by decide) dX1_meets_23 dX1_meets_24 (by decide) (fun c_23 => ?_) (fun c_23 => ?_)
      · skip
        have e_252 : (0 ≤ a ∧ a < mn) := by exact ⟨p0_2.1, p0_2.2⟩
        have e_253 : ItAt dA pl ad_2 (SG a) (pv VL a) (qv VL a) := by exact p2_2
        have e_254 : ¬ noX v := by first | exact e1_.2 | exact hnan
        exact cut_29 ad_2 e_252 e_253 e_254 _ _ hP hD hS ls (lv_sub hl [2, 3, 4, 1, 0] rfl)
      · skip
        refine lv_iconst (v := I3 (2)) hx hb dX1_meets_27 rfl ?_
        refine W.widen (k := 7) (n := 986) (Nat.le_of_ble_eq_true rfl) (Nat.le_of_ble_eq_true rfl) ?_
        have o_255 : (2 : Int) = meS SG VL a v := by first | (unfold meS; rw [if_pos hv2_.1, if_neg hv2_.2]; done) | (exfalso; omega)
        have o_256 : (0 ≤ a ∧ a < mn) := by exact ⟨p0_2.1, p0_2.2⟩
        have o_257 : Dg fwp := by exact hDp
        have o_258 : Dg fwq := by exact hDq
        have o_259 : Dg fwr := by exact hDr
        have o_260 : Dg fwt := by exact hDt
        refine vx_ret ?_
        exact W.iret (v := I3 2) hx hb hr (fun t ht hW => ⟨⟨I3 2, (2, nwp, fwp, nwq, fwq, nwr, fwr, nwt, fwt), rfl, ⟨rfl, ⟨o_255, o_256, o_257, o_258, o_259, o_260⟩⟩, by rw [ht]; exact hP, va_K.moved hW.alike hK, hD⟩, hS.F ht⟩) hS.2.2 dX1_meets_28
