/-! ROWS: calls between nest mates, references copied, shifts -/
section RW
variable {g : GG} {x : GoX} {nL : Nat} {R : Room} {k n pc : Nat} {lv : List (Nat × Value)} {st : List Value} {w : va_W} {cc : ByteArray} {own : String} {ret : Option FieldType} {Pt : Option Value → va_W → Prop}
theorem CO.nwM (C : CO g x cc nL own ret R Pt) {i : Nat} {y : MethodName} {host : String} (h : Cond.methodLinkNest own i y host ∈ lw_tbl) : va_Nw (Cond.methodLinkNest own i y host) (xs x) := va_Nw.warmM C.gx.1 (C.nw h rfl)
theorem gi_runSN {y : MethodName} {c1 : ByteArray} {nL1 i : Nat} {host : String} {ret1 : Option FieldType} {rm : Room} {av rest st0 : List Value} {P' : Option Value → va_W → Prop} {wc wr : va_W} (C : CO g x cc nL own ret R Pt) (hM : Con g y c1 nL1 ret1 rm av wc P') (d : decode cc pc = .ok (.invokestatic i, 3)) (q1 : Cond.methodLinkNest own i y host ∈ lw_tbl) (q2 : Cond.static y ∈ lw_all) (q3 : Cond.initialized y.cls ∈ lw_all) (q4 : Cond.code y c1 nL1 ret1 ∈ lw_all)
    (hd : y.cls ≠ "java/lang/invoke/MethodHandle" ∧ y.cls ≠ "java/lang/invoke/VarHandle" ∧ (parseMethodDescriptor y.desc).map (fun d => d.parameters.length) = some av.length) (hR : rm.frames + 1 ≤ R.frames ∧ 8 + (nL1 + 11) + rm.locals ≤ R.locals)
    (isC isR : List Nat) (hC : isC.map (fun i => w[i]?) = wc.map some) (hwr : isR.map (fun i => w[i]?) = wr.map some) (hn : va_nd isR = true) (hnC : va_nd isC = true) (hdis : ∀ i ∈ isR, i ∉ isC) (hst : st0 = av.reverse ++ rest) (h8 : (rest.map fun v => v.category).sum ≤ 8) (hk : k + rm.cells ≤ R.cells ∧ n + rm.slots ≤ R.slots)
    (kk : ∀ (v : Option Value) (w1 : va_W), P' v w1 → Go g x nL R (k + rm.cells) (n + rm.slots) (pc + 3) lv (v.toList ++ rest) (wr ++ w1)) : Go g x nL R k n pc lv st0 w := by
  subst hst
  refine gi_back (a := av.toArray) C isC isR hC hwr hn hdis (fun H locs ls hP hD hS hl hPc => ?_) kk
  exact va_runSN (As := av) ⟨C.hx, C.hb, C.hml, C.hown, C.hts⟩ (hM H.size) ⟨va_cnB av.length C.hts (lw_meth q4) rfl rfl rfl (C.nwM q1) (C.hts _ q3) hd hR, C.hts _ q2, trivial⟩ ⟨PCn.blind _ _ _, gi_pre C hD hS isC hC hnC hPc⟩ rfl rfl hl.1 rfl (lv_room h8) d hk
theorem gi_runVN {y : MethodName} {c1 : ByteArray} {nL1 i b ci : Nat} {host : String} {ret1 : Option FieldType} {rm : Room} {av rest st0 : List Value} {P' : Option Value → va_W → Prop} {wc wr : va_W} {fs : List Value} {T : u_T} {N : Nat} (C : CO g x cc nL own ret R Pt) (hM : Con g y c1 nL1 ret1 rm (.ref b :: av) wc P') (d : decode cc pc = .ok (.invokevirtual i, 3)) (q1 : Cond.methodLinkNest own i y host ∈ lw_tbl) (q2 : Cond.instanceMethod y ∈ lw_all) (qs : Cond.selects y.cls y y ∈ lw_all) (q3 : Cond.initialized y.cls ∈ lw_all) (q4 : Cond.code y c1 nL1 ret1 ∈ lw_all)
    (hd : y.cls ≠ "java/lang/invoke/MethodHandle" ∧ y.cls ≠ "java/lang/invoke/VarHandle" ∧ (parseMethodDescriptor y.desc).map (fun d => d.parameters.length) = some av.length) (hR : rm.frames + 1 ≤ R.frames ∧ 8 + (nL1 + 11) + rm.locals ≤ R.locals) (jb : Nat) (hb : w[jb]? = some (cO b ci fs)) (hci : CL[ci]? = some (y.cls, T, N))
    (isC isR : List Nat) (hC : isC.map (fun i => w[i]?) = wc.map some) (hwr : isR.map (fun i => w[i]?) = wr.map some) (hn : va_nd isR = true) (hnC : va_nd isC = true) (hdis : ∀ i ∈ isR, i ∉ isC) (hst : st0 = av.reverse ++ .ref b :: rest) (h8 : (rest.map fun v => v.category).sum ≤ 8) (hk : k + rm.cells ≤ R.cells ∧ n + rm.slots ≤ R.slots)
    (kk : ∀ (v : Option Value) (w1 : va_W), P' v w1 → Go g x nL R (k + rm.cells) (n + rm.slots) (pc + 3) lv (v.toList ++ rest) (wr ++ w1)) : Go g x nL R k n pc lv st0 w := by
  subst hst
  refine gi_back (a := (Value.ref b :: av).toArray) C isC isR hC hwr hn hdis (fun H locs ls hP hD hS hl hPc => ?_) kk
  exact va_runVN (As := av) (C := y.cls) ⟨C.hx, C.hb, C.hml, C.hown, C.hts⟩ (hM H.size) ⟨va_cnB av.length C.hts (lw_meth q4) rfl rfl rfl (C.nwM q1) (C.hts _ q3) hd hR, C.hts _ q2, C.hts _ qs⟩ ⟨PCn.blind _ _ _, va_recv C.hK hP hci hb, gi_pre C hD hS isC hC hnC hPc⟩ rfl rfl hl.1 rfl (lv_room h8) d hk
theorem gi_runIN {y : MethodName} {c1 : ByteArray} {nL1 i b : Nat} {host : String} {rm : Room} {av rest st0 : List Value} {P' : Option Value → va_W → Prop} {wc wr : va_W} (C : CO g x cc nL own ret R Pt) (hM : Con g y c1 nL1 none rm (.ref b :: av) wc P') (d : decode cc pc = .ok (.invokespecial i, 3)) (q1 : Cond.methodLinkNest own i y host ∈ lw_tbl) (q2 : Cond.instanceMethod y ∈ lw_all) (q3 : Cond.initialized y.cls ∈ lw_all) (q4 : Cond.code y c1 nL1 none ∈ lw_all) (hi : y.name = "<init>")
    (hd : y.cls ≠ "java/lang/invoke/MethodHandle" ∧ y.cls ≠ "java/lang/invoke/VarHandle" ∧ (parseMethodDescriptor y.desc).map (fun d => d.parameters.length) = some av.length) (hR : rm.frames + 1 ≤ R.frames ∧ 8 + (nL1 + 11) + rm.locals ≤ R.locals)
    (isC isR : List Nat) (hC : isC.map (fun i => w[i]?) = wc.map some) (hwr : isR.map (fun i => w[i]?) = wr.map some) (hn : va_nd isR = true) (hnC : va_nd isC = true) (hdis : ∀ i ∈ isR, i ∉ isC) (hst : st0 = av.reverse ++ .ref b :: rest) (h8 : (rest.map fun v => v.category).sum ≤ 8) (hk : k + rm.cells ≤ R.cells ∧ n + rm.slots ≤ R.slots)
    (kk : ∀ (v : Option Value) (w1 : va_W), P' v w1 → Go g x nL R (k + rm.cells) (n + rm.slots) (pc + 3) lv (v.toList ++ rest) (wr ++ w1)) : Go g x nL R k n pc lv st0 w := by
  subst hst
  refine gi_back (a := (Value.ref b :: av).toArray) C isC isR hC hwr hn hdis (fun H locs ls hP hD hS hl hPc => ?_) kk
  exact va_runIN (As := av) ⟨C.hx, C.hb, C.hml, C.hown, C.hts⟩ (hM H.size) ⟨va_cnB av.length C.hts (lw_meth q4) rfl rfl rfl (C.nwM q1) (C.hts _ q3) hd hR, hi, C.hts _ q2⟩ ⟨PCn.blind _ _ _, gi_pre C hD hS isC hC hnC hPc⟩ rfl rfl hl.1 rfl (lv_room h8) d hk
theorem gi_ldcw (C : CO g x cc nL own ret R Pt) {i : Nat} {v : Int32} {z : Int} (d : decode cc pc = .ok (.ldc_w i, 3)) (q : Cond.constant own i v ∈ lw_all) (hz : v = Int32.ofInt z) (kk : Go g x nL R k n (pc + 3) lv (vi z :: st) w) : Go g x nL R k n pc lv st w := fun H locs ls hP hD hS hl => lv_ldcw C.hx C.hb C.hown (hz ▸ C.hts _ q) d (kk H locs ls hP hD hS hl)
theorem i_usmod : ∀ k : Nat, k < 32 → (((nI k).toUInt32 &&& Int32.toUInt32 31).toBitVec % 32).toNat = k := by decide +kernel
theorem i_ushr {a k : Int} (ha : 0 ≤ a ∧ a < 2147483648) (hk : 0 ≤ k ∧ k < 32) : ((Int32.ofInt a).toUInt32 >>> ((Int32.ofInt k).toUInt32 &&& Int32.toUInt32 31)).toInt32 = Int32.ofInt (a / 2 ^ k.toNat) := by
  obtain ⟨n, rfl⟩ := Int.eq_ofNat_of_zero_le ha.1
  obtain ⟨m, rfl⟩ := Int.eq_ofNat_of_zero_le hk.1
  exact pk_ushrN (n := n) (by omega) (nI m) m (i_usmod m (by omega))
theorem gi_iushr (C : CO g x cc nL own ret R Pt) {a b : Int} (d : decode cc pc = .ok (.iushr, 1)) (ha : 0 ≤ a ∧ a < 2147483648) (hb : 0 ≤ b ∧ b < 32) (kk : Go g x nL R k n (pc + 1) lv (vi (a / 2 ^ b.toNat) :: st) w) : Go g x nL R k n pc lv (vi b :: vi a :: st) w := fun H locs ls hP hD hS hl => lv_iushr C.hx C.hb d (i_ushr ha hb) (kk H locs ls hP hD hS hl)
/-- System.arraycopy of references of the arrays' own class -/
theorem gi_copyR (C : CO g x cc nL own ret R Pt) {i t c a0 a1 N0 N1 : Nat} {F G : Int → Option Nat} {sp dp m : Int} {r : vw_C} {w' : va_W} (d : decode cc pc = .ok (.invokestatic i, 3)) (q1 : Cond.methodLink own i arraycopyName ∈ lw_all) (q2 : Cond.native arraycopyName ∈ lw_all) (q3 : Cond.static arraycopyName ∈ lw_all) (q4 : Cond.initialized "java/lang/System" ∈ lw_all)
    (j0 j1 : Nat) (h0 : w[j0]? = some (cR g t a0 N0 F)) (h1 : w[j1]? = some (cR g t a1 N1 G)) (ht : (TYS (gc g))[t]? = some (gc g t, .object r.1)) (hc : CL[c]? = some r) (hN : N0 < 2147483648 ∧ N1 < 2147483648) (hb : 0 ≤ sp ∧ 0 ≤ dp ∧ 0 ≤ m ∧ sp + m ≤ N0 ∧ dp + m ≤ N1) (hel : ∀ j : Int, sp ≤ j → j < sp + m → ∀ y, F j = some y → ∃ (jv : Nat) (fs : List Value), w[jv]? = some (cO y c fs)) (hf : 1 ≤ R.frames) (hl8 : (st.map fun v => v.category).sum + (nativeFrameWords "java/lang/System" "arraycopy" 5 + 11) ≤ R.locals)
    (hw : w.set j1 (cR g t a1 N1 (cpF F G sp dp m)) = w') (kk : Go g x nL R k n (pc + 3) lv st w') : Go g x nL R k n pc lv (vi m :: vi dp :: .ref a1 :: vi sp :: .ref a0 :: st) w := by
  intro H locs ls hP hD hS hl
  have es : (Int32.ofInt sp).toNatClampNeg = sp.toNat := i_clamp (by omega) (by omega)
  have ed : (Int32.ofInt dp).toNatClampNeg = dp.toNat := i_clamp (by omega) (by omega)
  have em : (Int32.ofInt m).toNatClampNeg = m.toNat := i_clamp (by omega) (by omega)
  have ng : ∀ z : Int, 0 ≤ z → z < 2147483648 → ¬ Int32.ofInt z < 0 := fun z h1 h2 c => by
    have := (i_lt (a := z) (b := 0) (by omega) (by omega)).mp c
    omega
  have hcls := (C.hK.1 c r hc).2
  refine va_copyq (C := r.1) (E1 := r.1) C.hx C.hb (by rw [C.hml]; exact hl.1.symm) C.hown (C.hts _ q1) (C.hts _ q2) (C.hts _ q3) (C.hts _ q4) C.hK hP hD hS j0 j1 t t h0 h1 ht ht (ng sp (by omega) (by omega)) (ng dp (by omega) (by omega)) (ng m (by omega) (by omega)) (by rw [es, em]; omega) (by rw [ed, em]; omega) (fun j hj y hy => ?_) (fun comp c0 e1 e2 => ?_) hf hl8 d fun H1 locs1 hP1 hD1 hS1 => ?_
  · rw [es] at hy
    rw [em] at hj
    obtain ⟨jv, fs, hv⟩ := hel (sp + j) (by omega) (by omega) y (by rw [← hy]; show _ = F ((sp.toNat + j : Nat) : Int); congr 1; omega)
    exact va_recv C.hK hP hc hv
  · cases e1.symm.trans hcls.1
    cases e2.symm.trans hcls.1
    exact va_assign hcls
  · rw [ir_cpy F G (by omega) (by omega) (by omega)] at hP1 hD1
    exact kk H1 locs1 ls (hw ▸ hP1) (hw ▸ hD1) hS1 hl
end RW
section RW2
variable {g : GG} {x : GoX} {nL : Nat} {R : Room} {k n pc : Nat} {lv : List (Nat × Value)} {st : List Value} {w : va_W} {cc : ByteArray} {own : String} {ret : Option FieldType} {Pt : Option Value → va_W → Prop}
theorem gi_max (C : CO g x cc nL own ret R Pt) {i : Nat} {a b : Int} (d : decode cc pc = .ok (.invokestatic i, 3)) (q1 : Cond.methodLink own i Lib.Math.max.name ∈ lw_all) (q2 : Cond.static Lib.Math.max.name ∈ lw_all) (q3 : Cond.initialized "java/lang/Math" ∈ lw_all) (q4 : Cond.code Lib.Math.max.name Lib.Math.max.code 2 (some .int) ∈ lw_all) (ha : Rg a) (hb : Rg b) (hf : 1 ≤ R.frames) (hl8 : (st.map fun v => v.category).sum + 13 ≤ R.locals) (hk : k ≤ R.cells) (hn : n ≤ R.slots) (kk : Go g x nL R k n (pc + 3) lv (vi (if a < b then b else a) :: st) w) : Go g x nL R k n pc lv (vi b :: vi a :: st) w := fun H locs ls hP hD hS hl => by
  refine va_mmax C.hx C.hb (by rw [C.hml]; exact hl.1.symm) C.hown (C.hts _ q1) (C.hts _ q2) (C.hts _ q3) (C.hts _ q4) hf hl8 hk hn d ?_
  rw [show (if Int32.ofInt a < Int32.ofInt b then Int32.ofInt b else Int32.ofInt a) = Int32.ofInt (if a < b then b else a) by
    by_cases e : a < b
    · rw [if_pos e, if_pos ((i_lt ha hb).mpr e)]
    · rw [if_neg e, if_neg (fun z => e ((i_lt ha hb).mp z))]]
  exact kk H locs ls hP hD hS hl
theorem gi_min (C : CO g x cc nL own ret R Pt) {i : Nat} {a b : Int} (d : decode cc pc = .ok (.invokestatic i, 3)) (q1 : Cond.methodLink own i Lib.Math.min.name ∈ lw_all) (q2 : Cond.static Lib.Math.min.name ∈ lw_all) (q3 : Cond.initialized "java/lang/Math" ∈ lw_all) (q4 : Cond.code Lib.Math.min.name Lib.Math.min.code 2 (some .int) ∈ lw_all) (ha : Rg a) (hb : Rg b) (hf : 1 ≤ R.frames) (hl8 : (st.map fun v => v.category).sum + 13 ≤ R.locals) (hk : k ≤ R.cells) (hn : n ≤ R.slots) (kk : Go g x nL R k n (pc + 3) lv (vi (if b < a then b else a) :: st) w) : Go g x nL R k n pc lv (vi b :: vi a :: st) w := fun H locs ls hP hD hS hl => by
  refine va_mmin C.hx C.hb (by rw [C.hml]; exact hl.1.symm) C.hown (C.hts _ q1) (C.hts _ q2) (C.hts _ q3) (C.hts _ q4) hf hl8 hk hn d ?_
  rw [show (if Int32.ofInt b < Int32.ofInt a then Int32.ofInt b else Int32.ofInt a) = Int32.ofInt (if b < a then b else a) by
    by_cases e : b < a
    · rw [if_pos e, if_pos ((i_lt hb ha).mpr e)]
    · rw [if_neg e, if_neg (fun z => e ((i_lt hb ha).mp z))]]
  exact kk H locs ls hP hD hS hl
end RW2
