/-! NEW: objects and arrays that are made; final fields; stretches copied -/
theorem con_of_goI {g : GG} {y : MethodName} {cc : ByteArray} {nL : Nat} {ret : Option FieldType} {rm : Room} {av : List Value} {w : va_W} {Pt : Option Value → va_W → Prop} (hg : OKG g) (hy : plainName y.cls = true) (hn : (lg_sl av).length ≤ nL)
    (h : ∀ x : GoX, CO g x cc nL y.cls ret rm Pt → (xt x).name = y.name → Go g x nL rm 0 0 0 (lv_args 0 av) [] w) : Con g y cc nL ret rm av w Pt := by
  intro sz
  refine Met.ofW (cc := cc) (maxL := nL) (ret := ret) hy rfl ?_
  intro p e s m args below meth c s₁ B hml hv
  obtain ⟨rfl, hsz, hG, hP, hD0⟩ := hv
  have hts := atoms_spec (ws := ws_ y cc nL ret) B.pre
  have hts : ∀ w ∈ lw_all, w.before _ s = true := fun w h => hts w (List.mem_cons_of_mem _ h)
  have hown : s.vm.findClass y.cls = some m.cls := findClass_of_methodNamed B.named
  have hl := lv_entry av (n := nL) hn
  subst hsz
  rw [lg_entry_eq]
  have hD : va_D (va_A w s.heap.size) w := hD0.self
  refine h (p, e, s, m, av.toArray, below, meth, c, MQ below (QC g Pt (va_A w s.heap.size)) av.toArray s rm.cells rm.slots (va_A w s.heap.size), va_A w s.heap.size) ⟨hg, B.exec, B.bytes, hml, hown, hts, hG, fun q hq => Or.inr hq, fun q hq => ?_, B.notSynchronized, B.returns, rfl⟩ (name_of_methodNamed B.named B.method).1 s.heap [] _ hP hD va_S.rf hl
  rcases hq with ⟨k, e, hq⟩ | hq
  · exact hD0.2 k (q, e) hq
  · exact Nat.le_trans hG.2.1 hq
section NEW
variable {g : GG} {x : GoX} {nL : Nat} {R : Room} {k n pc : Nat} {lv : List (Nat × Value)} {st : List Value} {w : va_W} {cc : ByteArray} {own : String} {ret : Option FieldType} {Pt : Option Value → va_W → Prop}
theorem gi_new (C : CO g x cc nL own ret R Pt) {K : String} {T : u_T} {N c i : Nat} {fs : List Value} (hin : ∀ w ∈ u_ws K T N, w ∈ lw_all) (ty : Nat → FieldType) (hty : ∀ k, k < N → parseFieldDescriptor (T k).2.2.1 = some (ty k)) (d : decode cc pc = .ok (.new i, 3)) (q1 : Cond.classLink own i K ∈ lw_all) (q2 : Cond.instantiable K N ∈ lw_all) (q3 : Cond.initialized K ∈ lw_all) (hc : CL[c]? = some (K, T, N)) (hfs : ∀ j, j < N → defaultValue (ty j) = vp_V fs j) (hk : k + 1 ≤ R.cells) (hn : n + N ≤ R.slots)
    (kk : ∀ q : Nat, Go g x nL R (k + 1) (n + N) (pc + 3) lv (.ref q :: st) (w ++ [cO q c fs])) : Go g x nL R k n pc lv st w := fun H locs ls hP hD hS hl => va_new C.hx C.hb C.hts hin ty hty C.hown (C.hts _ q1) (C.hts _ q2) (C.hts _ q3) C.hK hP hD hS C.hA hc hfs hk hn d fun q H1 hP1 hD1 hS1 => kk q H1 locs ls hP1 hD1 hS1 hl
theorem gi_newaI (C : CO g x cc nL own ret R Pt) {z : Int} {N : Nat} (d : decode cc pc = .ok (.newarray .int, 2)) (q1 : Cond.arrayClass .int ∈ lw_all) (hz : z = (N : Int)) (hN : N * 4 ≤ 536870912) (hk : k + 1 ≤ R.cells) (hn : n + N ≤ R.slots) (kk : ∀ q : Nat, Go g x nL R (k + 1) (n + N) (pc + 2) lv (.ref q :: st) (w ++ [cI g q N (fun _ => 0)])) : Go g x nL R k n pc lv (vi z :: st) w := by
  intro H locs ls hP hD hS hl
  subst hz
  refine va_newa (atype := .int) (ty := .int) (a0 := (N, .inl (ia (fun _ => 0)))) C.hx C.hb (C.hts _ q1) rfl C.hK hP hD hS C.hA (fun _ => rfl) (nI_pos (n := N) (by omega)) (nI_clamp (n := N) (by omega)) hN hk hn d fun q cA H1 hK1 hP1 hD1 hS1 => ?_
  have e1 := va_nm_int (hK1.2 7 (cA, .int) rfl).2
  have e2 := va_nm_int (C.hK.2 0 (gc g 0, .int) rfl).2
  have e : cA = gc g 0 := Option.some.inj (e1.symm.trans e2)
  subst e
  exact kk q H1 locs ls hP1 hD1 hS1 hl
theorem gi_newaZ (C : CO g x cc nL own ret R Pt) {z : Int} {N : Nat} (d : decode cc pc = .ok (.newarray .boolean, 2)) (q1 : Cond.arrayClass .boolean ∈ lw_all) (hz : z = (N : Int)) (hN : N * 1 ≤ 536870912) (hk : k + 1 ≤ R.cells) (hn : n + N ≤ R.slots) (kk : ∀ q : Nat, Go g x nL R (k + 1) (n + N) (pc + 2) lv (.ref q :: st) (w ++ [cZ g q N (fun _ => 0)])) : Go g x nL R k n pc lv (vi z :: st) w := by
  intro H locs ls hP hD hS hl
  subst hz
  refine va_newa (atype := .boolean) (ty := .boolean) (a0 := (N, .inl (ia (fun _ => 0)))) C.hx C.hb (C.hts _ q1) rfl C.hK hP hD hS C.hA (fun _ => rfl) (nI_pos (n := N) (by omega)) (nI_clamp (n := N) (by omega)) hN hk hn d fun q cA H1 hK1 hP1 hD1 hS1 => ?_
  have e1 := va_nm_boolean (hK1.2 7 (cA, .boolean) rfl).2
  have e2 := va_nm_boolean (C.hK.2 1 (gc g 1, .boolean) rfl).2
  have e : cA = gc g 1 := Option.some.inj (e1.symm.trans e2)
  subst e
  exact kk q H1 locs ls hP1 hD1 hS1 hl
theorem gi_newaB (C : CO g x cc nL own ret R Pt) {z : Int} {N : Nat} (d : decode cc pc = .ok (.newarray .byte, 2)) (q1 : Cond.arrayClass .byte ∈ lw_all) (hz : z = (N : Int)) (hN : N * 1 ≤ 536870912) (hk : k + 1 ≤ R.cells) (hn : n + N ≤ R.slots) (kk : ∀ q : Nat, Go g x nL R (k + 1) (n + N) (pc + 2) lv (.ref q :: st) (w ++ [cB g q N (fun _ => 0)])) : Go g x nL R k n pc lv (vi z :: st) w := by
  intro H locs ls hP hD hS hl
  subst hz
  refine va_newa (atype := .byte) (ty := .byte) (a0 := (N, .inl (ia (fun _ => 0)))) C.hx C.hb (C.hts _ q1) rfl C.hK hP hD hS C.hA (fun _ => rfl) (nI_pos (n := N) (by omega)) (nI_clamp (n := N) (by omega)) hN hk hn d fun q cA H1 hK1 hP1 hD1 hS1 => ?_
  have e1 := va_nm_byte (hK1.2 7 (cA, .byte) rfl).2
  have e2 := va_nm_byte (C.hK.2 2 (gc g 2, .byte) rfl).2
  have e : cA = gc g 2 := Option.some.inj (e1.symm.trans e2)
  subst e
  exact kk q H1 locs ls hP1 hD1 hS1 hl
theorem va_nm_obj {s : State} {cA : ClassId} {E : String} (h : va_RA s cA (.object E)) : s.vm.findClass ("[" ++ (FieldType.object E).toString) = some cA := by
  obtain ⟨_, _, _, _, _, h4⟩ := h
  exact h4
theorem gi_newq (C : CO g x cc nL own ret R Pt) {z : Int} {N i t : Nat} {E : String} (d : decode cc pc = .ok (.anewarray i, 3)) (q1 : Cond.classLink own i E ∈ lw_all) (q2 : Cond.arrayOver (.object E) ∈ lw_tbl) (ht : (TYS (gc g))[t]? = some (gc g t, .object E)) (hz : z = (N : Int)) (hN : N * 4 ≤ 536870912) (hk : k + 1 ≤ R.cells) (hn : n + N ≤ R.slots) (kk : ∀ q : Nat, Go g x nL R (k + 1) (n + N) (pc + 3) lv (.ref q :: st) (w ++ [cR g t q N (fun _ => none)])) : Go g x nL R k n pc lv (vi z :: st) w := by
  intro H locs ls hP hD hS hl
  subst hz
  refine va_newq C.hx C.hb C.hown (C.hts _ q1) (va_AO.moved C.gx.1.alike (va_AO.of (C.ok.1 _ q2))) C.hK hP hD hS C.hA (nI_pos (n := N) (by omega)) (nI_clamp (n := N) (by omega)) hN hk hn d fun q cA H1 hK1 hP1 hD1 hS1 => ?_
  have e1 := va_nm_obj (hK1.2 7 (cA, .object E) rfl).2
  have e2 := va_nm_obj (C.hK.2 t (gc g t, .object E) ht).2
  have e : cA = gc g t := Option.some.inj (e1.symm.trans e2)
  subst e
  exact kk q H1 locs ls hP1 hD1 hS1 hl
theorem gi_putF (C : CO g x cc nL own ret R Pt) {ref K : String} {T : u_T} {N c i a : Nat} {fs : List Value} {v : Value} {ty : FieldType} {w' : va_W} (hin : ∀ w ∈ u_ws K T N, w ∈ lw_all) (ty0 : Nat → FieldType) (hty : ∀ k, k < N → parseFieldDescriptor (T k).2.2.1 = some (ty0 k)) (hnm : ∀ a, a < N → ∀ b, b < N → a ≠ b → (T a).2.1 ≠ (T b).2.1) (hi : (xt x).name = "<init>") (d : decode cc pc = .ok (.putfield i, 3)) (f : Nat) (q : Cond.fieldLink own i ref (T f).2.1 (T f).2.2.1 ∈ lw_all) (j : Nat) (h : w[j]? = some (cO a c fs)) (hc : CL[c]? = some (K, T, N)) (hf : f < N) (hs : ∀ y, (xs x).fieldFound? (T f).1 (T f).2.1 (T f).2.2.1 = some y → (xs x).fieldFound? ref (T f).2.1 (T f).2.2.1 = some y) (hfin : (T f).2.2.2 = true) (hdc : (T f).1 = own) (hd : ty0 f = ty) (hv : narrow ty v = v ∧ fits ty v = true) (hl : f < fs.length) (hw : w.set j (cO a c (fs.set f v)) = w') (kk : Go g x nL R k n (pc + 3) lv st w') : Go g x nL R k n pc lv (v :: .ref a :: st) w := fun H locs ls hP hD hS hl' => va_putF C.hx C.hb C.hts hin ty0 hty hnm C.hown C.hK hP hD hS j h hc f hf (C.hts _ q) hs hfin hi hdc (hd ▸ hty f hf) hv.1 hv.2 hl d fun H1 locs1 hP1 hD1 hS1 => kk H1 locs1 ls (hw ▸ hP1) (hw ▸ hD1) hS1 hl'
/-- System.arraycopy of ints, booleans, bytes -/
theorem gi_copy (C : CO g x cc nL own ret R Pt) {i t a0 a1 N0 N1 : Nat} {F G : Int → Int} {sp dp m : Int} {ty : FieldType} {w' : va_W} (d : decode cc pc = .ok (.invokestatic i, 3)) (q1 : Cond.methodLink own i arraycopyName ∈ lw_all) (q2 : Cond.native arraycopyName ∈ lw_all) (q3 : Cond.static arraycopyName ∈ lw_all) (q4 : Cond.initialized "java/lang/System" ∈ lw_all)
    (j0 j1 : Nat) (h0 : w[j0]? = some (a0, .inl (gc g t, N0, .inl (ia F)))) (h1 : w[j1]? = some (a1, .inl (gc g t, N1, .inl (ia G)))) (ht : (TYS (gc g))[t]? = some (gc g t, ty)) (hp : refKind ty = false) (hN : N0 < 2147483648 ∧ N1 < 2147483648) (hb : 0 ≤ sp ∧ 0 ≤ dp ∧ 0 ≤ m ∧ sp + m ≤ N0 ∧ dp + m ≤ N1) (hfit : ∀ j : Int, sp ≤ j → j < sp + m → fits ty (vi (F j)) = true) (hf : 1 ≤ R.frames) (hl8 : (st.map fun v => v.category).sum + (nativeFrameWords "java/lang/System" "arraycopy" 5 + 11) ≤ R.locals)
    (hw : w.set j1 (a1, .inl (gc g t, N1, .inl (ia (cpF F G sp dp m)))) = w') (kk : Go g x nL R k n (pc + 3) lv st w') : Go g x nL R k n pc lv (vi m :: vi dp :: .ref a1 :: vi sp :: .ref a0 :: st) w := by
  intro H locs ls hP hD hS hl
  have es : (Int32.ofInt sp).toNatClampNeg = sp.toNat := i_clamp (by omega) (by omega)
  have ed : (Int32.ofInt dp).toNatClampNeg = dp.toNat := i_clamp (by omega) (by omega)
  have em : (Int32.ofInt m).toNatClampNeg = m.toNat := i_clamp (by omega) (by omega)
  have ng : ∀ z : Int, 0 ≤ z → z < 2147483648 → ¬ Int32.ofInt z < 0 := fun z h1 h2 c => by
    have := (i_lt (a := z) (b := 0) (by omega) (by omega)).mp c
    omega
  refine va_copyi C.hx C.hb (by rw [C.hml]; exact hl.1.symm) C.hown (C.hts _ q1) (C.hts _ q2) (C.hts _ q3) (C.hts _ q4) C.hK hP hD hS j0 j1 t t h0 h1 ht ht hp (ng sp (by omega) (by omega)) (ng dp (by omega) (by omega)) (ng m (by omega) (by omega)) (by rw [es, em]; omega) (by rw [ed, em]; omega) (fun j hj => ?_) hf hl8 d fun H1 locs1 hP1 hD1 hS1 => ?_
  · rw [es]
    rw [em] at hj
    have := hfit (sp + j) (by omega) (by omega)
    have e : ((sp.toNat + j : Nat) : Int) = sp + j := by omega
    show fits ty (.int (Int32.ofInt (F ((sp.toNat + j : Nat) : Int)))) = true
    rw [e]
    exact this
  · rw [ia_cpy F G (by omega) (by omega) (by omega)] at hP1 hD1
    exact kk H1 locs1 ls (hw ▸ hP1) (hw ▸ hD1) hS1 hl
end NEW
