/-! FACE: calls by an interface; casts -/
section FC
variable {g : GG} {x : GoX} {nL : Nat} {R : Room} {k n pc : Nat} {lv : List (Nat × Value)} {st : List Value} {w : va_W} {cc : ByteArray} {own : String} {ret : Option FieldType} {Pt : Option Value → va_W → Prop}
theorem gi_back5 {mc ms : Nat} {rest st0 : List Value} {a : Array Value} {P' : Option Value → va_W → Prop} {wc wr : va_W} (C : CO g x cc nL own ret R Pt) (isC isR : List Nat) (hC : isC.map (fun i => w[i]?) = wc.map some) (hR : isR.map (fun i => w[i]?) = wr.map some) (hn : va_nd isR = true) (hdis : ∀ i ∈ isR, i ∉ isC)
    (hrun : ∀ (H : Heap) (locs : List Loc) (ls : Array Slot), va_P (gG g) CL w H → va_D (xA x) w → va_S (xA x) (xs x).heap H locs → lv_has ls nL lv → va_P (gG g) CL wc H → va_Run5 (xp x) (gl g) (xe x) R (xs x) (xm x) (xa x) (xb x) (xt x) (xc x) H locs k n mc ms (F0 (xm x) pc ls st0) rest (QC g P' (va_A wc H.size) a) (va_A wc H.size))
    (kk : ∀ (v : Option Value) (w1 : va_W), P' v w1 → Go g x nL R (k + mc) (n + ms) (pc + 5) lv (v.toList ++ rest) (wr ++ w1)) : Go g x nL R k n pc lv st0 w := by
  intro H locs ls hP hD hS hl
  have hPc : va_P (gG g) CL wc H := by
    intro i q hq
    have h1 : (isC.map (fun i => w[i]?))[i]? = some (some q) := by rw [hC, List.getElem?_map, hq]; rfl
    rw [List.getElem?_map] at h1
    cases hi : isC[i]? with
    | none => rw [hi] at h1; cases h1
    | some j => rw [hi] at h1; exact hP j q (Option.some.inj h1)
  have hF := va_free (wc := wc) hD hS C.hA isC hC
  intro T hT X
  obtain ⟨v, st₀, t, T', L, h0, X', hL, e1, e2, ⟨⟨v', w1, hv, hp, hP1, hD1⟩, hz, hk⟩, stp⟩ := hrun H locs ls hP hD hS hl hPc T hT X
  cases hv
  rw [h0] at hz hk
  rw [← e1] at hP1
  obtain ⟨jP, jD⟩ := va_join (wr := wr) (w1 := w1) (H1 := T'.heap) hP hD isC isR hC hR hn hdis (fun q h1 h2 => by rw [e1]; exact hk q h1 h2) hF hP1 hD1
  obtain ⟨t2, a1, b1⟩ := kk v w1 hp T'.heap (locs ++ L) ls jP jD
    ⟨Nat.le_trans hS.1 (by rw [e1]; exact hz), fun q h1 h2 => by rw [e1, hk q (Nat.lt_of_lt_of_le h1 hS.1) (fun z => h2 (hF q z))]; exact hS.2.1 q h1 h2, fun q hq => by
      rcases List.mem_append.mp hq with h | h
      · exact hS.2.2 q h
      · exact hF _ (hL q h)⟩ hl T' rfl X'
  exact ⟨t2, stp t2 a1, b1⟩
theorem CO.fw (C : CO g x cc nL own ret R Pt) {K : String} {f y : MethodName} (hx : f.cls ≠ "java/lang/invoke/MethodHandle" ∧ f.cls ≠ "java/lang/invoke/VarHandle") (qd : Cond.declares f ∈ lw_tbl) (qi : Cond.interfaceMethod f.cls f.cls f.name f.desc ∈ lw_tbl) (qp : Cond.publicMethod y ∈ lw_tbl) (qu : Cond.unhidden K f.name f.desc ∈ lw_tbl) (qc : Cond.castable K f.cls ∈ lw_tbl) : va_Fw K f y (xs x) :=
  va_Fw.moved hx C.gx.1.alike (va_Fw.of (C.ok.1 _ qd) (C.ok.1 _ qi) (C.ok.1 _ qp) (C.ok.1 _ qu) (C.ok.1 _ qc))
/-- invokeinterface of an object of a known class -/
theorem gi_runF {f y : MethodName} {c1 : ByteArray} {nL1 i count b ci : Nat} {K : String} {ret1 : Option FieldType} {rm : Room} {av rest st0 : List Value} {P' : Option Value → va_W → Prop} {wc wr : va_W} {fs : List Value} {T : u_T} {N : Nat} (C : CO g x cc nL own ret R Pt) (hM : Con g y c1 nL1 ret1 rm (.ref b :: av) wc P') (d : decode cc pc = .ok (.invokeinterface i count, 5)) (q1 : Cond.methodLink own i f ∈ lw_all) (qd : Cond.declares f ∈ lw_tbl) (qi : Cond.interfaceMethod f.cls f.cls f.name f.desc ∈ lw_tbl) (qs : Cond.selects K f y ∈ lw_all) (q2 : Cond.instanceMethod y ∈ lw_all) (qp : Cond.publicMethod y ∈ lw_tbl) (qu : Cond.unhidden K f.name f.desc ∈ lw_tbl) (qc : Cond.castable K f.cls ∈ lw_tbl) (q3 : Cond.initialized y.cls ∈ lw_all) (q4 : Cond.code y c1 nL1 ret1 ∈ lw_all)
    (hd : f.cls ≠ "java/lang/invoke/MethodHandle" ∧ f.cls ≠ "java/lang/invoke/VarHandle" ∧ (parseMethodDescriptor f.desc).map (fun d => d.parameters.length) = some av.length) (hR : rm.frames + 1 ≤ R.frames ∧ 8 + (nL1 + 11) + rm.locals ≤ R.locals) (jb : Nat) (hb : w[jb]? = some (cO b ci fs)) (hci : CL[ci]? = some (K, T, N))
    (isC isR : List Nat) (hC : isC.map (fun i => w[i]?) = wc.map some) (hwr : isR.map (fun i => w[i]?) = wr.map some) (hn : va_nd isR = true) (hnC : va_nd isC = true) (hdis : ∀ i ∈ isR, i ∉ isC) (hst : st0 = av.reverse ++ .ref b :: rest) (h8 : (rest.map fun v => v.category).sum ≤ 8) (hk : k + rm.cells ≤ R.cells ∧ n + rm.slots ≤ R.slots)
    (kk : ∀ (v : Option Value) (w1 : va_W), P' v w1 → Go g x nL R (k + rm.cells) (n + rm.slots) (pc + 5) lv (v.toList ++ rest) (wr ++ w1)) : Go g x nL R k n pc lv st0 w := by
  subst hst
  have hF := C.fw (y := y) ⟨hd.1, hd.2.1⟩ qd qi qp qu qc
  have hcw : va_CI R (xs x) (xa x) own K i f y c1 nL1 ret1 (ws_ y c1 nL1 ret1) rm rm.cells rm.slots av.length := by
    refine ⟨⟨rfl, rfl, hR.1, hR.2, pay_in C.hts (lw_meth q4), List.mem_cons_self⟩, C.hts _ q1, va_any rfl hF.1, va_any rfl hF.2.1, C.hts _ qs, C.hts _ q2, va_any rfl hF.2.2.1, va_any rfl hF.2.2.2.1, va_any rfl hF.2.2.2.2, C.hts _ q3, C.hts _ q4, ⟨hd.1, hd.2.1⟩, fun sig h => ?_⟩
    have h2 := hd.2.2
    rw [h] at h2
    exact (Option.some.inj h2).symm
  refine gi_back5 (a := (Value.ref b :: av).toArray) C isC isR hC hwr hn hdis (fun H locs ls hP hD hS hl hPc => ?_) kk
  exact va_runF (As := av) (C := K) (C.hK.1 ci _ hci).2 ⟨C.hx, C.hb, C.hml, C.hown, C.hts⟩ (hM H.size) hcw ⟨PCn.blind _ _ _, va_recv C.hK hP hci hb, gi_pre C hD hS isC hC hnC hPc⟩ rfl rfl hl.1 rfl (lv_room h8) d hk
/-- checkcast to the object's own class -/
theorem gi_castS (C : CO g x cc nL own ret R Pt) {i a c : Nat} {r : vw_C} {fs : List Value} (d : decode cc pc = .ok (.checkcast i, 3)) (q1 : Cond.classLink own i r.1 ∈ lw_all) (j : Nat) (h : w[j]? = some (cO a c fs)) (hc : CL[c]? = some r) (kk : Go g x nL R k n (pc + 3) lv (.ref a :: st) w) : Go g x nL R k n pc lv (.ref a :: st) w := fun H locs ls hP hD hS hl => va_castS C.hx C.hb C.hown (C.hts _ q1) (C.hK.1 c r hc).2 (va_recv C.hK hP hc h) d (kk H locs ls hP hD hS hl)
theorem gi_castY (C : CO g x cc nL own ret R Pt) {i a c : Nat} {nm : String} {r : vw_C} {fs : List Value} (d : decode cc pc = .ok (.checkcast i, 3)) (q1 : Cond.classLink own i nm ∈ lw_all) (q2 : Cond.castable r.1 nm ∈ lw_tbl) (j : Nat) (h : w[j]? = some (cO a c fs)) (hc : CL[c]? = some r) (kk : Go g x nL R k n (pc + 3) lv (.ref a :: st) w) : Go g x nL R k n pc lv (.ref a :: st) w := fun H locs ls hP hD hS hl => va_castY C.hx C.hb C.hown (C.hts _ q1) (va_Nw.warmC C.gx.1 (C.nw q2 rfl)) (va_recv C.hK hP hc h) d (kk H locs ls hP hD hS hl)
theorem gi_instS (C : CO g x cc nL own ret R Pt) {i a c : Nat} {r : vw_C} {fs : List Value} (d : decode cc pc = .ok (.instanceof i, 3)) (q1 : Cond.classLink own i r.1 ∈ lw_all) (j : Nat) (h : w[j]? = some (cO a c fs)) (hc : CL[c]? = some r) (kk : Go g x nL R k n (pc + 3) lv (vi 1 :: st) w) : Go g x nL R k n pc lv (.ref a :: st) w := fun H locs ls hP hD hS hl => va_instS C.hx C.hb C.hown (C.hts _ q1) (C.hK.1 c r hc).2 (va_recv C.hK hP hc h) d (kk H locs ls hP hD hS hl)
end FC
