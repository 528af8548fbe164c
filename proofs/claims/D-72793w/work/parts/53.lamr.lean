/-! LAMBDAS CALLED -/
section LR
variable {g : GG} {x : GoX} {nL : Nat} {R : Room} {k n pc : Nat} {lv : List (Nat × Value)} {st : List Value} {w : va_W} {cc : ByteArray} {own : String} {ret : Option FieldType} {Pt : Option Value → va_W → Prop}
/-- an object of a made class that keeps o -/
abbrev cL (g : GG) (p i : Nat) (z : Lambda.Shape) (a o : Nat) : Nat × va_E := (a, .inl (lK g p i z, 1, .inr (.inr (.inr (.inr (fun _ => some o))))))
abbrev lmY (nm : String) : MethodName := ⟨"EvenWords", nm, "(LEvenWords$Piece;)Z"⟩
theorem lm_ret {g : GG} {P : Int → va_W → Prop} {A : Nat → Prop} {a : Array Value} (hP : ∀ r w, P r w → r = 0 ∨ r = 1) : ∀ st o t, QC g (pI P) A a st o t → ∃ w : Int32, o = .returned (some (.int w)) ∧ narrow .boolean (.int w) = .int w := by
  rintro st o t ⟨⟨v, w, e, ⟨r, hr, hp⟩, -, -⟩, -⟩
  subst hr
  exact ⟨Int32.ofInt r, e, (fz (hP r w hp)).1⟩
/-- the interface's call of a lambda that keeps its maker -/
theorem gi_runLV {z : Lambda.Shape} {nm : String} {D : ClassFile} (hz : MadeV z nm D) (hM22 : D.constantPool[22]? = some (.methodref 19 21)) (hif : z.iface = lmI.cls ∧ z.name = lmI.name ∧ z.sam.toString = lmI.desc) {p0 i0 : Nat} {c1 : ByteArray} {nL1 i count f o q : Nat} {rm : Room} {rest st0 : List Value} {P : Int → va_W → Prop} {wc wr : va_W} {fs : List Value} (C : CO g x cc nL own ret R Pt) (hat : lmAt g p0 i0 z)
    (hM : Con g (lmY nm) c1 nL1 (some .boolean) rm [.ref o, .ref q] wc (pI P)) (hP : ∀ r w, P r w → r = 0 ∨ r = 1) (d : decode cc pc = .ok (.invokeinterface i count, 5)) (q1 : Cond.methodLink own i lmI ∈ lw_all) (qd : Cond.declares lmI ∈ lw_tbl) (qi : Cond.interfaceMethod lmI.cls lmI.cls lmI.name lmI.desc ∈ lw_tbl) (q0 : Cond.instantiable "java/lang/Object" 0 ∈ lw_all) (q2 : Cond.instanceMethod (lmY nm) ∈ lw_all) (qs : Cond.selects "EvenWords" (lmY nm) (lmY nm) ∈ lw_all) (q3 : Cond.initialized "EvenWords" ∈ lw_all) (q4 : Cond.code (lmY nm) c1 nL1 (some .boolean) ∈ lw_all)
    (hR : rm.frames + 2 ≤ R.frames ∧ 8 + (2 + 11) + (8 + (nL1 + 11) + rm.locals) ≤ R.locals) (jf jo : Nat) (hf : w[jf]? = some (cL g p0 i0 z f o)) (ho : w[jo]? = some (cO o 0 fs))
    (isC isR : List Nat) (hC : isC.map (fun i => w[i]?) = wc.map some) (hwr : isR.map (fun i => w[i]?) = wr.map some) (hn : va_nd isR = true) (hnC : va_nd isC = true) (hdis : ∀ i ∈ isR, i ∉ isC) (hst : st0 = .ref q :: .ref f :: rest) (h8 : (rest.map fun v => v.category).sum ≤ 8) (hk : k + rm.cells ≤ R.cells ∧ n + rm.slots ≤ R.slots)
    (kk : ∀ (r : Int) (w1 : va_W), P r w1 → Go g x nL R (k + rm.cells) (n + rm.slots) (pc + 5) lv (vi r :: rest) (wr ++ w1)) : Go g x nL R k n pc lv st0 w := by
  subst hst
  refine gi_back5 (P' := pI P) (a := #[Value.ref o, Value.ref q]) C isC isR hC hwr hn hdis (fun H locs ls hPw hD hS hl hPc => ?_) (fun v w1 hv => by
    obtain ⟨r, rfl, hr⟩ := hv
    exact kk r w1 hr)
  have hF := C.fw (K := "EvenWords") (f := lmI) (y := lmI) (by decide) qd qi
  have hhd : (Cond.declares lmI).before #[] (xs x) = true := (va_any rfl (va_Nw.warmD C.gx.1 (C.nw qd rfl)) : _)
  have hhi : (Cond.interfaceMethod lmI.cls lmI.cls lmI.name lmI.desc).before #[] (xs x) = true := by
    have h1 := C.ok.1 _ qi
    obtain ⟨r, meth, hn, -⟩ := Cond.declares_spec (C.ok.1 _ qd)
    refine va_any (A := #[Value.ref (gb g)]) rfl ?_
    have e := Cond.onTables_vm (A := #[Value.ref (gb g)]) (A' := #[Value.ref (gb g)]) (U := gs g) (U' := xs x) (xs x).vm (Cond.interfaceMethod lmI.cls lmI.cls lmI.name lmI.desc) rfl
    have hU : (xs x).setVm (xs x).vm = xs x := rfl
    rw [hU] at e
    rw [← e, Cond.interfaceMethod_setVm C.gx.1.alike (r := r) hn (by decide)]
    exact h1
  clear hF
  intro T hT X
  obtain ⟨r0, r, hn0, hrm, hstR, hsigR⟩ := Cond.declares_spec hhd
  obtain ⟨cI, kI, r1, hcI, hkI, hiI, -, hn1⟩ := Cond.interfaceMethod_spec hhi
  cases hn0.symm.trans hn1
  have hr0 : r0.cls = cI := Option.some.inj ((findClass_of_methodNamed hn0).symm.trans hcI)
  obtain ⟨dd, dk, hfd, hdk, hdn, hmade, hcan⟩ := lm_here hat C.gx.1
  have hO := lm_obj (C.hts _ q0)
  obtain ⟨kK, tk, file, methk, ck, toy, t, hkK, hkn, hfile, hpool, hmk, hck, hbytes, hml, hlk, hfl, hretk, htoy, htk, hitf, hlook, hready, hclsR, ⟨g0, hg0, hg0s, hg0n⟩, -, -⟩ := hz _ _ _ _ hdk hdn hmade hO
  obtain ⟨hasg, hsel, hway⟩ := lm_fn hmade hcan hif hhi hn0 hrm
  have hcf : H[f]? = some (vp_cell (lK g p0 i0 z) (1, .inr (.inr (.inr (.inr (fun _ => some o)))))) := hPw jf _ hf
  have hcls0 : (vp_cell (lK g p0 i0 z) (1, .inr (.inr (.inr (.inr (fun _ => some o)))))).cls = lK g p0 i0 z := rfl
  have hvm0 : (vp_cell (lK g p0 i0 z) (1, .inr (.inr (.inr (.inr (fun _ => some o)))))).vm = .none := rfl
  obtain ⟨vm₁, X₁, hstep₁⟩ := X.invokeinterface C.hx C.hown (C.hts _ q1) hn0 hrm hstR (by rw [hr0]; exact hkI) hiI (by decide) (a := f) (kcell := kK) (by rw [hT]; exact hcf) (fun c h => by rw [hvm0] at h; cases h) (by rw [hcls0]; exact hkK) (by rw [hcls0]; exact hasg)
    (m' := ⟨lK g p0 i0 z, 1⟩) (meth' := methk) (by rw [Launch.admits_selectMethod X.admits, hcls0]; exact hsel) hmk (by rw [hcls0]; exact hway) (by rw [hfl]; decide) (by simp [Method.isAbstract, hfl, hasFlag, Acc.abstract])
    (g := F0 (xm x) pc ls (.ref q :: .ref f :: rest)) rfl (argsL := [.ref q]) (rest := rest) (by rw [← Option.some.inj ((show parseMethodDescriptor lmI.desc = some ⟨[.object "EvenWords$Piece"], some .boolean⟩ by decide +kernel).symm.trans hsigR)]; rfl) rfl (by rw [C.hb]; exact d)
  have hW1 : (xs x).WarmedH (T.setVm vm₁).vm := X₁.warmed
  have hW0 : (gs g).WarmedH (T.setVm vm₁).vm := State.WarmedH.trans C.gx.1 hW1
  have wd : ∀ c ∈ ws_ (lmY nm) c1 nL1 (some .boolean), ∀ (a' : Array Value) (U : State), (xs x).WarmedH U.vm → c.before a' U = true := pay_in C.hts (lw_meth q4)
  have wd1 : ∀ c ∈ lw_all, c.before #[] (T.setVm vm₁) = true := fun c hc => wd c (List.mem_cons_of_mem _ hc) _ _ hW1
  obtain ⟨dd1, dk1, hfd1, hdk1, hdn1, hmade1, hcan1⟩ := lm_here hat hW0
  obtain ⟨kK1, tk1, file1, methk1, ck1, toy1, t1, hkK1, hkn1, hfile1, hpool1, hmk1, hck1, hbytes1, hml1, hlk1, hfl1, hretk1, htoy1, htk1, hitf1, hlook1, hready1, hclsR1, ⟨g1, hg1, hg1s, hg1n⟩, -, -⟩ := hz _ _ _ _ hdk1 hdn1 hmade1 (lm_obj (wd1 _ q0))
  obtain ⟨tN, methB, hnB, hmB, hstB, habB⟩ := Cond.instanceMethod_spec (wd1 _ q2)
  obtain ⟨methB', cB', hmB', -, -, -, -, -, -, hsigB⟩ := Cond.code_spec hnB (wd1 _ q4)
  cases hmB.symm.trans hmB'
  obtain ⟨c2, r2, m2, s1, s2, s3, s4, kP, hkP, hkPi⟩ := Cond.selects_spec (wd1 _ qs)
  cases (State.methodFound?_of_named hnB (show "EvenWords" ≠ "java/lang/invoke/MethodHandle" ∧ "EvenWords" ≠ "java/lang/invoke/VarHandle" by decide)).symm.trans s2
  cases hnB.symm.trans s3
  have htB : t1 = tN := by
    have h1 : (T.setVm vm₁).methodFound? "EvenWords" nm "(LEvenWords$Piece;)Z" = some tN := State.methodFound?_of_named hnB (show "EvenWords" ≠ "java/lang/invoke/MethodHandle" ∧ "EvenWords" ≠ "java/lang/invoke/VarHandle" by decide)
    simp only [State.methodFound?, htoy1, htk1, Option.bind_eq_bind, Option.bind_some] at h1
    rw [hlook1] at h1
    exact Option.some.inj h1
  subst htB
  have hctoy : t1.cls = toy1 := Option.some.inj ((findClass_of_methodNamed hnB).symm.trans htoy1)
  obtain ⟨kT', hkT', hnameT⟩ := className_of_methodNamed hnB
  have hsp : signaturePolymorphic kT' methB = false := by
    have : kT'.name = "EvenWords" := hnameT
    simp [signaturePolymorphic, this]
  obtain ⟨cellO, hcO, hoO, hclO⟩ := va_recv (ci := 0) C.hK hPw rfl ho
  have hclO1 : (T.setVm vm₁).vm.findClass "EvenWords" = some cellO.cls := by rw [hW1.alike.findClass]; exact hclO
  cases hclO1.symm.trans s1
  have hpl : (T.setVm vm₁).plainMethod ⟨lK g p0 i0 z, 1⟩ := State.plainMethod.of_name (fun k' hk' => by cases hkK1.symm.trans hk'; rw [hkn1]; decide)
  have hKB : Back (gl g) { frames := rm.frames + 1, cells := rm.cells, slots := rm.slots, locals := 8 + (nL1 + 11) + rm.locals } (xp x) (xe x) (.java (F0 (xm x) pc ls rest) :: xb x) ((T.setVm vm₁).calling (F0 (xm x) pc ls rest) ⟨lK g p0 i0 z, 1⟩ #[.ref f, .ref q]) #[.ref f, .ref q] (lmY nm) 3 8 (PreOf _ rm.cells rm.slots (PCn g [.ref o, .ref q] wc H.size)) (PostOf (QC g (pI P) (va_A wc H.size)) rm.cells rm.slots (va_A wc H.size)) :=
    back_of (bytes := c1) (maxL := nL1) (ret := some .boolean) (hM H.size) (PCn.blind _ _ _) rfl rfl (Nat.le_refl _) (Nat.le_refl _) (fun c hc a' U hW => wd c hc a' U (State.WarmedH.trans hW1 hW)) List.mem_cons_self (fun a' U hW => wd _ (List.mem_cons_of_mem _ q3) a' U (State.WarmedH.trans hW1 hW))
  have hdg : decode (xc x).code (F0 (xm x) pc ls rest).pc = .ok (.invokeinterface i count, 5) := by rw [C.hb]; exact d
  obtain ⟨wv, st₀, u, T', L, e1, X', hL, e2, e3, hq, steps⟩ := lm_thruV X₁ C.hx (g := F0 (xm x) pc ls rest) rfl (hl.1.trans C.hml.symm) hdg hmk1 hck1 hbytes1 hml1 hlk1 hpl hretk1 (a := f) (b := o) (q := q) (cellK := vp_cell (lK g p0 i0 z) (1, .inr (.inr (.inr (.inr (fun _ => some o)))))) (by show T.heap[f]? = _; rw [hT]; exact hcf) (by rw [hvm0]; exact fun h => nomatch h) hg1 hg1s (by rw [hg1n]; rfl)
    ⟨kK1, file1, 19, 21, toy1, tk1, hkK1, hfile1, by rw [hpool1]; exact hM22, hclsR1, htk1, hitf1⟩ hready1 hkT' hmB hsp hstB (by rw [← Option.some.inj ((show parseMethodDescriptor "(LEvenWords$Piece;)Z" = some ⟨[.object "EvenWords$Piece"], some .boolean⟩ by decide +kernel).symm.trans hsigB)]; rfl)
    (cellB := cellO) (by show T.heap[o]? = _; rw [hT]; exact hcO) (fun k h => by rw [h] at hoO; cases hoO) (by rw [Launch.admits_selectMethod X.admits]; exact s4) hmB habB hkP hkPi hnB hKB ⟨Nat.le_refl _, Nat.le_refl _⟩
    (fun U hU hUv => gi_pre C hD hS isC hC hnC hPc U (hU.trans hT) (by rw [hUv]; exact hW1)) (lm_ret hP) hR.1 (by
      have hm0 : (F0 (xm x) pc ls rest).monitorRoom = 0 := rfl
      rw [hm0, hml1]
      show 2 * 0 + (rest.map fun v => v.category).sum + (2 + 11) + (8 + (nL1 + 11) + rm.locals) ≤ R.locals
      omega) hk.1 hk.2
  exact ⟨some (.int wv), st₀, u, T', L, e1.trans hT, X', hL, e2, e3, hq, fun target h => hstep₁ _ fun acts => (steps acts).trans h⟩
/-- a lambda that keeps nothing lies where the launch laid it -/
theorem lm_const {H : Heap} {locs : List Loc} {p0 i0 f : Nat} {z : Lambda.Shape} (C : CO g x cc nL own ret R Pt) (hat : lmAt g p0 i0 z) (hcap : z.captured = []) (hf : f = lA g p0 i0 z) (hS : va_S (xA x) (xs x).heap H locs) : ∃ cellF : Cell, H[f]? = some cellF ∧ cellF.cls = lK g p0 i0 z ∧ cellF.vm = .none := by
  obtain ⟨one, h⟩ := hat
  obtain ⟨m, k, cf, i1, p1, l, hm, hk, hcf, hsh, hin, hfind, hmade, hcan, hl⟩ := State.lambdaAt?_spec h
  rcases hl with ⟨a, cell, -, ho, -, hc, hcl, hv, -⟩ | ⟨-, -, hc⟩
  · have hfa : f = a := by
      rw [hf]
      unfold lA
      rw [h, ho]
      rfl
    have hlt : a < (gs g).heap.size := (Array.getElem?_eq_some_iff.mp hc).1
    have h1 : (xs x).heap[a]? = some cell := by rw [C.gx.2.2 a hlt]; exact hc
    refine ⟨cell, ?_, hcl, hv⟩
    rw [hfa, hS.2.1 a (Nat.lt_of_lt_of_le hlt C.gx.2.1) (fun z => absurd hlt (Nat.not_lt.mpr (C.hA0 a z)))]
    exact h1
  · exact absurd hcap hc
/-- the interface's call of a lambda that keeps nothing -/
theorem gi_runLS {z : Lambda.Shape} {nm : String} {D : ClassFile} (hz : MadeS z nm D) (hM22 : D.constantPool[17]? = some (.methodref 14 16) ∧ D.constantPool.nameAndType? 16 = some (nm, "(LEvenWords$Piece;)Z")) (hif : z.iface = lmI.cls ∧ z.name = lmI.name ∧ z.sam.toString = lmI.desc) {p0 i0 : Nat} {c1 : ByteArray} {nL1 i count f q : Nat} {rm : Room} {rest st0 : List Value} {P : Int → va_W → Prop} {wc wr : va_W} (C : CO g x cc nL own ret R Pt) (hat : lmAt g p0 i0 z) (hcap : z.captured = [])
    (hM : Con g (lmY nm) c1 nL1 (some .boolean) rm [.ref q] wc (pI P)) (hP : ∀ r w, P r w → r = 0 ∨ r = 1) (d : decode cc pc = .ok (.invokeinterface i count, 5)) (q1 : Cond.methodLink own i lmI ∈ lw_all) (qd : Cond.declares lmI ∈ lw_tbl) (qi : Cond.interfaceMethod lmI.cls lmI.cls lmI.name lmI.desc ∈ lw_tbl) (q2 : Cond.static (lmY nm) ∈ lw_all) (q3 : Cond.initialized "EvenWords" ∈ lw_all) (q4 : Cond.code (lmY nm) c1 nL1 (some .boolean) ∈ lw_all)
    (hR : rm.frames + 2 ≤ R.frames ∧ 8 + (2 + 11) + (8 + (nL1 + 11) + rm.locals) ≤ R.locals) (hf : f = lA g p0 i0 z)
    (isC isR : List Nat) (hC : isC.map (fun i => w[i]?) = wc.map some) (hwr : isR.map (fun i => w[i]?) = wr.map some) (hn : va_nd isR = true) (hnC : va_nd isC = true) (hdis : ∀ i ∈ isR, i ∉ isC) (hst : st0 = .ref q :: .ref f :: rest) (h8 : (rest.map fun v => v.category).sum ≤ 8) (hk : k + rm.cells ≤ R.cells ∧ n + rm.slots ≤ R.slots)
    (kk : ∀ (r : Int) (w1 : va_W), P r w1 → Go g x nL R (k + rm.cells) (n + rm.slots) (pc + 5) lv (vi r :: rest) (wr ++ w1)) : Go g x nL R k n pc lv st0 w := by
  subst hst
  refine gi_back5 (P' := pI P) (a := #[Value.ref q]) C isC isR hC hwr hn hdis (fun H locs ls hPw hD hS hl hPc => ?_) (fun v w1 hv => by
    obtain ⟨r, rfl, hr⟩ := hv
    exact kk r w1 hr)
  have hF := C.fw (K := "EvenWords") (f := lmI) (y := lmI) (by decide) qd qi
  have hhd : (Cond.declares lmI).before #[] (xs x) = true := (va_any rfl (va_Nw.warmD C.gx.1 (C.nw qd rfl)) : _)
  have hhi : (Cond.interfaceMethod lmI.cls lmI.cls lmI.name lmI.desc).before #[] (xs x) = true := by
    have h1 := C.ok.1 _ qi
    obtain ⟨r, meth, hn, -⟩ := Cond.declares_spec (C.ok.1 _ qd)
    refine va_any (A := #[Value.ref (gb g)]) rfl ?_
    have e := Cond.onTables_vm (A := #[Value.ref (gb g)]) (A' := #[Value.ref (gb g)]) (U := gs g) (U' := xs x) (xs x).vm (Cond.interfaceMethod lmI.cls lmI.cls lmI.name lmI.desc) rfl
    have hU : (xs x).setVm (xs x).vm = xs x := rfl
    rw [hU] at e
    rw [← e, Cond.interfaceMethod_setVm C.gx.1.alike (r := r) hn (by decide)]
    exact h1
  clear hF
  intro T hT X
  obtain ⟨r0, r, hn0, hrm, hstR, hsigR⟩ := Cond.declares_spec hhd
  obtain ⟨cI, kI, r1, hcI, hkI, hiI, -, hn1⟩ := Cond.interfaceMethod_spec hhi
  cases hn0.symm.trans hn1
  have hr0 : r0.cls = cI := Option.some.inj ((findClass_of_methodNamed hn0).symm.trans hcI)
  obtain ⟨dd, dk, hfd, hdk, hdn, hmade, hcan⟩ := lm_here hat C.gx.1
  obtain ⟨kK, tk, file, methk, ck, toy, t, hkK, hkn, hfile, hpool, hmk, hck, hbytes, hml, hlk, hfl, hretk, htoy, htk, hitf, hlook, hready, hclsR⟩ := hz _ _ _ _ hdk hdn hmade
  obtain ⟨hasg, hsel, hway⟩ := lm_fn hmade hcan hif hhi hn0 hrm
  obtain ⟨cellF, hcf, hcls0, hvm0⟩ : ∃ cellF : Cell, H[f]? = some cellF ∧ cellF.cls = lK g p0 i0 z ∧ cellF.vm = .none := lm_const C hat hcap hf hS
  obtain ⟨vm₁, X₁, hstep₁⟩ := X.invokeinterface C.hx C.hown (C.hts _ q1) hn0 hrm hstR (by rw [hr0]; exact hkI) hiI (by decide) (a := f) (kcell := kK) (by rw [hT]; exact hcf) (fun c h => by rw [hvm0] at h; cases h) (by rw [hcls0]; exact hkK) (by rw [hcls0]; exact hasg)
    (m' := ⟨lK g p0 i0 z, 1⟩) (meth' := methk) (by rw [Launch.admits_selectMethod X.admits, hcls0]; exact hsel) hmk (by rw [hcls0]; exact hway) (by rw [hfl]; decide) (by simp [Method.isAbstract, hfl, hasFlag, Acc.abstract])
    (g := F0 (xm x) pc ls (.ref q :: .ref f :: rest)) rfl (argsL := [.ref q]) (rest := rest) (by rw [← Option.some.inj ((show parseMethodDescriptor lmI.desc = some ⟨[.object "EvenWords$Piece"], some .boolean⟩ by decide +kernel).symm.trans hsigR)]; rfl) rfl (by rw [C.hb]; exact d)
  have hW1 : (xs x).WarmedH (T.setVm vm₁).vm := X₁.warmed
  have hW0 : (gs g).WarmedH (T.setVm vm₁).vm := State.WarmedH.trans C.gx.1 hW1
  have wd : ∀ c ∈ ws_ (lmY nm) c1 nL1 (some .boolean), ∀ (a' : Array Value) (U : State), (xs x).WarmedH U.vm → c.before a' U = true := pay_in C.hts (lw_meth q4)
  have wd1 : ∀ c ∈ lw_all, c.before #[] (T.setVm vm₁) = true := fun c hc => wd c (List.mem_cons_of_mem _ hc) _ _ hW1
  obtain ⟨dd1, dk1, hfd1, hdk1, hdn1, hmade1, hcan1⟩ := lm_here hat hW0
  obtain ⟨kK1, tk1, file1, methk1, ck1, toy1, t1, hkK1, hkn1, hfile1, hpool1, hmk1, hck1, hbytes1, hml1, hlk1, hfl1, hretk1, htoy1, htk1, hitf1, hlook1, hready1, hclsR1⟩ := hz _ _ _ _ hdk1 hdn1 hmade1
  obtain ⟨tN, hnB⟩ := Cond.code_named (wd1 _ q4)
  obtain ⟨methB, cB', hmB, -, -, -, -, -, -, hsigB⟩ := Cond.code_spec hnB (wd1 _ q4)
  have hstB : methB.isStatic = true := Cond.static_spec hnB hmB (wd1 _ q2)
  have htB : t1 = tN := by
    have h1 : (T.setVm vm₁).methodFound? "EvenWords" nm "(LEvenWords$Piece;)Z" = some tN := State.methodFound?_of_named hnB (show "EvenWords" ≠ "java/lang/invoke/MethodHandle" ∧ "EvenWords" ≠ "java/lang/invoke/VarHandle" by decide)
    simp only [State.methodFound?, htoy1, htk1, Option.bind_eq_bind, Option.bind_some] at h1
    rw [hlook1] at h1
    exact Option.some.inj h1
  subst htB
  have hctoy : t1.cls = toy1 := Option.some.inj ((findClass_of_methodNamed hnB).symm.trans htoy1)
  obtain ⟨kT', hkT', hnameT⟩ := className_of_methodNamed hnB
  have hini1 : kT'.init = .initialized := Cond.initialized_spec (findClass_of_methodNamed hnB) hkT' (wd1 _ q3)
  have hsp : ∀ y : Method, signaturePolymorphic kT' y = false := fun y => by
    have : kT'.name = "EvenWords" := hnameT
    simp [signaturePolymorphic, this]
  have hkt2 : (T.setVm vm₁).vm.classes[t1.cls]? = some tk1 := by rw [hctoy]; exact htk1
  cases hkT'.symm.trans hkt2
  obtain ⟨bb, hmem⟩ := memberRef_ask' (e := xe x) (vm := (T.setVm vm₁).vm) (d := lK g p0 i0 z) (index := 17) hkK1 hfile1 (Or.inl (by rw [hpool1]; exact hM22.1)) (by rw [hpool1]; exact hM22.2)
  have hpl : (T.setVm vm₁).plainMethod ⟨lK g p0 i0 z, 1⟩ := State.plainMethod.of_name (fun k' hk' => by cases hkK1.symm.trans hk'; rw [hkn1]; decide)
  have hKB : Back (gl g) { frames := rm.frames + 1, cells := rm.cells, slots := rm.slots, locals := 8 + (nL1 + 11) + rm.locals } (xp x) (xe x) (.java (F0 (xm x) pc ls rest) :: xb x) ((T.setVm vm₁).calling (F0 (xm x) pc ls rest) ⟨lK g p0 i0 z, 1⟩ #[.ref f, .ref q]) #[.ref f, .ref q] (lmY nm) 3 8 (PreOf _ rm.cells rm.slots (PCn g [.ref q] wc H.size)) (PostOf (QC g (pI P) (va_A wc H.size)) rm.cells rm.slots (va_A wc H.size)) :=
    back_of (bytes := c1) (maxL := nL1) (ret := some .boolean) (hM H.size) (PCn.blind _ _ _) rfl rfl (Nat.le_refl _) (Nat.le_refl _) (fun c hc a' U hW => wd c hc a' U (State.WarmedH.trans hW1 hW)) List.mem_cons_self (fun a' U hW => wd _ (List.mem_cons_of_mem _ q3) a' U (State.WarmedH.trans hW1 hW))
  have hdg : decode (xc x).code (F0 (xm x) pc ls rest).pc = .ok (.invokeinterface i count, 5) := by rw [C.hb]; exact d
  obtain ⟨wv, st₀, u, T', L, e1, X', hL, e2, e3, hq, steps⟩ := lm_thruS X₁ C.hx (g := F0 (xm x) pc ls rest) rfl (hl.1.trans C.hml.symm) hdg hmk1 hck1 hbytes1 hml1 hlk1 hpl hretk1 (a := f) (q := q)
    ⟨14, _, _, bb, toy1, tk1, hmem, hclsR1, htk1, by simp [hsp]⟩ hready1 hkT' hmB (hsp _) hstB hini1 (by rw [← Option.some.inj ((show parseMethodDescriptor "(LEvenWords$Piece;)Z" = some ⟨[.object "EvenWords$Piece"], some .boolean⟩ by decide +kernel).symm.trans hsigB)]; rfl)
    hnB hKB ⟨Nat.le_refl _, Nat.le_refl _⟩
    (fun U hU hUv => gi_pre C hD hS isC hC hnC hPc U (hU.trans hT) (by rw [hUv]; exact hW1)) (lm_ret hP) hR.1 (by
      have hm0 : (F0 (xm x) pc ls rest).monitorRoom = 0 := rfl
      rw [hm0, hml1]
      show 2 * 0 + (rest.map fun v => v.category).sum + (2 + 11) + (8 + (nL1 + 11) + rm.locals) ≤ R.locals
      omega) hk.1 hk.2
  exact ⟨some (.int wv), st₀, u, T', L, e1.trans hT, X', hL, e2, e3, hq, fun target h => hstep₁ _ fun acts => (steps acts).trans h⟩
end LR
