/-! LAMBDA CALLS -/
theorem nd {a b : Cond} {A : Array Value} {s : State} (h : (Cond.and a b).before A s = true) : a.before A s = true ∧ b.before A s = true := by
  rw [Cond.before_and, Bool.and_eq_true] at h
  exact h
theorem n_nar {g : GG} (hg : OKG g) : narrow_1.before #[Value.ref (gb g)] (gs g) = true := (nd hg.2.1).2
abbrev lmN : MethodName := ⟨"EvenWords", "<init>", "()V"⟩
abbrev lmI : MethodName := ⟨"EvenWords$Sort", "is", "(LEvenWords$Piece;)Z"⟩
def lK (g : GG) (p i : Nat) (z : Lambda.Shape) : ClassId := (((gs g).lambdaAt? lmN p i z).map (·.1)).getD 0
def lA (g : GG) (p i : Nat) (z : Lambda.Shape) : Nat := (((gs g).lambdaAt? lmN p i z).bind (·.2)).getD 0
def lmAt (g : GG) (p i : Nat) (z : Lambda.Shape) : Prop := ∃ one, (gs g).lambdaAt? lmN p i z = some (lK g p i z, one)
theorem lm_at {g : GG} {p i : Nat} {z : Lambda.Shape} {A : Array Value} (h : (Cond.lambdaSite lmN p i z).before A (gs g) = true) : lmAt g p i z := by
  obtain ⟨c, one, e⟩ := Cond.lambdaSite_spec h
  refine ⟨one, ?_⟩
  unfold lK
  rw [e]
  rfl
theorem lm_at0 {g : GG} (hg : OKG g) : lmAt g 249 51 lmZ0 := by
  have h := n_nar hg
  exact lm_at (nd (nd (nd (nd (nd (nd (nd (nd (nd h).2).2).2).2).2).2).2).1).1
theorem lm_at1 {g : GG} (hg : OKG g) : lmAt g 258 55 lmZ1 := by
  have h := n_nar hg
  exact lm_at (nd (nd (nd (nd (nd (nd (nd (nd (nd h).2).2).2).2).2).2).2).1).2
theorem lm_at2 {g : GG} (hg : OKG g) : lmAt g 266 56 lmZ2 := by
  have h := n_nar hg
  exact lm_at (nd (nd (nd (nd (nd (nd (nd (nd (nd h).2).2).2).2).2).2).2).2).1
theorem lm_at3 {g : GG} (hg : OKG g) : lmAt g 274 59 lmZ3 := by
  have h := n_nar hg
  exact lm_at (nd (nd (nd (nd (nd (nd (nd (nd (nd h).2).2).2).2).2).2).2).2).2
def MadeV (z : Lambda.Shape) (nm : String) (D : ClassFile) : Prop := ∀ (vm : Vm) (d c : ClassId) (dk : Class), vm.classes[d]? = some dk → dk.name = "EvenWords" → Lambda.isMade { classPath := fun _ => none } vm d z c = true → (∀ o ok, vm.findClass "java/lang/Object" = some o → vm.classes[o]? = some ok → ok.instanceTypes.size = 0) → ∃ (k tk : Class) (file : ClassFile) (methk : Method) (ck : Code) (toy : ClassId) (t : MethodId),
      vm.classes[c]? = some k ∧ k.name = "EvenWords$$Lambda" ∧ k.cf = some file ∧ file.constantPool = D.constantPool ∧ vm.method? ⟨c, 1⟩ = some methk ∧ methk.code = some ck ∧ ck.code = lmVb ∧ ck.maxLocals = 2 ∧ methk.locks = false ∧ methk.accessFlags = 0x0001 ∧ methk.sig.returnType = some .boolean ∧
      vm.findClass "EvenWords" = some toy ∧ vm.classes[toy]? = some tk ∧ tk.isInterface = false ∧ ((methodIn toy nm "(LEvenWords$Piece;)Z" tk.isInterface none).ask { classPath := fun _ => none } vm).1 = .ok t ∧ vm.methodReady c 22 t ∧ vm.classReady c 19 toy ∧ (∃ g0 : Field, vm.fieldReady c 15 c g0 ∧ g0.isStatic = false ∧ g0.slot = 0) ∧ k.instanceTypes = #[FieldType.object "EvenWords"] ∧ k.kind = .ordinary
def MadeS (z : Lambda.Shape) (nm : String) (D : ClassFile) : Prop := ∀ (vm : Vm) (d c : ClassId) (dk : Class), vm.classes[d]? = some dk → dk.name = "EvenWords" → Lambda.isMade { classPath := fun _ => none } vm d z c = true → ∃ (k tk : Class) (file : ClassFile) (methk : Method) (ck : Code) (toy : ClassId) (t : MethodId),
      vm.classes[c]? = some k ∧ k.name = "EvenWords$$Lambda" ∧ k.cf = some file ∧ file.constantPool = D.constantPool ∧ vm.method? ⟨c, 1⟩ = some methk ∧ methk.code = some ck ∧ ck.code = lmSb ∧ ck.maxLocals = 2 ∧ methk.locks = false ∧ methk.accessFlags = 0x0001 ∧ methk.sig.returnType = some .boolean ∧
      vm.findClass "EvenWords" = some toy ∧ vm.classes[toy]? = some tk ∧ tk.isInterface = false ∧ ((methodIn toy nm "(LEvenWords$Piece;)Z" tk.isInterface none).ask { classPath := fun _ => none } vm).1 = .ok t ∧ vm.methodReady c 17 t ∧ vm.classReady c 14 toy
theorem lm_V0 : MadeV lmZ0 "lambda$new$0" lmD0 := fun _ _ _ _ h1 h2 h3 h4 => lm_made0 h1 h2 h3 h4
theorem lm_V1 : MadeV lmZ1 "lambda$new$1" lmD1 := fun _ _ _ _ h1 h2 h3 h4 => lm_made1 h1 h2 h3 h4
theorem lm_S2 : MadeS lmZ2 "lambda$new$2" lmD2 := fun _ _ _ _ h1 h2 h3 => lm_made2 h1 h2 h3
theorem lm_S3 : MadeS lmZ3 "lambda$new$3" lmD3 := fun _ _ _ _ h1 h2 h3 => lm_made3 h1 h2 h3
/-- the made class in a state that goes on from the launch's -/
theorem lm_here {g : GG} {U : State} {p i : Nat} {z : Lambda.Shape} (h : lmAt g p i z) (hW : (gs g).WarmedH U.vm) : ∃ (d : ClassId) (dk : Class), U.vm.findClass "EvenWords" = some d ∧ U.vm.classes[d]? = some dk ∧ dk.name = "EvenWords" ∧ Lambda.isMade { classPath := fun _ => none } U.vm d z (lK g p i z) = true ∧ U.lambdaCallable z (lK g p i z) = true := by
  obtain ⟨one, h⟩ := h
  obtain ⟨m, k, cf, i0, p0, l, hm, hk, hcf, hsh, hin, hfind, hmade, hcan, hl⟩ := State.lambdaAt?_spec h
  have hfc : (gs g).vm.findClass "EvenWords" = some m.cls := findClass_of_methodNamed hm
  obtain ⟨k2, hk2, hn⟩ := className_of_methodNamed hm
  cases hk.symm.trans hk2
  obtain ⟨k', hk', he⟩ := hW.alike.2.2 _ _ hk
  refine ⟨m.cls, k', by rw [hW.alike.findClass]; exact hfc, hk', by rw [he]; exact hn, Lambda.isMade_warmer hW hmade, ?_⟩
  have hA := hW.alike
  simp only [State.lambdaCallable, hA.findClass, hA.assignable, hA.superclasses, hA.declaredIn] at hcan ⊢
  exact hcan
theorem lm_obj {args : Array Value} {s : State} (h : (Cond.instantiable "java/lang/Object" 0).before args s = true) : ∀ o ok, s.vm.findClass "java/lang/Object" = some o → s.vm.classes[o]? = some ok → ok.instanceTypes.size = 0 := by
  intro o ok h1 h2
  obtain ⟨c, k, hc, hk, -, -, -, hs⟩ := Cond.instantiable_spec h
  cases h1.symm.trans hc
  cases h2.symm.trans hk
  exact hs
/-- the made class takes the interface's call -/
theorem lm_fn {s : State} {args : Array Value} {d cK : ClassId} {z : Lambda.Shape} (hmade : Lambda.isMade { classPath := fun _ => none } s.vm d z cK = true) (hcan : s.lambdaCallable z cK = true) (hz : z.iface = lmI.cls ∧ z.name = lmI.name ∧ z.sam.toString = lmI.desc)
    (hword : (Cond.interfaceMethod lmI.cls lmI.cls lmI.name lmI.desc).before args s = true) {r0 : MethodId} {r : Method} (hn : s.methodNamed? lmI = some r0) (hr : s.vm.method? r0 = some r) : s.vm.assignable cK r0.cls = true ∧ selectMethod {} s.vm cK r0 = .method ⟨cK, 1⟩ ∧
      ((cK :: s.vm.superclasses cK).any fun k => (declaredIn s.vm r.name r.desc k).any fun (_, y) => y.isPrivate || y.isStatic) = false := by
  obtain ⟨hcls, hname, hdesc⟩ := hz
  obtain ⟨cL, kL, r1', hcL, hkL, hiL, hfoundL, hn1⟩ := Cond.interfaceMethod_spec hword
  cases hn.symm.trans hn1
  have hr0cls : r0.cls = cL := Option.some.inj ((findClass_of_methodNamed hn).symm.trans hcL)
  obtain ⟨hnameR, hdescR⟩ := name_of_methodNamed hn hr
  obtain ⟨-, -, -, -, -, -, -, iface', -, -, -, -, found, -, -, -, -, -, hi', -, -, -, -, -, -, hfound', -, -, -, -, -, -, -, -, -, -, hsel⟩ := Lambda.isMade_spec hmade
  rw [hcls] at hi'
  cases hcL.symm.trans hi'
  have hfr : found = r0 := by
    have h1 : s.methodFound? lmI.cls lmI.name lmI.desc = some r0 := hfoundL
    simp only [State.methodFound?, hcL, hkL, hiL, Option.bind_eq_bind, Option.bind_some] at h1
    rw [hname, hdesc] at hfound'
    rw [hfound'] at h1
    exact Option.some.inj h1
  subst hfr
  obtain ⟨i2, hi2, hasg, hway⟩ := State.lambdaCallable_spec hcan
  rw [hcls] at hi2
  cases hcL.symm.trans hi2
  exact ⟨by rw [hr0cls]; exact hasg, hsel, by rw [hnameR, hdescR]; rw [hname, hdesc] at hway; exact hway⟩
