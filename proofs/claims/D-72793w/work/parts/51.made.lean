/-! MADE: the four made classes, out of what the rule writes -/
section MADE
abbrev lmNone : ClassFile := { minorVersion := 0, majorVersion := 0, constantPool := #[], accessFlags := 0, thisClass := 0, superClass := 0, interfaces := #[], fields := #[], methods := #[], attributes := #[] }
theorem lm_code {fw b : Method} {bytes : ByteArray} {n : Nat} (hs : Lambda.sameMethod fw b = true) (fc : (fw.code.map fun c => (c.code.data, c.maxLocals)) = some (bytes.data, n)) (ff : (fw.accessFlags, fw.sig.returnType) = (0x0001, some FieldType.boolean)) :
    ∃ ck : Code, b.code = some ck ∧ ck.code = bytes ∧ ck.maxLocals = n ∧ b.locks = false ∧ b.accessFlags = 0x0001 ∧ b.sig.returnType = some .boolean := by
  obtain ⟨hn, -, hsig, hfl, x, y, hx, hy, -, hml, hcd, -⟩ := Lambda.sameMethod_spec hs
  simp only [Prod.mk.injEq] at ff
  rw [hx] at fc
  simp only [Option.map_some, Option.some.injEq, Prod.mk.injEq] at fc
  refine ⟨y, hy, by rw [hcd]; exact ByteArray.ext fc.1, by rw [hml]; exact fc.2, ?_, by rw [hfl]; exact ff.1, by rw [hsig]; exact ff.2⟩
  simp [Method.locks, Method.isSynchronized, hfl, ff.1, hasFlag, Acc.synchronized]
def lmZ0 : Lambda.Shape := { iface := "EvenWords$Sort", name := "is", sam := (⟨[FieldType.object "EvenWords$Piece"], some FieldType.boolean⟩ : MethodDescriptor), captured := [FieldType.object "EvenWords"], kind := 5, implClass := "EvenWords", implName := "lambda$new$0", implDesc := (⟨[FieldType.object "EvenWords$Piece"], some FieldType.boolean⟩ : MethodDescriptor), implItf := false, inst := (⟨[FieldType.object "EvenWords$Piece"], some FieldType.boolean⟩ : MethodDescriptor) }
def lmD0 : ClassFile := (lmZ0.file "EvenWords").getD lmNone
def lmF0 : Method := ((layoutMethods lmD0).bind (fun ms => ms[1]?)).getD default
theorem lmD0_is : lmZ0.file "EvenWords" = some lmD0 := by
  have h : (lmZ0.file "EvenWords").isSome = true := by decide +kernel
  obtain ⟨x, hx⟩ := Option.isSome_iff_exists.mp h
  simp [lmD0, hx]
theorem lmF0_is : ∀ ms, layoutMethods lmD0 = some ms → ms[1]? = some lmF0 := by
  intro ms hms
  have h : ((layoutMethods lmD0).bind (fun ms => ms[1]?)).isSome = true := by decide +kernel
  obtain ⟨x, hx⟩ := Option.isSome_iff_exists.mp h
  have hf : lmF0 = x := by simp [lmF0, hx]
  rw [hms] at hx
  rw [hf]
  exact hx
theorem lmF0_c : (lmF0.code.map fun c => (c.code.data, c.maxLocals)) = some (lmVb.data, 2) := by decide +kernel
theorem lmF0_f : (lmF0.accessFlags, lmF0.sig.returnType) = (0x0001, some FieldType.boolean) := by decide +kernel
theorem lmM0 : lmD0.constantPool[22]? = some (.methodref 19 21) ∧ lmD0.constantPool.className? 19 = some "EvenWords" ∧ lmD0.constantPool.nameAndType? 21 = some ("lambda$new$0", "(LEvenWords$Piece;)Z") := by decide +kernel
theorem lmC0 : lmD0.constantPool[19]? = some (.class_ 18) ∧ lmD0.constantPool.string? 18 = some "EvenWords" ∧ 19 ≠ lmD0.thisClass := by decide +kernel
def lmL0 : Array Field × Array FieldType × Array FieldType := (layoutFields lmD0 0).getD (#[], #[], #[])
theorem lmL0_is : layoutFields lmD0 0 = some lmL0 := by
  have h : (layoutFields lmD0 0).isSome = true := by decide +kernel
  obtain ⟨x, hx⟩ := Option.isSome_iff_exists.mp h
  simp [lmL0, hx]
theorem lmX0 : lmD0.constantPool[15]? = some (.fieldref 2 14) ∧ lmD0.constantPool.nameAndType? 14 = some ("arg$1", "LEvenWords;") ∧ lmL0.1.findIdx? (fun f => f.name == "arg$1") = some 0 ∧ (lmL0.1[0]?).map (fun f => (f.isStatic, f.slot)) = some (false, 0) := by decide +kernel
theorem lmT0 : lmL0.2.1 = #[FieldType.object "EvenWords"] := by decide +kernel
theorem lm_made0 {e : Setting} {vm : Vm} {d c : ClassId} {dk : Class} (hd : vm.classes[d]? = some dk) (hname : dk.name = "EvenWords") (h : Lambda.isMade e vm d lmZ0 c = true) (hO : ∀ o ok, vm.findClass "java/lang/Object" = some o → vm.classes[o]? = some ok → ok.instanceTypes.size = 0) :
    ∃ (k tk : Class) (file : ClassFile) (methk : Method) (ck : Code) (toy : ClassId) (t : MethodId),
      vm.classes[c]? = some k ∧ k.name = "EvenWords$$Lambda" ∧ k.cf = some file ∧ file.constantPool = lmD0.constantPool ∧ vm.method? ⟨c, 1⟩ = some methk ∧ methk.code = some ck ∧ ck.code = lmVb ∧ ck.maxLocals = 2 ∧ methk.locks = false ∧ methk.accessFlags = 0x0001 ∧ methk.sig.returnType = some .boolean ∧
      vm.findClass "EvenWords" = some toy ∧ vm.classes[toy]? = some tk ∧ tk.isInterface = false ∧ ((methodIn toy "lambda$new$0" "(LEvenWords$Piece;)Z" tk.isInterface none).ask e vm).1 = .ok t ∧ vm.methodReady c 22 t ∧ vm.classReady c 19 toy ∧ (∃ g0 : Field, vm.fieldReady c 15 c g0 ∧ g0.isStatic = false ∧ g0.slot = 0) ∧ k.instanceTypes = #[FieldType.object "EvenWords"] ∧ k.kind = .ordinary := by
  obtain ⟨dk', k, ok, tk, file, cf, object, iface, toy, lay, methods, target, found, hd', hk, hfile, hcf, hobj, -, hok, hlay, hms, ht, htk, hg, -, hrec, -, -, -, hitf, hpool, hmeth, hfields, hty, hres, -⟩ := Lambda.isMade_spec h
  cases hd.symm.trans hd'
  rw [hname, lmD0_is] at hcf
  cases hcf
  have hok0 : ok.instanceTypes = #[] := Array.eq_empty_of_size_eq_zero (hO object ok hobj hok)
  rw [hO object ok hobj hok, lmL0_is] at hlay
  cases hlay
  obtain ⟨g0, hg0, hp0⟩ := Option.map_eq_some_iff.mp lmX0.2.2.2
  simp only [Prod.mk.injEq] at hp0
  obtain ⟨b, hb, hsame⟩ := hmeth 1 lmF0 (lmF0_is methods hms)
  obtain ⟨ck, q1, q2, q3, q4, q5, q6⟩ := lm_code hsame lmF0_c lmF0_f
  exact ⟨k, tk, file, b, ck, toy, target, hk, by rw [hrec.1, hname]; rfl, hfile, hpool.2.1, by simp [Vm.method?, hk, hb], q1, q2, q3, q4, q5, q6, ht, htk, hitf, hg,
    ⟨k, hk, hres 22 _ (Lambda.resolvedOf_method lmM0.1 lmM0.2.1 ht htk lmM0.2.2 hg)⟩, ⟨k, hk, hres 19 _ (Lambda.resolvedOf_class lmC0.1 lmC0.2.2 lmC0.2.1 ht)⟩, ⟨g0, ⟨k, 0, k, hk, hres 15 _ (Lambda.resolvedOf_field lmX0.1 lmX0.2.1 lmX0.2.2.1), hk, hfields 0 _ hg0⟩, hp0.1, hp0.2⟩, by rw [hty.1, hok0, lmT0]; rfl, hrec.2.1⟩
def lmZ1 : Lambda.Shape := { iface := "EvenWords$Sort", name := "is", sam := (⟨[FieldType.object "EvenWords$Piece"], some FieldType.boolean⟩ : MethodDescriptor), captured := [FieldType.object "EvenWords"], kind := 5, implClass := "EvenWords", implName := "lambda$new$1", implDesc := (⟨[FieldType.object "EvenWords$Piece"], some FieldType.boolean⟩ : MethodDescriptor), implItf := false, inst := (⟨[FieldType.object "EvenWords$Piece"], some FieldType.boolean⟩ : MethodDescriptor) }
def lmD1 : ClassFile := (lmZ1.file "EvenWords").getD lmNone
def lmF1 : Method := ((layoutMethods lmD1).bind (fun ms => ms[1]?)).getD default
theorem lmD1_is : lmZ1.file "EvenWords" = some lmD1 := by
  have h : (lmZ1.file "EvenWords").isSome = true := by decide +kernel
  obtain ⟨x, hx⟩ := Option.isSome_iff_exists.mp h
  simp [lmD1, hx]
theorem lmF1_is : ∀ ms, layoutMethods lmD1 = some ms → ms[1]? = some lmF1 := by
  intro ms hms
  have h : ((layoutMethods lmD1).bind (fun ms => ms[1]?)).isSome = true := by decide +kernel
  obtain ⟨x, hx⟩ := Option.isSome_iff_exists.mp h
  have hf : lmF1 = x := by simp [lmF1, hx]
  rw [hms] at hx
  rw [hf]
  exact hx
theorem lmF1_c : (lmF1.code.map fun c => (c.code.data, c.maxLocals)) = some (lmVb.data, 2) := by decide +kernel
theorem lmF1_f : (lmF1.accessFlags, lmF1.sig.returnType) = (0x0001, some FieldType.boolean) := by decide +kernel
theorem lmM1 : lmD1.constantPool[22]? = some (.methodref 19 21) ∧ lmD1.constantPool.className? 19 = some "EvenWords" ∧ lmD1.constantPool.nameAndType? 21 = some ("lambda$new$1", "(LEvenWords$Piece;)Z") := by decide +kernel
theorem lmC1 : lmD1.constantPool[19]? = some (.class_ 18) ∧ lmD1.constantPool.string? 18 = some "EvenWords" ∧ 19 ≠ lmD1.thisClass := by decide +kernel
def lmL1 : Array Field × Array FieldType × Array FieldType := (layoutFields lmD1 0).getD (#[], #[], #[])
theorem lmL1_is : layoutFields lmD1 0 = some lmL1 := by
  have h : (layoutFields lmD1 0).isSome = true := by decide +kernel
  obtain ⟨x, hx⟩ := Option.isSome_iff_exists.mp h
  simp [lmL1, hx]
theorem lmX1 : lmD1.constantPool[15]? = some (.fieldref 2 14) ∧ lmD1.constantPool.nameAndType? 14 = some ("arg$1", "LEvenWords;") ∧ lmL1.1.findIdx? (fun f => f.name == "arg$1") = some 0 ∧ (lmL1.1[0]?).map (fun f => (f.isStatic, f.slot)) = some (false, 0) := by decide +kernel
theorem lmT1 : lmL1.2.1 = #[FieldType.object "EvenWords"] := by decide +kernel
theorem lm_made1 {e : Setting} {vm : Vm} {d c : ClassId} {dk : Class} (hd : vm.classes[d]? = some dk) (hname : dk.name = "EvenWords") (h : Lambda.isMade e vm d lmZ1 c = true) (hO : ∀ o ok, vm.findClass "java/lang/Object" = some o → vm.classes[o]? = some ok → ok.instanceTypes.size = 0) :
    ∃ (k tk : Class) (file : ClassFile) (methk : Method) (ck : Code) (toy : ClassId) (t : MethodId),
      vm.classes[c]? = some k ∧ k.name = "EvenWords$$Lambda" ∧ k.cf = some file ∧ file.constantPool = lmD1.constantPool ∧ vm.method? ⟨c, 1⟩ = some methk ∧ methk.code = some ck ∧ ck.code = lmVb ∧ ck.maxLocals = 2 ∧ methk.locks = false ∧ methk.accessFlags = 0x0001 ∧ methk.sig.returnType = some .boolean ∧
      vm.findClass "EvenWords" = some toy ∧ vm.classes[toy]? = some tk ∧ tk.isInterface = false ∧ ((methodIn toy "lambda$new$1" "(LEvenWords$Piece;)Z" tk.isInterface none).ask e vm).1 = .ok t ∧ vm.methodReady c 22 t ∧ vm.classReady c 19 toy ∧ (∃ g0 : Field, vm.fieldReady c 15 c g0 ∧ g0.isStatic = false ∧ g0.slot = 0) ∧ k.instanceTypes = #[FieldType.object "EvenWords"] ∧ k.kind = .ordinary := by
  obtain ⟨dk', k, ok, tk, file, cf, object, iface, toy, lay, methods, target, found, hd', hk, hfile, hcf, hobj, -, hok, hlay, hms, ht, htk, hg, -, hrec, -, -, -, hitf, hpool, hmeth, hfields, hty, hres, -⟩ := Lambda.isMade_spec h
  cases hd.symm.trans hd'
  rw [hname, lmD1_is] at hcf
  cases hcf
  have hok0 : ok.instanceTypes = #[] := Array.eq_empty_of_size_eq_zero (hO object ok hobj hok)
  rw [hO object ok hobj hok, lmL1_is] at hlay
  cases hlay
  obtain ⟨g0, hg0, hp0⟩ := Option.map_eq_some_iff.mp lmX1.2.2.2
  simp only [Prod.mk.injEq] at hp0
  obtain ⟨b, hb, hsame⟩ := hmeth 1 lmF1 (lmF1_is methods hms)
  obtain ⟨ck, q1, q2, q3, q4, q5, q6⟩ := lm_code hsame lmF1_c lmF1_f
  exact ⟨k, tk, file, b, ck, toy, target, hk, by rw [hrec.1, hname]; rfl, hfile, hpool.2.1, by simp [Vm.method?, hk, hb], q1, q2, q3, q4, q5, q6, ht, htk, hitf, hg,
    ⟨k, hk, hres 22 _ (Lambda.resolvedOf_method lmM1.1 lmM1.2.1 ht htk lmM1.2.2 hg)⟩, ⟨k, hk, hres 19 _ (Lambda.resolvedOf_class lmC1.1 lmC1.2.2 lmC1.2.1 ht)⟩, ⟨g0, ⟨k, 0, k, hk, hres 15 _ (Lambda.resolvedOf_field lmX1.1 lmX1.2.1 lmX1.2.2.1), hk, hfields 0 _ hg0⟩, hp0.1, hp0.2⟩, by rw [hty.1, hok0, lmT1]; rfl, hrec.2.1⟩
def lmZ2 : Lambda.Shape := { iface := "EvenWords$Sort", name := "is", sam := (⟨[FieldType.object "EvenWords$Piece"], some FieldType.boolean⟩ : MethodDescriptor), captured := [], kind := 6, implClass := "EvenWords", implName := "lambda$new$2", implDesc := (⟨[FieldType.object "EvenWords$Piece"], some FieldType.boolean⟩ : MethodDescriptor), implItf := false, inst := (⟨[FieldType.object "EvenWords$Piece"], some FieldType.boolean⟩ : MethodDescriptor) }
def lmD2 : ClassFile := (lmZ2.file "EvenWords").getD lmNone
def lmF2 : Method := ((layoutMethods lmD2).bind (fun ms => ms[1]?)).getD default
theorem lmD2_is : lmZ2.file "EvenWords" = some lmD2 := by
  have h : (lmZ2.file "EvenWords").isSome = true := by decide +kernel
  obtain ⟨x, hx⟩ := Option.isSome_iff_exists.mp h
  simp [lmD2, hx]
theorem lmF2_is : ∀ ms, layoutMethods lmD2 = some ms → ms[1]? = some lmF2 := by
  intro ms hms
  have h : ((layoutMethods lmD2).bind (fun ms => ms[1]?)).isSome = true := by decide +kernel
  obtain ⟨x, hx⟩ := Option.isSome_iff_exists.mp h
  have hf : lmF2 = x := by simp [lmF2, hx]
  rw [hms] at hx
  rw [hf]
  exact hx
theorem lmF2_c : (lmF2.code.map fun c => (c.code.data, c.maxLocals)) = some (lmSb.data, 2) := by decide +kernel
theorem lmF2_f : (lmF2.accessFlags, lmF2.sig.returnType) = (0x0001, some FieldType.boolean) := by decide +kernel
theorem lmM2 : lmD2.constantPool[17]? = some (.methodref 14 16) ∧ lmD2.constantPool.className? 14 = some "EvenWords" ∧ lmD2.constantPool.nameAndType? 16 = some ("lambda$new$2", "(LEvenWords$Piece;)Z") := by decide +kernel
theorem lmC2 : lmD2.constantPool[14]? = some (.class_ 13) ∧ lmD2.constantPool.string? 13 = some "EvenWords" ∧ 14 ≠ lmD2.thisClass := by decide +kernel
theorem lm_made2 {e : Setting} {vm : Vm} {d c : ClassId} {dk : Class} (hd : vm.classes[d]? = some dk) (hname : dk.name = "EvenWords") (h : Lambda.isMade e vm d lmZ2 c = true) :
    ∃ (k tk : Class) (file : ClassFile) (methk : Method) (ck : Code) (toy : ClassId) (t : MethodId),
      vm.classes[c]? = some k ∧ k.name = "EvenWords$$Lambda" ∧ k.cf = some file ∧ file.constantPool = lmD2.constantPool ∧ vm.method? ⟨c, 1⟩ = some methk ∧ methk.code = some ck ∧ ck.code = lmSb ∧ ck.maxLocals = 2 ∧ methk.locks = false ∧ methk.accessFlags = 0x0001 ∧ methk.sig.returnType = some .boolean ∧
      vm.findClass "EvenWords" = some toy ∧ vm.classes[toy]? = some tk ∧ tk.isInterface = false ∧ ((methodIn toy "lambda$new$2" "(LEvenWords$Piece;)Z" tk.isInterface none).ask e vm).1 = .ok t ∧ vm.methodReady c 17 t ∧ vm.classReady c 14 toy := by
  obtain ⟨dk', k, ok, tk, file, cf, object, iface, toy, lay, methods, target, found, hd', hk, hfile, hcf, hobj, -, hok, hlay, hms, ht, htk, hg, -, hrec, -, -, -, hitf, hpool, hmeth, hfields, hty, hres, -⟩ := Lambda.isMade_spec h
  cases hd.symm.trans hd'
  rw [hname, lmD2_is] at hcf
  cases hcf
  obtain ⟨b, hb, hsame⟩ := hmeth 1 lmF2 (lmF2_is methods hms)
  obtain ⟨ck, q1, q2, q3, q4, q5, q6⟩ := lm_code hsame lmF2_c lmF2_f
  exact ⟨k, tk, file, b, ck, toy, target, hk, by rw [hrec.1, hname]; rfl, hfile, hpool.2.1, by simp [Vm.method?, hk, hb], q1, q2, q3, q4, q5, q6, ht, htk, hitf, hg,
    ⟨k, hk, hres 17 _ (Lambda.resolvedOf_method lmM2.1 lmM2.2.1 ht htk lmM2.2.2 hg)⟩, ⟨k, hk, hres 14 _ (Lambda.resolvedOf_class lmC2.1 lmC2.2.2 lmC2.2.1 ht)⟩⟩
def lmZ3 : Lambda.Shape := { iface := "EvenWords$Sort", name := "is", sam := (⟨[FieldType.object "EvenWords$Piece"], some FieldType.boolean⟩ : MethodDescriptor), captured := [], kind := 6, implClass := "EvenWords", implName := "lambda$new$3", implDesc := (⟨[FieldType.object "EvenWords$Piece"], some FieldType.boolean⟩ : MethodDescriptor), implItf := false, inst := (⟨[FieldType.object "EvenWords$Piece"], some FieldType.boolean⟩ : MethodDescriptor) }
def lmD3 : ClassFile := (lmZ3.file "EvenWords").getD lmNone
def lmF3 : Method := ((layoutMethods lmD3).bind (fun ms => ms[1]?)).getD default
theorem lmD3_is : lmZ3.file "EvenWords" = some lmD3 := by
  have h : (lmZ3.file "EvenWords").isSome = true := by decide +kernel
  obtain ⟨x, hx⟩ := Option.isSome_iff_exists.mp h
  simp [lmD3, hx]
theorem lmF3_is : ∀ ms, layoutMethods lmD3 = some ms → ms[1]? = some lmF3 := by
  intro ms hms
  have h : ((layoutMethods lmD3).bind (fun ms => ms[1]?)).isSome = true := by decide +kernel
  obtain ⟨x, hx⟩ := Option.isSome_iff_exists.mp h
  have hf : lmF3 = x := by simp [lmF3, hx]
  rw [hms] at hx
  rw [hf]
  exact hx
theorem lmF3_c : (lmF3.code.map fun c => (c.code.data, c.maxLocals)) = some (lmSb.data, 2) := by decide +kernel
theorem lmF3_f : (lmF3.accessFlags, lmF3.sig.returnType) = (0x0001, some FieldType.boolean) := by decide +kernel
theorem lmM3 : lmD3.constantPool[17]? = some (.methodref 14 16) ∧ lmD3.constantPool.className? 14 = some "EvenWords" ∧ lmD3.constantPool.nameAndType? 16 = some ("lambda$new$3", "(LEvenWords$Piece;)Z") := by decide +kernel
theorem lmC3 : lmD3.constantPool[14]? = some (.class_ 13) ∧ lmD3.constantPool.string? 13 = some "EvenWords" ∧ 14 ≠ lmD3.thisClass := by decide +kernel
theorem lm_made3 {e : Setting} {vm : Vm} {d c : ClassId} {dk : Class} (hd : vm.classes[d]? = some dk) (hname : dk.name = "EvenWords") (h : Lambda.isMade e vm d lmZ3 c = true) :
    ∃ (k tk : Class) (file : ClassFile) (methk : Method) (ck : Code) (toy : ClassId) (t : MethodId),
      vm.classes[c]? = some k ∧ k.name = "EvenWords$$Lambda" ∧ k.cf = some file ∧ file.constantPool = lmD3.constantPool ∧ vm.method? ⟨c, 1⟩ = some methk ∧ methk.code = some ck ∧ ck.code = lmSb ∧ ck.maxLocals = 2 ∧ methk.locks = false ∧ methk.accessFlags = 0x0001 ∧ methk.sig.returnType = some .boolean ∧
      vm.findClass "EvenWords" = some toy ∧ vm.classes[toy]? = some tk ∧ tk.isInterface = false ∧ ((methodIn toy "lambda$new$3" "(LEvenWords$Piece;)Z" tk.isInterface none).ask e vm).1 = .ok t ∧ vm.methodReady c 17 t ∧ vm.classReady c 14 toy := by
  obtain ⟨dk', k, ok, tk, file, cf, object, iface, toy, lay, methods, target, found, hd', hk, hfile, hcf, hobj, -, hok, hlay, hms, ht, htk, hg, -, hrec, -, -, -, hitf, hpool, hmeth, hfields, hty, hres, -⟩ := Lambda.isMade_spec h
  cases hd.symm.trans hd'
  rw [hname, lmD3_is] at hcf
  cases hcf
  obtain ⟨b, hb, hsame⟩ := hmeth 1 lmF3 (lmF3_is methods hms)
  obtain ⟨ck, q1, q2, q3, q4, q5, q6⟩ := lm_code hsame lmF3_c lmF3_f
  exact ⟨k, tk, file, b, ck, toy, target, hk, by rw [hrec.1, hname]; rfl, hfile, hpool.2.1, by simp [Vm.method?, hk, hb], q1, q2, q3, q4, q5, q6, ht, htk, hitf, hg,
    ⟨k, hk, hres 17 _ (Lambda.resolvedOf_method lmM3.1 lmM3.2.1 ht htk lmM3.2.2 hg)⟩, ⟨k, hk, hres 14 _ (Lambda.resolvedOf_class lmC3.1 lmC3.2.2 lmC3.2.1 ht)⟩⟩
end MADE
