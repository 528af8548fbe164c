/-! LAMBDAS: a made class's method, run through -/
section LAM
variable {p : Program} {l : Launch} {e : Env} {R : Room} {s : State} {m : MethodId} {args : Array Value} {below : List Frame} {meth : Method} {c : Code} {T : State} {locs : List Loc} {cells slots : Nat}
abbrev lmVb : ByteArray := ⟨#[0x2a, 0xb4, 0x00, 0x0f, 0x2b, 0xb6, 0x00, 0x16, 0xac]⟩
theorem lmV0 : decode lmVb 0 = .ok (.aload_n 0, 1) := by decide +kernel
theorem lmV1 : decode lmVb 1 = .ok (.getfield 15, 3) := by decide +kernel
theorem lmV4 : decode lmVb 4 = .ok (.aload_n 1, 1) := by decide +kernel
theorem lmV5 : decode lmVb 5 = .ok (.invokevirtual 22, 3) := by decide +kernel
theorem lmV8 : decode lmVb 8 = .ok (.ireturn, 1) := by decide +kernel
abbrev lmSb : ByteArray := ⟨#[0x2b, 0xb8, 0x00, 0x11, 0xac]⟩
theorem lmS0 : decode lmSb 0 = .ok (.aload_n 1, 1) := by decide +kernel
theorem lmS1 : decode lmSb 1 = .ok (.invokestatic 17, 3) := by decide +kernel
theorem lmS4 : decode lmSb 4 = .ok (.ireturn, 1) := by decide +kernel
theorem lm_weaken {tb : Tables} {e : Env} {mid below : List Frame} {a b : State} (h : Steps tb e (mid ++ below) a b) : Steps tb e below a b := by
  obtain ⟨n, hn, w⟩ := h
  exact ⟨n, hn, fun k hk => (w k hk).weaken⟩
/-- aload_0, getfield, aload_1, invokevirtual, ireturn -/
theorem lm_thruV (X : Stand p l e R s m args below meth c T locs cells slots) (hexec : p.tables.exec = Jvm.exec) {g : JFrame} (hg : g.method = m) (hsize : g.locals.size = c.maxLocals) {ig : Instr} {len : Nat} (hdg : decode c.code g.pc = .ok (ig, len))
    {mk : MethodId} {methk : Method} {ck : Code} (hmk : T.vm.method? mk = some methk) (hck : methk.code = some ck) (hbytes : ck.code = lmVb) (hml : ck.maxLocals = 2) (hlk : methk.locks = false) (hpk : T.plainMethod mk) (hretk : methk.sig.returnType = some .boolean)
    {a b q : Addr} {cellK : Cell} {f1 : Field} (hcellK : T.heap[a]? = some cellK) (hknown : cellK.vm ≠ .unknown) (hf1 : T.vm.fieldReady mk.cls 15 mk.cls f1) (hf1s : f1.isStatic = false) (hslot1 : cellK.slots[f1.slot]? = some (.ref b))
    {r t : MethodId} {kr kt : Class} {methr metht : Method} {cellB : Cell} (hnamed : namesAClass T mk.cls 22) (hready : T.vm.methodReady mk.cls 22 r) (hkr : T.vm.classes[r.cls]? = some kr) (hmr : T.vm.method? r = some methr)
    (hpoly : signaturePolymorphic kr methr = false) (hstatic : methr.isStatic = false) (hpar : methr.sig.parameters.length = 1)
    (hcellB : T.heap[b]? = some cellB) (hobjB : ∀ k, cellB.vm ≠ .statics k) (hsel : selectMethod e.platform T.vm cellB.cls r = .method t) (hmt : T.vm.method? t = some metht) (habs : metht.isAbstract = false)
    (hkt : T.vm.classes[t.cls]? = some kt) (hitf : kt.isInterface = false)
    {y : MethodName} (hy : T.methodNamed? y = some t) {R' : Room} {mc ms : Nat} {Pc : Array Value → State → Prop} {Qc : Array Value → State → Outcome → State → Prop} {free : Addr → Prop}
    (hK : Back l R' p e (.java g :: below) (T.calling g mk #[.ref a, .ref q]) #[.ref a, .ref q] y 3 8 (PreOf R' mc ms Pc) (PostOf Qc mc ms free)) (hmc : mc ≤ R'.cells ∧ ms ≤ R'.slots)
    (hpre : ∀ U : State, U.heap = T.heap → U.vm = T.vm → Pc #[.ref b, .ref q] U) (hret : ∀ st o t, Qc #[.ref b, .ref q] st o t → ∃ w : Int32, o = .returned (some (.int w)) ∧ narrow .boolean (.int w) = .int w)
    (hframes : R'.frames + 1 ≤ R.frames) (hlocals : 2 * g.monitorRoom + (g.stack.map fun v => v.category).sum + (ck.maxLocals + 11) + R'.locals ≤ R.locals) (hcells : cells + R'.cells ≤ R.cells) (hslots : slots + R'.slots ≤ R.slots) :
    ∃ (w : Int32) (st₀ u T' : State) (L : List Loc), st₀.heap = T.heap ∧ Stand p l e R s m args below meth c T' (locs ++ L) (cells + mc) (slots + ms) ∧ (∀ z ∈ L, free z.base) ∧ T'.heap = u.heap ∧ T'.vm = u.vm ∧ Qc #[.ref b, .ref q] st₀ (.returned (some (.int w))) u ∧
      ∀ acts, Steps p.tables e below (doInvoke e (T.setTop g) acts mk #[.ref a, .ref q]).1 (T'.setTop { g with pc := g.pc + len, stack := [.int w] ++ g.stack }) := by
  obtain ⟨Y₀, hin⟩ := X.into hg hsize hdg #[.ref a, .ref q] (R' := R') hmk hck hlk hpk hframes hlocals hcells hslots
  generalize hU : (T.setTop g).pushFrame (.java (entryFrame mk #[.ref a, .ref q] ck.maxLocals)) = U at Y₀ hin
  have hvm : U.vm = T.vm := by rw [← hU]; rfl
  have hheap : U.heap = T.heap := by rw [← hU]; rfl
  have hyU : U.methodNamed? y = some t := by
    have : (T.setVm U.vm).methodNamed? y = some t := by rw [hvm]; exact hy
    exact this
  obtain ⟨v, ⟨U₁, L₁, c₁, n₁⟩, Y₁, hpost, hsteps⟩ := hK mk methk ck ⟨U, [], 0, 0⟩ { method := mk, pc := 5, locals := #[.val (.ref a), .val (.ref q)], stack := [], locked := none } (.invokevirtual 22) t #[.ref b, .ref q] Y₀ rfl (by rw [hml]; rfl) (by rw [hbytes]; exact lmV5) (by show 2 * 0 + 0 ≤ 8; decide) hyU
    ⟨by show 0 + mc ≤ _; omega, by show 0 + ms ≤ _; omega, hpre U hheap hvm⟩
  obtain ⟨gq, mkq, u, L, q1, q2, hq, q3, q4, q5, q6⟩ := hpost
  dsimp only [Pt.U, Pt.locs, Pt.cells, Pt.slots] at Y₁ q1 q2 q3 q5 q6 hsteps hq
  obtain ⟨w, hw, hnw⟩ := hret _ _ _ hq
  obtain rfl : v = some (.int w) := Outcome.returned.inj hw
  obtain ⟨fs, hleave, -, hended, hWe, hsame⟩ := Y₁.leave (v := some (.int w)) (fun h => by rw [hretk] at h; cases h) hlk
  obtain ⟨T', X', hW', -, ht⟩ := X.outOf hg hdg hended hWe hsame
  have eh : T'.heap = U₁.heap := by
    have : (T'.setTop { g with pc := g.pc + len, stack := (some (Value.int w)).toList ++ g.stack }).heap = (U₁.setFrames fs).heap := by rw [← ht]
    simpa using this
  have ev : T'.vm = U₁.vm := by
    have : (T'.setTop { g with pc := g.pc + len, stack := (some (Value.int w)).toList ++ g.stack }).vm = (U₁.setFrames fs).vm := by rw [← ht]
    simpa using this
  subst q3
  rw [Nat.zero_add] at q5 q6
  subst q5
  subst q6
  refine ⟨w, U.calling gq mkq #[.ref b, .ref q], u, T', L₁, hheap, X', q4, eh.trans q1, ev.trans q2, hq, fun acts => ?_⟩
  rw [hin acts]
  show Steps p.tables e below _ (T'.setTop { g with pc := g.pc + len, stack := (some (Value.int w)).toList ++ g.stack })
  rw [← ht]
  refine lm_weaken (mid := [.java g]) ?_
  have hloc : entryFrame mk #[.ref a, .ref q] ck.maxLocals = { method := mk, pc := 0, locals := #[.val (.ref a), .val (.ref q)], stack := [], locked := none } := by rw [hml]; rfl
  rw [hloc]
  have hs : U.topJava?.isSome := Y₀.here.top
  jvm_step Y₀.here [hexec, hbytes, lmV0, Value.isRef]
  jvm_step Y₀.here [hexec, hbytes, lmV1, getfield.wp_ready (e := e) (s := U) (c := mk.cls) (field := f1) (a := a) (rest := []) (cell := cellK) (v := .ref b)
    (f := { method := mk, pc := 1, locals := #[.val (.ref a), .val (.ref q)], stack := [.ref a], locked := none }) hs (by rw [hvm]; exact hf1) hf1s rfl (by rw [hheap]; exact hcellK) hknown hslot1]
  jvm_step Y₀.here [hexec, hbytes, lmV4, Value.isRef]
  jvm_step Y₀.here [hexec, hbytes, lmV5, invokevirtual.wp_ready (e := e) (s := U) (r := r) (m := t) (k := kr) (mk := kt) (rmeth := methr) (meth := metht) (a := b) (args := [.ref q]) (rest := []) (cell := cellB)
    (f := { method := mk, pc := 5, locals := #[.val (.ref a), .val (.ref q)], stack := [.ref q, .ref b], locked := none }) hs (by rw [← hU]; exact hnamed) (by rw [hvm]; exact hready) (by rw [hvm]; exact hkr) (by rw [hvm]; exact hmr) hpoly hstatic hpar.symm rfl
    (by rw [hheap]; exact hcellB) hobjB (by rw [hvm]; exact hsel) (by rw [hvm]; exact hmt) habs (by rw [hvm]; exact hkt) hitf]
  intro acts'
  rw [doInvoke_state]
  refine hsteps.trans ?_
  show Steps p.tables e (.java g :: below) (U₁.setTop { method := mk, pc := 8, locals := #[.val (.ref a), .val (.ref q)], stack := [.int w], locked := none }) _
  have hs1 : U₁.topJava?.isSome := Y₁.here.top
  jvm_step Y₁.here [hs1, hexec, hbytes, lmV8, (show U₁.vm.method? mk = some methk from Y₁.method'), hretk, hnw]
  intro acts''
  rw [hleave { method := mk, pc := 8, locals := #[.val (.ref a), .val (.ref q)], stack := [], locked := none } acts'' rfl rfl rfl]
  exact Steps.refl _
/-- aload_1, invokestatic, ireturn -/
theorem lm_thruS (X : Stand p l e R s m args below meth c T locs cells slots) (hexec : p.tables.exec = Jvm.exec) {g : JFrame} (hg : g.method = m) (hsize : g.locals.size = c.maxLocals) {ig : Instr} {len : Nat} (hdg : decode c.code g.pc = .ok (ig, len))
    {mk : MethodId} {methk : Method} {ck : Code} (hmk : T.vm.method? mk = some methk) (hck : methk.code = some ck) (hbytes : ck.code = lmSb) (hml : ck.maxLocals = 2) (hlk : methk.locks = false) (hpk : T.plainMethod mk) (hretk : methk.sig.returnType = some .boolean)
    {a q : Addr} {t : MethodId} {kt : Class} {metht : Method} (href : plainRef T e mk.cls 17) (hready : T.vm.methodReady mk.cls 17 t) (hkt : T.vm.classes[t.cls]? = some kt) (hmt : T.vm.method? t = some metht)
    (hpoly : signaturePolymorphic kt metht = false) (hstatic : metht.isStatic = true) (hinit : kt.init = .initialized) (hpar : metht.sig.parameters.length = 1)
    {y : MethodName} (hy : T.methodNamed? y = some t) {R' : Room} {mc ms : Nat} {Pc : Array Value → State → Prop} {Qc : Array Value → State → Outcome → State → Prop} {free : Addr → Prop}
    (hK : Back l R' p e (.java g :: below) (T.calling g mk #[.ref a, .ref q]) #[.ref a, .ref q] y 3 8 (PreOf R' mc ms Pc) (PostOf Qc mc ms free)) (hmc : mc ≤ R'.cells ∧ ms ≤ R'.slots)
    (hpre : ∀ U : State, U.heap = T.heap → U.vm = T.vm → Pc #[.ref q] U) (hret : ∀ st o t, Qc #[.ref q] st o t → ∃ w : Int32, o = .returned (some (.int w)) ∧ narrow .boolean (.int w) = .int w)
    (hframes : R'.frames + 1 ≤ R.frames) (hlocals : 2 * g.monitorRoom + (g.stack.map fun v => v.category).sum + (ck.maxLocals + 11) + R'.locals ≤ R.locals) (hcells : cells + R'.cells ≤ R.cells) (hslots : slots + R'.slots ≤ R.slots) :
    ∃ (w : Int32) (st₀ u T' : State) (L : List Loc), st₀.heap = T.heap ∧ Stand p l e R s m args below meth c T' (locs ++ L) (cells + mc) (slots + ms) ∧ (∀ z ∈ L, free z.base) ∧ T'.heap = u.heap ∧ T'.vm = u.vm ∧ Qc #[.ref q] st₀ (.returned (some (.int w))) u ∧
      ∀ acts, Steps p.tables e below (doInvoke e (T.setTop g) acts mk #[.ref a, .ref q]).1 (T'.setTop { g with pc := g.pc + len, stack := [.int w] ++ g.stack }) := by
  obtain ⟨Y₀, hin⟩ := X.into hg hsize hdg #[.ref a, .ref q] (R' := R') hmk hck hlk hpk hframes hlocals hcells hslots
  generalize hU : (T.setTop g).pushFrame (.java (entryFrame mk #[.ref a, .ref q] ck.maxLocals)) = U at Y₀ hin
  have hvm : U.vm = T.vm := by rw [← hU]; rfl
  have hheap : U.heap = T.heap := by rw [← hU]; rfl
  have hyU : U.methodNamed? y = some t := by
    have : (T.setVm U.vm).methodNamed? y = some t := by rw [hvm]; exact hy
    exact this
  obtain ⟨v, ⟨U₁, L₁, c₁, n₁⟩, Y₁, hpost, hsteps⟩ := hK mk methk ck ⟨U, [], 0, 0⟩ { method := mk, pc := 1, locals := #[.val (.ref a), .val (.ref q)], stack := [], locked := none } (.invokestatic 17) t #[.ref q] Y₀ rfl (by rw [hml]; rfl) (by rw [hbytes]; exact lmS1) (by show 2 * 0 + 0 ≤ 8; decide) hyU
    ⟨by show 0 + mc ≤ _; omega, by show 0 + ms ≤ _; omega, hpre U hheap hvm⟩
  obtain ⟨gq, mkq, u, L, q1, q2, hq, q3, q4, q5, q6⟩ := hpost
  dsimp only [Pt.U, Pt.locs, Pt.cells, Pt.slots] at Y₁ q1 q2 q3 q5 q6 hsteps hq
  obtain ⟨w, hw, hnw⟩ := hret _ _ _ hq
  obtain rfl : v = some (.int w) := Outcome.returned.inj hw
  obtain ⟨fs, hleave, -, hended, hWe, hsame⟩ := Y₁.leave (v := some (.int w)) (fun h => by rw [hretk] at h; cases h) hlk
  obtain ⟨T', X', hW', -, ht⟩ := X.outOf hg hdg hended hWe hsame
  have eh : T'.heap = U₁.heap := by
    have : (T'.setTop { g with pc := g.pc + len, stack := (some (Value.int w)).toList ++ g.stack }).heap = (U₁.setFrames fs).heap := by rw [← ht]
    simpa using this
  have ev : T'.vm = U₁.vm := by
    have : (T'.setTop { g with pc := g.pc + len, stack := (some (Value.int w)).toList ++ g.stack }).vm = (U₁.setFrames fs).vm := by rw [← ht]
    simpa using this
  subst q3
  rw [Nat.zero_add] at q5 q6
  subst q5
  subst q6
  refine ⟨w, U.calling gq mkq #[.ref q], u, T', L₁, hheap, X', q4, eh.trans q1, ev.trans q2, hq, fun acts => ?_⟩
  rw [hin acts]
  show Steps p.tables e below _ (T'.setTop { g with pc := g.pc + len, stack := (some (Value.int w)).toList ++ g.stack })
  rw [← ht]
  refine lm_weaken (mid := [.java g]) ?_
  have hloc : entryFrame mk #[.ref a, .ref q] ck.maxLocals = { method := mk, pc := 0, locals := #[.val (.ref a), .val (.ref q)], stack := [], locked := none } := by rw [hml]; rfl
  rw [hloc]
  have hs : U.topJava?.isSome := Y₀.here.top
  jvm_step Y₀.here [hexec, hbytes, lmS0, Value.isRef]
  jvm_step Y₀.here [hexec, hbytes, lmS1, invokestatic.wp_ready (e := e) (s := U) (m := t) (k := kt) (meth := metht) (args := [.ref q]) (rest := [])
    (f := { method := mk, pc := 1, locals := #[.val (.ref a), .val (.ref q)], stack := [.ref q], locked := none }) hs (by rw [← hU]; exact href) (by rw [hvm]; exact hready) (by rw [hvm]; exact hkt) (by rw [hvm]; exact hmt) hpoly hstatic hinit hpar.symm rfl]
  intro acts'
  rw [doInvoke_state]
  refine hsteps.trans ?_
  show Steps p.tables e (.java g :: below) (U₁.setTop { method := mk, pc := 4, locals := #[.val (.ref a), .val (.ref q)], stack := [.int w], locked := none }) _
  have hs1 : U₁.topJava?.isSome := Y₁.here.top
  jvm_step Y₁.here [hs1, hexec, hbytes, lmS4, (show U₁.vm.method? mk = some methk from Y₁.method'), hretk, hnw]
  intro acts''
  rw [hleave { method := mk, pc := 4, locals := #[.val (.ref a), .val (.ref q)], stack := [], locked := none } acts'' rfl rfl rfl]
  exact Steps.refl _
end LAM
