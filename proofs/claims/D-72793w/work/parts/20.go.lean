/-! THE GO LAYER: a walk's judgement with heap, locals and frame hidden; ints as Lean integers -/
set_option maxRecDepth 100000
/-- an int value by a Lean integer -/
abbrev vi (z : Int) : Value := .int (Int32.ofInt z)
abbrev vl (z : Int) : Value := .long (Int64.ofInt z)
abbrev Rg (z : Int) : Prop := -2147483648 ≤ z ∧ z < 2147483648
theorem i_toInt {z : Int} (h : Rg z) : (Int32.ofInt z).toInt = z := by
  exact Int32.toInt_ofInt_of_le (by omega) (by omega)
theorem i_inj {a b : Int} (ha : Rg a) (hb : Rg b) : Int32.ofInt a = Int32.ofInt b ↔ a = b := by
  rw [← Int32.toInt_inj, i_toInt ha, i_toInt hb]
theorem i_le {a b : Int} (ha : Rg a) (hb : Rg b) : Int32.ofInt a ≤ Int32.ofInt b ↔ a ≤ b := by
  rw [Int32.le_iff_toInt_le, i_toInt ha, i_toInt hb]
theorem i_lt {a b : Int} (ha : Rg a) (hb : Rg b) : Int32.ofInt a < Int32.ofInt b ↔ a < b := by
  rw [Int32.lt_iff_toInt_lt, i_toInt ha, i_toInt hb]
theorem i_surj (x : Int32) : ∃ z : Int, Rg z ∧ x = Int32.ofInt z := by
  refine ⟨x.toInt, ⟨Int32.le_toInt x, Int32.toInt_lt x⟩, ?_⟩
  rw [Int32.ofInt_toInt]
theorem i_add (a b : Int) : Int32.ofInt a + Int32.ofInt b = Int32.ofInt (a + b) := by
  rw [Int32.ofInt_add]
theorem i_sub (a b : Int) : Int32.ofInt a - Int32.ofInt b = Int32.ofInt (a - b) := by
  rw [Int32.ofInt_sub]
theorem i_mul (a b : Int) : Int32.ofInt a * Int32.ofInt b = Int32.ofInt (a * b) := by
  rw [Int32.ofInt_mul]
theorem i_neg (a : Int) : - Int32.ofInt a = Int32.ofInt (-a) := by
  rw [Int32.ofInt_neg]
theorem i_nat {z : Int} (h0 : 0 ≤ z) (h : z < 2147483648) : Int32.ofInt z = nI z.toNat := by
  unfold nI
  obtain ⟨n, rfl⟩ := Int.eq_ofNat_of_zero_le h0
  rfl
theorem i_clamp {z : Int} (h0 : 0 ≤ z) (h : z < 2147483648) : (Int32.ofInt z).toNatClampNeg = z.toNat := by
  rw [i_nat h0 h, nI_clamp (by omega)]
theorem i_in {z : Int} {n : Nat} (h : 0 ≤ z ∧ z < n) (hn : n < 2147483648) : vp_in (Int32.ofInt z) n := by
  rw [i_nat h.1 (by omega)]
  exact vp_in_nI (by omega) (by omega)
theorem i_div {a b : Int} (ha : 0 ≤ a ∧ a < 2147483648) (hb : 0 < b ∧ b < 2147483648) : Int32.ofInt a / Int32.ofInt b = Int32.ofInt (a / b) := by
  obtain ⟨n, rfl⟩ := Int.eq_ofNat_of_zero_le ha.1
  obtain ⟨m, rfl⟩ := Int.eq_ofNat_of_zero_le (Int.le_of_lt hb.1)
  have h := pk_div (a := n) (d := m) (by omega) (by omega) (by omega)
  exact h
theorem i_rem {a b : Int} (ha : 0 ≤ a ∧ a < 2147483648) (hb : 0 < b ∧ b < 2147483648) : Int32.ofInt a - Int32.ofInt a / Int32.ofInt b * Int32.ofInt b = Int32.ofInt (a % b) := by
  obtain ⟨n, rfl⟩ := Int.eq_ofNat_of_zero_le ha.1
  obtain ⟨m, rfl⟩ := Int.eq_ofNat_of_zero_le (Int.le_of_lt hb.1)
  have h := pk_rem (a := n) (d := m) (by omega) (by omega) (by omega)
  exact h
theorem i_smod : ∀ k : Nat, k < 32 → (((nI k) &&& 31).toBitVec.smod 32).toNat = k := by decide +kernel
theorem i_shr {a k : Int} (ha : Rg a) (hk : 0 ≤ k ∧ k < 32) : Int32.ofInt a >>> (Int32.ofInt k &&& 31) = Int32.ofInt (a / 2 ^ k.toNat) := by
  obtain ⟨n, rfl⟩ := Int.eq_ofNat_of_zero_le hk.1
  have h := pk_shr (Int32.ofInt a) (nI n &&& 31) n (i_smod n (by omega))
  rw [i_toInt ha, Int.shiftRight_eq_div_pow] at h
  have h2 : Int32.ofInt (n : Int) = nI n := rfl
  rw [h2, ← Int32.toInt_inj, h]
  have hp : (0 : Int) < 2 ^ n := Int.pow_pos (by decide)
  have e : ((Int.ofNat n).toNat) = n := rfl
  rw [show ((n : Int).toNat) = n from rfl, i_toInt]
  · simp
  · have h1 : -2147483648 ≤ a / 2 ^ n := by
      rcases Int.lt_or_le a 0 with hn | hn
      · have := Int.le_ediv_of_mul_le hp (a := -2147483648) (b := a) (by
          have : (-2147483648 : Int) * 2 ^ n ≤ -2147483648 * 1 := Int.mul_le_mul_of_nonpos_left (by decide) (by omega)
          omega)
        exact this
      · have := Int.ediv_nonneg hn (Int.le_of_lt hp)
        omega
    have h2 : a / 2 ^ n < 2147483648 := by
      apply Int.ediv_lt_of_lt_mul hp
      have : (2147483648 : Int) * 1 ≤ 2147483648 * 2 ^ n := Int.mul_le_mul_of_nonneg_left (by omega) (by decide)
      omega
    exact ⟨h1, h2⟩
theorem i_shl {k : Int} (hk : 0 ≤ k ∧ k < 31) : Int32.ofInt 1 <<< (Int32.ofInt k &&& 31) = Int32.ofInt (2 ^ k.toNat) := by
  obtain ⟨n, rfl⟩ := Int.eq_ofNat_of_zero_le hk.1
  have h := pk_shlN (n := 1) (nI n &&& 31) n (i_smod n (by omega)) (by
    have : 2 ^ n ≤ 2 ^ 30 := Nat.pow_le_pow_right (by decide) (by omega)
    omega)
  have e : Int32.ofInt (n : Int) = nI n := rfl
  have e1 : Int32.ofInt 1 = nI 1 := rfl
  rw [e, e1, h]
  show nI (1 * 2 ^ n) = Int32.ofInt (2 ^ n)
  rw [Nat.one_mul]
  unfold nI
  show Int32.ofInt ((2 ^ n : Nat) : Int) = _
  simp
theorem i_and {a b : Nat} : Int32.ofInt (a : Int) &&& Int32.ofInt (b : Int) = Int32.ofInt ((a &&& b : Nat) : Int) := by
  show nI a &&& nI b = nI (a &&& b)
  apply Int32.toBitVec_inj.mp
  simp [nI, Int32.toBitVec_and, BitVec.ofNat_and]
theorem i_or {a b : Nat} : Int32.ofInt (a : Int) ||| Int32.ofInt (b : Int) = Int32.ofInt ((a ||| b : Nat) : Int) := by
  show nI a ||| nI b = nI (a ||| b)
  apply Int32.toBitVec_inj.mp
  simp [nI, Int32.toBitVec_or, BitVec.ofNat_or]
/-- bitwise of integers that are at least 0 -/
def iand (a b : Int) : Int := ((a.toNat &&& b.toNat : Nat) : Int)
def ior (a b : Int) : Int := ((a.toNat ||| b.toNat : Nat) : Int)
theorem i_iand {a b : Int} (ha : 0 ≤ a) (hb : 0 ≤ b) : Int32.ofInt a &&& Int32.ofInt b = Int32.ofInt (iand a b) := by
  obtain ⟨n, rfl⟩ := Int.eq_ofNat_of_zero_le ha
  obtain ⟨m, rfl⟩ := Int.eq_ofNat_of_zero_le hb
  exact i_and
theorem i_ior {a b : Int} (ha : 0 ≤ a) (hb : 0 ≤ b) : Int32.ofInt a ||| Int32.ofInt b = Int32.ofInt (ior a b) := by
  obtain ⟨n, rfl⟩ := Int.eq_ofNat_of_zero_le ha
  obtain ⟨m, rfl⟩ := Int.eq_ofNat_of_zero_le hb
  exact i_or
theorem i_mask {a : Int} (ha : Rg a) (k : Nat) (hk : k ≤ 30) {m : Int} (hm : m = 2 ^ k - 1) : Int32.ofInt a &&& Int32.ofInt m = Int32.ofInt (a % 2 ^ k) := by
  have hp : (2 : Nat) ^ k ≤ 2 ^ 30 := Nat.pow_le_pow_right (by decide) hk
  have hp0 : 0 < (2 : Nat) ^ k := Nat.pow_pos (by decide)
  have hmt : (Int32.ofInt m).toBitVec.toNat = 2 ^ k - 1 := by
    have : m = ((2 ^ k - 1 : Nat) : Int) := by
      rw [hm, Int.natCast_sub hp0, Int.natCast_pow]
      rfl
    rw [this]
    exact pk_tn (by omega)
  rw [pk_and _ k hmt]
  have h1 : ((Int32.ofInt a).toBitVec.toNat : Int) % 2 ^ k = a % 2 ^ k := by
    have h2 : (Int32.ofInt a).toBitVec = BitVec.ofInt 32 a := rfl
    rw [h2, BitVec.toNat_ofInt]
    have h3 : ((a % ((2 ^ 32 : Nat) : Int)).toNat : Int) = a % ((2 ^ 32 : Nat) : Int) := Int.toNat_of_nonneg (Int.emod_nonneg _ (by decide))
    rw [h3]
    exact Int.emod_emod_of_dvd a (by
      refine ⟨2 ^ (32 - k), ?_⟩
      rw [← Int.pow_add, Nat.add_sub_cancel' (by omega)]
      rfl)
  unfold nI
  show Int32.ofInt (((Int32.ofInt a).toBitVec.toNat % 2 ^ k : Nat) : Int) = _
  rw [Int.natCast_emod, Int.natCast_pow]
  exact congrArg Int32.ofInt h1
/-! arrays: contents as functions of an integer index -/
abbrev ia (F : Int → Int) : Nat → Int32 := fun j => Int32.ofInt (F (j : Int))
abbrev ir (F : Int → Option Nat) : Nat → Option Nat := fun j => F (j : Int)
def uF {α : Type} (F : Int → α) (k : Int) (v : α) : Int → α := fun j => if j = k then v else F j
theorem uF_eq {α : Type} (F : Int → α) (k : Int) (v : α) : uF F k v k = v := if_pos rfl
theorem uF_ne {α : Type} (F : Int → α) {k j : Int} (v : α) (h : j ≠ k) : uF F k v j = F j := if_neg h
theorem ia_upd (F : Int → Int) {k v : Int} (h0 : 0 ≤ k) (h : k < 2147483648) : upd (ia F) (Int32.ofInt k).toNatClampNeg (Int32.ofInt v) = ia (uF F k v) := by
  rw [i_clamp h0 h]
  funext j
  unfold upd ia uF
  by_cases e : j = k.toNat
  · rw [if_pos e, if_pos (by omega)]
  · rw [if_neg e, if_neg (by omega)]
theorem ir_upd (F : Int → Option Nat) {k : Int} {v : Option Nat} (h0 : 0 ≤ k) (h : k < 2147483648) : va_up (ir F) (Int32.ofInt k).toNatClampNeg v = ir (uF F k v) := by
  rw [i_clamp h0 h]
  funext j
  unfold va_up ir uF
  by_cases e : j = k.toNat
  · rw [if_pos e, if_pos (by omega)]
  · rw [if_neg e, if_neg (by omega)]
/-- a stretch copied -/
def cpF {α : Type} (f g : Int → α) (sp dp n : Int) : Int → α := fun j => if dp ≤ j ∧ j < dp + n then f (sp + (j - dp)) else g j
theorem ia_cpy (f g : Int → Int) {sp dp n : Int} (h1 : 0 ≤ sp ∧ sp < 2147483648) (h2 : 0 ≤ dp ∧ dp < 2147483648) (h3 : 0 ≤ n ∧ n < 2147483648) :
    va_cpy (ia f) (ia g) (Int32.ofInt sp).toNatClampNeg (Int32.ofInt dp).toNatClampNeg (Int32.ofInt n).toNatClampNeg = ia (cpF f g sp dp n) := by
  rw [i_clamp h1.1 h1.2, i_clamp h2.1 h2.2, i_clamp h3.1 h3.2]
  funext j
  unfold va_cpy ia cpF
  by_cases e : dp.toNat ≤ j ∧ j < dp.toNat + n.toNat
  · rw [if_pos e, if_pos (by omega)]
    have : ((sp.toNat + (j - dp.toNat) : Nat) : Int) = sp + ((j : Int) - dp) := by omega
    rw [this]
  · rw [if_neg e, if_neg (by omega)]
theorem ir_cpy (f g : Int → Option Nat) {sp dp n : Int} (h1 : 0 ≤ sp ∧ sp < 2147483648) (h2 : 0 ≤ dp ∧ dp < 2147483648) (h3 : 0 ≤ n ∧ n < 2147483648) :
    va_cpy (ir f) (ir g) (Int32.ofInt sp).toNatClampNeg (Int32.ofInt dp).toNatClampNeg (Int32.ofInt n).toNatClampNeg = ir (cpF f g sp dp n) := by
  rw [i_clamp h1.1 h1.2, i_clamp h2.1 h2.2, i_clamp h3.1 h3.2]
  funext j
  unfold va_cpy ir cpF
  by_cases e : dp.toNat ≤ j ∧ j < dp.toNat + n.toNat
  · rw [if_pos e, if_pos (by omega)]
    have : ((sp.toNat + (j - dp.toNat) : Nat) : Int) = sp + ((j : Int) - dp) := by omega
    rw [this]
  · rw [if_neg e, if_neg (by omega)]
/-! classes -/
def RX9' : String := "EvenWords$Rising"
def TX9' : u_T := fun _ => ("", "", "I", false)
abbrev CL : List vw_C := [(RX0, TX0, 15), (RX1, TX1, 8), (RX2, TX2, 32), (RX3, TX3, 7), (RX4, TX4, 7), (RX5, TX5, 6), (RX6, TX6, 6), (RX7, TX7, 4), (RX8, TX8, 5), (RX9', TX9', 0), (RJ1, TJ1, 1), (RJ7, TJ7, 12), (RJ13, TJ13, 6), (RJ19, TJ19, 2), (RJ21, TJ21, 5), (RJ22, TJ22, 9), (RJ24, TJ24, 6), (RJ26, TJ26, 6)]
/-- array classes: ct 0 .. -/
abbrev TYS (ct : Nat → ClassId) : List (ClassId × FieldType) := [(ct 0, .int), (ct 1, .boolean), (ct 2, .byte), (ct 3, .object "EvenWords$Wire"), (ct 4, .object "EvenWords$Sort"), (ct 5, .object "java/util/HashMap$Node"), (ct 6, .object "java/lang/Integer")]
/-! what stands behind a whole run: launch, class ids, array class ids, the law's start and its script -/
abbrev GG : Type := Launch × va_G × (Nat → ClassId) × State × Nat
abbrev gl (g : GG) : Launch := g.1
abbrev gG (g : GG) : va_G := g.2.1
abbrev gc (g : GG) : Nat → ClassId := g.2.2.1
abbrev gs (g : GG) : State := g.2.2.2.1
abbrev gb (g : GG) : Nat := g.2.2.2.2
/-- the law's start is as the Statement has it -/
def OKG (g : GG) : Prop := (∀ w ∈ lw_tbl, w.before #[Value.ref (gb g)] (gs g) = true) ∧ (Jvm.Cond.and given_1 narrow_1).before #[Value.ref (gb g)] (gs g) = true ∧ va_K (gG g) CL (TYS (gc g)) (gs g) ∧ (gl g).flags = flags0
/-- a later state of the run: warmer tables, nothing old written -/
def GX (g : GG) (U : State) : Prop := (gs g).WarmedH U.vm ∧ (gs g).heap.size ≤ U.heap.size ∧ ∀ q : Nat, q < (gs g).heap.size → U.heap[q]? = (gs g).heap[q]?
/-! array cells -/
abbrev cI (g : GG) (a n : Nat) (F : Int → Int) : Nat × va_E := (a, .inl (gc g 0, n, .inl (ia F)))
abbrev cZ (g : GG) (a n : Nat) (F : Int → Int) : Nat × va_E := (a, .inl (gc g 1, n, .inl (ia F)))
abbrev cB (g : GG) (a n : Nat) (F : Int → Int) : Nat × va_E := (a, .inl (gc g 2, n, .inl (ia F)))
abbrev cR (g : GG) (t : Nat) (a n : Nat) (F : Int → Option Nat) : Nat × va_E := (a, .inl (gc g t, n, .inr (.inr (.inr (.inr (ir F))))))
abbrev cO (a c : Nat) (fs : List Value) : Nat × va_E := (a, .inr (c, fs))
/-- a method's running: program, env, start, method, args, frames below, the method's facts, the goal, the cells that it may write -/
abbrev GoX : Type := Program × Env × State × MethodId × Array Value × List Frame × Method × Code × (State → Prop) × (Nat → Prop)
abbrev xp (x : GoX) : Program := x.1
abbrev xe (x : GoX) : Env := x.2.1
abbrev xs (x : GoX) : State := x.2.2.1
abbrev xm (x : GoX) : MethodId := x.2.2.2.1
abbrev xa (x : GoX) : Array Value := x.2.2.2.2.1
abbrev xb (x : GoX) : List Frame := x.2.2.2.2.2.1
abbrev xt (x : GoX) : Method := x.2.2.2.2.2.2.1
abbrev xc (x : GoX) : Code := x.2.2.2.2.2.2.2.1
abbrev xQ (x : GoX) : State → Prop := x.2.2.2.2.2.2.2.2.1
abbrev xA (x : GoX) : Nat → Prop := x.2.2.2.2.2.2.2.2.2
/-- the walk's judgement: from any heap that holds the cells w, with the locals lv and the stack st at pc, k cells of n slots made so far -/
def Go (g : GG) (x : GoX) (nL : Nat) (R : Room) (k n pc : Nat) (lv : List (Nat × Value)) (st : List Value) (w : va_W) : Prop :=
  ∀ (H : Heap) (locs : List Loc) (ls : Array Slot), va_P (gG g) CL w H → va_D (xA x) w → va_S (xA x) (xs x).heap H locs → lv_has ls nL lv → W (xp x) (gl g) (xe x) R (xs x) (xm x) (xa x) (xb x) (xt x) (xc x) H locs k n (xQ x) (F0 (xm x) pc ls st)
/-- a contract's end -/
def QC (g : GG) (post : Option Value → va_W → Prop) (A : Nat → Prop) : Array Value → State → Outcome → State → Prop := fun _ st oc t => (∃ (v : Option Value) (w : va_W), oc = .returned v ∧ post v w ∧ va_P (gG g) CL w t.heap ∧ va_D A w) ∧ va_F A st t
/-- what holds all through a method -/
def CO (g : GG) (x : GoX) (cc : ByteArray) (nL : Nat) (own : String) (ret : Option FieldType) (R : Room) (Pt : Option Value → va_W → Prop) : Prop :=
  OKG g ∧ (xp x).tables.exec = Jvm.exec ∧ (xc x).code = cc ∧ (xc x).maxLocals = nL ∧ (xs x).vm.findClass own = some (xm x).cls ∧ (∀ w ∈ lw_all, w.before (xa x) (xs x) = true) ∧ GX g (xs x) ∧ (∀ q, (xs x).heap.size ≤ q → xA x q) ∧ (∀ q, xA x q → (gs g).heap.size ≤ q) ∧ (xt x).locks = false ∧ (xt x).sig.returnType = ret ∧ xQ x = MQ (xb x) (QC g Pt (xA x)) (xa x) (xs x) R.cells R.slots (xA x)
/-- a contract's start -/
def PCn (g : GG) (av : List Value) (w : va_W) (sz : Nat) : Array Value → State → Prop := va_Pc av (fun U => U.heap.size = sz ∧ GX g U ∧ va_P (gG g) CL w U.heap ∧ va_D (fun q => (gs g).heap.size ≤ q) w)
/-- THE CONTRACT of a method: called with av where the cells are w, it returns; the answer and the cells are as Pt says -/
def Con (g : GG) (y : MethodName) (cc : ByteArray) (nL : Nat) (ret : Option FieldType) (rm : Room) (av : List Value) (w : va_W) (Pt : Option Value → va_W → Prop) : Prop :=
  ∀ sz, Met (gl g) y (ws_ y cc nL ret) rm (PCn g av w sz) (QC g Pt (va_A w sz)) rm.cells rm.slots (va_A w sz)
/-- ends: an int, nothing, a reference, a reference or null -/
def pI (P : Int → va_W → Prop) : Option Value → va_W → Prop := fun v w => ∃ r, v = some (vi r) ∧ P r w
def pV (P : va_W → Prop) : Option Value → va_W → Prop := fun v w => v = none ∧ P w
def pR (P : Nat → va_W → Prop) : Option Value → va_W → Prop := fun v w => ∃ r, v = some (.ref r) ∧ P r w
def pO (P : Option Nat → va_W → Prop) : Option Value → va_W → Prop := fun v w => ∃ r, v = some (va_rf r) ∧ P r w
theorem GX.moved {g : GG} {s U : State} {A : Nat → Prop} {H : Heap} {locs : List Loc} (h : GX g s) (hA : ∀ q, A q → (gs g).heap.size ≤ q) (hS : va_S A s.heap H locs) (hU : U.heap = H) (hW : s.WarmedH U.vm) : GX g U := by
  refine ⟨State.WarmedH.trans h.1 hW, ?_, fun q hq => ?_⟩
  · rw [hU]
    exact Nat.le_trans h.2.1 hS.1
  · rw [hU, hS.2.1 q (Nat.lt_of_lt_of_le hq h.2.1) (fun z => by have := hA q z; omega)]
    exact h.2.2 q hq
theorem GX.K {g : GG} {s : State} (hg : OKG g) (h : GX g s) : va_K (gG g) CL (TYS (gc g)) s := va_K.moved h.1.alike hg.2.2.1
theorem con_of_go {g : GG} {y : MethodName} {cc : ByteArray} {nL : Nat} {ret : Option FieldType} {rm : Room} {av : List Value} {w : va_W} {Pt : Option Value → va_W → Prop} (hg : OKG g) (hy : plainName y.cls = true) (hn : (lg_sl av).length ≤ nL)
    (h : ∀ x : GoX, CO g x cc nL y.cls ret rm Pt → Go g x nL rm 0 0 0 (lv_args 0 av) [] w) : Con g y cc nL ret rm av w Pt := by
  intro sz
  refine Met.ofW (cc := cc) (maxL := nL) (ret := ret) hy rfl ?_
  intro p e s m args below meth c s₁ B hml hv
  obtain ⟨rfl, hsz, hG, hP, hD0⟩ := hv
  have hts := atoms_spec (ws := ws_ y cc nL ret) B.pre
  have hts : ∀ w ∈ lw_all, w.before _ s = true := fun w h => hts w (List.mem_cons_of_mem _ h)
  have hown : s.vm.findClass y.cls = some m.cls := findClass_of_methodNamed B.named
  have hl := lv_entry av (n := nL) hn
  subst hsz
  rw [lg_entry_eq]
  have hD : va_D (va_A w s.heap.size) w := hD0.self
  refine h (p, e, s, m, av.toArray, below, meth, c, MQ below (QC g Pt (va_A w s.heap.size)) av.toArray s rm.cells rm.slots (va_A w s.heap.size), va_A w s.heap.size) ⟨hg, B.exec, B.bytes, hml, hown, hts, hG, fun q hq => Or.inr hq, fun q hq => ?_, B.notSynchronized, B.returns, rfl⟩ s.heap [] _ hP hD va_S.rf hl
  rcases hq with ⟨k, e, hq⟩ | hq
  · exact hD0.2 k (q, e) hq
  · exact Nat.le_trans hG.2.1 hq
section GO
variable {g : GG} {x : GoX} {nL : Nat} {R : Room} {k n pc : Nat} {lv : List (Nat × Value)} {st : List Value} {w : va_W} {cc : ByteArray} {own : String} {ret : Option FieldType} {Pt : Option Value → va_W → Prop}
theorem CO.ok (C : CO g x cc nL own ret R Pt) : OKG g := C.1
theorem CO.hx (C : CO g x cc nL own ret R Pt) : (xp x).tables.exec = Jvm.exec := C.2.1
theorem CO.hb (C : CO g x cc nL own ret R Pt) : (xc x).code = cc := C.2.2.1
theorem CO.hml (C : CO g x cc nL own ret R Pt) : (xc x).maxLocals = nL := C.2.2.2.1
theorem CO.hown (C : CO g x cc nL own ret R Pt) : (xs x).vm.findClass own = some (xm x).cls := C.2.2.2.2.1
theorem CO.hts (C : CO g x cc nL own ret R Pt) : ∀ w ∈ lw_all, w.before (xa x) (xs x) = true := C.2.2.2.2.2.1
theorem CO.gx (C : CO g x cc nL own ret R Pt) : GX g (xs x) := C.2.2.2.2.2.2.1
theorem CO.hA (C : CO g x cc nL own ret R Pt) : ∀ q, (xs x).heap.size ≤ q → xA x q := C.2.2.2.2.2.2.2.1
theorem CO.hA0 (C : CO g x cc nL own ret R Pt) : ∀ q, xA x q → (gs g).heap.size ≤ q := C.2.2.2.2.2.2.2.2.1
theorem CO.hlocks (C : CO g x cc nL own ret R Pt) : (xt x).locks = false := C.2.2.2.2.2.2.2.2.2.1
theorem CO.hret (C : CO g x cc nL own ret R Pt) : (xt x).sig.returnType = ret := C.2.2.2.2.2.2.2.2.2.2.1
theorem CO.hQ (C : CO g x cc nL own ret R Pt) : xQ x = MQ (xb x) (QC g Pt (xA x)) (xa x) (xs x) R.cells R.slots (xA x) := C.2.2.2.2.2.2.2.2.2.2.2
theorem CO.hK (C : CO g x cc nL own ret R Pt) : va_K (gG g) CL (TYS (gc g)) (xs x) := C.gx.K C.ok
/-- a word of the tables at the method's start -/
theorem CO.nw (C : CO g x cc nL own ret R Pt) {c : Cond} (h : c ∈ lw_tbl) (hc : c.onTables = true) : va_Nw c (gs g) := va_Nw.of hc (C.ok.1 c h)
/-! shuffling: other names for the same, fewer cells, cells in another order, fewer locals -/
theorem gi_ws {w' : va_W} (h : w = w') (kk : Go g x nL R k n pc lv st w') : Go g x nL R k n pc lv st w := h ▸ kk
theorem gi_st {st' : List Value} (h : st = st') (kk : Go g x nL R k n pc lv st' w) : Go g x nL R k n pc lv st w := h ▸ kk
theorem gi_lv (ks : List Nat) {lv' : List (Nat × Value)} (h : lv_pick lv ks = lv') (kk : Go g x nL R k n pc lv' st w) : Go g x nL R k n pc lv st w := fun H locs ls hP hD hS hl => kk H locs ls hP hD hS (lv_sub hl ks h)
theorem gi_pick (js : List Nat) {w' : va_W} (h : js.map (fun i => w[i]?) = w'.map some) (hn : va_nd js = true) (kk : Go g x nL R k n pc lv st w') : Go g x nL R k n pc lv st w := by
  intro H locs ls hP hD hS hl
  refine kk H locs ls (fun i q hq => ?_) (hD.sub js hn h) hS hl
  have h1 : (js.map (fun i => w[i]?))[i]? = some (some q) := by rw [h, List.getElem?_map, hq]; rfl
  rw [List.getElem?_map] at h1
  cases hi : js[i]? with
  | none => rw [hi] at h1; cases h1
  | some j => rw [hi] at h1; exact hP j q (Option.some.inj h1)
/-- to a point that is settled: locals and cells by their places -/
theorem gi_to (ks js : List Nat) {lv' : List (Nat × Value)} {w' : va_W} (h : lv_pick lv ks = lv') (hw : js.map (fun i => w[i]?) = w'.map some) (hn : va_nd js = true) (kk : Go g x nL R k n pc lv' st w') : Go g x nL R k n pc lv st w := gi_lv ks h (gi_pick js hw hn kk)
theorem gi_wide {k' n' : Nat} (h1 : k ≤ k') (h2 : n ≤ n') (kk : Go g x nL R k' n' pc lv st w) : Go g x nL R k n pc lv st w := fun H locs ls hP hD hS hl => W.widen h1 h2 (kk H locs ls hP hD hS hl)
theorem gi_pc {pc' : Nat} (h : pc = pc') (kk : Go g x nL R k n pc' lv st w) : Go g x nL R k n pc lv st w := h ▸ kk
/-! constants, locals, stack -/
theorem gi_iconst (C : CO g x cc nL own ret R Pt) {z : Int} (d : decode cc pc = .ok (.iconst z, 1)) (kk : Go g x nL R k n (pc + 1) lv (vi z :: st) w) : Go g x nL R k n pc lv st w := fun H locs ls hP hD hS hl => lv_iconst C.hx C.hb d rfl (kk H locs ls hP hD hS hl)
theorem gi_bipush (C : CO g x cc nL own ret R Pt) {z : Int} (d : decode cc pc = .ok (.bipush z, 2)) (hz : (Int8.ofInt z).toInt32 = Int32.ofInt z) (kk : Go g x nL R k n (pc + 2) lv (vi z :: st) w) : Go g x nL R k n pc lv st w := fun H locs ls hP hD hS hl => lv_bipush C.hx C.hb d hz (kk H locs ls hP hD hS hl)
theorem gi_sipush (C : CO g x cc nL own ret R Pt) {z : Int} (d : decode cc pc = .ok (.sipush z, 3)) (hz : (Int16.ofInt z).toInt32 = Int32.ofInt z) (kk : Go g x nL R k n (pc + 3) lv (vi z :: st) w) : Go g x nL R k n pc lv st w := fun H locs ls hP hD hS hl => lv_sipush C.hx C.hb d hz (kk H locs ls hP hD hS hl)
theorem gi_ldc (C : CO g x cc nL own ret R Pt) {i : Nat} {v : Int32} {z : Int} (d : decode cc pc = .ok (.ldc i, 2)) (q : Cond.constant own i v ∈ lw_all) (hz : v = Int32.ofInt z) (kk : Go g x nL R k n (pc + 2) lv (vi z :: st) w) : Go g x nL R k n pc lv st w := fun H locs ls hP hD hS hl => lv_ldc C.hx C.hb C.hown (hz ▸ C.hts _ q) d (kk H locs ls hP hD hS hl)
theorem gi_null (C : CO g x cc nL own ret R Pt) (d : decode cc pc = .ok (.aconst_null, 1)) (kk : Go g x nL R k n (pc + 1) lv (.null :: st) w) : Go g x nL R k n pc lv st w := fun H locs ls hP hD hS hl => lv_null C.hx C.hb d (kk H locs ls hP hD hS hl)
theorem gi_iload (C : CO g x cc nL own ret R Pt) {i : Nat} {z : Int} (d : decode cc pc = .ok (.iload i, 2)) (j : Nat) (h : lv[j]? = some (i, vi z)) (kk : Go g x nL R k n (pc + 2) lv (vi z :: st) w) : Go g x nL R k n pc lv st w := fun H locs ls hP hD hS hl => lv_iload C.hx C.hb d (lv_at hl j h) (kk H locs ls hP hD hS hl)
theorem gi_iload_n (C : CO g x cc nL own ret R Pt) {i : Fin 4} {z : Int} (d : decode cc pc = .ok (.iload_n i, 1)) (j : Nat) (h : lv[j]? = some ((i : Nat), vi z)) (kk : Go g x nL R k n (pc + 1) lv (vi z :: st) w) : Go g x nL R k n pc lv st w := fun H locs ls hP hD hS hl => lv_iload_n C.hx C.hb d rfl (lv_at hl j h) (kk H locs ls hP hD hS hl)
theorem gi_aload (C : CO g x cc nL own ret R Pt) {i a : Nat} (d : decode cc pc = .ok (.aload i, 2)) (j : Nat) (h : lv[j]? = some (i, .ref a)) (kk : Go g x nL R k n (pc + 2) lv (.ref a :: st) w) : Go g x nL R k n pc lv st w := fun H locs ls hP hD hS hl => lv_aload C.hx C.hb d (lv_at hl j h) (kk H locs ls hP hD hS hl)
theorem gi_aload_n (C : CO g x cc nL own ret R Pt) {i : Fin 4} {a : Nat} (d : decode cc pc = .ok (.aload_n i, 1)) (j : Nat) (h : lv[j]? = some ((i : Nat), .ref a)) (kk : Go g x nL R k n (pc + 1) lv (.ref a :: st) w) : Go g x nL R k n pc lv st w := fun H locs ls hP hD hS hl => lv_aload_n C.hx C.hb d rfl (lv_at hl j h) (kk H locs ls hP hD hS hl)
theorem gi_aloadN (C : CO g x cc nL own ret R Pt) {i : Nat} (d : decode cc pc = .ok (.aload i, 2)) (j : Nat) (h : lv[j]? = some (i, .null)) (kk : Go g x nL R k n (pc + 2) lv (.null :: st) w) : Go g x nL R k n pc lv st w := fun H locs ls hP hD hS hl => lv_aloadN C.hx C.hb d (lv_at hl j h) (kk H locs ls hP hD hS hl)
theorem gi_aload_nN (C : CO g x cc nL own ret R Pt) {i : Fin 4} (d : decode cc pc = .ok (.aload_n i, 1)) (j : Nat) (h : lv[j]? = some ((i : Nat), .null)) (kk : Go g x nL R k n (pc + 1) lv (.null :: st) w) : Go g x nL R k n pc lv st w := fun H locs ls hP hD hS hl => lv_aload_nN C.hx C.hb d rfl (lv_at hl j h) (kk H locs ls hP hD hS hl)
abbrev lvput (lv : List (Nat × Value)) (i : Nat) (v : Value) : List (Nat × Value) := (i, v) :: lv.filter (fun q => !(q.1 == i) && !(q.1 + 1 == i && q.2.category == 2))
abbrev lvput2 (lv : List (Nat × Value)) (i : Nat) (v : Value) : List (Nat × Value) := (i, v) :: lv.filter (fun q => !(q.1 == i) && (!(q.1 == i + 1) && !(q.1 + 1 == i && q.2.category == 2)))
theorem gi_istore (C : CO g x cc nL own ret R Pt) {i : Nat} {v : Int} {lv' : List (Nat × Value)} (d : decode cc pc = .ok (.istore i, 2)) (hi : i < nL) (h : lvput lv i (vi v) = lv') (kk : Go g x nL R k n (pc + 2) lv' st w) : Go g x nL R k n pc lv (vi v :: st) w := fun H locs ls hP hD hS hl => lv_istore C.hx C.hb d hl hi h fun ls' hl' => kk H locs ls' hP hD hS hl'
theorem gi_istore_n (C : CO g x cc nL own ret R Pt) {i : Fin 4} {v : Int} {lv' : List (Nat × Value)} (d : decode cc pc = .ok (.istore_n i, 1)) (hi : (i : Nat) < nL) (h : lvput lv i (vi v) = lv') (kk : Go g x nL R k n (pc + 1) lv' st w) : Go g x nL R k n pc lv (vi v :: st) w := fun H locs ls hP hD hS hl => lv_istore_n C.hx C.hb d rfl hl hi h fun ls' hl' => kk H locs ls' hP hD hS hl'
theorem gi_astore (C : CO g x cc nL own ret R Pt) {i a : Nat} {lv' : List (Nat × Value)} (d : decode cc pc = .ok (.astore i, 2)) (hi : i < nL) (h : lvput lv i (.ref a) = lv') (kk : Go g x nL R k n (pc + 2) lv' st w) : Go g x nL R k n pc lv (.ref a :: st) w := fun H locs ls hP hD hS hl => lv_astore C.hx C.hb d hl hi h fun ls' hl' => kk H locs ls' hP hD hS hl'
theorem gi_astore_n (C : CO g x cc nL own ret R Pt) {i : Fin 4} {a : Nat} {lv' : List (Nat × Value)} (d : decode cc pc = .ok (.astore_n i, 1)) (hi : (i : Nat) < nL) (h : lvput lv i (.ref a) = lv') (kk : Go g x nL R k n (pc + 1) lv' st w) : Go g x nL R k n pc lv (.ref a :: st) w := fun H locs ls hP hD hS hl => lv_astore_n C.hx C.hb d rfl hl hi h fun ls' hl' => kk H locs ls' hP hD hS hl'
theorem gi_astoreN (C : CO g x cc nL own ret R Pt) {i : Nat} {lv' : List (Nat × Value)} (d : decode cc pc = .ok (.astore i, 2)) (hi : i < nL) (h : lvput lv i .null = lv') (kk : Go g x nL R k n (pc + 2) lv' st w) : Go g x nL R k n pc lv (.null :: st) w := fun H locs ls hP hD hS hl => lv_astoreN C.hx C.hb d hl hi h fun ls' hl' => kk H locs ls' hP hD hS hl'
theorem gi_astore_nN (C : CO g x cc nL own ret R Pt) {i : Fin 4} {lv' : List (Nat × Value)} (d : decode cc pc = .ok (.astore_n i, 1)) (hi : (i : Nat) < nL) (h : lvput lv i .null = lv') (kk : Go g x nL R k n (pc + 1) lv' st w) : Go g x nL R k n pc lv (.null :: st) w := fun H locs ls hP hD hS hl => lv_astore_nN C.hx C.hb d rfl hl hi h fun ls' hl' => kk H locs ls' hP hD hS hl'
theorem gi_iinc (C : CO g x cc nL own ret R Pt) {i : Nat} {z v : Int} {lv' : List (Nat × Value)} (d : decode cc pc = .ok (.iinc i z, 3)) (j : Nat) (hj : lv[j]? = some (i, vi v)) (hi : i < nL) (h : lvput lv i (vi (v + z)) = lv') (kk : Go g x nL R k n (pc + 3) lv' st w) : Go g x nL R k n pc lv st w := fun H locs ls hP hD hS hl => lv_iinc C.hx C.hb d hl hj (i_add v z) hi h fun ls' hl' => kk H locs ls' hP hD hS hl'
theorem gi_pop (C : CO g x cc nL own ret R Pt) {v : Value} (d : decode cc pc = .ok (.pop, 1)) (hv : v.category = 1) (kk : Go g x nL R k n (pc + 1) lv st w) : Go g x nL R k n pc lv (v :: st) w := fun H locs ls hP hD hS hl => lv_pop C.hx C.hb d hv (kk H locs ls hP hD hS hl)
theorem gi_dup (C : CO g x cc nL own ret R Pt) {v : Value} (d : decode cc pc = .ok (.dup, 1)) (hv : v.category = 1) (kk : Go g x nL R k n (pc + 1) lv (v :: v :: st) w) : Go g x nL R k n pc lv (v :: st) w := fun H locs ls hP hD hS hl => lv_dup C.hx C.hb d hv (kk H locs ls hP hD hS hl)
theorem gi_dup_x1 (C : CO g x cc nL own ret R Pt) {u v : Value} (d : decode cc pc = .ok (.dup_x1, 1)) (hv : v.category = 1) (hu : u.category = 1) (kk : Go g x nL R k n (pc + 1) lv (v :: u :: v :: st) w) : Go g x nL R k n pc lv (v :: u :: st) w := fun H locs ls hP hD hS hl => lv_dup_x1 C.hx C.hb d hv hu (kk H locs ls hP hD hS hl)
theorem gi_dup2 (C : CO g x cc nL own ret R Pt) {u v : Value} (d : decode cc pc = .ok (.dup2, 1)) (hv : v.category = 1) (hu : u.category = 1) (kk : Go g x nL R k n (pc + 1) lv (v :: u :: v :: u :: st) w) : Go g x nL R k n pc lv (v :: u :: st) w := fun H locs ls hP hD hS hl => lv_dup2_11 C.hx C.hb d hv hu (kk H locs ls hP hD hS hl)
/-! arithmetic -/
theorem gi_iadd (C : CO g x cc nL own ret R Pt) {a b : Int} (d : decode cc pc = .ok (.iadd, 1)) (kk : Go g x nL R k n (pc + 1) lv (vi (a + b) :: st) w) : Go g x nL R k n pc lv (vi b :: vi a :: st) w := fun H locs ls hP hD hS hl => lv_iadd C.hx C.hb d (by rw [i_add]; exact kk H locs ls hP hD hS hl)
theorem gi_isub (C : CO g x cc nL own ret R Pt) {a b : Int} (d : decode cc pc = .ok (.isub, 1)) (kk : Go g x nL R k n (pc + 1) lv (vi (a - b) :: st) w) : Go g x nL R k n pc lv (vi b :: vi a :: st) w := fun H locs ls hP hD hS hl => lv_isub C.hx C.hb d (by rw [i_sub]; exact kk H locs ls hP hD hS hl)
theorem gi_imul (C : CO g x cc nL own ret R Pt) {a b : Int} (d : decode cc pc = .ok (.imul, 1)) (kk : Go g x nL R k n (pc + 1) lv (vi (a * b) :: st) w) : Go g x nL R k n pc lv (vi b :: vi a :: st) w := fun H locs ls hP hD hS hl => lv_imul C.hx C.hb d (by rw [i_mul]; exact kk H locs ls hP hD hS hl)
theorem gi_ineg (C : CO g x cc nL own ret R Pt) {a : Int} (d : decode cc pc = .ok (.ineg, 1)) (kk : Go g x nL R k n (pc + 1) lv (vi (-a) :: st) w) : Go g x nL R k n pc lv (vi a :: st) w := fun H locs ls hP hD hS hl => lv_ineg C.hx C.hb d (by rw [i_neg]; exact kk H locs ls hP hD hS hl)
theorem gi_idiv (C : CO g x cc nL own ret R Pt) {a b : Int} (d : decode cc pc = .ok (.idiv, 1)) (ha : 0 ≤ a ∧ a < 2147483648) (hb : 0 < b ∧ b < 2147483648) (kk : Go g x nL R k n (pc + 1) lv (vi (a / b) :: st) w) : Go g x nL R k n pc lv (vi b :: vi a :: st) w := fun H locs ls hP hD hS hl => lv_idiv C.hx C.hb d (fun z => by
    have : Int32.ofInt b = Int32.ofInt 0 := z
    rw [i_inj (by omega) (by omega)] at this
    omega) (by rw [i_div ha hb]; exact kk H locs ls hP hD hS hl)
theorem gi_irem (C : CO g x cc nL own ret R Pt) {a b : Int} (d : decode cc pc = .ok (.irem, 1)) (ha : 0 ≤ a ∧ a < 2147483648) (hb : 0 < b ∧ b < 2147483648) (kk : Go g x nL R k n (pc + 1) lv (vi (a % b) :: st) w) : Go g x nL R k n pc lv (vi b :: vi a :: st) w := fun H locs ls hP hD hS hl => lv_irem C.hx C.hb d (fun z => by
    have : Int32.ofInt b = Int32.ofInt 0 := z
    rw [i_inj (by omega) (by omega)] at this
    omega) (by rw [i_rem ha hb]; exact kk H locs ls hP hD hS hl)
theorem gi_ishr (C : CO g x cc nL own ret R Pt) {a b : Int} (d : decode cc pc = .ok (.ishr, 1)) (ha : Rg a) (hb : 0 ≤ b ∧ b < 32) (kk : Go g x nL R k n (pc + 1) lv (vi (a / 2 ^ b.toNat) :: st) w) : Go g x nL R k n pc lv (vi b :: vi a :: st) w := fun H locs ls hP hD hS hl => lv_ishr C.hx C.hb d (by rw [i_shr ha hb]; exact kk H locs ls hP hD hS hl)
theorem gi_shl1 (C : CO g x cc nL own ret R Pt) {b : Int} (d : decode cc pc = .ok (.ishl, 1)) (hb : 0 ≤ b ∧ b < 31) (kk : Go g x nL R k n (pc + 1) lv (vi (2 ^ b.toNat) :: st) w) : Go g x nL R k n pc lv (vi b :: vi 1 :: st) w := fun H locs ls hP hD hS hl => lv_ishl C.hx C.hb d (by rw [i_shl hb]; exact kk H locs ls hP hD hS hl)
theorem gi_mask (C : CO g x cc nL own ret R Pt) {a m : Int} (d : decode cc pc = .ok (.iand, 1)) (ha : Rg a) (j : Nat) (hj : j ≤ 30) (hm : m = 2 ^ j - 1) {v : Int} (hv : a % 2 ^ j = v) (kk : Go g x nL R k n (pc + 1) lv (vi v :: st) w) : Go g x nL R k n pc lv (vi m :: vi a :: st) w := fun H locs ls hP hD hS hl => lv_iand C.hx C.hb d (by rw [i_mask ha j hj hm, hv]; exact kk H locs ls hP hD hS hl)
theorem gi_iand (C : CO g x cc nL own ret R Pt) {a b : Int} (d : decode cc pc = .ok (.iand, 1)) (ha : 0 ≤ a) (hb : 0 ≤ b) (kk : Go g x nL R k n (pc + 1) lv (vi (iand a b) :: st) w) : Go g x nL R k n pc lv (vi b :: vi a :: st) w := fun H locs ls hP hD hS hl => lv_iand C.hx C.hb d (by rw [i_iand ha hb]; exact kk H locs ls hP hD hS hl)
theorem gi_ior (C : CO g x cc nL own ret R Pt) {a b : Int} (d : decode cc pc = .ok (.ior, 1)) (ha : 0 ≤ a) (hb : 0 ≤ b) (kk : Go g x nL R k n (pc + 1) lv (vi (ior a b) :: st) w) : Go g x nL R k n pc lv (vi b :: vi a :: st) w := fun H locs ls hP hD hS hl => lv_ior C.hx C.hb d (by rw [i_ior ha hb]; exact kk H locs ls hP hD hS hl)
/-- the value on top, by another name -/
theorem gi_top {a b : Int} (h : a = b) (kk : Go g x nL R k n pc lv (vi b :: st) w) : Go g x nL R k n pc lv (vi a :: st) w := h ▸ kk
/-! branches -/
theorem gi_goto (C : CO g x cc nL own ret R Pt) {off : Int} {tgt : Nat} (d : decode cc pc = .ok (.goto off, 3)) (ht : (pc : Int) + off = (tgt : Int)) (kk : Go g x nL R k n tgt lv st w) : Go g x nL R k n pc lv st w := fun H locs ls hP hD hS hl => lv_goto C.hx C.hb d ht (kk H locs ls hP hD hS hl)
theorem gi_if_eq (C : CO g x cc nL own ret R Pt) {off : Int} {tgt : Nat} {a : Int} (d : decode cc pc = .ok (.ifCond .eq off, 3)) (ht : (pc : Int) + off = (tgt : Int)) (ha : Rg a) (kt : a = 0 → Go g x nL R k n tgt lv st w) (kf : a ≠ 0 → Go g x nL R k n (pc + 3) lv st w) : Go g x nL R k n pc lv (vi a :: st) w := fun H locs ls hP hD hS hl => lv_if_eq C.hx C.hb d ht (fun z => kt ((i_inj ha (b := 0) (by omega)).mp z) H locs ls hP hD hS hl) (fun z => kf (fun y => z ((i_inj ha (b := 0) (by omega)).mpr y)) H locs ls hP hD hS hl)
theorem gi_if_ne (C : CO g x cc nL own ret R Pt) {off : Int} {tgt : Nat} {a : Int} (d : decode cc pc = .ok (.ifCond .ne off, 3)) (ht : (pc : Int) + off = (tgt : Int)) (ha : Rg a) (kt : a ≠ 0 → Go g x nL R k n tgt lv st w) (kf : a = 0 → Go g x nL R k n (pc + 3) lv st w) : Go g x nL R k n pc lv (vi a :: st) w := fun H locs ls hP hD hS hl => lv_if_ne C.hx C.hb d ht (fun z => kt (fun y => z ((i_inj ha (b := 0) (by omega)).mpr y)) H locs ls hP hD hS hl) (fun z => kf (by
    have z' : Int32.ofInt a = Int32.ofInt 0 := by first | exact z | exact Classical.byContradiction z
    exact (i_inj ha (b := 0) (by omega)).mp z') H locs ls hP hD hS hl)
theorem gi_if_lt (C : CO g x cc nL own ret R Pt) {off : Int} {tgt : Nat} {a : Int} (d : decode cc pc = .ok (.ifCond .lt off, 3)) (ht : (pc : Int) + off = (tgt : Int)) (ha : Rg a) (kt : a < 0 → Go g x nL R k n tgt lv st w) (kf : 0 ≤ a → Go g x nL R k n (pc + 3) lv st w) : Go g x nL R k n pc lv (vi a :: st) w := fun H locs ls hP hD hS hl => lv_if_lt C.hx C.hb d ht (fun z => kt ((i_lt ha (b := 0) (by omega)).mp z) H locs ls hP hD hS hl) (fun z => kf (by have := mt (i_lt ha (b := 0) (by omega)).mpr z; omega) H locs ls hP hD hS hl)
theorem gi_if_ge (C : CO g x cc nL own ret R Pt) {off : Int} {tgt : Nat} {a : Int} (d : decode cc pc = .ok (.ifCond .ge off, 3)) (ht : (pc : Int) + off = (tgt : Int)) (ha : Rg a) (kt : 0 ≤ a → Go g x nL R k n tgt lv st w) (kf : a < 0 → Go g x nL R k n (pc + 3) lv st w) : Go g x nL R k n pc lv (vi a :: st) w := fun H locs ls hP hD hS hl => lv_if_ge C.hx C.hb d ht (fun z => kt ((i_le (a := 0) (by omega) ha).mp z) H locs ls hP hD hS hl) (fun z => kf (by have := mt (i_le (a := 0) (by omega) ha).mpr z; omega) H locs ls hP hD hS hl)
theorem gi_if_gt (C : CO g x cc nL own ret R Pt) {off : Int} {tgt : Nat} {a : Int} (d : decode cc pc = .ok (.ifCond .gt off, 3)) (ht : (pc : Int) + off = (tgt : Int)) (ha : Rg a) (kt : 0 < a → Go g x nL R k n tgt lv st w) (kf : a ≤ 0 → Go g x nL R k n (pc + 3) lv st w) : Go g x nL R k n pc lv (vi a :: st) w := fun H locs ls hP hD hS hl => lv_if_gt C.hx C.hb d ht (fun z => kt ((i_lt (a := 0) (by omega) ha).mp z) H locs ls hP hD hS hl) (fun z => kf (by have := mt (i_lt (a := 0) (by omega) ha).mpr z; omega) H locs ls hP hD hS hl)
theorem gi_if_le (C : CO g x cc nL own ret R Pt) {off : Int} {tgt : Nat} {a : Int} (d : decode cc pc = .ok (.ifCond .le off, 3)) (ht : (pc : Int) + off = (tgt : Int)) (ha : Rg a) (kt : a ≤ 0 → Go g x nL R k n tgt lv st w) (kf : 0 < a → Go g x nL R k n (pc + 3) lv st w) : Go g x nL R k n pc lv (vi a :: st) w := fun H locs ls hP hD hS hl => lv_if_le C.hx C.hb d ht (fun z => kt ((i_le ha (b := 0) (by omega)).mp z) H locs ls hP hD hS hl) (fun z => kf (by have := mt (i_le ha (b := 0) (by omega)).mpr z; omega) H locs ls hP hD hS hl)
theorem gi_icmp_eq (C : CO g x cc nL own ret R Pt) {off : Int} {tgt : Nat} {a b : Int} (d : decode cc pc = .ok (.if_icmp .eq off, 3)) (ht : (pc : Int) + off = (tgt : Int)) (ha : Rg a) (hb : Rg b) (kt : a = b → Go g x nL R k n tgt lv st w) (kf : a ≠ b → Go g x nL R k n (pc + 3) lv st w) : Go g x nL R k n pc lv (vi b :: vi a :: st) w := fun H locs ls hP hD hS hl => lv_icmp_eq C.hx C.hb d ht (fun z => kt ((i_inj ha hb).mp z) H locs ls hP hD hS hl) (fun z => kf (fun y => z ((i_inj ha hb).mpr y)) H locs ls hP hD hS hl)
theorem gi_icmp_ne (C : CO g x cc nL own ret R Pt) {off : Int} {tgt : Nat} {a b : Int} (d : decode cc pc = .ok (.if_icmp .ne off, 3)) (ht : (pc : Int) + off = (tgt : Int)) (ha : Rg a) (hb : Rg b) (kt : a ≠ b → Go g x nL R k n tgt lv st w) (kf : a = b → Go g x nL R k n (pc + 3) lv st w) : Go g x nL R k n pc lv (vi b :: vi a :: st) w := fun H locs ls hP hD hS hl => lv_icmp_ne C.hx C.hb d ht (fun z => kt (fun y => z ((i_inj ha hb).mpr y)) H locs ls hP hD hS hl) (fun z => kf (by
    have z' : Int32.ofInt a = Int32.ofInt b := by first | exact z | exact Classical.byContradiction z
    exact (i_inj ha hb).mp z') H locs ls hP hD hS hl)
theorem gi_icmp_lt (C : CO g x cc nL own ret R Pt) {off : Int} {tgt : Nat} {a b : Int} (d : decode cc pc = .ok (.if_icmp .lt off, 3)) (ht : (pc : Int) + off = (tgt : Int)) (ha : Rg a) (hb : Rg b) (kt : a < b → Go g x nL R k n tgt lv st w) (kf : b ≤ a → Go g x nL R k n (pc + 3) lv st w) : Go g x nL R k n pc lv (vi b :: vi a :: st) w := fun H locs ls hP hD hS hl => lv_icmp_lt C.hx C.hb d ht (fun z => kt ((i_lt ha hb).mp z) H locs ls hP hD hS hl) (fun z => kf (by have := mt (i_lt ha hb).mpr z; omega) H locs ls hP hD hS hl)
theorem gi_icmp_ge (C : CO g x cc nL own ret R Pt) {off : Int} {tgt : Nat} {a b : Int} (d : decode cc pc = .ok (.if_icmp .ge off, 3)) (ht : (pc : Int) + off = (tgt : Int)) (ha : Rg a) (hb : Rg b) (kt : b ≤ a → Go g x nL R k n tgt lv st w) (kf : a < b → Go g x nL R k n (pc + 3) lv st w) : Go g x nL R k n pc lv (vi b :: vi a :: st) w := fun H locs ls hP hD hS hl => lv_icmp_ge C.hx C.hb d ht (fun z => kt ((i_le hb ha).mp z) H locs ls hP hD hS hl) (fun z => kf (by have := mt (i_le hb ha).mpr z; omega) H locs ls hP hD hS hl)
theorem gi_icmp_gt (C : CO g x cc nL own ret R Pt) {off : Int} {tgt : Nat} {a b : Int} (d : decode cc pc = .ok (.if_icmp .gt off, 3)) (ht : (pc : Int) + off = (tgt : Int)) (ha : Rg a) (hb : Rg b) (kt : b < a → Go g x nL R k n tgt lv st w) (kf : a ≤ b → Go g x nL R k n (pc + 3) lv st w) : Go g x nL R k n pc lv (vi b :: vi a :: st) w := fun H locs ls hP hD hS hl => lv_icmp_gt C.hx C.hb d ht (fun z => kt ((i_lt hb ha).mp z) H locs ls hP hD hS hl) (fun z => kf (by have := mt (i_lt hb ha).mpr z; omega) H locs ls hP hD hS hl)
theorem gi_icmp_le (C : CO g x cc nL own ret R Pt) {off : Int} {tgt : Nat} {a b : Int} (d : decode cc pc = .ok (.if_icmp .le off, 3)) (ht : (pc : Int) + off = (tgt : Int)) (ha : Rg a) (hb : Rg b) (kt : a ≤ b → Go g x nL R k n tgt lv st w) (kf : b < a → Go g x nL R k n (pc + 3) lv st w) : Go g x nL R k n pc lv (vi b :: vi a :: st) w := fun H locs ls hP hD hS hl => lv_icmp_le C.hx C.hb d ht (fun z => kt ((i_le ha hb).mp z) H locs ls hP hD hS hl) (fun z => kf (by have := mt (i_le ha hb).mpr z; omega) H locs ls hP hD hS hl)
theorem gi_ifnullR (C : CO g x cc nL own ret R Pt) {off : Int} {a : Nat} (d : decode cc pc = .ok (.ifnull off, 3)) (kk : Go g x nL R k n (pc + 3) lv st w) : Go g x nL R k n pc lv (.ref a :: st) w := fun H locs ls hP hD hS hl => lv_ifnull C.hx C.hb d (kk H locs ls hP hD hS hl)
theorem gi_ifnullN (C : CO g x cc nL own ret R Pt) {off : Int} {tgt : Nat} (d : decode cc pc = .ok (.ifnull off, 3)) (ht : (pc : Int) + off = (tgt : Int)) (kk : Go g x nL R k n tgt lv st w) : Go g x nL R k n pc lv (.null :: st) w := fun H locs ls hP hD hS hl => lv_ifnullN C.hx C.hb d ht (kk H locs ls hP hD hS hl)
theorem gi_ifnonnullR (C : CO g x cc nL own ret R Pt) {off : Int} {tgt a : Nat} (d : decode cc pc = .ok (.ifnonnull off, 3)) (ht : (pc : Int) + off = (tgt : Int)) (kk : Go g x nL R k n tgt lv st w) : Go g x nL R k n pc lv (.ref a :: st) w := fun H locs ls hP hD hS hl => lv_ifnonnull C.hx C.hb d ht (kk H locs ls hP hD hS hl)
theorem gi_ifnonnullN (C : CO g x cc nL own ret R Pt) {off : Int} (d : decode cc pc = .ok (.ifnonnull off, 3)) (kk : Go g x nL R k n (pc + 3) lv st w) : Go g x nL R k n pc lv (.null :: st) w := fun H locs ls hP hD hS hl => lv_ifnonnullN C.hx C.hb d (kk H locs ls hP hD hS hl)
theorem gi_tableIn (C : CO g x cc nL own ret R Pt) {dflt lo hi : Int} {offs : Array Int} {len : Nat} {off : Int} {tgt : Nat} {a : Int} (c : Int) (d : decode cc pc = .ok (.tableswitch dflt lo hi offs, len)) (hc : a = c) (hr : Rg c) (h1 : ¬ c < lo) (h2 : ¬ hi < c) (ho : offs[(c - lo).toNat]? = some off) (ht : (pc : Int) + off = (tgt : Int)) (kk : Go g x nL R k n tgt lv st w) : Go g x nL R k n pc lv (vi a :: st) w := by
  subst hc
  intro H locs ls hP hD hS hl
  have e := i_toInt hr
  exact lv_tableIn C.hx C.hb d (by rw [e]; exact h1) (by rw [e]; exact h2) (by rw [e]; exact ho) ht (kk H locs ls hP hD hS hl)
theorem gi_tableOut (C : CO g x cc nL own ret R Pt) {dflt lo hi : Int} {offs : Array Int} {len : Nat} {tgt : Nat} {a : Int} (d : decode cc pc = .ok (.tableswitch dflt lo hi offs, len)) (hr : Rg a) (h : a < lo ∨ hi < a) (ht : (pc : Int) + dflt = (tgt : Int)) (kk : Go g x nL R k n tgt lv st w) : Go g x nL R k n pc lv (vi a :: st) w := fun H locs ls hP hD hS hl => lv_tableOut C.hx C.hb d (by rw [i_toInt hr]; exact h) ht (kk H locs ls hP hD hS hl)
/-! arrays -/
theorem gi_iald (C : CO g x cc nL own ret R Pt) {a N : Nat} {F : Int → Int} {i : Int} (d : decode cc pc = .ok (.iaload, 1)) (j : Nat) (h : w[j]? = some (cI g a N F)) (hN : N < 2147483648) (hi : 0 ≤ i ∧ i < N) (kk : Go g x nL R k n (pc + 1) lv (vi (F i) :: st) w) : Go g x nL R k n pc lv (vi i :: .ref a :: st) w := fun H locs ls hP hD hS hl => va_iald C.hx C.hb C.hK hP j 0 h rfl (i_in hi hN) d (by
    rw [i_clamp hi.1 (by omega)]
    show W _ _ _ _ _ _ _ _ _ _ _ _ _ _ _ (F0 _ _ _ (.int (Int32.ofInt (F ((i.toNat : Nat) : Int))) :: _))
    rw [Int.toNat_of_nonneg hi.1]
    exact kk H locs ls hP hD hS hl)
theorem gi_zald (C : CO g x cc nL own ret R Pt) {a N : Nat} {F : Int → Int} {i : Int} (d : decode cc pc = .ok (.baload, 1)) (j : Nat) (h : w[j]? = some (cZ g a N F)) (hN : N < 2147483648) (hi : 0 ≤ i ∧ i < N) (kk : Go g x nL R k n (pc + 1) lv (vi (F i) :: st) w) : Go g x nL R k n pc lv (vi i :: .ref a :: st) w := fun H locs ls hP hD hS hl => va_zald C.hx C.hb C.hK hP j 1 h rfl (i_in hi hN) d (by
    rw [i_clamp hi.1 (by omega)]
    show W _ _ _ _ _ _ _ _ _ _ _ _ _ _ _ (F0 _ _ _ (.int (Int32.ofInt (F ((i.toNat : Nat) : Int))) :: _))
    rw [Int.toNat_of_nonneg hi.1]
    exact kk H locs ls hP hD hS hl)
theorem gi_bald (C : CO g x cc nL own ret R Pt) {a N : Nat} {F : Int → Int} {i : Int} (d : decode cc pc = .ok (.baload, 1)) (j : Nat) (h : w[j]? = some (cB g a N F)) (hN : N < 2147483648) (hi : 0 ≤ i ∧ i < N) (kk : Go g x nL R k n (pc + 1) lv (vi (F i) :: st) w) : Go g x nL R k n pc lv (vi i :: .ref a :: st) w := fun H locs ls hP hD hS hl => va_bald C.hx C.hb C.hK hP j 2 h rfl (i_in hi hN) d (by
    rw [i_clamp hi.1 (by omega)]
    show W _ _ _ _ _ _ _ _ _ _ _ _ _ _ _ (F0 _ _ _ (.int (Int32.ofInt (F ((i.toNat : Nat) : Int))) :: _))
    rw [Int.toNat_of_nonneg hi.1]
    exact kk H locs ls hP hD hS hl)
theorem gi_iast (C : CO g x cc nL own ret R Pt) {a N : Nat} {F : Int → Int} {i v : Int} {w' : va_W} (d : decode cc pc = .ok (.iastore, 1)) (j : Nat) (h : w[j]? = some (cI g a N F)) (hN : N < 2147483648) (hi : 0 ≤ i ∧ i < N) (hw : w.set j (cI g a N (uF F i v)) = w') (kk : Go g x nL R k n (pc + 1) lv st w') : Go g x nL R k n pc lv (vi v :: vi i :: .ref a :: st) w := fun H locs ls hP hD hS hl => va_iast C.hx C.hb C.hK hP hD hS j 0 h rfl (i_in hi hN) d fun H1 locs1 hP1 hD1 hS1 => by
    rw [ia_upd F hi.1 (by omega)] at hP1 hD1
    exact kk H1 locs1 ls (hw ▸ hP1) (hw ▸ hD1) hS1 hl
theorem gi_zast (C : CO g x cc nL own ret R Pt) {a N : Nat} {F : Int → Int} {i v : Int} {w' : va_W} (d : decode cc pc = .ok (.bastore, 1)) (j : Nat) (h : w[j]? = some (cZ g a N F)) (hN : N < 2147483648) (hi : 0 ≤ i ∧ i < N) (hv : v = 0 ∨ v = 1) (hw : w.set j (cZ g a N (uF F i v)) = w') (kk : Go g x nL R k n (pc + 1) lv st w') : Go g x nL R k n pc lv (vi v :: vi i :: .ref a :: st) w := fun H locs ls hP hD hS hl => va_zast C.hx C.hb C.hK hP hD hS j 1 h rfl (i_in hi hN) d fun H1 locs1 hP1 hD1 hS1 => by
    have e : vp_nar .boolean (Int32.ofInt v) = Int32.ofInt v := by rcases hv with rfl | rfl <;> decide +kernel
    rw [e, ia_upd F hi.1 (by omega)] at hP1 hD1
    exact kk H1 locs1 ls (hw ▸ hP1) (hw ▸ hD1) hS1 hl
theorem gi_bast (C : CO g x cc nL own ret R Pt) {a N : Nat} {F : Int → Int} {i v : Int} {w' : va_W} (d : decode cc pc = .ok (.bastore, 1)) (j : Nat) (h : w[j]? = some (cB g a N F)) (hN : N < 2147483648) (hi : 0 ≤ i ∧ i < N) (hv : vp_nar .byte (Int32.ofInt v) = Int32.ofInt v) (hw : w.set j (cB g a N (uF F i v)) = w') (kk : Go g x nL R k n (pc + 1) lv st w') : Go g x nL R k n pc lv (vi v :: vi i :: .ref a :: st) w := fun H locs ls hP hD hS hl => va_bast C.hx C.hb C.hK hP hD hS j 2 h rfl (i_in hi hN) d fun H1 locs1 hP1 hD1 hS1 => by
    rw [hv, ia_upd F hi.1 (by omega)] at hP1 hD1
    exact kk H1 locs1 ls (hw ▸ hP1) (hw ▸ hD1) hS1 hl
theorem gi_alen (C : CO g x cc nL own ret R Pt) {a N t : Nat} {u : (Nat → Int32) ⊕ (Nat → Int64) ⊕ (Nat → UInt32) ⊕ (Nat → UInt64) ⊕ (Nat → Option Nat)} {ty : FieldType} (d : decode cc pc = .ok (.arraylength, 1)) (j : Nat) (h : w[j]? = some (a, .inl (gc g t, N, u))) (ht : (TYS (gc g))[t]? = some (gc g t, ty)) (kk : Go g x nL R k n (pc + 1) lv (vi (N : Int) :: st) w) : Go g x nL R k n pc lv (.ref a :: st) w := fun H locs ls hP hD hS hl => va_alen C.hx C.hb C.hK hP j t h ht rfl d (kk H locs ls hP hD hS hl)
theorem gi_aald (C : CO g x cc nL own ret R Pt) {a N t : Nat} {F : Int → Option Nat} {i : Int} {E : String} (d : decode cc pc = .ok (.aaload, 1)) (j : Nat) (h : w[j]? = some (cR g t a N F)) (ht : (TYS (gc g))[t]? = some (gc g t, .object E)) (hN : N < 2147483648) (hi : 0 ≤ i ∧ i < N) (kk : Go g x nL R k n (pc + 1) lv (va_rf (F i) :: st) w) : Go g x nL R k n pc lv (vi i :: .ref a :: st) w := fun H locs ls hP hD hS hl => va_aldq C.hx C.hb C.hK hP j t h ht (i_in hi hN) d (by
    rw [i_clamp hi.1 (by omega)]
    show W _ _ _ _ _ _ _ _ _ _ _ _ _ _ _ (F0 _ _ _ (va_rf (F ((i.toNat : Nat) : Int)) :: _))
    rw [Int.toNat_of_nonneg hi.1]
    exact kk H locs ls hP hD hS hl)
/-- a reference of the array's own class is stored -/
theorem gi_aast (C : CO g x cc nL own ret R Pt) {a N t v c : Nat} {F : Int → Option Nat} {i : Int} {r : vw_C} {fs : List Value} {w' : va_W} (d : decode cc pc = .ok (.aastore, 1)) (j jv : Nat) (h : w[j]? = some (cR g t a N F)) (ht : (TYS (gc g))[t]? = some (gc g t, .object r.1)) (hv : w[jv]? = some (cO v c fs)) (hc : CL[c]? = some r) (hN : N < 2147483648) (hi : 0 ≤ i ∧ i < N) (hw : w.set j (cR g t a N (uF F i (some v))) = w') (kk : Go g x nL R k n (pc + 1) lv st w') : Go g x nL R k n pc lv (.ref v :: vi i :: .ref a :: st) w := fun H locs ls hP hD hS hl => va_astq C.hx C.hb C.hK hP hD hS j t jv c h ht hv hc (i_in hi hN) d fun H1 locs1 hP1 hD1 hS1 => by
    rw [ir_upd F hi.1 (by omega)] at hP1 hD1
    exact kk H1 locs1 ls (hw ▸ hP1) (hw ▸ hD1) hS1 hl
/-! fields -/
theorem gi_get (C : CO g x cc nL own ret R Pt) {ref K : String} {T : u_T} {N c i a : Nat} {fs : List Value} {v : Value} (hin : ∀ w ∈ u_ws K T N, w ∈ lw_all) (d : decode cc pc = .ok (.getfield i, 3)) (f : Nat) (q : Cond.fieldLink own i ref (T f).2.1 (T f).2.2.1 ∈ lw_all) (j : Nat) (h : w[j]? = some (cO a c fs)) (hc : CL[c]? = some (K, T, N)) (hf : f < N) (hs : ∀ y, (xs x).fieldFound? (T f).1 (T f).2.1 (T f).2.2.1 = some y → (xs x).fieldFound? ref (T f).2.1 (T f).2.2.1 = some y) (hv : fs[f]? = some v) (kk : Go g x nL R k n (pc + 3) lv (v :: st) w) : Go g x nL R k n pc lv (.ref a :: st) w := fun H locs ls hP hD hS hl => va_get C.hx C.hb C.hts hin C.hown C.hK hP j h hc f hf (C.hts _ q) hs hv d (kk H locs ls hP hD hS hl)
theorem gi_getN (C : CO g x cc nL own ret R Pt) {ref K host : String} {T : u_T} {N c i a : Nat} {fs : List Value} {v : Value} (hin : ∀ w ∈ u_ws K T N, w ∈ lw_all) (d : decode cc pc = .ok (.getfield i, 3)) (f : Nat) (q : Cond.fieldLinkNest own i ref (T f).2.1 (T f).2.2.1 host ∈ lw_tbl) (j : Nat) (h : w[j]? = some (cO a c fs)) (hc : CL[c]? = some (K, T, N)) (hf : f < N) (hs : ∀ y, (xs x).fieldFound? (T f).1 (T f).2.1 (T f).2.2.1 = some y → (xs x).fieldFound? ref (T f).2.1 (T f).2.2.1 = some y) (hv : fs[f]? = some v) (kk : Go g x nL R k n (pc + 3) lv (v :: st) w) : Go g x nL R k n pc lv (.ref a :: st) w := fun H locs ls hP hD hS hl => va_getN C.hx C.hb C.hts hin C.hown C.hK hP j h hc f hf ((va_Nw.warmF C.gx.1 (C.nw q rfl)).use rfl) hs hv d (kk H locs ls hP hD hS hl)
theorem gi_put (C : CO g x cc nL own ret R Pt) {ref K : String} {T : u_T} {N c i a : Nat} {fs : List Value} {v : Value} {ty : FieldType} {w' : va_W} (hin : ∀ w ∈ u_ws K T N, w ∈ lw_all) (ty0 : Nat → FieldType) (hty : ∀ k, k < N → parseFieldDescriptor (T k).2.2.1 = some (ty0 k)) (hnm : ∀ a, a < N → ∀ b, b < N → a ≠ b → (T a).2.1 ≠ (T b).2.1) (d : decode cc pc = .ok (.putfield i, 3)) (f : Nat) (q : Cond.fieldLink own i ref (T f).2.1 (T f).2.2.1 ∈ lw_all) (j : Nat) (h : w[j]? = some (cO a c fs)) (hc : CL[c]? = some (K, T, N)) (hf : f < N) (hs : ∀ y, (xs x).fieldFound? (T f).1 (T f).2.1 (T f).2.2.1 = some y → (xs x).fieldFound? ref (T f).2.1 (T f).2.2.1 = some y) (hfin : (T f).2.2.2 = false) (hd : ty0 f = ty) (hv : narrow ty v = v ∧ fits ty v = true) (hl : f < fs.length) (hw : w.set j (cO a c (fs.set f v)) = w') (kk : Go g x nL R k n (pc + 3) lv st w') : Go g x nL R k n pc lv (v :: .ref a :: st) w := fun H locs ls hP hD hS hl' => va_put C.hx C.hb C.hts hin ty0 hty hnm C.hown C.hK hP hD hS j h hc f hf (C.hts _ q) hs hfin (hd ▸ hty f hf) hv.1 hv.2 hl d fun H1 locs1 hP1 hD1 hS1 => kk H1 locs1 ls (hw ▸ hP1) (hw ▸ hD1) hS1 hl'
theorem gi_putN (C : CO g x cc nL own ret R Pt) {ref K host : String} {T : u_T} {N c i a : Nat} {fs : List Value} {v : Value} {ty : FieldType} {w' : va_W} (hin : ∀ w ∈ u_ws K T N, w ∈ lw_all) (ty0 : Nat → FieldType) (hty : ∀ k, k < N → parseFieldDescriptor (T k).2.2.1 = some (ty0 k)) (hnm : ∀ a, a < N → ∀ b, b < N → a ≠ b → (T a).2.1 ≠ (T b).2.1) (d : decode cc pc = .ok (.putfield i, 3)) (f : Nat) (q : Cond.fieldLinkNest own i ref (T f).2.1 (T f).2.2.1 host ∈ lw_tbl) (j : Nat) (h : w[j]? = some (cO a c fs)) (hc : CL[c]? = some (K, T, N)) (hf : f < N) (hs : ∀ y, (xs x).fieldFound? (T f).1 (T f).2.1 (T f).2.2.1 = some y → (xs x).fieldFound? ref (T f).2.1 (T f).2.2.1 = some y) (hfin : (T f).2.2.2 = false) (hd : ty0 f = ty) (hv : narrow ty v = v ∧ fits ty v = true) (hl : f < fs.length) (hw : w.set j (cO a c (fs.set f v)) = w') (kk : Go g x nL R k n (pc + 3) lv st w') : Go g x nL R k n pc lv (v :: .ref a :: st) w := fun H locs ls hP hD hS hl' => va_putN C.hx C.hb C.hts hin ty0 hty hnm C.hown C.hK hP hD hS j h hc f hf ((va_Nw.warmF C.gx.1 (C.nw q rfl)).use rfl) hs hfin (hd ▸ hty f hf) hv.1 hv.2 hl d fun H1 locs1 hP1 hD1 hS1 => kk H1 locs1 ls (hw ▸ hP1) (hw ▸ hD1) hS1 hl'
/-! returns: room is rounded up to the contract's -/
theorem gi_ret {oc : Option Value} {H : Heap} {locs : List Loc} (C : CO g x cc nL own ret R Pt) (hp : Pt oc w) (hP : va_P (gG g) CL w H) (hD : va_D (xA x) w) (hS : va_S (xA x) (xs x).heap H locs) (t : State) (ht : t.heap = H) (_ : (xs x).WarmedH t.vm) : QC g Pt (xA x) (xa x) (xs x) (.returned oc) t := ⟨⟨oc, w, rfl, hp, by rw [ht]; exact hP, hD⟩, hS.F ht⟩
theorem gi_ireturn (C : CO g x cc nL own (some .int) R Pt) (d : decode cc pc = .ok (.ireturn, 1)) (hk : k ≤ R.cells) (hn : n ≤ R.slots) {v : Int} (hp : Pt (some (vi v)) w) : Go g x nL R k n pc lv [vi v] w := by
  intro H locs ls hP hD hS hl
  refine W.widen hk hn ?_
  rw [C.hQ]
  exact W.iret C.hx C.hb C.hret (gi_ret C hp hP hD hS) hS.2.2 d C.hlocks
theorem gi_zreturn (C : CO g x cc nL own (some .boolean) R Pt) (d : decode cc pc = .ok (.ireturn, 1)) (hk : k ≤ R.cells) (hn : n ≤ R.slots) {v : Int} (hv : v = 0 ∨ v = 1) (hp : Pt (some (vi v)) w) : Go g x nL R k n pc lv [vi v] w := by
  intro H locs ls hP hD hS hl
  refine W.widen hk hn ?_
  rw [C.hQ]
  exact W.zret C.hx C.hb C.hret (by rcases hv with rfl | rfl <;> decide +kernel) (gi_ret C hp hP hD hS) hS.2.2 d C.hlocks
theorem gi_return (C : CO g x cc nL own none R Pt) (d : decode cc pc = .ok (.return_, 1)) (hk : k ≤ R.cells) (hn : n ≤ R.slots) (hp : Pt none w) : Go g x nL R k n pc lv [] w := by
  intro H locs ls hP hD hS hl
  refine W.widen hk hn ?_
  rw [C.hQ]
  exact W.vret C.hx C.hb C.hret (gi_ret C hp hP hD hS) hS.2.2 d C.hlocks
theorem gi_areturn {E : FieldType} (C : CO g x cc nL own (some E) R Pt) (hE : (∃ n, E = .object n) ∨ ∃ t, E = .array t) (d : decode cc pc = .ok (.areturn, 1)) (hk : k ≤ R.cells) (hn : n ≤ R.slots) {v : Value} (hv : v = .null ∨ ∃ a, v = .ref a) (hp : Pt (some v) w) : Go g x nL R k n pc lv [v] w := by
  intro H locs ls hP hD hS hl
  refine W.widen hk hn ?_
  rw [C.hQ]
  exact W.aret C.hx C.hb C.hret hE hv (gi_ret C hp hP hD hS) hS.2.2 d C.hlocks
/-! calls -/
theorem PCn.blind (av : List Value) (w : va_W) (sz : Nat) : FrameBlind (PCn g av w sz) := by
  intro a U G mk q
  exact q
theorem gi_back {mc ms : Nat} {rest st0 : List Value} {a : Array Value} {P' : Option Value → va_W → Prop} {wc wr : va_W} (C : CO g x cc nL own ret R Pt) (isC isR : List Nat) (hC : isC.map (fun i => w[i]?) = wc.map some) (hR : isR.map (fun i => w[i]?) = wr.map some) (hn : va_nd isR = true) (hdis : ∀ i ∈ isR, i ∉ isC)
    (hrun : ∀ (H : Heap) (locs : List Loc) (ls : Array Slot), va_P (gG g) CL w H → va_D (xA x) w → va_S (xA x) (xs x).heap H locs → lv_has ls nL lv → va_P (gG g) CL wc H → va_Run (xp x) (gl g) (xe x) R (xs x) (xm x) (xa x) (xb x) (xt x) (xc x) H locs k n mc ms (F0 (xm x) pc ls st0) rest (QC g P' (va_A wc H.size) a) (va_A wc H.size))
    (kk : ∀ (v : Option Value) (w1 : va_W), P' v w1 → Go g x nL R (k + mc) (n + ms) (pc + 3) lv (v.toList ++ rest) (wr ++ w1)) : Go g x nL R k n pc lv st0 w := by
  intro H locs ls hP hD hS hl
  have hPc : va_P (gG g) CL wc H := by
    intro i q hq
    have h1 : (isC.map (fun i => w[i]?))[i]? = some (some q) := by rw [hC, List.getElem?_map, hq]; rfl
    rw [List.getElem?_map] at h1
    cases hi : isC[i]? with
    | none => rw [hi] at h1; cases h1
    | some j => rw [hi] at h1; exact hP j q (Option.some.inj h1)
  have hF := va_free (wc := wc) hD hS C.hA isC hC
  intro T hT X
  obtain ⟨v, st₀, t, T', L, h0, X', hL, e1, e2, ⟨⟨v', w1, hv, hp, hP1, hD1⟩, hz, hk⟩, stp⟩ := hrun H locs ls hP hD hS hl hPc T hT X
  cases hv
  rw [h0] at hz hk
  rw [← e1] at hP1
  obtain ⟨jP, jD⟩ := va_join (wr := wr) (w1 := w1) (H1 := T'.heap) hP hD isC isR hC hR hn hdis (fun q h1 h2 => by rw [e1]; exact hk q h1 h2) hF hP1 hD1
  obtain ⟨t2, a1, b1⟩ := kk v w1 hp T'.heap (locs ++ L) ls jP jD
    ⟨Nat.le_trans hS.1 (by rw [e1]; exact hz), fun q h1 h2 => by rw [e1, hk q (Nat.lt_of_lt_of_le h1 hS.1) (fun z => h2 (hF q z))]; exact hS.2.1 q h1 h2, fun q hq => by
      rcases List.mem_append.mp hq with h | h
      · exact hS.2.2 q h
      · exact hF _ (hL q h)⟩ hl T' rfl X'
  exact ⟨t2, stp t2 a1, b1⟩
theorem gi_pre {locs : List Loc} {H : Heap} {wc : va_W} {av : List Value} (C : CO g x cc nL own ret R Pt) (hD : va_D (xA x) w) (hS : va_S (xA x) (xs x).heap H locs) (isC : List Nat) (hC : isC.map (fun i => w[i]?) = wc.map some) (hn : va_nd isC = true) (hPc : va_P (gG g) CL wc H) : ∀ U : State, U.heap = H → (xs x).WarmedH U.vm → PCn g av wc H.size av.toArray U := by
  intro U hU hW
  refine ⟨rfl, by rw [hU], C.gx.moved C.hA0 hS hU hW, by rw [hU]; exact hPc, ?_⟩
  exact (hD.sub isC hn hC).weaken (fun _ q _ h => C.hA0 q.1 h)
/-- invokestatic -/
theorem gi_runS {y : MethodName} {c1 : ByteArray} {nL1 i : Nat} {ret1 : Option FieldType} {rm : Room} {av rest st0 : List Value} {P' : Option Value → va_W → Prop} {wc wr : va_W} (C : CO g x cc nL own ret R Pt) (hM : Con g y c1 nL1 ret1 rm av wc P') (d : decode cc pc = .ok (.invokestatic i, 3)) (q1 : Cond.methodLink own i y ∈ lw_all) (q2 : Cond.static y ∈ lw_all) (q3 : Cond.initialized y.cls ∈ lw_all) (q4 : Cond.code y c1 nL1 ret1 ∈ lw_all)
    (hd : y.cls ≠ "java/lang/invoke/MethodHandle" ∧ y.cls ≠ "java/lang/invoke/VarHandle" ∧ (parseMethodDescriptor y.desc).map (fun d => d.parameters.length) = some av.length) (hR : rm.frames + 1 ≤ R.frames ∧ 8 + (nL1 + 11) + rm.locals ≤ R.locals)
    (isC isR : List Nat) (hC : isC.map (fun i => w[i]?) = wc.map some) (hwr : isR.map (fun i => w[i]?) = wr.map some) (hn : va_nd isR = true) (hnC : va_nd isC = true) (hdis : ∀ i ∈ isR, i ∉ isC) (hst : st0 = av.reverse ++ rest) (h8 : (rest.map fun v => v.category).sum ≤ 8) (hk : k + rm.cells ≤ R.cells ∧ n + rm.slots ≤ R.slots)
    (kk : ∀ (v : Option Value) (w1 : va_W), P' v w1 → Go g x nL R (k + rm.cells) (n + rm.slots) (pc + 3) lv (v.toList ++ rest) (wr ++ w1)) : Go g x nL R k n pc lv st0 w := by
  subst hst
  refine gi_back (a := av.toArray) C isC isR hC hwr hn hdis (fun H locs ls hP hD hS hl hPc => ?_) kk
  exact va_runS (As := av) ⟨C.hx, C.hb, C.hml, C.hown, C.hts⟩ (hM H.size) (va_cwS av.length C.hts (lw_S q1 q2 q3 q4) rfl rfl rfl hd hR) ⟨PCn.blind _ _ _, gi_pre C hD hS isC hC hnC hPc⟩ rfl rfl hl.1 rfl (lv_room h8) d hk
/-- invokevirtual of a method of the receiver's own class -/
theorem gi_runV {y : MethodName} {c1 : ByteArray} {nL1 i b ci : Nat} {ret1 : Option FieldType} {rm : Room} {av rest st0 : List Value} {P' : Option Value → va_W → Prop} {wc wr : va_W} {fs : List Value} {T : u_T} {N : Nat} (C : CO g x cc nL own ret R Pt) (hM : Con g y c1 nL1 ret1 rm (.ref b :: av) wc P') (d : decode cc pc = .ok (.invokevirtual i, 3)) (q1 : Cond.methodLink own i y ∈ lw_all) (q2 : Cond.instanceMethod y ∈ lw_all) (qs : Cond.selects y.cls y y ∈ lw_all) (q3 : Cond.initialized y.cls ∈ lw_all) (q4 : Cond.code y c1 nL1 ret1 ∈ lw_all)
    (hd : y.cls ≠ "java/lang/invoke/MethodHandle" ∧ y.cls ≠ "java/lang/invoke/VarHandle" ∧ (parseMethodDescriptor y.desc).map (fun d => d.parameters.length) = some av.length) (hR : rm.frames + 1 ≤ R.frames ∧ 8 + (nL1 + 11) + rm.locals ≤ R.locals) (jb : Nat) (hb : w[jb]? = some (cO b ci fs)) (hci : CL[ci]? = some (y.cls, T, N))
    (isC isR : List Nat) (hC : isC.map (fun i => w[i]?) = wc.map some) (hwr : isR.map (fun i => w[i]?) = wr.map some) (hn : va_nd isR = true) (hnC : va_nd isC = true) (hdis : ∀ i ∈ isR, i ∉ isC) (hst : st0 = av.reverse ++ .ref b :: rest) (h8 : (rest.map fun v => v.category).sum ≤ 8) (hk : k + rm.cells ≤ R.cells ∧ n + rm.slots ≤ R.slots)
    (kk : ∀ (v : Option Value) (w1 : va_W), P' v w1 → Go g x nL R (k + rm.cells) (n + rm.slots) (pc + 3) lv (v.toList ++ rest) (wr ++ w1)) : Go g x nL R k n pc lv st0 w := by
  subst hst
  refine gi_back (a := (Value.ref b :: av).toArray) C isC isR hC hwr hn hdis (fun H locs ls hP hD hS hl hPc => ?_) kk
  exact va_runV (As := av) ⟨C.hx, C.hb, C.hml, C.hown, C.hts⟩ (hM H.size) (cwV av.length C.hts (lw_V q1 q2 qs q3 q4) rfl rfl rfl ⟨rfl, hd⟩ hR) ⟨PCn.blind _ _ _, va_recv C.hK hP hci hb, gi_pre C hD hS isC hC hnC hPc⟩ rfl rfl hl.1 rfl (lv_room h8) d hk
/-- invokespecial of a constructor -/
theorem gi_runI {y : MethodName} {c1 : ByteArray} {nL1 i b : Nat} {rm : Room} {av rest st0 : List Value} {P' : Option Value → va_W → Prop} {wc wr : va_W} (C : CO g x cc nL own ret R Pt) (hM : Con g y c1 nL1 none rm (.ref b :: av) wc P') (d : decode cc pc = .ok (.invokespecial i, 3)) (q1 : Cond.methodLink own i y ∈ lw_all) (q2 : Cond.instanceMethod y ∈ lw_all) (q3 : Cond.initialized y.cls ∈ lw_all) (q4 : Cond.code y c1 nL1 none ∈ lw_all) (hi : y.name = "<init>")
    (hd : y.cls ≠ "java/lang/invoke/MethodHandle" ∧ y.cls ≠ "java/lang/invoke/VarHandle" ∧ (parseMethodDescriptor y.desc).map (fun d => d.parameters.length) = some av.length) (hR : rm.frames + 1 ≤ R.frames ∧ 8 + (nL1 + 11) + rm.locals ≤ R.locals)
    (isC isR : List Nat) (hC : isC.map (fun i => w[i]?) = wc.map some) (hwr : isR.map (fun i => w[i]?) = wr.map some) (hn : va_nd isR = true) (hnC : va_nd isC = true) (hdis : ∀ i ∈ isR, i ∉ isC) (hst : st0 = av.reverse ++ .ref b :: rest) (h8 : (rest.map fun v => v.category).sum ≤ 8) (hk : k + rm.cells ≤ R.cells ∧ n + rm.slots ≤ R.slots)
    (kk : ∀ (v : Option Value) (w1 : va_W), P' v w1 → Go g x nL R (k + rm.cells) (n + rm.slots) (pc + 3) lv (v.toList ++ rest) (wr ++ w1)) : Go g x nL R k n pc lv st0 w := by
  subst hst
  refine gi_back (a := (Value.ref b :: av).toArray) C isC isR hC hwr hn hdis (fun H locs ls hP hD hS hl hPc => ?_) kk
  exact va_runI (As := av) ⟨C.hx, C.hb, C.hml, C.hown, C.hts⟩ (hM H.size) (cwI av.length C.hts (lw_meth q4) rfl rfl rfl (C.hts _ q3) (C.hts _ q1) (C.hts _ q2) hi hd hR) ⟨PCn.blind _ _ _, gi_pre C hD hS isC hC hnC hPc⟩ rfl rfl hl.1 rfl (lv_room h8) d hk
theorem gi_objInit (C : CO g x cc nL own ret R Pt) {i a : Nat} (d : decode cc pc = .ok (.invokespecial i, 3)) (q1 : Cond.methodLink own i Lib.objectInit ∈ lw_all) (q2 : Cond.instanceMethod Lib.objectInit ∈ lw_all) (q3 : Cond.code Lib.objectInit ⟨#[0xb1]⟩ 1 none ∈ lw_all) (hf : 1 ≤ R.frames) (h8 : (st.map fun v => v.category).sum + 12 ≤ R.locals) (kk : Go g x nL R k n (pc + 3) lv st w) : Go g x nL R k n pc lv (.ref a :: st) w := fun H locs ls hP hD hS hl => W.objInit C.hx C.hb C.hown (C.hts _ q1) (C.hts _ q2) (C.hts _ q3) rfl (by rw [C.hml]; exact hl.1) rfl d hf (by show 2 * 0 + _ + 12 ≤ _; omega) (kk H locs ls hP hD hS hl)
end GO
section GO2
variable {g : GG} {x : GoX} {nL : Nat} {R : Room} {k n pc : Nat} {lv : List (Nat × Value)} {st : List Value} {w : va_W} {cc : ByteArray} {own : String} {ret : Option FieldType} {Pt : Option Value → va_W → Prop}
theorem kI {P : Int → va_W → Prop} {rest : List Value} {wr : va_W} (h : ∀ r w1, P r w1 → Go g x nL R k n pc lv (vi r :: rest) (wr ++ w1)) : ∀ v w1, pI P v w1 → Go g x nL R k n pc lv (v.toList ++ rest) (wr ++ w1) := by
  rintro v w1 ⟨r, rfl, hp⟩
  exact h r w1 hp
theorem kV {P : va_W → Prop} {rest : List Value} {wr : va_W} (h : ∀ w1, P w1 → Go g x nL R k n pc lv rest (wr ++ w1)) : ∀ v w1, pV P v w1 → Go g x nL R k n pc lv (v.toList ++ rest) (wr ++ w1) := by
  rintro v w1 ⟨rfl, hp⟩
  exact h w1 hp
theorem kR {P : Nat → va_W → Prop} {rest : List Value} {wr : va_W} (h : ∀ r w1, P r w1 → Go g x nL R k n pc lv (.ref r :: rest) (wr ++ w1)) : ∀ v w1, pR P v w1 → Go g x nL R k n pc lv (v.toList ++ rest) (wr ++ w1) := by
  rintro v w1 ⟨r, rfl, hp⟩
  exact h r w1 hp
theorem kO {P : Option Nat → va_W → Prop} {rest : List Value} {wr : va_W} (h : ∀ r w1, P r w1 → Go g x nL R k n pc lv (va_rf r :: rest) (wr ++ w1)) : ∀ v w1, pO P v w1 → Go g x nL R k n pc lv (v.toList ++ rest) (wr ++ w1) := by
  rintro v w1 ⟨r, rfl, hp⟩
  exact h r w1 hp
theorem fz {z : Int} (h : z = 0 ∨ z = 1) : narrow .boolean (vi z) = vi z ∧ fits .boolean (vi z) = true := by
  rcases h with rfl | rfl <;> decide +kernel
end GO2
section GO3
variable {g : GG} {x : GoX} {nL : Nat} {R : Room} {k n pc : Nat} {lv : List (Nat × Value)} {st : List Value} {w : va_W} {cc : ByteArray} {own : String} {ret : Option FieldType} {Pt : Option Value → va_W → Prop}
theorem gi_iincE (C : CO g x cc nL own ret R Pt) {i : Nat} {z v v2 : Int} {lv' : List (Nat × Value)} (d : decode cc pc = .ok (.iinc i z, 3)) (j : Nat) (hj : lv[j]? = some (i, vi v)) (hi : i < nL) (he : v + z = v2) (h : lvput lv i (vi v2) = lv') (kk : Go g x nL R k n (pc + 3) lv' st w) : Go g x nL R k n pc lv st w := gi_iinc C d j hj hi (by rw [he]; exact h) kk
end GO3
