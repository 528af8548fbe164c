/-! THE TEXT, READ -/
def chI (T : Int → Int) (n a : Int) : Int := if a < n then T a else -1
def skN (T : Int → Int) (n : Int) : Nat → Int → Int
  | 0, a => a
  | u + 1, a => if chI T n a = 32 then skN T n u (a + 1) else a
/-- past spaces -/
def skI (T : Int → Int) (n a : Int) : Int := skN T n (n - a + 1).toNat a
theorem chI_lt {T : Int → Int} {n a c : Int} (h : chI T n a = c) (hc : c ≠ -1) : a < n := by
  unfold chI at h
  by_cases e : a < n
  · exact e
  · rw [if_neg e] at h; omega
theorem skI_s {T : Int → Int} {n a : Int} (h : chI T n a = 32) : skI T n a = skI T n (a + 1) := by
  have hl := chI_lt h (by decide)
  unfold skI
  rw [show (n - a + 1).toNat = (n - (a + 1) + 1).toNat + 1 by omega]
  show (if chI T n a = 32 then _ else a) = _
  rw [if_pos h]
theorem skI_e {T : Int → Int} {n a : Int} (ha : a ≤ n) (h : chI T n a ≠ 32) : skI T n a = a := by
  unfold skI
  rw [show (n - a + 1).toNat = (n - a).toNat + 1 by omega]
  show (if chI T n a = 32 then _ else a) = _
  rw [if_neg h]
theorem skN_b (T : Int → Int) (n : Int) : ∀ (u : Nat) (a : Int), a ≤ n → a ≤ skN T n u a ∧ skN T n u a ≤ n := by
  intro u
  induction u with
  | zero => intro a h; exact ⟨Int.le_refl _, h⟩
  | succ u ih =>
    intro a h
    show a ≤ (if chI T n a = 32 then _ else a) ∧ (if chI T n a = 32 then _ else a) ≤ n
    by_cases e : chI T n a = 32
    · have hl := chI_lt e (by decide)
      have := ih (a + 1) (by omega)
      rw [if_pos e]
      omega
    · rw [if_neg e]
      omega
theorem skI_b {T : Int → Int} {n a : Int} (h : a ≤ n) : a ≤ skI T n a ∧ skI T n a ≤ n := skN_b T n _ a h
abbrev isDg (c : Int) : Prop := 48 ≤ c ∧ c ≤ 57
/-- behind the digits -/
def deN (T : Int → Int) (n : Int) : Nat → Int → Int
  | 0, a => a
  | u + 1, a => if isDg (chI T n a) then deN T n u (a + 1) else a
def deI (T : Int → Int) (n a : Int) : Int := deN T n (n - a + 1).toNat a
theorem dg_lt {T : Int → Int} {n a : Int} (h : isDg (chI T n a)) : a < n := by
  unfold chI at h
  by_cases e : a < n
  · exact e
  · rw [if_neg e] at h; omega
theorem deI_s {T : Int → Int} {n a : Int} (h : isDg (chI T n a)) : deI T n a = deI T n (a + 1) := by
  have hl := dg_lt h
  unfold deI
  rw [show (n - a + 1).toNat = (n - (a + 1) + 1).toNat + 1 by omega]
  show (if isDg (chI T n a) then _ else a) = _
  rw [if_pos h]
theorem deI_e {T : Int → Int} {n a : Int} (ha : a ≤ n) (h : ¬ isDg (chI T n a)) : deI T n a = a := by
  unfold deI
  rw [show (n - a + 1).toNat = (n - a).toNat + 1 by omega]
  show (if isDg (chI T n a) then _ else a) = _
  rw [if_neg h]
theorem deN_b (T : Int → Int) (n : Int) : ∀ (u : Nat) (a : Int), a ≤ n → a ≤ deN T n u a ∧ deN T n u a ≤ n := by
  intro u
  induction u with
  | zero => intro a h; exact ⟨Int.le_refl _, h⟩
  | succ u ih =>
    intro a h
    show a ≤ (if isDg (chI T n a) then _ else a) ∧ (if isDg (chI T n a) then _ else a) ≤ n
    by_cases e : isDg (chI T n a)
    · have hl := dg_lt e
      have := ih (a + 1) (by omega)
      rw [if_pos e]
      omega
    · rw [if_neg e]
      omega
theorem deI_b {T : Int → Int} {n a : Int} (h : a ≤ n) : a ≤ deI T n a ∧ deI T n a ≤ n := deN_b T n _ a h
/-- the number that the digits from a on make behind v: a hundred is too much -/
def nvN (T : Int → Int) (n : Int) : Nat → Int → Int → Int
  | 0, _, v => v
  | u + 1, a, v => if isDg (chI T n a) then nvN T n u (a + 1) (if 100 < 10 * v + chI T n a - 48 then 100 else 10 * v + chI T n a - 48) else v
def nvI (T : Int → Int) (n a v : Int) : Int := nvN T n (n - a + 1).toNat a v
theorem nvI_s {T : Int → Int} {n a v : Int} (h : isDg (chI T n a)) : nvI T n a v = nvI T n (a + 1) (if 100 < 10 * v + chI T n a - 48 then 100 else 10 * v + chI T n a - 48) := by
  have hl := dg_lt h
  unfold nvI
  rw [show (n - a + 1).toNat = (n - (a + 1) + 1).toNat + 1 by omega]
  show (if isDg (chI T n a) then _ else v) = _
  rw [if_pos h]
theorem nvI_e {T : Int → Int} {n a v : Int} (ha : a ≤ n) (h : ¬ isDg (chI T n a)) : nvI T n a v = v := by
  unfold nvI
  rw [show (n - a + 1).toNat = (n - a).toNat + 1 by omega]
  show (if isDg (chI T n a) then _ else v) = _
  rw [if_neg h]
theorem nvN_b (T : Int → Int) (n : Int) : ∀ (u : Nat) (a v : Int), 0 ≤ v → v ≤ 100 → 0 ≤ nvN T n u a v ∧ nvN T n u a v ≤ 100 := by
  intro u
  induction u with
  | zero => intro a v h h2; exact ⟨h, h2⟩
  | succ u ih =>
    intro a v h h2
    show 0 ≤ (if isDg (chI T n a) then _ else v) ∧ (if isDg (chI T n a) then _ else v) ≤ 100
    by_cases e : isDg (chI T n a)
    · rw [if_pos e]
      exact ih _ _ (by split <;> omega) (by split <;> omega)
    · rw [if_neg e]
      omega
theorem nvI_b {T : Int → Int} {n a v : Int} (h : 0 ≤ v ∧ v ≤ 100) : 0 ≤ nvI T n a v ∧ nvI T n a v ≤ 100 := nvN_b T n _ a v h.1 h.2
/-- a token: its place, its letter, its kind (0 the end, 1 a letter, 2 a number, 3 a stop, 4 amiss), what follows -/
abbrev plI (T : Int → Int) (n a : Int) : Int := skI T n a
def ltI (T : Int → Int) (n a : Int) : Int := chI T n (skI T n a)
def tvI (T : Int → Int) (n a : Int) : Int := nvI T n (skI T n a) 0
abbrev nokB (T : Int → Int) (n a : Int) : Prop := tvI T n a < 100 ∧ (ltI T n a ≠ 48 ∨ deI T n (skI T n a) - skI T n a ≤ 1)
def tkI (T : Int → Int) (n a : Int) : Int := if ltI T n a < 0 then 0 else if isDg (ltI T n a) then (if nokB T n a then 2 else 4) else if ltI T n a = 59 then 3 else if ltI T n a = 100 ∨ ltI T n a = 107 then 1 else 4
def nxI (T : Int → Int) (n a : Int) : Int := if ltI T n a < 0 then skI T n a else if isDg (ltI T n a) then deI T n (skI T n a) else skI T n a + 1
theorem nxI_b {T : Int → Int} {n a : Int} (h : a ≤ n) : a ≤ nxI T n a ∧ nxI T n a ≤ n := by
  have h1 := skI_b (T := T) h
  have h2 := deI_b (T := T) (a := skI T n a) h1.2
  unfold nxI
  by_cases e : ltI T n a < 0
  · rw [if_pos e]; omega
  · rw [if_neg e]
    by_cases e2 : isDg (ltI T n a)
    · rw [if_pos e2]; omega
    · rw [if_neg e2]
      have : skI T n a < n := by
        apply Classical.byContradiction
        intro z
        apply e
        unfold ltI chI
        rw [if_neg z]
        decide
      omega
theorem nxI_gt {T : Int → Int} {n a : Int} (h : a ≤ n) (hk : tkI T n a ≠ 0) : a < nxI T n a := by
  have h1 := skI_b (T := T) h
  have e : ¬ ltI T n a < 0 := fun e => hk (by unfold tkI; rw [if_pos e])
  unfold nxI
  rw [if_neg e]
  by_cases e2 : isDg (ltI T n a)
  · rw [if_pos e2]
    have e3 : isDg (chI T n (skI T n a)) := e2
    have hl := dg_lt e3
    have := deI_b (T := T) (n := n) (a := skI T n a + 1) (by omega)
    rw [deI_s e3]
    omega
  · rw [if_neg e2]
    omega
/-- an item from a on: where it is amiss (-9: nowhere), what it tells -/
abbrev mxI (T : Int → Int) (n a : Int) : Int := if ltI T n a = 100 then 30 else 2
def flI3 (T : Int → Int) (n a : Int) : Int := if tkI T n a ≠ 1 then plI T n a else if ¬ (tkI T n (nxI T n a) = 2 ∧ tvI T n (nxI T n a) ≤ mxI T n a) then plI T n (nxI T n a) else if tkI T n (nxI T n (nxI T n a)) ≠ 3 then plI T n (nxI T n (nxI T n a)) else -9
def itI (T : Int → Int) (n a : Int) : Int := if ltI T n a = 100 then tvI T n (nxI T n a) else 31 + tvI T n (nxI T n a)
def nx3 (T : Int → Int) (n a : Int) : Int := nxI T n (nxI T n (nxI T n a))
def psN (T : Int → Int) (n : Int) : Nat → Int
  | 0 => 0
  | i + 1 => nx3 T n (psN T n i)
def psI (T : Int → Int) (n i : Int) : Int := psN T n i.toNat
theorem psI_s (T : Int → Int) (n : Int) {i : Int} (h : 0 ≤ i) : psI T n (i + 1) = nx3 T n (psI T n i) := by
  obtain ⟨k, rfl⟩ := Int.eq_ofNat_of_zero_le h
  rfl
/-- where the text is amiss; how many items it has -/
def ftN (T : Int → Int) (n : Int) : Nat → Int → Int
  | 0, _ => -9
  | u + 1, i => if flI3 T n (psI T n i) ≠ -9 then flI3 T n (psI T n i) else if tkI T n (psI T n (i + 1)) = 0 then -9 else ftN T n u (i + 1)
def ctN (T : Int → Int) (n : Int) : Nat → Int → Int
  | 0, _ => 0
  | u + 1, i => if flI3 T n (psI T n i) ≠ -9 then 0 else if tkI T n (psI T n (i + 1)) = 0 then i + 1 else ctN T n u (i + 1)
def ftI (T : Int → Int) (n : Int) : Int := ftN T n 50 0
def ctI (T : Int → Int) (n : Int) : Int := ctN T n 50 0
def itemI (T : Int → Int) (n i : Int) : Int := itI T n (psI T n i)
theorem fl3_ok {T : Int → Int} {n a : Int} (h0 : 0 ≤ a) (h : a ≤ n) (e : flI3 T n a = -9) : tkI T n a = 1 ∧ (tkI T n (nxI T n a) = 2 ∧ tvI T n (nxI T n a) ≤ mxI T n a) ∧ tkI T n (nxI T n (nxI T n a)) = 3 := by
  have h1 := skI_b (T := T) h
  have g1 := nxI_b (T := T) h
  have h2 := skI_b (T := T) g1.2
  have g2 := nxI_b (T := T) g1.2
  have h3 := skI_b (T := T) g2.2
  unfold flI3 plI at e
  by_cases c1 : tkI T n a ≠ 1
  · rw [if_pos c1] at e; omega
  · rw [if_neg c1] at e
    by_cases c2 : ¬ (tkI T n (nxI T n a) = 2 ∧ tvI T n (nxI T n a) ≤ mxI T n a)
    · rw [if_pos c2] at e; omega
    · rw [if_neg c2] at e
      by_cases c3 : tkI T n (nxI T n (nxI T n a)) ≠ 3
      · rw [if_pos c3] at e; omega
      · exact ⟨Classical.not_not.mp c1, Classical.not_not.mp c2, Classical.not_not.mp c3⟩
theorem nx3_gt {T : Int → Int} {n a : Int} (h0 : 0 ≤ a) (h : a ≤ n) (e : flI3 T n a = -9) : a + 3 ≤ nx3 T n a ∧ nx3 T n a ≤ n := by
  obtain ⟨c1, c2, c3⟩ := fl3_ok h0 h e
  have g1 := nxI_b (T := T) h
  have g2 := nxI_b (T := T) g1.2
  have g3 := nxI_b (T := T) g2.2
  have k1 := nxI_gt h (by rw [c1]; decide)
  have k2 := nxI_gt g1.2 (by rw [c2.1]; decide)
  have k3 := nxI_gt g2.2 (by rw [c3]; decide)
  unfold nx3
  omega
theorem itI_b {T : Int → Int} {n a : Int} (h0 : 0 ≤ a) (h : a ≤ n) (e : flI3 T n a = -9) : 0 ≤ itI T n a ∧ itI T n a < 34 := by
  obtain ⟨c1, c2, c3⟩ := fl3_ok h0 h e
  have hv : 0 ≤ tvI T n (nxI T n a) ∧ _ := nvI_b (T := T) (n := n) (a := skI T n (nxI T n a)) (v := 0) (by omega)
  unfold itI
  unfold mxI at c2
  by_cases e : ltI T n a = 100
  · rw [if_pos e] at c2 ⊢; omega
  · rw [if_neg e] at c2 ⊢; omega
/-! rows keep being rows -/
theorem sbits_at (S : Int → Int) (v b : Int) (j : Int) : sbits S v b j = if 36 + 6 * S 0 ≤ j ∧ j < 36 + 6 * S 0 + b then v / 2 ^ (5 - (j - 36 - 6 * S 0)).toNat % 2 else S j := rfl
theorem preS_0 {S : Int → Int} (k : Int) : preS S k 0 = S 0 + 1 := by
  unfold preS
  rw [uF_ne _ _ (by omega), uF_eq]
theorem preS_1 {S : Int → Int} (k : Int) : preS S k 1 = if ones (fm k (dueB S)) = 3 then S 1 else - S 1 := by
  unfold preS
  rw [uF_eq]
theorem preS_w {S : Int → Int} (k : Int) {w : Int} (hn : 0 ≤ S 0 ∧ S 0 < 32) (h0 : 0 ≤ w) (h1 : w < 32) : preS S k (4 + w) = if w = S 0 then k else S (4 + w) := by
  unfold preS
  rw [uF_ne _ _ (by omega), uF_ne _ _ (by omega)]
  unfold uF
  by_cases e : w = S 0
  · rw [if_pos (by omega), if_pos e]
  · rw [if_neg (by omega), if_neg e, sbits_lo _ _ _ hn.1 (by omega)]
theorem preS_b {S : Int → Int} (k : Int) {b : Int} (hn : 0 ≤ S 0 ∧ S 0 < 32) (h0 : 0 ≤ b) : preS S k (36 + b) = if 6 * S 0 ≤ b ∧ b < 6 * S 0 + 6 then fm k (dueB S) / 2 ^ (5 - (b - 6 * S 0)).toNat % 2 else S (36 + b) := by
  unfold preS
  rw [uF_ne _ _ (by omega), uF_ne _ _ (by omega), uF_ne _ _ (by omega), sbits_at]
  by_cases e : 6 * S 0 ≤ b ∧ b < 6 * S 0 + 6
  · rw [if_pos (by omega), if_pos e]
    congr 4
    omega
  · rw [if_neg (by omega), if_neg e]
theorem remS_at {S : Int → Int} {m j : Int} (h : j ≠ 2 ∧ j ≠ 3) : remS S m j = S j := by
  unfold remS
  split
  · rfl
  · rw [uF_ne _ _ h.2, uF_ne _ _ h.1]
theorem remS_23 {S : Int → Int} (m : Int) : remS S m 3 = m ∧ remS S m 2 = if S 3 = m then S 2 else S 3 := by
  unfold remS
  by_cases e : S 3 = m
  · rw [if_pos e, if_pos e]; exact ⟨e, rfl⟩
  · rw [if_neg e, if_neg e, uF_eq, uF_ne _ _ (by omega), uF_eq]; exact ⟨rfl, rfl⟩
theorem sendS_at {S : Int → Int} {k j : Int} (h : j ≠ 2 ∧ j ≠ 3) : sendS S k j = preS S k j := by
  unfold sendS
  split
  · exact remS_at h
  · rfl
theorem sendS_0 (S : Int → Int) (k : Int) : sendS S k 0 = S 0 + 1 := by
  rw [sendS_at (by omega), preS_0]
theorem sendS_WS {S : Int → Int} (h : WS S) {k : Int} (hk : 0 ≤ k ∧ k < 34) (hn : S 0 < 32) : WS (sendS S k) := by
  have hS0 := h.n
  have hs1 := h.s1
  have h2 := h.2.2.1
  have h3 := h.2.2.2.1
  refine ⟨by rw [sendS_0]; omega, ?_, ?_, ?_, ?_, ?_⟩
  · rw [sendS_at (by omega), preS_1]
    split <;> omega
  · unfold sendS
    by_cases e : 30 < k
    · rw [if_pos e]
      obtain ⟨e3, e2⟩ := remS_23 (S := preS S k) (k - 31)
      rw [e3, e2, preS_lo _ _ hS0.1 (Or.inl rfl), preS_lo _ _ hS0.1 (Or.inr rfl)]
      by_cases c : S 3 = k - 31
      · rw [if_pos c]; omega
      · rw [if_neg c]; omega
    · rw [if_neg e, preS_lo _ _ hS0.1 (Or.inl rfl), preS_lo _ _ hS0.1 (Or.inr rfl)]
      exact h2
  · unfold sendS
    by_cases e : 30 < k
    · rw [if_pos e]
      obtain ⟨e3, e2⟩ := remS_23 (S := preS S k) (k - 31)
      rw [e3]
      omega
    · rw [if_neg e, preS_lo _ _ hS0.1 (Or.inr rfl)]
      exact h3
  · intro w h0 h1
    rw [sendS_0] at h1
    rw [sendS_at (by omega), preS_w k ⟨hS0.1, hn⟩ h0 (by omega)]
    by_cases e : w = S 0
    · rw [if_pos e]; exact hk
    · rw [if_neg e]; exact h.w h0 (by omega)
  · intro b h0 h1
    rw [sendS_0] at h1
    rw [sendS_at (by omega), preS_b k ⟨hS0.1, hn⟩ h0]
    by_cases e : 6 * S 0 ≤ b ∧ b < 6 * S 0 + 6
    · rw [if_pos e]; omega
    · rw [if_neg e]; exact h.b h0 (by omega)
theorem bareS_WS : WS bareS := by
  refine ⟨by decide, Or.inr rfl, Or.inl rfl, Or.inl rfl, fun w h0 h1 => ?_, fun b h0 h1 => ?_⟩
  · have : bareS 0 = 0 := rfl
    omega
  · have : bareS 0 = 0 := rfl
    omega
theorem flipS_WS {S : Int → Int} (h : WS S) {b : Int} (hb : flipsB S b) : WS (flipS S b) := by
  obtain ⟨h0, h1, h2, h3, h4, h5⟩ := h
  have e : ∀ j : Int, j < 36 → flipS S b j = S j := fun j hj => uF_ne _ _ (by omega)
  refine ⟨by rw [e 0 (by omega)]; exact h0, by rw [e 1 (by omega)]; exact h1, by rw [e 2 (by omega), e 3 (by omega)]; exact h2, by rw [e 3 (by omega)]; exact h3, fun w g0 g1 => ?_, fun c g0 g1 => ?_⟩
  · rw [e 0 (by omega)] at g1
    rw [e (4 + w) (by omega)]
    exact h4 w g0 g1
  · rw [e 0 (by omega)] at g1
    unfold flipS uF
    by_cases q : (36 : Int) + c = 36 + b
    · rw [if_pos q]
      have := h5 b hb.1 (by omega)
      omega
    · rw [if_neg q]
      exact h5 c g0 g1
/-- items sent, one behind another -/
def salN (S D : Int → Int) : Nat → Int → Int
  | 0 => S
  | i + 1 => sendS (salN S D i) (D (i : Int))
def salI (S D : Int → Int) (i : Int) : Int → Int := salN S D i.toNat
theorem salI_s (S D : Int → Int) {i : Int} (h : 0 ≤ i) : salI S D (i + 1) = sendS (salI S D i) (D i) := by
  obtain ⟨k, rfl⟩ := Int.eq_ofNat_of_zero_le h
  rfl
theorem salI_0 (S D : Int → Int) {i : Int} (h : 0 ≤ i) : salI S D i 0 = S 0 + i := by
  obtain ⟨k, rfl⟩ := Int.eq_ofNat_of_zero_le h
  induction k with
  | zero => show S 0 = S 0 + ((0 : Nat) : Int); omega
  | succ k ih =>
    rw [show ((k + 1 : Nat) : Int) = (k : Int) + 1 from rfl, salI_s _ _ (by omega), sendS_0, ih (by omega)]
    omega
theorem salI_WS {S D : Int → Int} (h : WS S) {m : Int} (hD : ∀ i : Int, 0 ≤ i → i < m → 0 ≤ D i ∧ D i < 34) (hm : S 0 + m ≤ 32) : ∀ i : Int, 0 ≤ i → i ≤ m → WS (salI S D i) := by
  intro i h0 h1
  obtain ⟨k, rfl⟩ := Int.eq_ofNat_of_zero_le h0
  induction k with
  | zero => exact h
  | succ k ih =>
    rw [show ((k + 1 : Nat) : Int) = (k : Int) + 1 from rfl, salI_s _ _ (by omega)]
    exact sendS_WS (ih (by omega) (by omega)) (hD k (by omega) (by omega)) (by rw [salI_0 _ _ (by omega)]; omega)
theorem salN_congr {S D D' : Int → Int} {n : Nat} (h : ∀ i : Int, 0 ≤ i → i < n → D i = D' i) : salN S D n = salN S D' n := by
  induction n with
  | zero => rfl
  | succ n ih =>
    unfold salN
    rw [ih fun i h0 h1 => h i h0 (by omega), h n (by omega) (by omega)]
theorem salI_congr {S D D' : Int → Int} {n : Int} (h : ∀ i : Int, 0 ≤ i → i < n → D i = D' i) : salI S D n = salI S D' n := salN_congr fun i h0 h1 => h i h0 (by omega)
abbrev tellB (T : Int → Int) (n : Int) (S : Int → Int) : Prop := ftI T n = -9 ∧ S 0 + ctI T n ≤ 32
def tellR (T : Int → Int) (n : Int) (S : Int → Int) : Int := if ftI T n ≠ -9 then -10 - ftI T n else if 32 < S 0 + ctI T n then -3 else ctI T n
theorem flt_1 {T : Int → Int} {n a : Int} (h : tkI T n a ≠ 1) : flI3 T n a = skI T n a := by
  unfold flI3
  rw [if_pos h]
theorem flt_2 {T : Int → Int} {n a : Int} (h : tkI T n a = 1) (h2 : ¬ (tkI T n (nxI T n a) = 2 ∧ tvI T n (nxI T n a) ≤ mxI T n a)) : flI3 T n a = skI T n (nxI T n a) := by
  unfold flI3
  rw [if_neg (fun z => z h), if_pos h2]
theorem flt_3 {T : Int → Int} {n a : Int} (h : tkI T n a = 1) (h2 : tkI T n (nxI T n a) = 2 ∧ tvI T n (nxI T n a) ≤ mxI T n a) (h3 : tkI T n (nxI T n (nxI T n a)) ≠ 3) : flI3 T n a = skI T n (nxI T n (nxI T n a)) := by
  unfold flI3
  rw [if_neg (fun z => z h), if_neg (fun z => z h2), if_pos h3]
theorem flt_4 {T : Int → Int} {n a : Int} (h : tkI T n a = 1) (h2 : tkI T n (nxI T n a) = 2 ∧ tvI T n (nxI T n a) ≤ mxI T n a) (h3 : tkI T n (nxI T n (nxI T n a)) = 3) : flI3 T n a = -9 := by
  unfold flI3
  rw [if_neg (fun z => z h), if_neg (fun z => z h2), if_neg (fun z => z h3)]
theorem ft_amiss {T : Int → Int} {n i p F : Int} (hi : i < 50) (hF : ftN T n (50 - i).toNat i = F) (h : flI3 T n (psI T n i) = p) (hp : p ≠ -9) : p = F := by
  rw [show (50 - i).toNat = (49 - i).toNat + 1 by omega] at hF
  rw [← hF]
  show p = if _ then _ else _
  rw [if_pos (by rw [h]; exact hp), h]
theorem ft_more {T : Int → Int} {n i F : Int} (hi : i < 50) (hF : ftN T n (50 - i).toNat i = F) (h : flI3 T n (psI T n i) = -9) (hk : tkI T n (psI T n (i + 1)) ≠ 0) : ftN T n (50 - (i + 1)).toNat (i + 1) = F := by
  rw [show (50 - i).toNat = (50 - (i + 1)).toNat + 1 by omega] at hF
  rw [← hF]
  show _ = if _ then _ else _
  rw [if_neg (fun z => z h), if_neg hk]
theorem ft_end {T : Int → Int} {n i F : Int} (hi : i < 50) (hF : ftN T n (50 - i).toNat i = F) (h : flI3 T n (psI T n i) = -9) (hk : tkI T n (psI T n (i + 1)) = 0) : F = -9 := by
  rw [show (50 - i).toNat = (50 - (i + 1)).toNat + 1 by omega] at hF
  rw [← hF]
  show (if _ then _ else _) = _
  rw [if_neg (fun z => z h), if_pos hk]
theorem ct_more {T : Int → Int} {n i F : Int} (hi : i < 50) (hF : ctN T n (50 - i).toNat i = F) (h : flI3 T n (psI T n i) = -9) (hk : tkI T n (psI T n (i + 1)) ≠ 0) : ctN T n (50 - (i + 1)).toNat (i + 1) = F := by
  rw [show (50 - i).toNat = (50 - (i + 1)).toNat + 1 by omega] at hF
  rw [← hF]
  show _ = if _ then _ else _
  rw [if_neg (fun z => z h), if_neg hk]
theorem ct_end {T : Int → Int} {n i F : Int} (hi : i < 50) (hF : ctN T n (50 - i).toNat i = F) (h : flI3 T n (psI T n i) = -9) (hk : tkI T n (psI T n (i + 1)) = 0) : F = i + 1 := by
  rw [show (50 - i).toNat = (50 - (i + 1)).toNat + 1 by omega] at hF
  rw [← hF]
  show (if _ then _ else _) = _
  rw [if_neg (fun z => z h), if_pos hk]
theorem chI_b {T : Int → Int} {n : Int} (hT : ∀ j : Int, 0 ≤ j → j < n → 0 ≤ T j ∧ T j ≤ 255) {a : Int} (h0 : 0 ≤ a) : -1 ≤ chI T n a ∧ chI T n a ≤ 255 := by
  unfold chI
  by_cases e : a < n
  · rw [if_pos e]
    have := hT a h0 e
    omega
  · rw [if_neg e]
    omega
theorem tkI_b (T : Int → Int) (n a : Int) : 0 ≤ tkI T n a ∧ tkI T n a ≤ 4 := by
  unfold tkI
  (repeat' split) <;> decide
