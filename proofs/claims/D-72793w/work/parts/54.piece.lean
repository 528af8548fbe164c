/-! PIECE: what a piece tells, against the reference's breaches -/
theorem newfsX6 : ∀ j, j < 6 → defaultValue (tyX6 j) = vp_V [vi 0, vi 0, vi 0, vi 0, vi 0, vi 0] j := by decide
theorem newfsX7 : ∀ j, j < 4 → defaultValue (tyX7 j) = vp_V [.null, vi 0, vi 0, .null] j := by decide
theorem newfsX8 : ∀ j, j < 5 → defaultValue (tyX8 j) = vp_V [vi 0, vi 0, vi 0, vi 0, .null] j := by decide
def mqN (B : Int → Int) (fr p : Int) : Nat → Int
  | 0 => 0
  | j + 1 => if mqN B fr p j < runI (shB B fr) (6 * p + (j : Int) + 1) then runI (shB B fr) (6 * p + (j : Int) + 1) else mqN B fr p j
def hiN (B : Int → Int) (fr u p : Int) : Nat → Int
  | 0 => levI B fr u (6 * p)
  | j + 1 => if j = 0 then levI B fr u (6 * p + (j : Int) + 1) else if hiN B fr u p j < levI B fr u (6 * p + (j : Int) + 1) then levI B fr u (6 * p + (j : Int) + 1) else hiN B fr u p j
def loN (B : Int → Int) (fr u p : Int) : Nat → Int
  | 0 => levI B fr u (6 * p)
  | j + 1 => if j = 0 then levI B fr u (6 * p + (j : Int) + 1) else if levI B fr u (6 * p + (j : Int) + 1) < loN B fr u p j then levI B fr u (6 * p + (j : Int) + 1) else loN B fr u p j
def mqI (B : Int → Int) (fr p j : Int) : Int := mqN B fr p j.toNat
def hiI (B : Int → Int) (fr u p j : Int) : Int := hiN B fr u p j.toNat
def loI (B : Int → Int) (fr u p j : Int) : Int := loN B fr u p j.toNat
theorem mqI_s (B : Int → Int) (fr p : Int) {j : Int} (h : 0 ≤ j) : mqI B fr p (j + 1) = if mqI B fr p j < runI (shB B fr) (6 * p + j + 1) then runI (shB B fr) (6 * p + j + 1) else mqI B fr p j := by
  obtain ⟨n, rfl⟩ := Int.eq_ofNat_of_zero_le h
  rfl
theorem hiI_s (B : Int → Int) (fr u p : Int) {j : Int} (h : 0 ≤ j) : hiI B fr u p (j + 1) = if j = 0 then levI B fr u (6 * p + j + 1) else if hiI B fr u p j < levI B fr u (6 * p + j + 1) then levI B fr u (6 * p + j + 1) else hiI B fr u p j := by
  obtain ⟨n, rfl⟩ := Int.eq_ofNat_of_zero_le h
  show (if n = 0 then _ else _) = _
  by_cases e : n = 0
  · rw [if_pos e, if_pos (by omega)]
  · rw [if_neg e, if_neg (show ¬ (n : Int) = 0 by omega)]
    rfl
theorem loI_s (B : Int → Int) (fr u p : Int) {j : Int} (h : 0 ≤ j) : loI B fr u p (j + 1) = if j = 0 then levI B fr u (6 * p + j + 1) else if levI B fr u (6 * p + j + 1) < loI B fr u p j then levI B fr u (6 * p + j + 1) else loI B fr u p j := by
  obtain ⟨n, rfl⟩ := Int.eq_ofNat_of_zero_le h
  show (if n = 0 then _ else _) = _
  by_cases e : n = 0
  · rw [if_pos e, if_pos (by omega)]
  · rw [if_neg e, if_neg (show ¬ (n : Int) = 0 by omega)]
    rfl
theorem mqI_b (B : Int → Int) (fr : Int) {p j : Int} (hp : 0 ≤ p) (h : 0 ≤ j) : 0 ≤ mqI B fr p j ∧ mqI B fr p j ≤ 6 * p + j := by
  obtain ⟨n, rfl⟩ := Int.eq_ofNat_of_zero_le h
  induction n with
  | zero => exact ⟨Int.le_refl _, by show (0 : Int) ≤ _; omega⟩
  | succ n ih =>
    have := ih (by omega)
    have h2 := runI_b (shB B fr) (b := 6 * p + (n : Int) + 1) (by omega)
    rw [show ((n + 1 : Nat) : Int) = (n : Int) + 1 from rfl, mqI_s _ _ _ (by omega)]
    split <;> omega
theorem hl_b (B : Int → Int) (fr u : Int) {p j : Int} (hp : 0 ≤ p) (h : 0 ≤ j) : (u - (6 * p + j) ≤ hiI B fr u p j ∧ hiI B fr u p j ≤ u + (6 * p + j)) ∧ (u - (6 * p + j) ≤ loI B fr u p j ∧ loI B fr u p j ≤ u + (6 * p + j)) := by
  obtain ⟨n, rfl⟩ := Int.eq_ofNat_of_zero_le h
  induction n with
  | zero =>
    have h2 := levI_b B fr u (i := 6 * p) (by omega)
    show (_ ≤ levI B fr u (6 * p) ∧ levI B fr u (6 * p) ≤ _) ∧ (_ ≤ levI B fr u (6 * p) ∧ levI B fr u (6 * p) ≤ _)
    omega
  | succ n ih =>
    have := ih (by omega)
    have h2 := levI_b B fr u (i := 6 * p + (n : Int) + 1) (by omega)
    rw [show ((n + 1 : Nat) : Int) = (n : Int) + 1 from rfl, hiI_s _ _ _ _ (by omega), loI_s _ _ _ _ (by omega)]
    (repeat' split) <;> omega
theorem a4_mx (B : Int → Int) (fr p : Int) (j : Nat) : a4N B fr p j = bI (6 < mqN B fr p j) := by
  induction j with
  | zero => rfl
  | succ j ih =>
    unfold a4N mqN
    rw [ih]
    by_cases e : 6 < runI (shB B fr) (6 * p + (j : Int) + 1)
    · rw [if_pos e, bI_t]
      split <;> omega
    · rw [if_neg e]
      by_cases q : 6 < mqN B fr p j
      · rw [bI_t q, bI_t]
        split <;> omega
      · rw [bI_f q, bI_f]
        split <;> omega
theorem a8_hl (B : Int → Int) (fr u p : Int) (j : Nat) : a8N B fr u p (j + 1) = bI (3 < hiN B fr u p (j + 1) ∨ loN B fr u p (j + 1) < -3) := by
  induction j with
  | zero =>
    unfold a8N hiN loN
    rw [if_pos rfl, if_pos rfl]
    by_cases e : 3 < levI B fr u (6 * p + ((0 : Nat) : Int) + 1) ∨ levI B fr u (6 * p + ((0 : Nat) : Int) + 1) < -3
    · rw [if_pos e, bI_t e]
    · rw [if_neg e, bI_f e]
      rfl
  | succ j ih =>
    have e1 : a8N B fr u p (j + 1 + 1) = if 3 < levI B fr u (6 * p + ((j + 1 : Nat) : Int) + 1) ∨ levI B fr u (6 * p + ((j + 1 : Nat) : Int) + 1) < -3 then 1 else a8N B fr u p (j + 1) := rfl
    have e2 : hiN B fr u p (j + 1 + 1) = if j + 1 = 0 then levI B fr u (6 * p + ((j + 1 : Nat) : Int) + 1) else if hiN B fr u p (j + 1) < levI B fr u (6 * p + ((j + 1 : Nat) : Int) + 1) then levI B fr u (6 * p + ((j + 1 : Nat) : Int) + 1) else hiN B fr u p (j + 1) := rfl
    have e3 : loN B fr u p (j + 1 + 1) = if j + 1 = 0 then levI B fr u (6 * p + ((j + 1 : Nat) : Int) + 1) else if levI B fr u (6 * p + ((j + 1 : Nat) : Int) + 1) < loN B fr u p (j + 1) then levI B fr u (6 * p + ((j + 1 : Nat) : Int) + 1) else loN B fr u p (j + 1) := rfl
    rw [if_neg (Nat.succ_ne_zero j)] at e2 e3
    rw [e1, e2, e3, ih]
    generalize levI B fr u (6 * p + ((j + 1 : Nat) : Int) + 1) = z
    generalize hiN B fr u p (j + 1) = h
    generalize loN B fr u p (j + 1) = l
    by_cases e : 3 < z ∨ z < -3
    · rw [if_pos e, bI_t]
      (repeat' split) <;> omega
    · rw [if_neg e]
      by_cases q : 3 < h ∨ l < -3
      · rw [bI_t q, bI_t]
        (repeat' split) <;> omega
      · rw [bI_f q, bI_f]
        (repeat' split) <;> omega
/-- the class's set of breaches -/
def brC (c0 c1 c2 c3 : Prop) [Decidable c0] [Decidable c1] [Decidable c2] [Decidable c3] : Int := (if c0 then 1 else 0) + (if c1 then 2 else 0) + (if c2 then 4 else 0) + (if c3 then 8 else 0)
theorem due_all : ∀ n : Nat, n < 64 → ((inF n = 0 ↔ meanT n = -9) ∧ (meanT n ≠ -9 → (iand (inF n) 1 ≠ 0 ↔ fm (meanT n) 0 = n) ∧ (iand (inF n) 2 ≠ 0 ↔ fm (meanT n) 1 = n))) := by decide +kernel
theorem br_eq {B : Int → Int} {fr u p w a r h l : Int} (hu : u = 1 ∨ u = -1) (hw : w = wordP B fr p) (hwb : 0 ≤ w ∧ w < 64) (ha : a = if sbI B fr u p < 0 then 0 else 1) (hr : r = mqI B fr p 6) (hh : h = hiI B fr u p 6) (hl : l = loI B fr u p 6) :
    brC (meanT w = -9) (meanT w ≠ -9 ∧ fm (meanT w) a ≠ w) (6 < r) (3 < h ∨ l < -3) = brP B fr u p ∧ riP B fr u p = bI (¬ (meanT w = -9) ∧ ¬ (meanT w ≠ -9 ∧ fm (meanT w) a ≠ w)) := by
  obtain ⟨n, rfl⟩ := Int.eq_ofNat_of_zero_le hwb.1
  have hd := due_all n (by omega)
  have h4 := a4_mx B fr p 6
  have h8 := a8_hl B fr u p 5
  have e4 : mqN B fr p 6 = r := hr.symm
  have e8h : hiN B fr u p (5 + 1) = h := hh.symm
  have e8l : loN B fr u p (5 + 1) = l := hl.symm
  rw [e4] at h4
  rw [e8h, e8l] at h8
  have hfl : flI B fr u p 6 = 4 * bI (6 < r) + 8 * bI (3 < h ∨ l < -3) := by
    unfold flI
    rw [show ((6 : Int)).toNat = 6 from rfl, h4, show (6 : Nat) = 5 + 1 from rfl, h8]
  have hs := sbI_01 (B := B) (fr := fr) hu p
  have hri : riP B fr u p = bI (¬ (meanT (n : Int) = -9) ∧ ¬ (meanT (n : Int) ≠ -9 ∧ fm (meanT (n : Int)) a ≠ n)) := by
    unfold riP
    rw [← hw]
    by_cases e9 : meanT (n : Int) = -9
    · rw [hd.1.mpr e9, bI_f, bI_f]
      · intro z; exact z.1 e9
      · split <;> decide
    · have h2 := hd.2 e9
      rcases hs with e | e
      · rw [e, if_neg (by decide)] at ha ⊢
        subst ha
        by_cases q : fm (meanT (n : Int)) 1 = n
        · rw [bI_t (h2.2.mpr q), bI_t ⟨e9, fun z => z.2 q⟩]
        · rw [bI_f (fun z => q (h2.2.mp z)), bI_f (fun z => z.2 ⟨e9, q⟩)]
      · rw [e, if_pos (by decide)] at ha ⊢
        subst ha
        by_cases q : fm (meanT (n : Int)) 0 = n
        · rw [bI_t (h2.1.mpr q), bI_t ⟨e9, fun z => z.2 q⟩]
        · rw [bI_f (fun z => q (h2.1.mp z)), bI_f (fun z => z.2 ⟨e9, q⟩)]
  refine ⟨?_, hri⟩
  unfold brP brC
  rw [hfl, hri, ← hw]
  by_cases c0 : meanT (n : Int) = -9
  · rw [if_pos c0, if_pos (hd.1.mpr c0), if_neg (fun z => z.1 c0)]
    by_cases c2 : 6 < r <;> by_cases c3 : 3 < h ∨ l < -3 <;> simp only [bI, if_pos, if_neg, c2, c3, not_false_eq_true] <;> decide
  · rw [if_neg c0, if_neg (fun z => c0 (hd.1.mp z))]
    by_cases c1 : meanT (n : Int) ≠ -9 ∧ fm (meanT (n : Int)) a ≠ n
    · have hx : bI (¬ (meanT (n : Int) = -9) ∧ ¬ (meanT (n : Int) ≠ -9 ∧ fm (meanT (n : Int)) a ≠ n)) = 0 := bI_f (fun z => z.2 c1)
      rw [if_pos c1, hx, if_pos rfl]
      by_cases c2 : 6 < r <;> by_cases c3 : 3 < h ∨ l < -3 <;> simp only [bI, if_pos, if_neg, c2, c3, not_false_eq_true] <;> decide
    · have hx : bI (¬ (meanT (n : Int) = -9) ∧ ¬ (meanT (n : Int) ≠ -9 ∧ fm (meanT (n : Int)) a ≠ n)) = 1 := bI_t ⟨c0, c1⟩
      rw [if_neg c1, hx, if_neg (show ¬ (1 : Int) = 0 by decide)]
      by_cases c2 : 6 < r <;> by_cases c3 : 3 < h ∨ l < -3 <;> simp only [bI, if_pos, if_neg, c2, c3, not_false_eq_true] <;> decide
theorem brC_b (c0 c1 c2 c3 : Prop) [Decidable c0] [Decidable c1] [Decidable c2] [Decidable c3] : 0 ≤ brC c0 c1 c2 c3 ∧ brC c0 c1 c2 c3 < 16 := by
  unfold brC
  (repeat' split) <;> decide
theorem brC_ok (c0 c1 c2 c3 : Prop) [Decidable c0] [Decidable c1] [Decidable c2] [Decidable c3] (h : ¬ (c0 ∧ c1)) : brC c0 c1 c2 c3 % 4 = 0 ↔ (¬ c0 ∧ ¬ c1) := by
  unfold brC
  by_cases a : c0 <;> by_cases b : c1 <;> by_cases c : c2 <;> by_cases d : c3 <;> simp [a, b, c, d] at h ⊢
theorem sb_ab {B : Int → Int} {fr u p : Int} (hu : u = 1 ∨ u = -1) (hp : 0 ≤ p) : bI (3 < ones (wordP B fr p) ∨ (ones (wordP B fr p) = 3 ∧ (if sbI B fr u p < 0 then (0 : Int) else 1) = 1)) = if sbI B fr u (p + 1) < 0 then 0 else 1 := by
  rw [sbI_s _ _ _ hp]
  have hs := sbI_01 (B := B) (fr := fr) hu p
  by_cases e : 3 < ones (wordP B fr p)
  · rw [bI_t (Or.inl e), if_pos e, if_neg (by decide)]
  · rw [if_neg e]
    by_cases e2 : ones (wordP B fr p) < 3
    · rw [bI_f (fun z => by omega), if_pos e2, if_pos (by decide)]
    · rw [if_neg e2]
      rcases hs with q | q
      · rw [q, bI_t (Or.inr ⟨by omega, rfl⟩), if_neg (by decide)]
      · rw [q, bI_f (fun z => by rcases z with z | z; exact e z; exact absurd z.2 (by decide)), if_pos (by decide)]
theorem npc_iff {nb fr p : Int} (hf : 0 ≤ fr) (hp : 0 ≤ p) : p < npc nb fr ↔ fr + 6 * p + 6 ≤ nb := by
  unfold npc
  split <;> omega
/-! readings of bits that agree -/
theorem wdI_cg {B B' : Int → Int} {s n : Int} (h : ∀ b : Int, s ≤ b → b < s + n → B b = B' b) : ∀ j : Int, 0 ≤ j → j ≤ n → wdI B s j = wdI B' s j := by
  intro j h0 h1
  obtain ⟨k, rfl⟩ := Int.eq_ofNat_of_zero_le h0
  induction k with
  | zero => rfl
  | succ k ih =>
    rw [show ((k + 1 : Nat) : Int) = (k : Int) + 1 from rfl, wdI_s _ _ (by omega), wdI_s _ _ (by omega), ih (by omega) (by omega), h _ (by omega) (by omega)]
theorem levI_cg {B B' : Int → Int} {fr u n : Int} (h : ∀ b : Int, fr ≤ b → b < fr + n → B b = B' b) : ∀ j : Int, 0 ≤ j → j ≤ n → levI B fr u j = levI B' fr u j := by
  intro j h0 h1
  obtain ⟨k, rfl⟩ := Int.eq_ofNat_of_zero_le h0
  induction k with
  | zero => rw [show ((0 : Nat) : Int) = 0 from rfl, levI_0, levI_0]
  | succ k ih =>
    rw [show ((k + 1 : Nat) : Int) = (k : Int) + 1 from rfl, levI_s _ _ _ (by omega), levI_s _ _ _ (by omega), ih (by omega) (by omega), h _ (by omega) (by omega)]
theorem runS_cg {B B' : Int → Int} {fr n : Int} (h : ∀ b : Int, fr ≤ b → b < fr + n → B b = B' b) : ∀ j : Int, 0 ≤ j → j ≤ n → runI (shB B fr) j = runI (shB B' fr) j := runI_cg (n := n) fun j h0 h1 => h _ (by omega) (by omega)
theorem sbI_cg {B B' : Int → Int} {fr u n : Int} (h : ∀ b : Int, fr ≤ b → b < fr + 6 * n → B b = B' b) : ∀ p : Int, 0 ≤ p → p ≤ n → sbI B fr u p = sbI B' fr u p := by
  intro p h0 h1
  obtain ⟨k, rfl⟩ := Int.eq_ofNat_of_zero_le h0
  induction k with
  | zero => rfl
  | succ k ih =>
    have e : wordP B fr k = wordP B' fr k := wdI_cg (n := 6) (fun b g0 g1 => h b (by omega) (by omega)) 6 (by omega) (by omega)
    rw [show ((k + 1 : Nat) : Int) = (k : Int) + 1 from rfl, sbI_s _ _ _ (by omega), sbI_s _ _ _ (by omega), ih (by omega) (by omega), e]
theorem a4_cg {B B' : Int → Int} {fr n p : Int} (hp : 0 ≤ p) (h : ∀ b : Int, fr ≤ b → b < fr + n → B b = B' b) : ∀ j : Nat, 6 * p + j ≤ n → a4N B fr p j = a4N B' fr p j := by
  intro j
  induction j with
  | zero => intro _; rfl
  | succ j ih =>
    intro hj
    unfold a4N
    rw [ih (by omega), runS_cg h _ (by omega) (by omega)]
theorem a8_cg {B B' : Int → Int} {fr u n p : Int} (hp : 0 ≤ p) (h : ∀ b : Int, fr ≤ b → b < fr + n → B b = B' b) : ∀ j : Nat, 6 * p + j ≤ n → a8N B fr u p j = a8N B' fr u p j := by
  intro j
  induction j with
  | zero => intro _; rfl
  | succ j ih =>
    intro hj
    unfold a8N
    rw [ih (by omega), levI_cg h _ (by omega) (by omega)]
theorem rd_cg {B B' : Int → Int} {fr u p : Int} (hp : 0 ≤ p) (h : ∀ b : Int, fr ≤ b → b < fr + 6 * (p + 1) → B b = B' b) : wordP B fr p = wordP B' fr p ∧ riP B fr u p = riP B' fr u p ∧ brP B fr u p = brP B' fr u p ∧ sbI B fr u (p + 1) = sbI B' fr u (p + 1) := by
  have e1 : wordP B fr p = wordP B' fr p := wdI_cg (n := 6) (fun b g0 g1 => h b (by omega) (by omega)) 6 (by omega) (by omega)
  have e2 : sbI B fr u p = sbI B' fr u p := sbI_cg (n := p + 1) h p hp (by omega)
  have e3 : riP B fr u p = riP B' fr u p := by
    unfold riP
    rw [e1, e2]
  refine ⟨e1, e3, ?_, sbI_cg (n := p + 1) h _ (by omega) (Int.le_refl _)⟩
  unfold brP flI
  rw [e1, e3, a4_cg hp h _ (by show 6 * p + ((6 : Nat) : Int) ≤ _; omega), a8_cg hp h _ (by show 6 * p + ((6 : Nat) : Int) ≤ _; omega)]
theorem fst_cg {B B' : Int → Int} {fr u N : Int} (hN : 0 ≤ N) (h : ∀ b : Int, fr ≤ b → b < fr + 6 * N → B b = B' b) : fstI (brP B fr u) N = fstI (brP B' fr u) N ∧ sumI (fun p => bI (brP B fr u p ≠ 0)) N = sumI (fun p => bI (brP B' fr u p ≠ 0)) N := by
  have e : ∀ q : Int, 0 ≤ q → q < N → brP B fr u q = brP B' fr u q := fun q h0 h1 => (rd_cg h0 fun b g0 g1 => h b g0 (by omega)).2.2.1
  refine ⟨fstI_congr e, sumI_cg (fun q h0 h1 => ?_) N hN (Int.le_refl _)⟩
  simp only [e q h0 h1]
/-- what is blamed, from the end on -/
def dlJ (F : Int → Int) (fr M J n l : Int) : Prop := n = sumI F M - sumI F J ∧ (((∀ j : Int, J ≤ j → j < M → F j = 0) ∧ l = -9) ∨ ∃ j : Int, J ≤ j ∧ j < M ∧ F j ≠ 0 ∧ (∀ i : Int, J ≤ i → i < j → F i = 0) ∧ l = fr + j)
theorem dlJ_0 (F : Int → Int) (fr M : Int) : dlJ F fr M M 0 (-9) := ⟨by omega, Or.inl ⟨fun j h0 h1 => by omega, rfl⟩⟩
theorem dlJ_no {F : Int → Int} {fr M J n l : Int} (hJ : 0 ≤ J) (h : dlJ F fr M (J + 1) n l) (hf : F J = 0) : dlJ F fr M J n l := by
  obtain ⟨h1, h2⟩ := h
  refine ⟨by rw [h1, sumI_s _ hJ, hf]; omega, ?_⟩
  rcases h2 with ⟨a, b⟩ | ⟨j, a, b, c, d, e⟩
  · exact Or.inl ⟨fun j g0 g1 => by by_cases q : j = J; rw [q]; exact hf; exact a j (by omega) g1, b⟩
  · exact Or.inr ⟨j, by omega, b, c, fun i g0 g1 => by by_cases q : i = J; rw [q]; exact hf; exact d i (by omega) g1, e⟩
theorem dlJ_yes {F : Int → Int} {fr M J n l : Int} (hJ : 0 ≤ J) (hM : J < M) (h : dlJ F fr M (J + 1) n l) (hf : F J = 1) : dlJ F fr M J (n + 1) (fr + J) := by
  refine ⟨by rw [h.1, sumI_s _ hJ, hf]; omega, Or.inr ⟨J, Int.le_refl _, hM, by rw [hf]; decide, fun i g0 g1 => by omega, rfl⟩⟩
theorem dlJ_end {S : Int → Int} {fr u n l : Int} (h : dlJ (okT S fr u) fr (6 * npc (6 * S 0) fr) 0 n l) : n = blmN S fr u ∧ l = lowR S fr u := by
  obtain ⟨h1, h2⟩ := h
  refine ⟨by rw [h1, sumI_0]; unfold blmN; omega, ?_⟩
  unfold lowR
  rcases h2 with ⟨a, b⟩ | ⟨j, a, b, c, d, e⟩
  · rw [if_pos, b]
    by_cases q : 0 ≤ 6 * npc (6 * S 0) fr
    · exact fstI_none q fun j g0 g1 => a j g0 g1
    · unfold fstI
      rw [show (6 * npc (6 * S 0) fr).toNat = 0 by omega]
      rfl
  · have hfs : fstI (okT S fr u) (6 * npc (6 * S 0) fr) = j := fstI_at a b (fun i g0 g1 => d i g0 g1) c
    rw [hfs, if_neg (by omega)]
    exact e
theorem meanT_nn {v : Int} (h : 0 ≤ v ∧ v < 64) : meanT v ≠ -9 → 0 ≤ meanT v := by
  obtain ⟨n, rfl⟩ := Int.eq_ofNat_of_zero_le h.1
  have h2 : n < 64 := by omega
  clear h
  revert n
  decide +kernel
theorem pow6 {b : Int} (h0 : 0 ≤ b) (h1 : b < 6) : (2 : Int) ^ b.toNat ≤ 32 := by
  have : b = 0 ∨ b = 1 ∨ b = 2 ∨ b = 3 ∨ b = 4 ∨ b = 5 := by omega
  rcases this with rfl | rfl | rfl | rfl | rfl | rfl <;> decide
theorem br_ri {B : Int → Int} {fr u p w a r h l : Int} (hu : u = 1 ∨ u = -1) (hw : w = wordP B fr p) (hwb : 0 ≤ w ∧ w < 64) (ha : a = if sbI B fr u p < 0 then 0 else 1) (hr : r = mqI B fr p 6) (hh : h = hiI B fr u p 6) (hl : l = loI B fr u p 6) : riP B fr u p = bI (brP B fr u p % 4 = 0) := by
  obtain ⟨e1, e2⟩ := br_eq hu hw hwb ha hr hh hl
  have h4 := brC_ok (meanT w = -9) (meanT w ≠ -9 ∧ fm (meanT w) a ≠ w) (6 < r) (3 < h ∨ l < -3) (fun z => z.2.1 z.1)
  rw [e1] at h4
  rw [e2]
  by_cases q : brP B fr u p % 4 = 0
  · rw [bI_t q, bI_t (h4.mp q)]
  · rw [bI_f q, bI_f (fun z => q (h4.mpr z))]
def tldB (B : Int → Int) (fr u p c : Int) : Int := if c = 0 then wordP B fr p else if c = 1 then meanT (wordP B fr p) else if c = 2 then riP B fr u p else if c = 3 then brP B fr u p else if sbI B fr u (p + 1) < 0 then 0 else 1
theorem tld_pq {S B : Int → Int} {fr u p c : Int} (hp : 0 ≤ p) (hf : 0 ≤ fr) (h : ∀ b : Int, 0 ≤ b → b < fr + 6 * (p + 1) → B b = S (36 + b)) : tldB B fr (uOf u) p c = pieceQ S fr u p c := by
  obtain ⟨e1, e2, e3, e4⟩ := rd_cg (B := B) (B' := tB S (-9)) (fr := fr) (u := uOf u) hp (fun b g0 g1 => by rw [h b (by omega) g1, tB_none (by omega)]; rfl)
  unfold tldB pieceQ
  rw [e1, e2, e3, e4]
theorem uO_ab {U : Int} (h : U = 0 ∨ U = 1) : (if U = 1 then (1 : Int) else 0) = if uOf U < 0 then 0 else 1 := by
  rcases h with rfl | rfl <;> rfl
theorem first_S {S B : Int → Int} {fr u t nb : Int} (hfr : 0 ≤ fr ∧ fr ≤ 5) (hn : 0 ≤ S 0 ∧ S 0 ≤ 32) (h : ∀ b : Int, 0 ≤ b → b < 6 * S 0 → B b = tB S t b) (hnb : nb = 6 * S 0) : fstI (brP B fr u) (npc nb fr) = firstR S fr u t := by
  have hb := npc_b (nb := 6 * S 0) (fr := fr) (by omega) hfr.1
  rw [hnb]
  unfold firstR
  exact (fst_cg hb.1 (fun b g0 g1 => h b (by omega) (by omega))).1
theorem tB_flip {S B : Int → Int} {t n : Int} (h : ∀ b : Int, 0 ≤ b → b < n → B b = S (36 + b)) (ht : 0 ≤ t ∧ t < n) : ∀ b : Int, 0 ≤ b → b < n → uF B t (1 - B t) b = tB S t b := by
  intro b h0 h1
  unfold uF tB
  by_cases e : b = t
  · rw [if_pos e, if_pos e, e, h t ht.1 ht.2]
  · rw [if_neg e, if_neg e, h b h0 h1]
theorem tB_bits {S B : Int → Int} {n : Int} (h : ∀ b : Int, 0 ≤ b → b < n → B b = S (36 + b)) : ∀ b : Int, 0 ≤ b → b < n → B b = tB S (-9) b := by
  intro b h0 h1
  rw [h b h0 h1, tB_none h0]
  rfl
