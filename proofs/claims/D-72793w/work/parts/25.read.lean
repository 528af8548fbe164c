/-! READ: what is read of bits, piece by piece -/
def meanT (v : Int) : Int := ([-9, -9, -9, 33, -9, 29, 28, 30, -9, 27, 26, 0, 25, 1, 2, 31, -9, 24, 23, 3, 22, 4, 5, 18, 21, 6, 7, 19, 8, 20, 32, -9, -9, 32, 20, 9, 19, 10, 11, 21, 18, 12, 13, 22, 14, 23, 24, -9, 31, 15, 16, 25, 17, 26, 27, -9, 30, 28, 29, -9, 33, -9, -9, -9] : List Int).getD v.toNat 0
def inF (v : Int) : Int := ([0, 0, 0, 2, 0, 2, 2, 2, 0, 2, 2, 3, 2, 3, 3, 1, 0, 2, 2, 3, 2, 3, 3, 1, 2, 3, 3, 1, 3, 1, 1, 0, 0, 2, 2, 3, 2, 3, 3, 1, 2, 3, 3, 1, 3, 1, 1, 0, 2, 3, 3, 1, 3, 1, 1, 0, 1, 1, 1, 0, 1, 0, 0, 0] : List Int).getD v.toNat 0
/-- the tables laid, i steps of them -/
def MeN : Nat → Int → Int
  | 0 => fun _ => -9
  | i + 1 => uF (MeN i) (fm ((i / 2 : Nat) : Int) ((i % 2 : Nat) : Int)) ((i / 2 : Nat) : Int)
def FoN : Nat → Int → Int
  | 0 => fun _ => 0
  | i + 1 => uF (FoN i) (fm ((i / 2 : Nat) : Int) ((i % 2 : Nat) : Int)) (ior (FoN i (fm ((i / 2 : Nat) : Int) ((i % 2 : Nat) : Int))) (2 ^ (i % 2)))
theorem MeN_68 {v : Int} (h : 0 ≤ v ∧ v < 64) : MeN 68 v = meanT v ∧ FoN 68 v = inF v := by
  obtain ⟨n, rfl⟩ := Int.eq_ofNat_of_zero_le h.1
  have h2 : n < 64 := by omega
  clear h
  revert n
  decide +kernel
theorem FoN_nn : ∀ (i : Nat) (v : Int), 0 ≤ FoN i v := by
  intro i
  induction i with
  | zero => intro v; exact Int.le_refl _
  | succ i ih =>
    intro v
    show 0 ≤ uF _ _ _ v
    unfold uF
    split
    · unfold ior; omega
    · exact ih v
theorem MeN_s {k b : Int} (hk : 0 ≤ k) (hb : 0 ≤ b ∧ b < 2) : uF (MeN (2 * k + b).toNat) (fm k b) k = MeN (2 * k + (b + 1)).toNat := by
  have e : (2 * k + (b + 1)).toNat = (2 * k + b).toNat + 1 := by omega
  have e1 : (((2 * k + b).toNat / 2 : Nat) : Int) = k := by omega
  have e2 : (((2 * k + b).toNat % 2 : Nat) : Int) = b := by omega
  rw [e]
  show _ = uF _ _ _
  rw [e1, e2]
theorem FoN_s {k b : Int} (hk : 0 ≤ k) (hb : 0 ≤ b ∧ b < 2) : uF (FoN (2 * k + b).toNat) (fm k b) (ior (FoN (2 * k + b).toNat (fm k b)) (2 ^ b.toNat)) = FoN (2 * k + (b + 1)).toNat := by
  have e : (2 * k + (b + 1)).toNat = (2 * k + b).toNat + 1 := by omega
  have e1 : (((2 * k + b).toNat / 2 : Nat) : Int) = k := by omega
  have e2 : (((2 * k + b).toNat % 2 : Nat) : Int) = b := by omega
  have e3 : (2 * k + b).toNat % 2 = b.toNat := by omega
  rw [e]
  show _ = uF _ _ _
  rw [e1, e2, e3]
theorem inF_b {v : Int} (h : 0 ≤ v ∧ v < 64) : 0 ≤ inF v ∧ inF v ≤ 3 := by
  obtain ⟨n, rfl⟩ := Int.eq_ofNat_of_zero_le h.1
  have h2 : n < 64 := by omega
  clear h
  revert n
  decide +kernel
theorem meanT_b {v : Int} (h : 0 ≤ v ∧ v < 64) : -9 ≤ meanT v ∧ meanT v ≤ 33 := by
  obtain ⟨n, rfl⟩ := Int.eq_ofNat_of_zero_le h.1
  have h2 : n < 64 := by omega
  clear h
  revert n
  decide +kernel
/-- the bits of a row, one turned -/
def tB (S : Int → Int) (t b : Int) : Int := if b = t then 1 - S (36 + b) else S (36 + b)
theorem tB_01 {S : Int → Int} (h : WS S) {t b : Int} (h0 : 0 ≤ b) (h1 : b < 6 * S 0) : 0 ≤ tB S t b ∧ tB S t b ≤ 1 := by
  have := h.b h0 h1
  unfold tB
  split <;> omega
/-- how many pieces -/
def npc (nb fr : Int) : Int := if nb < fr then 0 else (nb - fr) / 6
theorem npc_b {nb fr : Int} (h : 0 ≤ nb ∧ nb ≤ 192) (hf : 0 ≤ fr) : 0 ≤ npc nb fr ∧ npc nb fr ≤ 32 ∧ (0 < npc nb fr → fr + 6 * npc nb fr ≤ nb) := by
  unfold npc
  split <;> omega
abbrev shB (B : Int → Int) (fr : Int) : Int → Int := fun i => B (fr + i)
def levI (B : Int → Int) (fr u i : Int) : Int := u + sumI (fun j => if B (fr + j) = 1 then 1 else -1) i
theorem levI_0 (B : Int → Int) (fr u : Int) : levI B fr u 0 = u := by
  unfold levI
  rw [sumI_0]
  omega
theorem levI_s (B : Int → Int) (fr u : Int) {i : Int} (h : 0 ≤ i) : levI B fr u (i + 1) = levI B fr u i + if B (fr + i) = 1 then 1 else -1 := by
  unfold levI
  rw [sumI_s _ h]
  omega
theorem levI_b (B : Int → Int) (fr u : Int) {i : Int} (h : 0 ≤ i) : u - i ≤ levI B fr u i ∧ levI B fr u i ≤ u + i := by
  obtain ⟨n, rfl⟩ := Int.eq_ofNat_of_zero_le h
  induction n with
  | zero => rw [show ((0 : Nat) : Int) = 0 from rfl, levI_0]; omega
  | succ n ih =>
    have := ih (by omega)
    rw [show ((n + 1 : Nat) : Int) = (n : Int) + 1 from rfl, levI_s _ _ _ (by omega)]
    split <;> omega
/-- a piece's number, of its first j bits -/
def wdN (B : Int → Int) (s : Int) : Nat → Int
  | 0 => 0
  | j + 1 => 2 * wdN B s j + B (s + (j : Int))
def wdI (B : Int → Int) (s j : Int) : Int := wdN B s j.toNat
theorem wdI_0 (B : Int → Int) (s : Int) : wdI B s 0 = 0 := rfl
theorem wdI_s (B : Int → Int) (s : Int) {j : Int} (h : 0 ≤ j) : wdI B s (j + 1) = 2 * wdI B s j + B (s + j) := by
  obtain ⟨n, rfl⟩ := Int.eq_ofNat_of_zero_le h
  rfl
theorem wdI_b {B : Int → Int} {s : Int} (hB : ∀ j : Int, 0 ≤ j → j < 6 → 0 ≤ B (s + j) ∧ B (s + j) ≤ 1) : ∀ j : Int, 0 ≤ j → j ≤ 6 → 0 ≤ wdI B s j ∧ wdI B s j < 2 ^ j.toNat := by
  intro j h0 h1
  obtain ⟨n, rfl⟩ := Int.eq_ofNat_of_zero_le h0
  induction n with
  | zero => exact ⟨Int.le_refl _, show (0 : Int) < 2 ^ 0 by decide⟩
  | succ n ih =>
    have := ih (by omega) (by omega)
    have h2 := hB n (by omega) (by omega)
    rw [show ((n + 1 : Nat) : Int) = (n : Int) + 1 from rfl, wdI_s _ _ (by omega)]
    have e : ((n : Int) + 1).toNat = n + 1 := by omega
    have e2 : ((n : Nat) : Int).toNat = n := by omega
    rw [e, Int.pow_succ]
    rw [e2] at this
    omega
def wordP (B : Int → Int) (fr p : Int) : Int := wdI B (fr + 6 * p) 6
/-- has a run been above six within the piece, has the sum been too far -/
def a4N (B : Int → Int) (fr : Int) (p : Int) : Nat → Int
  | 0 => 0
  | j + 1 => if 6 < runI (shB B fr) (6 * p + (j : Int) + 1) then 1 else a4N B fr p j
def a8N (B : Int → Int) (fr u : Int) (p : Int) : Nat → Int
  | 0 => 0
  | j + 1 => if 3 < levI B fr u (6 * p + (j : Int) + 1) ∨ levI B fr u (6 * p + (j : Int) + 1) < -3 then 1 else a8N B fr u p j
theorem a4N_01 (B : Int → Int) (fr p : Int) (j : Nat) : a4N B fr p j = 0 ∨ a4N B fr p j = 1 := by
  induction j with
  | zero => exact Or.inl rfl
  | succ j ih =>
    unfold a4N
    split
    · exact Or.inr rfl
    · exact ih
theorem a8N_01 (B : Int → Int) (fr u p : Int) (j : Nat) : a8N B fr u p j = 0 ∨ a8N B fr u p j = 1 := by
  induction j with
  | zero => exact Or.inl rfl
  | succ j ih =>
    unfold a8N
    split
    · exact Or.inr rfl
    · exact ih
def flI (B : Int → Int) (fr u p j : Int) : Int := 4 * a4N B fr p j.toNat + 8 * a8N B fr u p j.toNat
theorem flI_0 (B : Int → Int) (fr u p : Int) : flI B fr u p 0 = 0 := rfl
theorem flI_b (B : Int → Int) (fr u p j : Int) : 0 ≤ flI B fr u p j ∧ flI B fr u p j ≤ 12 := by
  have h1 := a4N_01 B fr p j.toNat
  have h2 := a8N_01 B fr u p j.toNat
  unfold flI
  omega
theorem flI_s (B : Int → Int) (fr u p : Int) {j : Int} (h : 0 ≤ j) : ior (ior (flI B fr u p j) (if 6 < runI (shB B fr) (6 * p + j + 1) then 4 else 0)) (if 3 < levI B fr u (6 * p + j + 1) ∨ levI B fr u (6 * p + j + 1) < -3 then 8 else 0) = flI B fr u p (j + 1) := by
  obtain ⟨n, rfl⟩ := Int.eq_ofNat_of_zero_le h
  have h1 := a4N_01 B fr p n
  have h2 := a8N_01 B fr u p n
  have e : ((n : Int) + 1).toNat = n + 1 := by omega
  have e2 : ((n : Nat) : Int).toNat = n := by omega
  unfold flI
  rw [e, e2, show a4N B fr p (n + 1) = if 6 < runI (shB B fr) (6 * p + (n : Int) + 1) then 1 else a4N B fr p n from rfl, show a8N B fr u p (n + 1) = if 3 < levI B fr u (6 * p + (n : Int) + 1) ∨ levI B fr u (6 * p + (n : Int) + 1) < -3 then 1 else a8N B fr u p n from rfl]
  generalize a4N B fr p n = a at *
  generalize a8N B fr u p n = b at *
  generalize runI (shB B fr) (6 * p + (n : Int) + 1) = y
  generalize levI B fr u (6 * p + (n : Int) + 1) = z
  by_cases c1 : 6 < y <;> by_cases c2 : 3 < z ∨ z < -3 <;> simp only [c1, c2, if_true, if_false] <;> rcases h1 with rfl | rfl <;> rcases h2 with rfl | rfl <;> decide +kernel
/-- the sum ahead of a piece -/
def sbN (B : Int → Int) (fr u : Int) : Nat → Int
  | 0 => u
  | p + 1 => if 3 < ones (wordP B fr (p : Int)) then 1 else if ones (wordP B fr (p : Int)) < 3 then -1 else sbN B fr u p
def sbI (B : Int → Int) (fr u p : Int) : Int := sbN B fr u p.toNat
theorem sbI_0 (B : Int → Int) (fr u : Int) : sbI B fr u 0 = u := rfl
theorem sbI_s (B : Int → Int) (fr u : Int) {p : Int} (h : 0 ≤ p) : sbI B fr u (p + 1) = if 3 < ones (wordP B fr p) then 1 else if ones (wordP B fr p) < 3 then -1 else sbI B fr u p := by
  obtain ⟨n, rfl⟩ := Int.eq_ofNat_of_zero_le h
  rfl
theorem sbI_01 {B : Int → Int} {fr u : Int} (hu : u = 1 ∨ u = -1) (p : Int) : sbI B fr u p = 1 ∨ sbI B fr u p = -1 := by
  unfold sbI
  generalize p.toNat = n
  induction n with
  | zero => exact hu
  | succ n ih =>
    unfold sbN
    split
    · exact Or.inl rfl
    · split
      · exact Or.inr rfl
      · exact ih
/-- rightly: in the form that is due -/
def riP (B : Int → Int) (fr u p : Int) : Int := bI (iand (inF (wordP B fr p)) (if sbI B fr u p < 0 then 1 else 2) ≠ 0)
/-- a piece's breaches -/
def brP (B : Int → Int) (fr u p : Int) : Int := ior (flI B fr u p 6) (if inF (wordP B fr p) = 0 then 1 else if riP B fr u p = 0 then 2 else 0)
theorem ior_b {a b : Int} (ha : 0 ≤ a ∧ a < 16) (hb : 0 ≤ b ∧ b < 16) : 0 ≤ ior a b ∧ ior a b < 16 := by
  obtain ⟨n, rfl⟩ := Int.eq_ofNat_of_zero_le ha.1
  obtain ⟨m, rfl⟩ := Int.eq_ofNat_of_zero_le hb.1
  unfold ior
  have h : n ||| m < 2 ^ 4 := Nat.or_lt_two_pow (by omega) (by omega)
  have e1 : ((n : Nat) : Int).toNat = n := by omega
  have e2 : ((m : Nat) : Int).toNat = m := by omega
  rw [e1, e2]
  omega
theorem brP_b (B : Int → Int) (fr u p : Int) : 0 ≤ brP B fr u p ∧ brP B fr u p < 16 := by
  have := flI_b B fr u p 6
  unfold brP
  apply ior_b
  · omega
  · split
    · decide
    · split <;> decide
/-- the first place that isn't null; none: -9 -/
def fstN (F : Int → Int) : Nat → Int
  | 0 => -9
  | n + 1 => if fstN F n = -9 then (if F (n : Int) ≠ 0 then (n : Int) else -9) else fstN F n
def fstI (F : Int → Int) (N : Int) : Int := fstN F N.toNat
theorem fstN_b (F : Int → Int) (n : Nat) : fstN F n = -9 ∨ (0 ≤ fstN F n ∧ fstN F n < n) := by
  induction n with
  | zero => exact Or.inl rfl
  | succ n ih =>
    unfold fstN
    split
    · split
      · exact Or.inr (by omega)
      · exact Or.inl rfl
    · omega
theorem fstI_b (F : Int → Int) {N : Int} (h : 0 ≤ N) : fstI F N = -9 ∨ (0 ≤ fstI F N ∧ fstI F N < N) := by
  have := fstN_b F N.toNat
  unfold fstI
  omega
theorem fstN_none {F : Int → Int} {n : Nat} (h : ∀ q : Int, 0 ≤ q → q < n → F q = 0) : fstN F n = -9 := by
  induction n with
  | zero => rfl
  | succ n ih =>
    unfold fstN
    rw [if_pos (ih fun q h0 h1 => h q h0 (by omega)), if_neg]
    rw [h n (by omega) (by omega)]
    decide
theorem fstI_none {F : Int → Int} {N : Int} (h0 : 0 ≤ N) (h : ∀ q : Int, 0 ≤ q → q < N → F q = 0) : fstI F N = -9 := fstN_none fun q h1 h2 => h q h1 (by omega)
theorem fstN_at {F : Int → Int} {p : Nat} (h : ∀ q : Int, 0 ≤ q → q < p → F q = 0) (hp : F p ≠ 0) : ∀ n : Nat, p < n → fstN F n = p := by
  intro n hn
  induction n with
  | zero => omega
  | succ n ih =>
    unfold fstN
    by_cases e : p = n
    · subst e
      rw [if_pos (fstN_none h), if_pos hp]
    · rw [ih (by omega), if_neg (by omega)]
theorem fstI_at {F : Int → Int} {p N : Int} (h0 : 0 ≤ p) (hN : p < N) (h : ∀ q : Int, 0 ≤ q → q < p → F q = 0) (hp : F p ≠ 0) : fstI F N = p := by
  obtain ⟨n, rfl⟩ := Int.eq_ofNat_of_zero_le h0
  exact fstN_at h hp N.toNat (by omega)
theorem fstN_eq {F : Int → Int} {n : Nat} (h : fstN F n = -9) : ∀ q : Int, 0 ≤ q → q < n → F q = 0 := by
  induction n with
  | zero => intro q h0 h1; omega
  | succ n ih =>
    intro q h0 h1
    unfold fstN at h
    by_cases e : fstN F n = -9
    · rw [if_pos e] at h
      by_cases e2 : F n ≠ 0
      · rw [if_pos e2] at h
        omega
      · by_cases e3 : q = n
        · subst e3
          exact Classical.not_not.mp e2
        · exact ih e q h0 (by omega)
    · rw [if_neg e] at h
      exact absurd h e
theorem fstI_eq {F : Int → Int} {N : Int} (h : fstI F N = -9) : ∀ q : Int, 0 ≤ q → q < N → F q = 0 := fun q h0 h1 => fstN_eq h q h0 (by omega)
theorem fstN_congr {F G : Int → Int} {n : Nat} (h : ∀ q : Int, 0 ≤ q → q < n → F q = G q) : fstN F n = fstN G n := by
  induction n with
  | zero => rfl
  | succ n ih =>
    unfold fstN
    rw [ih fun q h0 h1 => h q h0 (by omega), h n (by omega) (by omega)]
theorem fstI_congr {F G : Int → Int} {N : Int} (h : ∀ q : Int, 0 ≤ q → q < N → F q = G q) : fstI F N = fstI G N := fstN_congr fun q h0 h1 => h q h0 (by omega)
theorem sumN_congr {F G : Int → Int} {n : Nat} (h : ∀ q : Int, 0 ≤ q → q < n → F q = G q) : sumN F n = sumN G n := by
  induction n with
  | zero => rfl
  | succ n ih =>
    unfold sumN
    rw [ih fun q h0 h1 => h q h0 (by omega), h n (by omega) (by omega)]
theorem sumI_congr {F G : Int → Int} {N : Int} (h : ∀ q : Int, 0 ≤ q → q < N → F q = G q) : sumI F N = sumI G N := sumN_congr fun q h0 h1 => h q h0 (by omega)
/-! the answers of a reading -/
abbrev none9 : Int := -9
def uOf (u : Int) : Int := if u = 0 then -1 else 1
theorem uOf_01 (u : Int) : uOf u = 1 ∨ uOf u = -1 := by
  unfold uOf
  split
  · exact Or.inr rfl
  · exact Or.inl rfl
abbrev beginB (fr u : Int) : Prop := (0 ≤ fr ∧ fr ≤ 5) ∧ (0 ≤ u ∧ u ≤ 1)
def pieceQ (S : Int → Int) (fr u p c : Int) : Int := if c = 0 then wordP (tB S (-9)) fr p else if c = 1 then meanT (wordP (tB S (-9)) fr p) else if c = 2 then riP (tB S (-9)) fr (uOf u) p else if c = 3 then brP (tB S (-9)) fr (uOf u) p else if sbI (tB S (-9)) fr (uOf u) (p + 1) < 0 then 0 else 1
abbrev pieceB (fr u p c : Int) : Prop := beginB fr u ∧ 0 ≤ p ∧ (0 ≤ c ∧ c ≤ 4)
def pieceR (S : Int → Int) (fr u p c : Int) : Int := if pieceB fr u p c then (if npc (6 * S 0) fr ≤ p then -9 else pieceQ S fr u p c) else -1
def firstR (S : Int → Int) (fr u t : Int) : Int := fstI (brP (tB S t) fr u) (npc (6 * S 0) fr)
/-- is all well with the j-th bit turned -/
def okT (S : Int → Int) (fr u j : Int) : Int := bI (firstR S fr u (fr + j) = -9)
def blmN (S : Int → Int) (fr u : Int) : Int := sumI (okT S fr u) (6 * npc (6 * S 0) fr)
def lowR (S : Int → Int) (fr u : Int) : Int := if fstI (okT S fr u) (6 * npc (6 * S 0) fr) = -9 then -9 else fr + fstI (okT S fr u) (6 * npc (6 * S 0) fr)
def readQ (S : Int → Int) (fr u c : Int) : Int := if c = 0 then npc (6 * S 0) fr else if c = 1 then firstR S fr u (-9) else if c = 2 then sumI (fun p => bI (brP (tB S (-9)) fr u p ≠ 0)) (npc (6 * S 0) fr) else if c = 3 then blmN S fr u else if c = 4 then lowR S fr u else if firstR S fr u (-9) = -9 ∨ lowR S fr u = -9 then -2000000 else firstR S fr u (-9) - (lowR S fr u - fr) / 6
abbrev readB (fr u c : Int) : Prop := beginB fr u ∧ (0 ≤ c ∧ c ≤ 5)
def readR (S : Int → Int) (fr u c : Int) : Int := if readB fr u c then readQ S fr (uOf u) c else -1000000
def okC (S : Int → Int) (c : Int) : Int := bI (0 < npc (6 * S 0) (c / 2) ∧ firstR S (c / 2) (uOf (c % 2)) (-9) = -9)
def fndN (S : Int → Int) (k : Int) : Nat → Int
  | 0 => -9
  | c + 1 => if okC S (c : Int) ≠ 0 ∧ sumI (okC S) (c : Int) = k then (c : Int) else fndN S k c
def fndI (S : Int → Int) (k c : Int) : Int := fndN S k c.toNat
theorem fndI_s (S : Int → Int) (k : Int) {c : Int} (h : 0 ≤ c) : fndI S k (c + 1) = if okC S c ≠ 0 ∧ sumI (okC S) c = k then c else fndI S k c := by
  obtain ⟨n, rfl⟩ := Int.eq_ofNat_of_zero_le h
  rfl
def cutsR (S : Int → Int) (k : Int) : Int := if k < -1 then -1 else if k = -1 then sumI (okC S) 12 else fndI S k 12
theorem tB_none {S : Int → Int} {b : Int} (h : 0 ≤ b) : tB S (-9) b = bS S b := by
  unfold tB bS
  rw [if_neg (by omega)]
theorem wordP_b {S : Int → Int} (hS : WS S) {fr p t : Int} (hf : 0 ≤ fr) (hp : 0 ≤ p) (h : p < npc (6 * S 0) fr) : 0 ≤ wordP (tB S t) fr p ∧ wordP (tB S t) fr p < 64 := by
  have hn := hS.n
  have hb := npc_b (nb := 6 * S 0) (fr := fr) (by omega) hf
  exact wdI_b (B := tB S t) (s := fr + 6 * p) (fun j h0 h1 => by rw [Int.add_assoc]; exact tB_01 hS (t := t) (b := fr + (6 * p + j)) (by omega) (by omega)) 6 (by omega) (by omega)
theorem fstI_s (F : Int → Int) {j : Int} (h : 0 ≤ j) : fstI F (j + 1) = if fstI F j = -9 then (if F j ≠ 0 then j else -9) else fstI F j := by
  obtain ⟨n, rfl⟩ := Int.eq_ofNat_of_zero_le h
  rfl
theorem firstR_b {S : Int → Int} (hS : WS S) {fr u t : Int} (hf : 0 ≤ fr) : firstR S fr u t = -9 ∨ (0 ≤ firstR S fr u t ∧ firstR S fr u t < npc (6 * S 0) fr) := by
  have hn := hS.n
  exact fstI_b _ (npc_b (nb := 6 * S 0) (fr := fr) (by omega) hf).1
/-- how many are blamed, and the lowest: so far -/
def blJ (S : Int → Int) (fr u j n l : Int) : Prop := n = sumI (okT S fr u) j ∧ ((n = 0 ∧ fstI (okT S fr u) j = -9 ∧ l = -9) ∨ (0 < n ∧ fstI (okT S fr u) j ≠ -9 ∧ l = fr + fstI (okT S fr u) j))
theorem blJ_0 (S : Int → Int) (fr u : Int) : blJ S fr u 0 0 (-9) := ⟨rfl, Or.inl ⟨rfl, rfl, rfl⟩⟩
theorem blJ_no {S : Int → Int} {fr u j n l : Int} (hj : 0 ≤ j) (h : blJ S fr u j n l) (hf : firstR S fr u (fr + j) ≠ -9) : blJ S fr u (j + 1) n l := by
  have e : okT S fr u j = 0 := bI_f hf
  obtain ⟨h1, h2⟩ := h
  refine ⟨by rw [sumI_s _ hj, e, h1]; omega, ?_⟩
  rw [fstI_s _ hj, e]
  rcases h2 with ⟨a, b, c⟩ | ⟨a, b, c⟩
  · exact Or.inl ⟨a, by rw [if_pos b, if_neg (fun z => z rfl)], c⟩
  · exact Or.inr ⟨a, by rw [if_neg b]; exact b, by rw [if_neg b]; exact c⟩
theorem blJ_yes {S : Int → Int} {fr u j n l m : Int} (hj : 0 ≤ j) (hfr : 0 ≤ fr) (h : blJ S fr u j n l) (hf : firstR S fr u (fr + j) = -9) (hm : m = if n = 0 then fr + j else l) : blJ S fr u (j + 1) (n + 1) m := by
  have e : okT S fr u j = 1 := bI_t hf
  obtain ⟨h1, h2⟩ := h
  refine ⟨by rw [sumI_s _ hj, e, h1], ?_⟩
  rw [fstI_s _ hj, e]
  rcases h2 with ⟨a, b, c⟩ | ⟨a, b, c⟩
  · refine Or.inr ⟨by omega, ?_, ?_⟩
    · rw [if_pos b, if_pos (by decide)]; omega
    · rw [if_pos b, if_pos (by decide), hm, if_pos a]
  · refine Or.inr ⟨by omega, ?_, ?_⟩
    · rw [if_neg b]; exact b
    · rw [if_neg b, hm, if_neg (by omega)]; exact c
theorem blJ_end {S : Int → Int} {fr u n l : Int} (h : blJ S fr u (6 * npc (6 * S 0) fr) n l) : n = blmN S fr u ∧ l = lowR S fr u := by
  obtain ⟨h1, h2⟩ := h
  refine ⟨h1, ?_⟩
  unfold lowR
  rcases h2 with ⟨a, b, c⟩ | ⟨a, b, c⟩
  · rw [if_pos b]; exact c
  · rw [if_neg b]; exact c
theorem lowR_b {S : Int → Int} (hS : WS S) {fr u : Int} (hf : 0 ≤ fr ∧ fr ≤ 5) : lowR S fr u = -9 ∨ (fr ≤ lowR S fr u ∧ lowR S fr u < fr + 192) := by
  have hn := hS.n
  have hp := npc_b (nb := 6 * S 0) (fr := fr) (by omega) hf.1
  have hb := fstI_b (okT S fr u) (N := 6 * npc (6 * S 0) fr) (by omega)
  unfold lowR
  split
  · exact Or.inl rfl
  · right
    omega
theorem blmN_b {S : Int → Int} (hS : WS S) {fr u : Int} (hf : 0 ≤ fr ∧ fr ≤ 5) : 0 ≤ blmN S fr u ∧ blmN S fr u ≤ 192 := by
  have hn := hS.n
  have hp := npc_b (nb := 6 * S 0) (fr := fr) (by omega) hf.1
  have h := sumI_b (okT S fr u) (N := 6 * npc (6 * S 0) fr) (c := 1) (fun j _ _ => bI_b _) (6 * npc (6 * S 0) fr) (by omega) (Int.le_refl _)
  unfold blmN
  omega
theorem fndI_b (S : Int → Int) (k : Int) {c : Int} (h : 0 ≤ c) : fndI S k c = -9 ∨ (0 ≤ fndI S k c ∧ fndI S k c < c) := by
  obtain ⟨n, rfl⟩ := Int.eq_ofNat_of_zero_le h
  induction n with
  | zero => exact Or.inl rfl
  | succ n ih =>
    have := ih (by omega)
    rw [show ((n + 1 : Nat) : Int) = (n : Int) + 1 from rfl, fndI_s _ _ (by omega)]
    split
    · right; omega
    · omega
