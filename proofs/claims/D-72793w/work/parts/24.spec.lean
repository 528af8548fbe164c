/-! SPEC: the wire's row and what is done to it, as functions -/
/-- a bare row -/
def bareS : Int → Int := fun j => if j = 1 then -1 else if j = 2 ∨ j = 3 then -9 else 0
/-- the form that is due by a row's sum -/
abbrev dueB (S : Int → Int) : Int := if S 1 < 0 then 0 else 1
/-- the word's first b bits are laid behind the wire -/
def sbits (S : Int → Int) (v b : Int) : Int → Int := fun j => if 36 + 6 * S 0 ≤ j ∧ j < 36 + 6 * S 0 + b then v / 2 ^ (5 - (j - 36 - 6 * S 0)).toNat % 2 else S j
theorem sbits_z (S : Int → Int) (v : Int) : sbits S v 0 = S := by
  funext j
  unfold sbits
  rw [if_neg (by omega)]
theorem sbits_lo (S : Int → Int) (v b : Int) {j : Int} (hn : 0 ≤ S 0) (h : j < 36) : sbits S v b j = S j := by
  unfold sbits
  rw [if_neg (by omega)]
theorem sbits_s (S : Int → Int) (v : Int) {b : Int} (hb : 0 ≤ b) : uF (sbits S v b) ((36 + (6 * (S 0))) + b) ((v / 2 ^ (5 - b).toNat) % 2) = sbits S v (b + 1) := by
  funext j
  unfold uF sbits
  by_cases h : j = 36 + 6 * S 0 + b
  · rw [if_pos h, if_pos (by omega), show j - 36 - 6 * S 0 = b by omega]
  · rw [if_neg h]
    by_cases h2 : 36 + 6 * S 0 ≤ j ∧ j < 36 + 6 * S 0 + b
    · rw [if_pos h2, if_pos (by omega)]
    · rw [if_neg h2, if_neg (by omega)]
/-- a mark is remembered -/
def remS (S : Int → Int) (m : Int) : Int → Int := if S 3 = m then S else uF (uF S 2 (S 3)) 3 m
/-- the word's row behind it, ahead of its mark -/
def preS (S : Int → Int) (k : Int) : Int → Int := uF (uF (uF (sbits S (fm k (dueB S)) 6) (4 + S 0) k) 0 (S 0 + 1)) 1 (if ones (fm k (dueB S)) = 3 then S 1 else - S 1)
/-- data or a mark is sent -/
def sendS (S : Int → Int) (k : Int) : Int → Int := if 30 < k then remS (preS S k) (k - 31) else preS S k
/-- rows behind one another -/
def flat (Q : Int → Int → Int) : Int → Int := fun j => Q (j / 228) (j % 228)
/-- a row is noted -/
def noteQ (Q : Int → Int → Int) (u : Int) (S : Int → Int) : Int → Int → Int := if u = 6 then (fun i => if i = 5 then S else Q (i + 1)) else (fun i => if i = u then S else Q i)
def noteU (u : Int) : Int := if u = 6 then 6 else u + 1
theorem note_6 {Q : Int → Int → Int} {S F G : Int → Int} {u : Int} (hu : u = 6) (hG : ∀ j : Int, 0 ≤ j → j < 1368 → G j = if j < 1140 then flat Q (j + 228) else flat Q j)
    (hF : ∀ j : Int, 0 ≤ j → j < 1368 → F j = if 228 * (u - 1) ≤ j ∧ j < 228 * (u - 1) + 228 then S (j - 228 * (u - 1)) else G j) : ∀ j : Int, 0 ≤ j → j < 1368 → F j = flat (noteQ Q u S) j := by
  intro j h0 h1
  rw [hF j h0 h1]
  subst hu
  unfold flat noteQ
  rw [if_pos rfl]
  by_cases h : 1140 ≤ j
  · rw [if_pos (by omega), if_pos (by omega)]
    congr 1
    omega
  · rw [if_neg (by omega), if_neg (by omega), hG j h0 h1, if_pos (by omega)]
    unfold flat
    rw [show (j + 228) / 228 = j / 228 + 1 by omega, show (j + 228) % 228 = j % 228 by omega]
theorem note_n {Q : Int → Int → Int} {S F : Int → Int} {u : Int} (hu : 0 ≤ u ∧ u < 6)
    (hF : ∀ j : Int, 0 ≤ j → j < 1368 → F j = if 228 * u ≤ j ∧ j < 228 * u + 228 then S (j - 228 * u) else flat Q j) : ∀ j : Int, 0 ≤ j → j < 1368 → F j = flat (noteQ Q u S) j := by
  intro j h0 h1
  rw [hF j h0 h1]
  unfold flat noteQ
  have e6 : ¬ u = 6 := by omega
  rw [if_neg e6]
  by_cases h : 228 * u ≤ j ∧ j < 228 * u + 228
  · rw [if_pos h, if_pos (by omega)]
    congr 1
    omega
  · rw [if_neg h, if_neg (by omega)]
theorem uF_step {F G H : Int → Int} {k v : Int} {N : Int} {A : Int → Prop} [DecidablePred A] (hF : ∀ j : Int, 0 ≤ j → j < N → F j = if j < k then G j else H j) (hv : v = G k) : ∀ j : Int, 0 ≤ j → j < N → uF F k v j = if j < k + 1 then G j else H j := by
  intro j h0 h1
  unfold uF
  by_cases h : j = k
  · rw [if_pos h, if_pos (by omega), hv, h]
  · rw [if_neg h, hF j h0 h1]
    by_cases h2 : j < k
    · rw [if_pos h2, if_pos (by omega)]
    · rw [if_neg h2, if_neg (by omega)]
theorem uF_win {F G H : Int → Int} {a k v i : Int} {N : Int} (hk : 0 ≤ k) (hF : ∀ j : Int, 0 ≤ j → j < N → F j = if a ≤ j ∧ j < a + k then G (j - a) else H j) (hi : i = a + k) (hv : v = G k) : ∀ j : Int, 0 ≤ j → j < N → uF F i v j = if a ≤ j ∧ j < a + (k + 1) then G (j - a) else H j := by
  intro j h0 h1
  subst hi
  unfold uF
  by_cases h : j = a + k
  · rw [if_pos h, if_pos (by omega), hv, h]
    congr 1
    omega
  · rw [if_neg h, hF j h0 h1]
    by_cases h2 : a ≤ j ∧ j < a + k
    · rw [if_pos h2, if_pos (by omega)]
    · rw [if_neg h2, if_neg (by omega)]
theorem dueB_01 (S : Int → Int) : dueB S = 0 ∨ dueB S = 1 := by
  unfold dueB
  split
  · exact Or.inl rfl
  · exact Or.inr rfl
theorem preS_lo (S : Int → Int) (k : Int) {j : Int} (hn : 0 ≤ S 0) (h : j = 2 ∨ j = 3) : preS S k j = S j := by
  unfold preS
  rw [uF_ne _ _ (by omega), uF_ne _ _ (by omega), uF_ne _ _ (by omega), sbits_lo _ _ _ hn (by omega)]
/-- a row that can be: how many words, the sum, marks, words, bits -/
def WS (S : Int → Int) : Prop := (0 ≤ S 0 ∧ S 0 ≤ 32) ∧ (S 1 = 1 ∨ S 1 = -1) ∧ (S 2 = -9 ∨ (0 ≤ S 2 ∧ S 2 ≤ 2 ∧ S 3 ≠ -9 ∧ S 2 ≠ S 3)) ∧ (S 3 = -9 ∨ (0 ≤ S 3 ∧ S 3 ≤ 2)) ∧ (∀ w : Int, 0 ≤ w → w < S 0 → 0 ≤ S (4 + w) ∧ S (4 + w) < 34) ∧ ∀ b : Int, 0 ≤ b → b < 6 * S 0 → S (36 + b) = 0 ∨ S (36 + b) = 1
theorem WS.n {S : Int → Int} (h : WS S) : 0 ≤ S 0 ∧ S 0 ≤ 32 := h.1
theorem WS.s1 {S : Int → Int} (h : WS S) : S 1 = 1 ∨ S 1 = -1 := h.2.1
theorem WS.s2 {S : Int → Int} (h : WS S) : Rg (S 2) ∧ Rg (S 3) := by
  have h2 := h.2.2.1
  have h3 := h.2.2.2.1
  omega
theorem WS.w {S : Int → Int} (h : WS S) {w : Int} (h0 : 0 ≤ w) (h1 : w < S 0) : 0 ≤ S (4 + w) ∧ S (4 + w) < 34 := h.2.2.2.2.1 w h0 h1
theorem WS.b {S : Int → Int} (h : WS S) {b : Int} (h0 : 0 ≤ b) (h1 : b < 6 * S 0) : S (36 + b) = 0 ∨ S (36 + b) = 1 := h.2.2.2.2.2 b h0 h1
/-- the bits of a row -/
def bS (S : Int → Int) : Int → Int := fun b => S (36 + b)
/-! sums, runs -/
def sumN (F : Int → Int) : Nat → Int
  | 0 => 0
  | n + 1 => sumN F n + F n
def sumI (F : Int → Int) (b : Int) : Int := sumN F b.toNat
theorem sumI_0 (F : Int → Int) : sumI F 0 = 0 := rfl
theorem sumI_s (F : Int → Int) {b : Int} (h : 0 ≤ b) : sumI F (b + 1) = sumI F b + F b := by
  obtain ⟨n, rfl⟩ := Int.eq_ofNat_of_zero_le h
  rfl
theorem sumI_b (F : Int → Int) {N c : Int} (hF : ∀ j : Int, 0 ≤ j → j < N → 0 ≤ F j ∧ F j ≤ c) : ∀ b : Int, 0 ≤ b → b ≤ N → 0 ≤ sumI F b ∧ sumI F b ≤ c * b := by
  intro b h0 h1
  obtain ⟨n, rfl⟩ := Int.eq_ofNat_of_zero_le h0
  induction n with
  | zero => rw [show ((0 : Nat) : Int) = 0 from rfl, sumI_0]; omega
  | succ n ih =>
    have := ih (by omega) (by omega)
    have h2 := hF n (by omega) (by omega)
    rw [show ((n + 1 : Nat) : Int) = (n : Int) + 1 from rfl, sumI_s F (by omega), Int.mul_add]
    omega
def runN (B : Int → Int) : Nat → Int
  | 0 => 0
  | n + 1 => if 0 < n ∧ B n = B ((n : Int) - 1) then runN B n + 1 else 1
def mostN (B : Int → Int) : Nat → Int
  | 0 => 0
  | n + 1 => if mostN B n < runN B (n + 1) then runN B (n + 1) else mostN B n
def runI (B : Int → Int) (b : Int) : Int := runN B b.toNat
def mostI (B : Int → Int) (b : Int) : Int := mostN B b.toNat
theorem runI_0 (B : Int → Int) : runI B 0 = 0 := rfl
theorem mostI_0 (B : Int → Int) : mostI B 0 = 0 := rfl
theorem runI_s (B : Int → Int) {b : Int} (h : 0 ≤ b) : runI B (b + 1) = if 0 < b ∧ B b = B (b - 1) then runI B b + 1 else 1 := by
  obtain ⟨n, rfl⟩ := Int.eq_ofNat_of_zero_le h
  show (if 0 < n ∧ B n = B ((n : Int) - 1) then runN B n + 1 else 1) = _
  by_cases e : 0 < n
  · have e2 : (0 : Int) < n := by omega
    simp only [e, e2, true_and]
    rfl
  · have e2 : ¬ (0 : Int) < n := by omega
    simp only [e, e2, false_and]
    rfl
theorem mostI_s (B : Int → Int) {b : Int} (h : 0 ≤ b) : mostI B (b + 1) = if mostI B b < runI B (b + 1) then runI B (b + 1) else mostI B b := by
  obtain ⟨n, rfl⟩ := Int.eq_ofNat_of_zero_le h
  rfl
theorem runI_b (B : Int → Int) {b : Int} (h : 0 ≤ b) : 0 ≤ runI B b ∧ runI B b ≤ b := by
  obtain ⟨n, rfl⟩ := Int.eq_ofNat_of_zero_le h
  induction n with
  | zero => exact ⟨Int.le_refl _, Int.le_refl _⟩
  | succ n ih =>
    have := ih (by omega)
    rw [show ((n + 1 : Nat) : Int) = (n : Int) + 1 from rfl, runI_s B (by omega)]
    split <;> omega
theorem mostI_b (B : Int → Int) {b : Int} (h : 0 ≤ b) : 0 ≤ mostI B b ∧ mostI B b ≤ b := by
  obtain ⟨n, rfl⟩ := Int.eq_ofNat_of_zero_le h
  induction n with
  | zero => exact ⟨Int.le_refl _, Int.le_refl _⟩
  | succ n ih =>
    have := ih (by omega)
    have h2 := runI_b B (b := (n : Int) + 1) (by omega)
    rw [show ((n + 1 : Nat) : Int) = (n : Int) + 1 from rfl, mostI_s B (by omega)]
    split <;> omega
/-! what was sent, again: the sum ahead of a word; a bit as it was sent -/
def sgN (S : Int → Int) : Nat → Int
  | 0 => -1
  | w + 1 => if ones (fm (S (4 + (w : Int))) (if sgN S w < 0 then 0 else 1)) = 3 then sgN S w else - sgN S w
def sgI (S : Int → Int) (w : Int) : Int := sgN S w.toNat
/-- the word w as it was sent -/
def wdS (S : Int → Int) (w : Int) : Int := fm (S (4 + w)) (if sgI S w < 0 then 0 else 1)
theorem sgI_0 (S : Int → Int) : sgI S 0 = -1 := rfl
theorem sgI_s (S : Int → Int) {w : Int} (h : 0 ≤ w) : sgI S (w + 1) = if ones (wdS S w) = 3 then sgI S w else - sgI S w := by
  obtain ⟨n, rfl⟩ := Int.eq_ofNat_of_zero_le h
  rfl
theorem sgI_01 (S : Int → Int) (w : Int) : sgI S w = 1 ∨ sgI S w = -1 := by
  unfold sgI
  generalize w.toNat = n
  induction n with
  | zero => exact Or.inr rfl
  | succ n ih =>
    unfold sgN
    generalize ones (fm (S (4 + (n : Int))) (if sgN S n < 0 then 0 else 1)) = z
    by_cases e : z = 3
    · rw [if_pos e]; exact ih
    · rw [if_neg e]; omega
def sbit (S : Int → Int) (b : Int) : Int := wdS S (b / 6) / 2 ^ (5 - b % 6).toNat % 2
/-- the bit is otherwise than sent -/
def tnS (S : Int → Int) (b : Int) : Int := bI (S (36 + b) ≠ sbit S b)
/-! the answers that the row alone gives -/
def bitR (S : Int → Int) (b : Int) : Int := if 0 ≤ b ∧ b ≤ 6 * S 0 - 1 then S (36 + b) else -1
def wordR (S : Int → Int) (w : Int) : Int := if 0 ≤ w ∧ w ≤ S 0 - 1 then S (4 + w) else -1
def marksN (S : Int → Int) : Int := (if S 2 = -9 then 0 else 1) + (if S 3 = -9 then 0 else 1)
def recR (S : Int → Int) (i : Int) : Int := if i < 0 then -1 else if i < marksN S then S (4 - marksN S + i) else -9
def formR (k b : Int) : Int := if (0 ≤ k ∧ k ≤ 33) ∧ (0 ≤ b ∧ b ≤ 1) then fm k b else -1
def countR (S : Int → Int) (t u c : Int) : Int := if c = 0 then S 0 else if c = 1 then (if S 1 < 0 then 0 else 1) else if c = 2 then sumI (bS S) (6 * S 0) else if c = 3 then sumI (tnS S) (6 * S 0) else if c = 4 then mostI (bS S) (6 * S 0) else if c = 5 then sumI (fun w => bI (30 < S (4 + w))) (S 0) else if c = 6 then t else if c = 7 then u else -1
/-! what is done -/
def sentR (S : Int → Int) (k : Int) : Int := if S 0 = 32 then -3 else fm k (dueB S)
def sendsR (S : Int → Int) (d : Int) : Int := if 0 ≤ d ∧ d ≤ 30 then (if S 0 = 32 then -3 else fm d (dueB S)) else -1
abbrev sendsB (S : Int → Int) (d : Int) : Prop := (0 ≤ d ∧ d ≤ 30) ∧ S 0 ≠ 32
def marksR (S : Int → Int) (m : Int) : Int := if 0 ≤ m ∧ m ≤ 2 then (if S 0 = 32 then -3 else fm (31 + m) (dueB S)) else -1
abbrev marksB (S : Int → Int) (m : Int) : Prop := (0 ≤ m ∧ m ≤ 2) ∧ S 0 ≠ 32
def flipS (S : Int → Int) (b : Int) : Int → Int := uF S (36 + b) (1 - S (36 + b))
abbrev flipsB (S : Int → Int) (b : Int) : Prop := 0 ≤ b ∧ b ≤ 6 * S 0 - 1
def flipsR (S : Int → Int) (b : Int) : Int := if flipsB S b then 1 - S (36 + b) else -1
def clearsR (S : Int → Int) : Int := if S 0 = 0 then -2 else S 0
def undoR (u : Int) : Int := if u = 0 then -2 else u - 1
/-- by a condition: the one or the other (rows, undone rows, numbers) -/
def iF {α : Type} (p : Prop) [Decidable p] (a b : α) : α := if p then a else b
theorem iF_t {α : Type} {p : Prop} [Decidable p] (h : p) (a b : α) : iF p a b = a := if_pos h
theorem iF_f {α : Type} {p : Prop} [Decidable p] (h : ¬ p) (a b : α) : iF p a b = b := if_neg h
theorem sbit_01 (S : Int → Int) (b : Int) : 0 ≤ sbit S b ∧ sbit S b ≤ 1 := by
  unfold sbit
  omega
theorem sbit_w (S : Int → Int) {w b : Int} (h : 0 ≤ b ∧ b < 6) : wdS S w / 2 ^ (5 - b).toNat % 2 = sbit S (6 * w + b) := by
  unfold sbit
  rw [show (6 * w + b) / 6 = w by omega, show (6 * w + b) % 6 = b by omega]
theorem wdS_b {S : Int → Int} (h : WS S) {w : Int} (h0 : 0 ≤ w) (h1 : w < S 0) : 0 ≤ wdS S w ∧ wdS S w < 64 := fm_b (h.w h0 h1)
/-- text -/
def typeR (t l : Int) : Int := if 0 ≤ l ∧ l ≤ 255 then (if t = 120 then -3 else t + 1) else -1
abbrev typeB (t l : Int) : Prop := (0 ≤ l ∧ l ≤ 255) ∧ t ≠ 120
def keepR (S : Int → Int) (i : Int) : Int := if 0 ≤ i ∧ i ≤ 1 then S 0 else -1
def keepK (K : Int → Int → Int) (S : Int → Int) (i : Int) : Int → Int → Int := fun x => if x = i then S else K x
abbrev backB (Kp : Int → Int) (i : Int) : Prop := (0 ≤ i ∧ i ≤ 1) ∧ Kp i ≠ 0
def backR (K : Int → Int → Int) (Kp : Int → Int) (i : Int) : Int := if 0 ≤ i ∧ i ≤ 1 then (if Kp i = 0 then -2 else K i 0) else -1
theorem row_of {Q : Int → Int → Int} {S F : Int → Int} {i : Int} (h : 0 ≤ i) (hF : ∀ j : Int, 0 ≤ j → j < 228 → F j = if j < 228 then flat Q (228 * i + j) else S j) : ∀ j : Int, 0 ≤ j → j < 228 → F j = Q i j := by
  intro j h0 h1
  rw [hF j h0 h1, if_pos h1]
  unfold flat
  rw [show (228 * i + j) / 228 = i by omega, show (228 * i + j) % 228 = j by omega]
theorem row_in {Q : Int → Int → Int} {S F : Int → Int} {i N : Int} (h : 0 ≤ i) (hF : ∀ j : Int, 0 ≤ j → j < N → F j = if 228 * i ≤ j ∧ j < 228 * i + 228 then S (j - 228 * i) else flat Q j) : ∀ j : Int, 0 ≤ j → j < N → F j = flat (keepK Q S i) j := by
  intro j h0 h1
  rw [hF j h0 h1]
  unfold flat keepK
  by_cases e : 228 * i ≤ j ∧ j < 228 * i + 228
  · rw [if_pos e, if_pos (by omega)]
    congr 1
    omega
  · rw [if_neg e, if_neg (by omega)]
