/-! LEVELS, WEIGHT; THE LAST ONES IN ANOTHER ORDER -/
def lvI (S : Int → Int) (i : Int) : Int := -1 + sumI (fun j => if S (36 + j) = 1 then 1 else -1) i
theorem lvI_0 (S : Int → Int) : lvI S 0 = -1 := rfl
theorem lvI_s (S : Int → Int) {i : Int} (h : 0 ≤ i) : lvI S (i + 1) = lvI S i + if S (36 + i) = 1 then 1 else -1 := by
  unfold lvI
  rw [sumI_s _ h]
  omega
theorem lvI_b (S : Int → Int) {i : Int} (h : 0 ≤ i) : -1 - i ≤ lvI S i ∧ lvI S i ≤ i - 1 := by
  obtain ⟨n, rfl⟩ := Int.eq_ofNat_of_zero_le h
  induction n with
  | zero => rw [show ((0 : Nat) : Int) = 0 from rfl, lvI_0]; omega
  | succ n ih =>
    have := ih (by omega)
    rw [show ((n + 1 : Nat) : Int) = (n : Int) + 1 from rfl, lvI_s _ (by omega)]
    split <;> omega
/-- the least level above x, the greatest below: of the first so many bits -/
def abN (S : Int → Int) (x : Int) : Nat → Int
  | 0 => -2000000
  | b + 1 => if x < lvI S ((b : Int) + 1) ∧ (abN S x b = -2000000 ∨ lvI S ((b : Int) + 1) < abN S x b) then lvI S ((b : Int) + 1) else abN S x b
def beN (S : Int → Int) (x : Int) : Nat → Int
  | 0 => -2000000
  | b + 1 => if lvI S ((b : Int) + 1) < x ∧ (beN S x b = -2000000 ∨ beN S x b < lvI S ((b : Int) + 1)) then lvI S ((b : Int) + 1) else beN S x b
def abI (S : Int → Int) (x b : Int) : Int := abN S x b.toNat
def beI (S : Int → Int) (x b : Int) : Int := beN S x b.toNat
theorem abI_s (S : Int → Int) (x : Int) {b : Int} (h : 0 ≤ b) : abI S x (b + 1) = if x < lvI S (b + 1) ∧ (abI S x b = -2000000 ∨ lvI S (b + 1) < abI S x b) then lvI S (b + 1) else abI S x b := by
  obtain ⟨n, rfl⟩ := Int.eq_ofNat_of_zero_le h
  rfl
theorem beI_s (S : Int → Int) (x : Int) {b : Int} (h : 0 ≤ b) : beI S x (b + 1) = if lvI S (b + 1) < x ∧ (beI S x b = -2000000 ∨ beI S x b < lvI S (b + 1)) then lvI S (b + 1) else beI S x b := by
  obtain ⟨n, rfl⟩ := Int.eq_ofNat_of_zero_le h
  rfl
theorem abI_b (S : Int → Int) (x : Int) {b : Int} (h : 0 ≤ b) (h2 : b ≤ 192) : -2000000 ≤ abI S x b ∧ abI S x b ≤ 192 := by
  obtain ⟨n, rfl⟩ := Int.eq_ofNat_of_zero_le h
  induction n with
  | zero => exact ⟨Int.le_refl _, by show (-2000000 : Int) ≤ 192; decide⟩
  | succ n ih =>
    have := ih (by omega) (by omega)
    have hb := lvI_b S (i := (n : Int) + 1) (by omega)
    rw [show ((n + 1 : Nat) : Int) = (n : Int) + 1 from rfl, abI_s _ _ (by omega)]
    split <;> omega
theorem beI_b (S : Int → Int) (x : Int) {b : Int} (h : 0 ≤ b) (h2 : b ≤ 192) : -2000000 ≤ beI S x b ∧ beI S x b ≤ 192 := by
  obtain ⟨n, rfl⟩ := Int.eq_ofNat_of_zero_le h
  induction n with
  | zero => exact ⟨Int.le_refl _, by show (-2000000 : Int) ≤ 192; decide⟩
  | succ n ih =>
    have := ih (by omega) (by omega)
    have hb := lvI_b S (i := (n : Int) + 1) (by omega)
    rw [show ((n + 1 : Nat) : Int) = (n : Int) + 1 from rfl, beI_s _ _ (by omega)]
    split <;> omega
def timesI (S : Int → Int) (x b : Int) : Int := sumI (fun j => bI (lvI S (j + 1) = x)) b
abbrev levelB (x c : Int) : Prop := (-300 ≤ x ∧ x ≤ 300) ∧ (0 ≤ c ∧ c ≤ 2)
def levelQ (S : Int → Int) (x c : Int) : Int := if c = 0 then timesI S x (6 * S 0) else if c = 1 then abI S x (6 * S 0) else beI S x (6 * S 0)
def levelR (S : Int → Int) (x c : Int) : Int := if levelB x c then levelQ S x c else -1000000
/-- the weighed sum of levels -/
def wgI (S : Int → Int) (b : Int) : Int := sumI (fun j => lvI S (j + 1) * (j + 1)) b
def weightR (S : Int → Int) (a : Int) : Int := if wgI S (6 * S 0) * a < -999999 ∨ 999999 < wgI S (6 * S 0) * a then -1000000 else wgI S (6 * S 0) * a
theorem wgI_b (S : Int → Int) {b : Int} (h : 0 ≤ b) (h2 : b ≤ 192) : -40000 * b ≤ wgI S b ∧ wgI S b ≤ 40000 * b := by
  obtain ⟨n, rfl⟩ := Int.eq_ofNat_of_zero_le h
  induction n with
  | zero => exact ⟨Int.le_refl _, Int.le_refl _⟩
  | succ n ih =>
    have ih := ih (by omega) (by omega)
    have hb := lvI_b S (i := (n : Int) + 1) (by omega)
    unfold wgI at ih ⊢
    rw [show ((n + 1 : Nat) : Int) = (n : Int) + 1 from rfl, sumI_s _ (by omega)]
    have h1 : -193 * ((n : Int) + 1) ≤ lvI S ((n : Int) + 1) * ((n : Int) + 1) := Int.mul_le_mul_of_nonneg_right (by omega) (by omega)
    have h3 : lvI S ((n : Int) + 1) * ((n : Int) + 1) ≤ 193 * ((n : Int) + 1) := Int.mul_le_mul_of_nonneg_right (by omega) (by omega)
    show _ ≤ _ + lvI S ((n : Int) + 1) * ((n : Int) + 1) ∧ _ + lvI S ((n : Int) + 1) * ((n : Int) + 1) ≤ _
    omega
/-! a row of data or marks, sent from a bare wire on: the sum, the words, the bits -/
def sgqN (q : Int → Int) : Nat → Int
  | 0 => -1
  | w + 1 => if ones (fm (q (w : Int)) (if sgqN q w < 0 then 0 else 1)) = 3 then sgqN q w else - sgqN q w
def sgq (q : Int → Int) (w : Int) : Int := sgqN q w.toNat
def wdq (q : Int → Int) (w : Int) : Int := fm (q w) (if sgq q w < 0 then 0 else 1)
def bq (q : Int → Int) (b : Int) : Int := wdq q (b / 6) / 2 ^ (5 - b % 6).toNat % 2
theorem sgq_0 (q : Int → Int) : sgq q 0 = -1 := rfl
theorem sgq_s (q : Int → Int) {w : Int} (h : 0 ≤ w) : sgq q (w + 1) = if ones (wdq q w) = 3 then sgq q w else - sgq q w := by
  obtain ⟨n, rfl⟩ := Int.eq_ofNat_of_zero_le h
  rfl
theorem sgq_01 (q : Int → Int) (w : Int) : sgq q w = 1 ∨ sgq q w = -1 := by
  unfold sgq
  generalize w.toNat = n
  induction n with
  | zero => exact Or.inr rfl
  | succ n ih =>
    unfold sgqN
    generalize ones (fm (q (n : Int)) (if sgqN q n < 0 then 0 else 1)) = z
    by_cases e : z = 3
    · rw [if_pos e]; exact ih
    · rw [if_neg e]; omega
theorem bq_01 (q : Int → Int) (b : Int) : 0 ≤ bq q b ∧ bq q b ≤ 1 := by
  unfold bq
  omega
theorem bq_w (q : Int → Int) {w b : Int} (h : 0 ≤ b ∧ b < 6) : wdq q w / 2 ^ (5 - b).toNat % 2 = bq q (6 * w + b) := by
  unfold bq
  rw [show (6 * w + b) / 6 = w by omega, show (6 * w + b) % 6 = b by omega]
theorem sgqN_congr {q q' : Int → Int} {n : Nat} (h : ∀ w : Int, 0 ≤ w → w < n → q w = q' w) : sgqN q n = sgqN q' n := by
  induction n with
  | zero => rfl
  | succ n ih =>
    unfold sgqN
    rw [ih fun w h0 h1 => h w h0 (by omega), h n (by omega) (by omega)]
theorem sgq_congr {q q' : Int → Int} {n : Int} (h : ∀ w : Int, 0 ≤ w → w < n → q w = q' w) : sgq q n = sgq q' n := sgqN_congr fun w h0 h1 => h w h0 (by omega)
theorem wdq_congr {q q' : Int → Int} {n w : Int} (h : ∀ w : Int, 0 ≤ w → w < n → q w = q' w) (h0 : 0 ≤ w) (h1 : w < n) : wdq q w = wdq q' w := by
  unfold wdq
  rw [h w h0 h1, sgq_congr fun v g0 g1 => h v g0 (by omega)]
theorem bq_congr {q q' : Int → Int} {n b : Int} (h : ∀ w : Int, 0 ≤ w → w < n → q w = q' w) (h0 : 0 ≤ b) (h1 : b < 6 * n) : bq q b = bq q' b := by
  unfold bq
  rw [wdq_congr h (w := b / 6) (by omega) (by omega)]
theorem runN_congr {B B' : Int → Int} {n : Nat} (h : ∀ b : Int, 0 ≤ b → b < n → B b = B' b) : runN B n = runN B' n := by
  induction n with
  | zero => rfl
  | succ n ih =>
    unfold runN
    rw [ih fun w h0 h1 => h w h0 (by omega), h n (by omega) (by omega)]
    by_cases e : 0 < n
    · rw [h ((n : Int) - 1) (by omega) (by omega)]
    · rw [if_neg (fun z => e z.1), if_neg (fun z => e z.1)]
theorem runI_congr {B B' : Int → Int} {n : Int} (h : ∀ b : Int, 0 ≤ b → b < n → B b = B' b) : runI B n = runI B' n := runN_congr fun w h0 h1 => h w h0 (by omega)
theorem mostN_congr {B B' : Int → Int} {n : Nat} (h : ∀ b : Int, 0 ≤ b → b < n → B b = B' b) : mostN B n = mostN B' n := by
  induction n with
  | zero => rfl
  | succ n ih =>
    unfold mostN
    rw [ih fun w h0 h1 => h w h0 (by omega), runN_congr h]
theorem mostI_congr {B B' : Int → Int} {n : Int} (h : ∀ b : Int, 0 ≤ b → b < n → B b = B' b) : mostI B n = mostI B' n := mostN_congr fun w h0 h1 => h w h0 (by omega)
/-- the tail's four numbers behind m words of q -/
def TI (q : Int → Int) (m s b u l : Int) : Prop := s = sgq q m ∧ b = (if m = 0 then -9 else bq q (6 * m - 1)) ∧ u = runI (bq q) (6 * m) ∧ l = mostI (bq q) (6 * m)
theorem TI_0 (q : Int → Int) : TI q 0 (-1) (-9) 0 0 := ⟨rfl, rfl, rfl, rfl⟩
theorem TI_congr {q q' : Int → Int} {m s b u l : Int} (hm : 0 ≤ m) (h : ∀ w : Int, 0 ≤ w → w < m → q w = q' w) (t : TI q m s b u l) : TI q' m s b u l := by
  obtain ⟨t1, t2, t3, t4⟩ := t
  have hb : ∀ b : Int, 0 ≤ b → b < 6 * m → bq q b = bq q' b := fun b h0 h1 => bq_congr h h0 h1
  refine ⟨by rw [t1, sgq_congr h], ?_, by rw [t3, runI_congr hb], by rw [t4, mostI_congr hb]⟩
  rw [t2]
  by_cases e : m = 0
  · rw [if_pos e, if_pos e]
  · rw [if_neg e, if_neg e, hb (6 * m - 1) (by omega) (by omega)]
theorem TI_b {q : Int → Int} {m s b u l : Int} (hm : 0 ≤ m) (t : TI q m s b u l) : (s = 1 ∨ s = -1) ∧ (-9 ≤ b ∧ b ≤ 1) ∧ (0 ≤ u ∧ u ≤ 6 * m) ∧ (0 ≤ l ∧ l ≤ 6 * m) := by
  obtain ⟨t1, t2, t3, t4⟩ := t
  have h1 := sgq_01 q m
  have h2 := bq_01 q (6 * m - 1)
  have h3 := runI_b (bq q) (b := 6 * m) (by omega)
  have h4 := mostI_b (bq q) (b := 6 * m) (by omega)
  refine ⟨by omega, ?_, by omega, by omega⟩
  rw [t2]
  split <;> omega
/-! orders by their numbers -/
def dgT (n c t : Int) : Int := c / n ^ t.toNat % n
def mskN (n c : Int) : Nat → Int
  | 0 => 0
  | t + 1 => ior (mskN n c t) (2 ^ (dgT n c (t : Int)).toNat)
abbrev ordB (n c : Int) : Prop := mskN n c n.toNat = 2 ^ n.toNat - 1
theorem dgT_b {n : Int} (c t : Int) (h : 0 < n) : 0 ≤ dgT n c t ∧ dgT n c t < n := ⟨Int.emod_nonneg _ (by omega), Int.emod_lt_of_pos _ h⟩
theorem mskN_b {n : Int} (c : Int) (h : 0 < n ∧ n ≤ 6) : ∀ t : Nat, 0 ≤ mskN n c t ∧ mskN n c t < 64 := by
  intro t
  induction t with
  | zero => exact ⟨Int.le_refl _, by show (0 : Int) < 64; decide⟩
  | succ t ih =>
    have hd := dgT_b c t h.1
    obtain ⟨m, hm⟩ := Int.eq_ofNat_of_zero_le ih.1
    show 0 ≤ ior _ _ ∧ ior _ _ < 64
    refine ⟨ior_nn _ _, ?_⟩
    have e : (2 : Int) ^ (dgT n c t).toNat = ((2 ^ (dgT n c t).toNat : Nat) : Int) := by simp
    rw [e, hm]
    unfold ior
    have hp : 2 ^ (dgT n c t).toNat ≤ 2 ^ 5 := Nat.pow_le_pow_right (by decide) (by omega)
    have := Nat.or_lt_two_pow (n := 6) (show m < 2 ^ 6 by omega) (show 2 ^ (dgT n c t).toNat < 2 ^ 6 by omega)
    have e1 : ((m : Nat) : Int).toNat = m := by omega
    have e2 : ((2 ^ (dgT n c t).toNat : Nat) : Int).toNat = 2 ^ (dgT n c t).toNat := rfl
    rw [e1, e2]
    omega
/-- the row with its last n in the order c -/
def qo (S : Int → Int) (n c : Int) : Int → Int := fun w => if w < S 0 - n then S (4 + w) else S (4 + (S 0 - n) + dgT n c (n - 1 - (w - (S 0 - n))))
def lenO (S : Int → Int) (n c : Int) : Int := mostI (bq (qo S n c)) (6 * S 0)
def evL (S : Int → Int) (n : Int) : Nat → Int
  | 0 => 1000
  | c + 1 => if ordB n (c : Int) ∧ lenO S n (c : Int) < evL S n c then lenO S n (c : Int) else evL S n c
def evB (S : Int → Int) (n : Int) : Nat → Int → Int
  | 0 => fun _ => 0
  | c + 1 => if ordB n (c : Int) ∧ lenO S n (c : Int) < evL S n c then (fun i => dgT n (c : Int) (n - 1 - i)) else evB S n c
theorem lenO_b {S : Int → Int} (hS : WS S) (n c : Int) : 0 ≤ lenO S n c ∧ lenO S n c ≤ 192 := by
  have hn := hS.n
  have := mostI_b (bq (qo S n c)) (b := 6 * S 0) (by omega)
  unfold lenO
  omega
theorem evL_b {S : Int → Int} (hS : WS S) (n : Int) (c : Nat) : 0 ≤ evL S n c ∧ evL S n c ≤ 1000 := by
  induction c with
  | zero => exact ⟨by show (0 : Int) ≤ 1000; decide, Int.le_refl _⟩
  | succ c ih =>
    have := lenO_b hS n c
    unfold evL
    split <;> omega
theorem evL_anti (S : Int → Int) (n : Int) {a b : Nat} (h : a ≤ b) : evL S n b ≤ evL S n a := by
  induction b with
  | zero =>
    obtain rfl : a = 0 := by omega
    exact Int.le_refl _
  | succ b ih =>
    by_cases e : a = b + 1
    · subst e
      exact Int.le_refl _
    · have := ih (by omega)
      show (if _ then _ else _) ≤ _
      split <;> omega
theorem evL_hit {S : Int → Int} (hS : WS S) {n : Int} {c N : Nat} (ho : ordB n (c : Int)) (h : c < N) : evL S n N < 1000 := by
  have h1 := evL_anti S n (a := c + 1) (b := N) h
  have h2 := lenO_b hS n c
  have h3 : evL S n (c + 1) ≤ lenO S n c ∨ evL S n (c + 1) < 1000 := by
    show (if _ then _ else _) ≤ _ ∨ _
    by_cases e : lenO S n c < evL S n c
    · rw [if_pos ⟨ho, e⟩]
      exact Or.inl (Int.le_refl _)
    · rw [if_neg (fun z => e z.2)]
      left
      omega
  omega
theorem evL_fin {S : Int → Int} (hS : WS S) {n : Int} (h : 1 ≤ n ∧ n ≤ 6) : evL S n (n ^ n.toNat).toNat < 1000 := by
  have h6 : n = 1 ∨ n = 2 ∨ n = 3 ∨ n = 4 ∨ n = 5 ∨ n = 6 := by omega
  rcases h6 with rfl | rfl | rfl | rfl | rfl | rfl
  · exact evL_hit hS (c := 0) (by decide +kernel) (by decide +kernel)
  · exact evL_hit hS (c := 1) (by decide +kernel) (by decide +kernel)
  · exact evL_hit hS (c := 5) (by decide +kernel) (by decide +kernel)
  · exact evL_hit hS (c := 27) (by decide +kernel) (by decide +kernel)
  · exact evL_hit hS (c := 194) (by decide +kernel) (by decide +kernel)
  · exact evL_hit hS (c := 1865) (by decide +kernel) (by decide +kernel)
abbrev evenB (n i : Int) : Prop := (1 ≤ n ∧ n ≤ 6) ∧ -1 ≤ i
def evenQ (S : Int → Int) (n i : Int) : Int := if i = -1 then evL S n (n ^ n.toNat).toNat else if i < n then evB S n (n ^ n.toNat).toNat i else -9
def evenR (S : Int → Int) (n i : Int) : Int := if evenB n i then (if S 0 < n then -2 else evenQ S n i) else -1
