/-! PURE: truth values as ints; the model's object; forms -/
def bI (p : Prop) [Decidable p] : Int := if p then 1 else 0
theorem bI_t {p : Prop} [Decidable p] (h : p) : bI p = 1 := if_pos h
theorem bI_f {p : Prop} [Decidable p] (h : ¬ p) : bI p = 0 := if_neg h
theorem bI_01 (p : Prop) [Decidable p] : bI p = 0 ∨ bI p = 1 := by
  by_cases h : p
  · exact Or.inr (bI_t h)
  · exact Or.inl (bI_f h)
theorem bI_rg (p : Prop) [Decidable p] : Rg (bI p) := by
  rcases bI_01 p with h | h <;> rw [h] <;> decide
theorem bI_b (p : Prop) [Decidable p] : 0 ≤ bI p ∧ bI p ≤ 1 := by
  rcases bI_01 p with h | h <;> rw [h] <;> decide
theorem bI_eq0 {p : Prop} [Decidable p] : bI p = 0 ↔ ¬ p := by
  by_cases h : p
  · rw [bI_t h]; simp [h]
  · rw [bI_f h]; simp [h]
theorem bI_ne0 {p : Prop} [Decidable p] : bI p ≠ 0 ↔ p := by
  by_cases h : p
  · rw [bI_t h]; simp [h]
  · rw [bI_f h]; simp [h]
theorem bI_eq1 {p : Prop} [Decidable p] : bI p = 1 ↔ p := by
  by_cases h : p
  · rw [bI_t h]; simp [h]
  · rw [bI_f h]; simp [h]
/-- int fields by their number -/
def fu (f : Nat → Int) (k : Nat) (v : Int) : Nat → Int := fun j => bif Nat.beq j k then v else f j
theorem fu_eq (f : Nat → Int) (k : Nat) (v : Int) : fu f k v k = v := by
  unfold fu
  rw [Nat.beq_refl]
  rfl
theorem fu_ne (f : Nat → Int) {k j : Nat} (v : Int) (h : j ≠ k) : fu f k v j = f j := by
  unfold fu
  have : Nat.beq j k = false := by
    cases e : Nat.beq j k with
    | false => rfl
    | true => exact absurd (Nat.eq_of_beq_eq_true e) h
  rw [this]
  rfl
def mFs (f : Nat → Int) (r : Nat → Nat) : List Value := [vi (f 0), .ref (r 1), .ref (r 2), vi (f 3), .ref (r 4), .ref (r 5), .ref (r 6), vi (f 7), .ref (r 8), vi (f 9), .ref (r 10), .ref (r 11), vi (f 12), vi (f 13), vi (f 14), vi (f 15), vi (f 16), vi (f 17), vi (f 18), .ref (r 19), .ref (r 20), .ref (r 21), .ref (r 22), vi (f 23), vi (f 24), .ref (r 25), vi (f 26), vi (f 27), vi (f 28), vi (f 29), .ref (r 30), .ref (r 31)]
abbrev mO (o : Nat) (f : Nat → Int) (r : Nat → Nat) : Nat × va_E := cO o 2 (mFs f r)
/-- how many of the last six bits are one -/
def onesK (v : Int) : Nat → Int
  | 0 => 0
  | k + 1 => onesK v k + v / 2 ^ k % 2
def ones (v : Int) : Int := onesK v 6
theorem onesK_s {v k : Int} (hk : 0 ≤ k) : onesK v (k + 1).toNat = onesK v k.toNat + v / 2 ^ k.toNat % 2 := by
  have : (k + 1).toNat = k.toNat + 1 := by omega
  rw [this]
  rfl
theorem onesK_b (v : Int) (k : Nat) : 0 ≤ onesK v k ∧ onesK v k ≤ k := by
  induction k with
  | zero => exact ⟨Int.le_refl _, Int.le_refl _⟩
  | succ k ih =>
    show 0 ≤ onesK v k + v / 2 ^ k % 2 ∧ onesK v k + v / 2 ^ k % 2 ≤ ((k + 1 : Nat) : Int)
    omega
theorem ones_b (v : Int) : 0 ≤ ones v ∧ ones v ≤ 6 := onesK_b v 6
/-- the numbers of the forms: form A of each -/
def fA (k : Int) : Int := ([11, 13, 14, 19, 21, 22, 25, 26, 28, 35, 37, 38, 41, 42, 44, 49, 50, 52, 23, 27, 29, 39, 43, 45, 46, 51, 53, 54, 57, 58, 56, 15, 30, 60] : List Int).getD k.toNat 0
def isMk (v : Int) : Prop := v = 15 ∨ v = 30 ∨ v = 60
abbrev isMkB (v : Int) : Prop := v = 15 ∨ v = 30 ∨ v = 60
/-- is v a number with so many ones, and none of the odd ones -/
abbrev okN (m v : Int) : Prop := ones v = m ∧ ¬ isMkB v ∧ v ≠ 7 ∧ v ≠ 56
/-- form of a number's k: b is 1 for form B -/
def fm (k b : Int) : Int := if k < 18 ∨ b = 0 then fA k else 63 - fA k
theorem div_rg {v : Int} (h : Rg v) (n : Nat) : Rg (v / 2 ^ n) := by
  have hp : (0 : Int) < 2 ^ n := Int.pow_pos (by decide)
  have h1 : -2147483648 ≤ v / 2 ^ n := by
    apply Int.le_ediv_of_mul_le hp
    have : (-2147483648 : Int) * 2 ^ n ≤ -2147483648 * 1 := Int.mul_le_mul_of_nonpos_left (by decide) (by omega)
    omega
  have h2 : v / 2 ^ n < 2147483648 := by
    apply Int.ediv_lt_of_lt_mul hp
    have : (2147483648 : Int) * 1 ≤ 2147483648 * 2 ^ n := Int.mul_le_mul_of_nonneg_left (by omega) (by decide)
    omega
  exact ⟨h1, h2⟩
theorem fA_b {k : Int} (h : 0 ≤ k ∧ k < 34) : 0 ≤ fA k ∧ fA k < 64 := by
  obtain ⟨n, rfl⟩ := Int.eq_ofNat_of_zero_le h.1
  have h2 : n < 34 := by omega
  clear h
  revert n
  decide +kernel
theorem fm_b {k b : Int} (h : 0 ≤ k ∧ k < 34) : 0 ≤ fm k b ∧ fm k b < 64 := by
  have := fA_b h
  unfold fm
  split <;> omega
/-- the search for the k-th: at v, so many left -/
def kthR (m : Int) : Nat → Int → Int → Option Int
  | 0, _, _ => none
  | u + 1, l, v => if ones v = m ∧ ¬ (v = 15 ∨ v = 30 ∨ v = 60) ∧ v ≠ 7 ∧ v ≠ 56 then (if l ≤ 0 then some v else kthR m u (l - 1) (v + 1)) else kthR m u l (v + 1)
theorem kth3 {k : Int} (h : 0 ≤ k ∧ k < 18) : kthR 3 100 k 0 = some (fA k) := by
  obtain ⟨n, rfl⟩ := Int.eq_ofNat_of_zero_le h.1
  have h2 : n < 18 := by omega
  clear h
  revert n
  decide +kernel
theorem kth4 {k : Int} (h : 18 ≤ k ∧ k < 30) : kthR 4 100 (k - 18) 0 = some (fA k) := by
  obtain ⟨n, hn⟩ := Int.eq_ofNat_of_zero_le (a := k - 18) (by omega)
  have h2 : n < 12 := by omega
  have hk : k = ((n + 18 : Nat) : Int) := by omega
  rw [hn, hk]
  clear h hk hn
  revert n
  decide +kernel
theorem fA_30 : fA 30 = 56 ∧ fA 31 = 15 ∧ fA 32 = 30 ∧ fA 33 = 60 := by decide +kernel
theorem kth_pos {m l v R : Int} {u : Nat} (h : kthR m u l v = some R) : ∃ t, u = t + 1 := by
  cases u with
  | zero => cases h
  | succ t => exact ⟨t, rfl⟩
theorem iand_b {a b : Int} (ha : 0 ≤ a ∧ a ≤ 3) : 0 ≤ iand a b ∧ iand a b ≤ 3 := by
  obtain ⟨n, rfl⟩ := Int.eq_ofNat_of_zero_le ha.1
  unfold iand
  have h : n &&& b.toNat ≤ n := Nat.and_le_left
  have e1 : ((n : Nat) : Int).toNat = n := by omega
  rw [e1]
  omega
theorem pow2_nn (n : Nat) : (0 : Int) ≤ 2 ^ n := Int.le_of_lt (Int.pow_pos (by decide))
theorem iand_nn (a b : Int) : 0 ≤ iand a b := by unfold iand; omega
theorem ior_nn (a b : Int) : 0 ≤ ior a b := by unfold ior; omega
