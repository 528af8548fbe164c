/-! WIRE: the class's wire and itself as function-coded objects; the wire against a row -/
abbrev wFs (f : Nat → Int) (r : Nat → Nat) (o : Nat) : List Value := [vi (f 0), .ref (r 1), .ref (r 2), .ref (r 3), vi (f 4), .ref (r 5), vi (f 6), .ref o]
abbrev wO (a : Nat) (f : Nat → Int) (r : Nat → Nat) (o : Nat) : Nat × va_E := cO a 1 (wFs f r o)
abbrev xFs (f : Nat → Int) (r : Nat → Nat) (n : Nat) : List Value := [.ref (r 0), .ref (r 1), .ref n, .ref (r 3), .ref (r 4), vi (f 5), .ref (r 6), .ref (r 7), vi (f 8), .ref (r 9), vi (f 10), vi (f 11), .ref (r 12), .ref (r 13), vi (f 14)]
abbrev xO (a : Nat) (f : Nat → Int) (r : Nat → Nat) (n : Nat) : Nat × va_E := cO a 0 (xFs f r n)
theorem newfsX1 : ∀ j, j < 8 → defaultValue (tyX1 j) = vp_V [vi 0, .null, .null, .null, vi 0, .null, vi 0, .null] j := by decide
/-! bits of a number -/
def bc1 (v : Int) : Int := v - iand (v / 2 ^ (1 : Int).toNat) 1431655765
def bc2 (v : Int) : Int := iand (bc1 v) 858993459 + iand (bc1 v / 2 ^ (2 : Int).toNat) 858993459
def bc3 (v : Int) : Int := iand (bc2 v + bc2 v / 2 ^ (4 : Int).toNat) 252645135
def bc4 (v : Int) : Int := bc3 v + bc3 v / 2 ^ (8 : Int).toNat
def bc5 (v : Int) : Int := bc4 v + bc4 v / 2 ^ (16 : Int).toNat
theorem bc_all : ∀ n : Nat, n < 64 → (0 ≤ bc1 n ∧ bc1 n < 64) ∧ (0 ≤ bc2 n ∧ bc2 n < 64) ∧ (0 ≤ bc3 n ∧ bc3 n < 64) ∧ (0 ≤ bc4 n ∧ bc4 n < 64) ∧ bc5 n = ones n := by decide +kernel
theorem bc_i {v : Int} (h : 0 ≤ v ∧ v < 64) : (0 ≤ bc1 v ∧ bc1 v < 64) ∧ (0 ≤ bc2 v ∧ bc2 v < 64) ∧ (0 ≤ bc3 v ∧ bc3 v < 64) ∧ (0 ≤ bc4 v ∧ bc4 v < 64) ∧ bc5 v = ones v := by
  obtain ⟨n, rfl⟩ := Int.eq_ofNat_of_zero_le h.1
  exact bc_all n (by omega)
theorem fm_ones : ∀ n : Nat, n < 34 → ∀ b : Nat, b < 2 → ones (fm n b) = 3 ∨ (ones (fm n b) = 4 ∧ b = 0) ∨ (ones (fm n b) = 2 ∧ b = 1) := by decide +kernel
theorem fm_one {k b : Int} (h : 0 ≤ k ∧ k < 34) (hb : b = 0 ∨ b = 1) : ones (fm k b) = 3 ∨ (ones (fm k b) = 4 ∧ b = 0) ∨ (ones (fm k b) = 2 ∧ b = 1) := by
  obtain ⟨n, rfl⟩ := Int.eq_ofNat_of_zero_le h.1
  obtain ⟨m, rfl⟩ := Int.eq_ofNat_of_zero_le (a := b) (by omega)
  have := fm_ones n (by omega) m (by omega)
  omega
/-! marks, the latest behind -/
def MR (S : Int → Int) (c : Int) (Ma : Int → Int) : Prop := c = marksN S ∧ (0 < c → Ma (c - 1) = S 3) ∧ (c = 2 → Ma 0 = S 2)
theorem MR.step {S Ma : Int → Int} {c m p : Int} (h : MR S c Ma) (h2 : S 2 = -9 ∨ (0 ≤ S 2 ∧ S 2 ≤ 2 ∧ S 3 ≠ -9 ∧ S 2 ≠ S 3)) (h3 : S 3 = -9 ∨ (0 ≤ S 3 ∧ S 3 ≤ 2)) (hm : 0 ≤ m ∧ m ≤ 2) (hp : 0 ≤ p ∧ p ≤ c) (hn : ∀ i : Int, 0 ≤ i → i < p → Ma i ≠ m) (he : p = c ∨ Ma p = m) :
    let c1 := c + (if p = c then 1 else 0)
    let M1 := uF (cpF Ma Ma (p + 1) p (2 - p)) (c1 - 1) m
    (c1 ≤ 2 → MR (remS S m) c1 M1) ∧ (2 < c1 → MR (remS S m) (c1 - 1) (cpF M1 M1 1 0 2)) := by
  obtain ⟨hc, h1, h0⟩ := h
  have hc2 : c = 0 ∨ c = 1 ∨ c = 2 := by
    rw [hc]; unfold marksN
    split <;> split <;> omega
  have e9 : marksN S = c := hc.symm
  unfold marksN at e9
  have key : ∀ (c' : Int) (M' : Int → Int), (marksN (remS S m) = c') → M' (c' - 1) = m → (c' = 2 → M' 0 = remS S m 2) → MR (remS S m) c' M' := by
    intro c' M' a b d
    refine ⟨a.symm, fun _ => ?_, d⟩
    rw [b]
    unfold remS
    split
    · next e => exact e.symm
    · rw [uF_eq]
  intro c1 M1
  have n0 := fun (q : (0 : Int) < p) => hn 0 (by omega) q
  have n1 := fun (q : (1 : Int) < p) => hn 1 (by omega) q
  have r2 : remS S m 2 = if S 3 = m then S 2 else S 3 := by
    unfold remS
    split
    · rfl
    · rw [uF_ne _ _ (by decide), uF_eq]
  have rN : marksN (remS S m) = if S 3 = m then marksN S else (if S 3 = -9 then 1 else 2) := by
    unfold remS
    split
    · rfl
    · unfold marksN
      rw [uF_ne _ _ (by decide), uF_eq, uF_eq]
      split <;> rename_i q <;> (repeat' split) <;> omega
  have hp3 : p = 0 ∨ p = 1 ∨ p = 2 := by omega
  constructor
  · intro hle
    rcases hc2 with q | q | q <;> rcases hp3 with z | z | z <;> subst q <;> subst z <;> (try omega) <;> simp only [c1, M1] at hle ⊢ <;> simp at hle h1 h0 he n0 n1 hn <;> (try omega)
    all_goals (refine key _ _ ?_ ?_ ?_)
    all_goals first
      | (rw [rN, hc.symm]; repeat' split; all_goals (first | rfl | omega))
      | (simp [uF, cpF]; done)
      | (intro z; simp at z; done)
      | (intro z; rw [r2]; simp [uF, cpF]; repeat' split; all_goals (first | rfl | omega))
      | skip
  · intro hlt
    rcases hc2 with q | q | q <;> rcases hp3 with z | z | z <;> subst q <;> subst z <;> (try omega) <;> simp only [c1, M1] at hlt ⊢ <;> simp at hlt h1 h0 he n0 n1 hn <;> (try omega)
    all_goals (refine key _ _ ?_ ?_ ?_)
    all_goals first
      | (rw [rN, hc.symm]; repeat' split; all_goals (first | rfl | omega))
      | (simp [uF, cpF]; done)
      | (intro z; simp at z; done)
      | (intro z; rw [r2]; simp [uF, cpF]; repeat' split; all_goals (first | rfl | omega))
      | skip
