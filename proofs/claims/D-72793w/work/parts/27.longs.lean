/-! LONGS -/
abbrev RgL (z : Int) : Prop := -9223372036854775808 ≤ z ∧ z < 9223372036854775808
theorem l_toInt {z : Int} (h : RgL z) : (Int64.ofInt z).toInt = z := Int64.toInt_ofInt_of_le (by omega) (by omega)
theorem l_cmp {a b : Int} (ha : RgL a) (hb : RgL b) : lg_cmp (Int64.ofInt a) (Int64.ofInt b) = Int32.ofInt (if b < a then 1 else if a = b then 0 else -1) := by
  unfold lg_cmp
  have e1 : Int64.ofInt a > Int64.ofInt b ↔ b < a := by
    rw [gt_iff_lt, Int64.lt_iff_toInt_lt, l_toInt ha, l_toInt hb]
  have e2 : Int64.ofInt a = Int64.ofInt b ↔ a = b := by
    rw [← Int64.toInt_inj, l_toInt ha, l_toInt hb]
  by_cases c1 : b < a
  · rw [if_pos (e1.mpr c1), if_pos c1]; rfl
  · rw [if_neg (fun z => c1 (e1.mp z)), if_neg c1]
    by_cases c2 : a = b
    · rw [if_pos (e2.mpr c2), if_pos c2]; rfl
    · rw [if_neg (fun z => c2 (e2.mp z)), if_neg c2]; rfl
section LONG
variable {g : GG} {x : GoX} {nL : Nat} {R : Room} {k n pc : Nat} {lv : List (Nat × Value)} {st : List Value} {w : va_W} {cc : ByteArray} {own : String} {ret : Option FieldType} {Pt : Option Value → va_W → Prop}
theorem gi_lconst (C : CO g x cc nL own ret R Pt) {i : Fin 2} {z : Int} (d : decode cc pc = .ok (.lconst i, 1)) (hz : Int64.ofNat (i : Nat) = Int64.ofInt z) (kk : Go g x nL R k n (pc + 1) lv (vl z :: st) w) : Go g x nL R k n pc lv st w := fun H locs ls hP hD hS hl => lv_lconst C.hx C.hb d hz (kk H locs ls hP hD hS hl)
theorem gi_ldc2 (C : CO g x cc nL own ret R Pt) {i : Nat} {v : Int64} {z : Int} (d : decode cc pc = .ok (.ldc2_w i, 3)) (q : Cond.constantLong own i v ∈ lw_all) (hz : v = Int64.ofInt z) (kk : Go g x nL R k n (pc + 3) lv (vl z :: st) w) : Go g x nL R k n pc lv st w := fun H locs ls hP hD hS hl => lv_ldc2 C.hx C.hb C.hown (hz ▸ C.hts _ q) d (kk H locs ls hP hD hS hl)
theorem gi_lload (C : CO g x cc nL own ret R Pt) {i : Nat} {z : Int} (d : decode cc pc = .ok (.lload i, 2)) (j : Nat) (h : lv[j]? = some (i, vl z)) (kk : Go g x nL R k n (pc + 2) lv (vl z :: st) w) : Go g x nL R k n pc lv st w := fun H locs ls hP hD hS hl => lv_lload C.hx C.hb d (lv_at hl j h) (kk H locs ls hP hD hS hl)
theorem gi_lload_n (C : CO g x cc nL own ret R Pt) {i : Fin 4} {z : Int} (d : decode cc pc = .ok (.lload_n i, 1)) (j : Nat) (h : lv[j]? = some ((i : Nat), vl z)) (kk : Go g x nL R k n (pc + 1) lv (vl z :: st) w) : Go g x nL R k n pc lv st w := fun H locs ls hP hD hS hl => lv_lload_n C.hx C.hb d rfl (lv_at hl j h) (kk H locs ls hP hD hS hl)
theorem gi_lstore (C : CO g x cc nL own ret R Pt) {i : Nat} {v : Int} {lv' : List (Nat × Value)} (d : decode cc pc = .ok (.lstore i, 2)) (hi : i + 1 < nL) (h : lvput2 lv i (vl v) = lv') (kk : Go g x nL R k n (pc + 2) lv' st w) : Go g x nL R k n pc lv (vl v :: st) w := fun H locs ls hP hD hS hl => lv_lstore C.hx C.hb d hl hi h fun ls' hl' => kk H locs ls' hP hD hS hl'
theorem gi_lstore_n (C : CO g x cc nL own ret R Pt) {i : Fin 4} {v : Int} {lv' : List (Nat × Value)} (d : decode cc pc = .ok (.lstore_n i, 1)) (hi : (i : Nat) + 1 < nL) (h : lvput2 lv i (vl v) = lv') (kk : Go g x nL R k n (pc + 1) lv' st w) : Go g x nL R k n pc lv (vl v :: st) w := fun H locs ls hP hD hS hl => lv_lstore_n C.hx C.hb d rfl hl hi h fun ls' hl' => kk H locs ls' hP hD hS hl'
theorem gi_ladd (C : CO g x cc nL own ret R Pt) {a b : Int} (d : decode cc pc = .ok (.ladd, 1)) (kk : Go g x nL R k n (pc + 1) lv (vl (a + b) :: st) w) : Go g x nL R k n pc lv (vl b :: vl a :: st) w := fun H locs ls hP hD hS hl => lv_ladd C.hx C.hb d (by rw [← Int64.ofInt_add]; exact kk H locs ls hP hD hS hl)
theorem gi_lmul (C : CO g x cc nL own ret R Pt) {a b : Int} (d : decode cc pc = .ok (.lmul, 1)) (kk : Go g x nL R k n (pc + 1) lv (vl (a * b) :: st) w) : Go g x nL R k n pc lv (vl b :: vl a :: st) w := fun H locs ls hP hD hS hl => lv_lmul C.hx C.hb d (by rw [← Int64.ofInt_mul]; exact kk H locs ls hP hD hS hl)
theorem gi_i2l (C : CO g x cc nL own ret R Pt) {a : Int} (d : decode cc pc = .ok (.i2l, 1)) (ha : Rg a) (kk : Go g x nL R k n (pc + 1) lv (vl a :: st) w) : Go g x nL R k n pc lv (vi a :: st) w := fun H locs ls hP hD hS hl => lv_i2l C.hx C.hb d (Int32.toInt64_ofInt (show (-2147483648 : Int) ≤ a by omega) (show a ≤ (2147483647 : Int) by omega)) (kk H locs ls hP hD hS hl)
theorem gi_l2i (C : CO g x cc nL own ret R Pt) {a : Int} (d : decode cc pc = .ok (.l2i, 1)) (kk : Go g x nL R k n (pc + 1) lv (vi a :: st) w) : Go g x nL R k n pc lv (vl a :: st) w := fun H locs ls hP hD hS hl => lv_l2i C.hx C.hb d Int64.toInt32_ofInt (kk H locs ls hP hD hS hl)
theorem gi_lcmp (C : CO g x cc nL own ret R Pt) {a b : Int} (d : decode cc pc = .ok (.lcmp, 1)) (ha : RgL a) (hb : RgL b) (kk : Go g x nL R k n (pc + 1) lv (vi (if b < a then 1 else if a = b then 0 else -1) :: st) w) : Go g x nL R k n pc lv (vl b :: vl a :: st) w := fun H locs ls hP hD hS hl => W.lcmp C.hx C.hb d (by rw [l_cmp ha hb]; exact kk H locs ls hP hD hS hl)
/-- the long on top, by another name -/
theorem gi_topl {a b : Int} (h : a = b) (kk : Go g x nL R k n pc lv (vl b :: st) w) : Go g x nL R k n pc lv (vl a :: st) w := h ▸ kk
end LONG
theorem powb {n i : Int} (hn : 1 ≤ n ∧ n ≤ 6) (hi : 0 ≤ i ∧ i ≤ 6) : 1 ≤ n ^ i.toNat ∧ n ^ i.toNat ≤ 46656 := by
  have h6 : n = 1 ∨ n = 2 ∨ n = 3 ∨ n = 4 ∨ n = 5 ∨ n = 6 := by omega
  have h7 : i = 0 ∨ i = 1 ∨ i = 2 ∨ i = 3 ∨ i = 4 ∨ i = 5 ∨ i = 6 := by omega
  rcases h6 with rfl | rfl | rfl | rfl | rfl | rfl <;> rcases h7 with rfl | rfl | rfl | rfl | rfl | rfl | rfl <;> decide +kernel
theorem pow_sI (n : Int) {i : Int} (hi : 0 ≤ i) : n ^ (i + 1).toNat = n ^ i.toNat * n := by
  rw [show (i + 1).toNat = i.toNat + 1 by omega, Int.pow_succ]
theorem evL_s (S : Int → Int) (n : Int) {c : Int} (h : 0 ≤ c) : evL S n (c + 1).toNat = if ordB n c ∧ lenO S n c < evL S n c.toNat then lenO S n c else evL S n c.toNat := by
  obtain ⟨k, rfl⟩ := Int.eq_ofNat_of_zero_le h
  rfl
theorem evB_s (S : Int → Int) (n : Int) {c : Int} (h : 0 ≤ c) : evB S n (c + 1).toNat = if ordB n c ∧ lenO S n c < evL S n c.toNat then (fun i => dgT n c (n - 1 - i)) else evB S n c.toNat := by
  obtain ⟨k, rfl⟩ := Int.eq_ofNat_of_zero_le h
  rfl
theorem qo_at (S : Int → Int) {n c i : Int} (hi : 0 ≤ i) : qo S n c (S 0 - n + i) = S ((4 + (S 0 - n)) + dgT n c (n - 1 - i)) := by
  unfold qo
  rw [if_neg (by omega)]
  congr 4
  omega
theorem evB_b (S : Int → Int) {n : Int} (hn : 1 ≤ n) : ∀ (c : Nat) (i : Int), 0 ≤ evB S n c i ∧ evB S n c i < n := by
  intro c
  induction c with
  | zero => intro i; show (0 : Int) ≤ 0 ∧ 0 < n; omega
  | succ c ih =>
    intro i
    show 0 ≤ (if _ then _ else _ : Int → Int) i ∧ (if _ then _ else _ : Int → Int) i < n
    split
    · exact dgT_b _ _ (by omega)
    · exact ih i
theorem mul_rgL {s a b : Int} (h : -40000 * b ≤ s ∧ s ≤ 40000 * b) (hb : 0 ≤ b ∧ b ≤ 192) (ha : Rg a) : RgL (s * a) := by
  have hs : -7680000 ≤ s ∧ s ≤ 7680000 := by omega
  have h1 : s.natAbs ≤ 7680000 := by omega
  have h2 : a.natAbs ≤ 2147483648 := by omega
  have h3 : (s * a).natAbs ≤ 7680000 * 2147483648 := by
    rw [Int.natAbs_mul]
    exact Nat.mul_le_mul h1 h2
  omega
