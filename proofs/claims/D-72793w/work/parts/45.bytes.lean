/-! BYTES: a letter as a byte -/
def sby (l : Int) : Int := if l < 128 then l else l - 256
theorem sby_all : ∀ n : Nat, n < 256 → (Int32.ofInt (n : Int)).toInt8.toInt32 = Int32.ofInt (sby n) ∧ vp_nar .byte (Int32.ofInt (sby n)) = Int32.ofInt (sby n) ∧ -128 ≤ sby n ∧ sby n < 128 ∧ sby n % 256 = n := by decide +kernel
theorem sby_i {l : Int} (h : 0 ≤ l ∧ l ≤ 255) : (Int32.ofInt l).toInt8.toInt32 = Int32.ofInt (sby l) ∧ vp_nar .byte (Int32.ofInt (sby l)) = Int32.ofInt (sby l) ∧ -128 ≤ sby l ∧ sby l < 128 ∧ sby l % 256 = l := by
  obtain ⟨n, rfl⟩ := Int.eq_ofNat_of_zero_le h.1
  exact sby_all n (by omega)
section BY
variable {g : GG} {x : GoX} {nL : Nat} {R : Room} {k n pc : Nat} {lv : List (Nat × Value)} {st : List Value} {w : va_W} {cc : ByteArray} {own : String} {ret : Option FieldType} {Pt : Option Value → va_W → Prop}
theorem gi_i2b (C : CO g x cc nL own ret R Pt) {l : Int} (d : decode cc pc = .ok (.i2b, 1)) (h : 0 ≤ l ∧ l ≤ 255) (kk : Go g x nL R k n (pc + 1) lv (vi (sby l) :: st) w) : Go g x nL R k n pc lv (vi l :: st) w := fun H locs ls hP hD hS hl => lv_i2b C.hx C.hb d (sby_i h).1 (kk H locs ls hP hD hS hl)
end BY
