/-! EXT: an array cell's contents by another function that agrees in range -/
theorem arrV_ext {c : ClassId} {n : Nat} {f h : Nat → Value} (e : ∀ j, j < n → f j = h j) : arrV c n f = arrV c n h := by
  unfold arrV
  congr 1
  exact congrArg Array.ofFn (funext fun j => e j.val j.isLt)
theorem ia_ext {c : ClassId} {N : Nat} {F F' : Int → Int} (hF : ∀ i : Int, 0 ≤ i → i < N → F i = F' i) : vp_cell c (N, .inl (ia F)) = vp_cell c (N, .inl (ia F')) := by
  show arrV c N (fun j => .int (ia F j)) = arrV c N (fun j => .int (ia F' j))
  exact arrV_ext fun j hj => by
    show Value.int (Int32.ofInt (F (j : Int))) = Value.int (Int32.ofInt (F' (j : Int)))
    rw [hF j (by omega) (by omega)]
theorem ir_ext {c : ClassId} {N : Nat} {F F' : Int → Option Nat} (hF : ∀ i : Int, 0 ≤ i → i < N → F i = F' i) : vp_cell c (N, .inr (.inr (.inr (.inr (ir F))))) = vp_cell c (N, .inr (.inr (.inr (.inr (ir F'))))) := by
  show arrV c N (fun j => va_rf (ir F j)) = arrV c N (fun j => va_rf (ir F' j))
  exact arrV_ext fun j hj => by
    show va_rf (F (j : Int)) = va_rf (F' (j : Int))
    rw [hF j (by omega) (by omega)]
section EXT
variable {g : GG} {x : GoX} {nL : Nat} {R : Room} {k n pc : Nat} {lv : List (Nat × Value)} {st : List Value} {w : va_W} {cc : ByteArray} {own : String} {ret : Option FieldType} {Pt : Option Value → va_W → Prop}
theorem gi_exta {a : Nat} {c : ClassId} {u u' : vp_A} {w' : va_W} (j : Nat) (h : w[j]? = some (a, .inl (c, u))) (he : vp_cell c u = vp_cell c u') (hw : w.set j (a, .inl (c, u')) = w') (kk : Go g x nL R k n pc lv st w') : Go g x nL R k n pc lv st w := by
  intro H locs ls hP hD hS hl
  refine kk H locs ls (hw ▸ ?_) (hw ▸ hD.set h) hS hl
  refine va_P.set (H1 := H) hP hD h ?_ (fun _ _ => rfl)
  have h0 := hP j _ h
  show H[a]? = some (vp_cell c u')
  rw [← he]
  exact h0
theorem gi_extI {a N : Nat} {F F' : Int → Int} {w' : va_W} (j : Nat) (h : w[j]? = some (cI g a N F)) (hF : ∀ i : Int, 0 ≤ i → i < N → F i = F' i) (hw : w.set j (cI g a N F') = w') (kk : Go g x nL R k n pc lv st w') : Go g x nL R k n pc lv st w :=
  gi_exta j h (ia_ext hF) hw kk
theorem gi_extZ {a N : Nat} {F F' : Int → Int} {w' : va_W} (j : Nat) (h : w[j]? = some (cZ g a N F)) (hF : ∀ i : Int, 0 ≤ i → i < N → F i = F' i) (hw : w.set j (cZ g a N F') = w') (kk : Go g x nL R k n pc lv st w') : Go g x nL R k n pc lv st w :=
  gi_exta j h (ia_ext hF) hw kk
theorem gi_extB {a N : Nat} {F F' : Int → Int} {w' : va_W} (j : Nat) (h : w[j]? = some (cB g a N F)) (hF : ∀ i : Int, 0 ≤ i → i < N → F i = F' i) (hw : w.set j (cB g a N F') = w') (kk : Go g x nL R k n pc lv st w') : Go g x nL R k n pc lv st w :=
  gi_exta j h (ia_ext hF) hw kk
theorem gi_extR {t a N : Nat} {F F' : Int → Option Nat} {w' : va_W} (j : Nat) (h : w[j]? = some (cR g t a N F)) (hF : ∀ i : Int, 0 ≤ i → i < N → F i = F' i) (hw : w.set j (cR g t a N F') = w') (kk : Go g x nL R k n pc lv st w') : Go g x nL R k n pc lv st w :=
  gi_exta j h (ir_ext hF) hw kk
/-- an object's fields under another name -/
theorem gi_extO {a c : Nat} {fs fs' : List Value} {w' : va_W} (j : Nat) (h : w[j]? = some (cO a c fs)) (he : fs = fs') (hw : w.set j (cO a c fs') = w') (kk : Go g x nL R k n pc lv st w') : Go g x nL R k n pc lv st w := by
  subst he
  refine gi_ws ?_ kk
  rw [← hw]
  have hj := (List.getElem?_eq_some_iff.mp h).1
  have he := (List.getElem?_eq_some_iff.mp h).2
  rw [← he]
  exact (List.set_getElem_self hj).symm
end EXT
