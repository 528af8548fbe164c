theorem hdX0_notes : yX0_notes.cls ≠ "java/lang/invoke/MethodHandle" ∧ yX0_notes.cls ≠ "java/lang/invoke/VarHandle" ∧ (parseMethodDescriptor yX0_notes.desc).map (fun d => d.parameters.length) = some 0 := by decide +kernel
abbrev rmX0_notes : Room := { frames := 2, cells := 5, slots := 427, locals := 85 }
set_option maxHeartbeats 4000000 in
set_option maxRecDepth 100000 in
/-- EvenWords.notes()V -/
theorem mX0_notes {g : GG} (hg : OKG g) (o : Nat) (fx : Nat → Int) (rx : Nat → Nat) (n : Nat) (fn : Nat → Int) (rn : Nat → Nat) (S : Int → Int) (Se : Int → Int) (Bi : Int → Int) (Tu : Int → Int) (Ma : Int → Int) (D : Int → Option Nat) (hW : WR S fn Se Bi Tu Ma) (hu : 0 ≤ fx 5 ∧ fx 5 < 6) : Con g yX0_notes cX0_notes 1 none rmX0_notes [.ref o] [xO o fx rx n, cR g 3 (rx 4) 6 D, wO n fn rn o, cI g (rn 1) 32 Se, cZ g (rn 2) 192 Bi, cZ g (rn 3) 192 Tu, cI g (rn 5) 3 Ma] (pV fun w => ∃ (q : Nat), ∃ (rq : Nat → Nat), w = [xO o (fu fx 5 (noteU (fx 5))) rx n, cR g 3 (rx 4) 6 (uF D (fx 5) (some q)), wO n fn rn o, cI g (rn 1) 32 Se, cZ g (rn 2) 192 Bi, cZ g (rn 3) 192 Tu, cI g (rn 5) 3 Ma, wO q fn rq o, cI g (rq 1) 32 Se, cZ g (rq 2) 192 Bi, cZ g (rq 3) 192 Tu, cI g (rq 5) 3 Ma]) := by
  refine con_of_go hg (by decide +kernel) (Nat.le_of_ble_eq_true rfl) ?_
  intro x C
  have hz := fun b h0 h1 => hW.z (b := b) h0 h1
  have ha := hW.a2
  refine gi_lv (lv' := [(0, .ref o)]) [0] rfl ?_
  refine gi_aload_n C dX0_notes_0 0 rfl ?_
  refine gi_get (v := vi (fx 5)) C in_X0 dX0_notes_1 5 q172 0 rfl rfl (by decide) (fun _ h => h) rfl ?_
  refine gi_bipush C dX0_notes_4 (by decide +kernel) ?_
  refine gi_icmp_ne (tgt := 33) C dX0_notes_6 (by decide) (by omega) (by omega) (fun h6 => ?_) (fun h6 => ?_)
  · skip
    refine gi_aload_n C dX0_notes_33 0 rfl ?_
    refine gi_get (v := .ref (rx 4)) C in_X0 dX0_notes_34 4 q171 0 rfl rfl (by decide) (fun _ h => h) rfl ?_
    refine gi_aload_n C dX0_notes_37 0 rfl ?_
    refine gi_get (v := vi (fx 5)) C in_X0 dX0_notes_38 5 q172 0 rfl rfl (by decide) (fun _ h => h) rfl ?_
    refine gi_new (c := 1) (N := 8) (fs := [vi 0, .null, .null, .null, vi 0, .null, vi 0, .null]) C in_X1 tyX1 tyX1_ok dX0_notes_41 q111 q112 q56 rfl (newfsX1) (Nat.le_of_ble_eq_true rfl) (Nat.le_of_ble_eq_true rfl) (fun q41 => ?_)
    refine gi_ws (w' := [xO o fx rx n, cR g 3 (rx 4) 6 D, wO n fn rn o, cI g (rn 1) 32 Se, cZ g (rn 2) 192 Bi, cZ g (rn 3) 192 Tu, cI g (rn 5) 3 Ma, cO q41 1 [vi 0, .null, .null, .null, vi 0, .null, vi 0, .null]]) rfl ?_
    refine gi_dup C dX0_notes_44 rfl ?_
    refine gi_aload_n C dX0_notes_45 0 rfl ?_
    refine gi_runIN (wr := [xO o fx rx n, cR g 3 (rx 4) 6 D, wO n fn rn o, cI g (rn 1) 32 Se, cZ g (rn 2) 192 Bi, cZ g (rn 3) 192 Tu, cI g (rn 5) 3 Ma]) (rest := [.ref q41, vi (fx 5), .ref (rx 4)]) C (mX1_init C.ok q41 o) dX0_notes_46 q113 q114 q56 q115 rfl hdX1_init ⟨Nat.le_of_ble_eq_true rfl, Nat.le_of_ble_eq_true rfl⟩ [7] [0, 1, 2, 3, 4, 5, 6] rfl rfl rfl rfl (by decide) rfl (Nat.le_of_ble_eq_true rfl) ⟨Nat.le_of_ble_eq_true rfl, Nat.le_of_ble_eq_true rfl⟩ (kV fun w1 hv46 => ?_)
    obtain ⟨r_46, rfl⟩ := hv46
    refine gi_pick [0, 1, 2, 3, 4, 5, 6, 7, 8, 9, 10, 11] (w' := [xO o fx rx n, cR g 3 (rx 4) 6 D, wO n fn rn o, cI g (rn 1) 32 Se, cZ g (rn 2) 192 Bi, cZ g (rn 3) 192 Tu, cI g (rn 5) 3 Ma, wO q41 (fun _ => 0) r_46 o, cI g (r_46 1) 32 (fun _ => 0), cZ g (r_46 2) 192 (fun _ => 0), cZ g (r_46 3) 192 (fun _ => 0), cI g (r_46 5) 3 (fun _ => 0)]) rfl rfl ?_
    refine gi_wide (k' := 5) (n' := 427) (Nat.le_of_eq (by first | rfl | (dsimp only; omega))) (Nat.le_of_eq (by first | rfl | (dsimp only; omega))) ?_
    refine gi_aload_n C dX0_notes_49 0 rfl ?_
    refine gi_get (v := .ref n) C in_X0 dX0_notes_50 2 q168 0 rfl rfl (by decide) (fun _ h => h) rfl ?_
    refine gi_runV (wr := [xO o fx rx n, cR g 3 (rx 4) 6 D]) (rest := [vi (fx 5), .ref (rx 4)]) C (mX1_as C.ok q41 (fun _ => 0) r_46 o n fn rn o (fun _ => 0) (fun _ => 0) (fun _ => 0) (fun _ => 0) Se Bi Tu Ma (show ∀ b : Int, 0 ≤ b → b < 192 → (Bi b = 0 ∨ Bi b = 1) ∧ (Tu b = 0 ∨ Tu b = 1) from (fun b h0 h1 => hz b h0 h1)) (show fn 4 = 0 ∨ fn 4 = 1 from (by omega))) dX0_notes_53 q386 q387 q388 q56 q389 hdX1_as ⟨Nat.le_of_ble_eq_true rfl, Nat.le_of_ble_eq_true rfl⟩ 7 rfl rfl [7, 8, 9, 10, 11, 2, 3, 4, 5, 6] [0, 1] rfl rfl rfl rfl (by decide) rfl (Nat.le_of_ble_eq_true rfl) ⟨Nat.le_of_ble_eq_true rfl, Nat.le_of_ble_eq_true rfl⟩ (kR fun r_53 w1 hv53 => ?_)
    obtain ⟨hr_53, rfl⟩ := hv53
    replace hr_53 := hr_53.symm
    subst hr_53
    refine gi_pick [0, 1, 7, 8, 9, 10, 11, 2, 3, 4, 5, 6] (w' := [xO o fx rx n, cR g 3 (rx 4) 6 D, wO n fn rn o, cI g (rn 1) 32 Se, cZ g (rn 2) 192 Bi, cZ g (rn 3) 192 Tu, cI g (rn 5) 3 Ma, wO q41 fn r_46 o, cI g (r_46 1) 32 Se, cZ g (r_46 2) 192 Bi, cZ g (r_46 3) 192 Tu, cI g (r_46 5) 3 Ma]) rfl rfl ?_
    refine gi_aast (w' := [xO o fx rx n, cR g 3 (rx 4) 6 (uF D (fx 5) (some q41)), wO n fn rn o, cI g (rn 1) 32 Se, cZ g (rn 2) 192 Bi, cZ g (rn 3) 192 Tu, cI g (rn 5) 3 Ma, wO q41 fn r_46 o, cI g (r_46 1) 32 Se, cZ g (r_46 2) 192 Bi, cZ g (r_46 3) 192 Tu, cI g (r_46 5) 3 Ma]) C dX0_notes_56 1 7 rfl rfl rfl rfl (by decide) (by omega) rfl ?_
    refine gi_aload_n C dX0_notes_57 0 rfl ?_
    refine gi_dup C dX0_notes_58 rfl ?_
    refine gi_get (v := vi (fx 5)) C in_X0 dX0_notes_59 5 q172 0 rfl rfl (by decide) (fun _ h => h) rfl ?_
    refine gi_iconst C dX0_notes_62 ?_
    refine gi_iadd C dX0_notes_63 ?_
    refine gi_put (w' := [xO o (fu fx 5 ((fx 5) + 1)) rx n, cR g 3 (rx 4) 6 (uF D (fx 5) (some q41)), wO n fn rn o, cI g (rn 1) 32 Se, cZ g (rn 2) 192 Bi, cZ g (rn 3) 192 Tu, cI g (rn 5) 3 Ma, wO q41 fn r_46 o, cI g (r_46 1) 32 Se, cZ g (r_46 2) 192 Bi, cZ g (r_46 3) 192 Tu, cI g (r_46 5) 3 Ma]) C in_X0 tyX0 tyX0_ok nmX0 dX0_notes_64 5 q172 0 rfl rfl (by decide) (fun _ h => h) rfl rfl ⟨rfl, rfl⟩ (Nat.le_of_ble_eq_true rfl) rfl ?_
    refine gi_extR (w' := [xO o (fu fx 5 ((fx 5) + 1)) rx n, cR g 3 (rx 4) 6 (uF D (fx 5) (some q41)), wO n fn rn o, cI g (rn 1) 32 Se, cZ g (rn 2) 192 Bi, cZ g (rn 3) 192 Tu, cI g (rn 5) 3 Ma, wO q41 fn r_46 o, cI g (r_46 1) 32 Se, cZ g (r_46 2) 192 Bi, cZ g (r_46 3) 192 Tu, cI g (r_46 5) 3 Ma]) 1 rfl (fun _ _ _ => rfl) rfl ?_
    refine gi_extO (w' := [xO o (fu fx 5 (noteU (fx 5))) rx n, cR g 3 (rx 4) 6 (uF D (fx 5) (some q41)), wO n fn rn o, cI g (rn 1) 32 Se, cZ g (rn 2) 192 Bi, cZ g (rn 3) 192 Tu, cI g (rn 5) 3 Ma, wO q41 fn r_46 o, cI g (r_46 1) 32 Se, cZ g (r_46 2) 192 Bi, cZ g (r_46 3) 192 Tu, cI g (r_46 5) 3 Ma]) 0 rfl (by unfold noteU; rw [if_neg (by omega)]) rfl ?_
    refine gi_pick [0, 1, 2, 3, 4, 5, 6, 7, 8, 9, 10, 11] (w' := [xO o (fu fx 5 (noteU (fx 5))) rx n, cR g 3 (rx 4) 6 (uF D (fx 5) (some q41)), wO n fn rn o, cI g (rn 1) 32 Se, cZ g (rn 2) 192 Bi, cZ g (rn 3) 192 Tu, cI g (rn 5) 3 Ma, wO q41 fn r_46 o, cI g (r_46 1) 32 Se, cZ g (r_46 2) 192 Bi, cZ g (r_46 3) 192 Tu, cI g (r_46 5) 3 Ma]) rfl rfl ?_
    exact gi_return C dX0_notes_67 (Nat.le_of_ble_eq_true rfl) (Nat.le_of_ble_eq_true rfl) ⟨rfl, q41, r_46, rfl⟩
  · skip
    exact absurd h6 (by omega)
abbrev rmX0_notes6 : Room := { frames := 2, cells := 5, slots := 427, locals := 85 }
set_option maxHeartbeats 4000000 in
set_option maxRecDepth 100000 in
/-- EvenWords.notes()V -/
theorem mX0_notes6 {g : GG} (hg : OKG g) (o : Nat) (fx : Nat → Int) (rx : Nat → Nat) (n : Nat) (fn : Nat → Int) (rn : Nat → Nat) (S : Int → Int) (Se : Int → Int) (Bi : Int → Int) (Tu : Int → Int) (Ma : Int → Int) (D : Int → Option Nat) (d1 : Nat) (f1 : Nat → Int) (r1 : Nat → Nat) (o1 : Nat) (d2 : Nat) (f2 : Nat → Int) (r2 : Nat → Nat) (o2 : Nat) (d3 : Nat) (f3 : Nat → Int) (r3 : Nat → Nat) (o3 : Nat) (d4 : Nat) (f4 : Nat → Int) (r4 : Nat → Nat) (o4 : Nat) (d5 : Nat) (f5 : Nat → Int) (r5 : Nat → Nat) (o5 : Nat) (hW : WR S fn Se Bi Tu Ma) (hd1 : D 1 = some d1) (hd2 : D 2 = some d2) (hd3 : D 3 = some d3) (hd4 : D 4 = some d4) (hd5 : D 5 = some d5) (hu : fx 5 = 6) : Con g yX0_notes cX0_notes 1 none rmX0_notes6 [.ref o] [xO o fx rx n, cR g 3 (rx 4) 6 D, wO n fn rn o, cI g (rn 1) 32 Se, cZ g (rn 2) 192 Bi, cZ g (rn 3) 192 Tu, cI g (rn 5) 3 Ma, wO d1 f1 r1 o1, wO d2 f2 r2 o2, wO d3 f3 r3 o3, wO d4 f4 r4 o4, wO d5 f5 r5 o5] (pV fun w => ∃ (q : Nat), ∃ (rq : Nat → Nat), w = [xO o (fu fx 5 (noteU (fx 5))) rx n, cR g 3 (rx 4) 6 (uF (cpF D D 1 0 5) 5 (some q)), wO n fn rn o, cI g (rn 1) 32 Se, cZ g (rn 2) 192 Bi, cZ g (rn 3) 192 Tu, cI g (rn 5) 3 Ma, wO d1 f1 r1 o1, wO d2 f2 r2 o2, wO d3 f3 r3 o3, wO d4 f4 r4 o4, wO d5 f5 r5 o5, wO q fn rq o, cI g (rq 1) 32 Se, cZ g (rq 2) 192 Bi, cZ g (rq 3) 192 Tu, cI g (rq 5) 3 Ma]) := by
  refine con_of_go hg (by decide +kernel) (Nat.le_of_ble_eq_true rfl) ?_
  intro x C
  have hz := fun b h0 h1 => hW.z (b := b) h0 h1
  have ha := hW.a2
  refine gi_lv (lv' := [(0, .ref o)]) [0] rfl ?_
  refine gi_aload_n C dX0_notes_0 0 rfl ?_
  refine gi_get (v := vi (fx 5)) C in_X0 dX0_notes_1 5 q172 0 rfl rfl (by decide) (fun _ h => h) rfl ?_
  refine gi_bipush C dX0_notes_4 (by decide +kernel) ?_
  refine gi_icmp_ne (tgt := 33) C dX0_notes_6 (by decide) (by omega) (by omega) (fun h6 => ?_) (fun h6 => ?_)
  · skip
    exact absurd hu h6
  · skip
    refine gi_aload_n C dX0_notes_9 0 rfl ?_
    refine gi_get (v := .ref (rx 4)) C in_X0 dX0_notes_10 4 q171 0 rfl rfl (by decide) (fun _ h => h) rfl ?_
    refine gi_iconst C dX0_notes_13 ?_
    refine gi_aload_n C dX0_notes_14 0 rfl ?_
    refine gi_get (v := .ref (rx 4)) C in_X0 dX0_notes_15 4 q171 0 rfl rfl (by decide) (fun _ h => h) rfl ?_
    refine gi_iconst C dX0_notes_18 ?_
    refine gi_iconst C dX0_notes_19 ?_
    refine gi_copyR (c := 1) (w' := [xO o fx rx n, cR g 3 (rx 4) 6 (cpF D D 1 0 5), wO n fn rn o, cI g (rn 1) 32 Se, cZ g (rn 2) 192 Bi, cZ g (rn 3) 192 Tu, cI g (rn 5) 3 Ma, wO d1 f1 r1 o1, wO d2 f2 r2 o2, wO d3 f3 r3 o3, wO d4 f4 r4 o4, wO d5 f5 r5 o5]) C dX0_notes_20 q383 q385 q384 q64 1 1 rfl rfl rfl rfl ⟨by decide, by decide⟩ (by omega) (fun j h0 h1 y hy => by
      have hj : j = 1 ∨ j = 2 ∨ j = 3 ∨ j = 4 ∨ j = 5 := by omega
      rcases hj with rfl | rfl | rfl | rfl | rfl
      · rw [hd1] at hy; cases hy; exact ⟨7, _, rfl⟩
      · rw [hd2] at hy; cases hy; exact ⟨8, _, rfl⟩
      · rw [hd3] at hy; cases hy; exact ⟨9, _, rfl⟩
      · rw [hd4] at hy; cases hy; exact ⟨10, _, rfl⟩
      · rw [hd5] at hy; cases hy; exact ⟨11, _, rfl⟩) (Nat.le_of_ble_eq_true rfl) (Nat.le_of_ble_eq_true rfl) rfl ?_
    refine gi_aload_n C dX0_notes_23 0 rfl ?_
    refine gi_dup C dX0_notes_24 rfl ?_
    refine gi_get (v := vi (fx 5)) C in_X0 dX0_notes_25 5 q172 0 rfl rfl (by decide) (fun _ h => h) rfl ?_
    refine gi_iconst C dX0_notes_28 ?_
    refine gi_isub C dX0_notes_29 ?_
    refine gi_put (w' := [xO o (fu fx 5 ((fx 5) - 1)) rx n, cR g 3 (rx 4) 6 (cpF D D 1 0 5), wO n fn rn o, cI g (rn 1) 32 Se, cZ g (rn 2) 192 Bi, cZ g (rn 3) 192 Tu, cI g (rn 5) 3 Ma, wO d1 f1 r1 o1, wO d2 f2 r2 o2, wO d3 f3 r3 o3, wO d4 f4 r4 o4, wO d5 f5 r5 o5]) C in_X0 tyX0 tyX0_ok nmX0 dX0_notes_30 5 q172 0 rfl rfl (by decide) (fun _ h => h) rfl rfl ⟨rfl, rfl⟩ (Nat.le_of_ble_eq_true rfl) rfl ?_
    refine gi_aload_n C dX0_notes_33 0 rfl ?_
    refine gi_get (v := .ref (rx 4)) C in_X0 dX0_notes_34 4 q171 0 rfl rfl (by decide) (fun _ h => h) rfl ?_
    refine gi_aload_n C dX0_notes_37 0 rfl ?_
    refine gi_get (v := vi ((fx 5) - 1)) C in_X0 dX0_notes_38 5 q172 0 rfl rfl (by decide) (fun _ h => h) rfl ?_
    refine gi_new (c := 1) (N := 8) (fs := [vi 0, .null, .null, .null, vi 0, .null, vi 0, .null]) C in_X1 tyX1 tyX1_ok dX0_notes_41 q111 q112 q56 rfl (newfsX1) (Nat.le_of_ble_eq_true rfl) (Nat.le_of_ble_eq_true rfl) (fun q41 => ?_)
    refine gi_ws (w' := [xO o (fu fx 5 ((fx 5) - 1)) rx n, cR g 3 (rx 4) 6 (cpF D D 1 0 5), wO n fn rn o, cI g (rn 1) 32 Se, cZ g (rn 2) 192 Bi, cZ g (rn 3) 192 Tu, cI g (rn 5) 3 Ma, wO d1 f1 r1 o1, wO d2 f2 r2 o2, wO d3 f3 r3 o3, wO d4 f4 r4 o4, wO d5 f5 r5 o5, cO q41 1 [vi 0, .null, .null, .null, vi 0, .null, vi 0, .null]]) rfl ?_
    refine gi_dup C dX0_notes_44 rfl ?_
    refine gi_aload_n C dX0_notes_45 0 rfl ?_
    refine gi_runIN (wr := [xO o (fu fx 5 ((fx 5) - 1)) rx n, cR g 3 (rx 4) 6 (cpF D D 1 0 5), wO n fn rn o, cI g (rn 1) 32 Se, cZ g (rn 2) 192 Bi, cZ g (rn 3) 192 Tu, cI g (rn 5) 3 Ma, wO d1 f1 r1 o1, wO d2 f2 r2 o2, wO d3 f3 r3 o3, wO d4 f4 r4 o4, wO d5 f5 r5 o5]) (rest := [.ref q41, vi ((fx 5) - 1), .ref (rx 4)]) C (mX1_init C.ok q41 o) dX0_notes_46 q113 q114 q56 q115 rfl hdX1_init ⟨Nat.le_of_ble_eq_true rfl, Nat.le_of_ble_eq_true rfl⟩ [12] [0, 1, 2, 3, 4, 5, 6, 7, 8, 9, 10, 11] rfl rfl rfl rfl (by decide) rfl (Nat.le_of_ble_eq_true rfl) ⟨Nat.le_of_ble_eq_true rfl, Nat.le_of_ble_eq_true rfl⟩ (kV fun w1 hv46 => ?_)
    obtain ⟨r_46, rfl⟩ := hv46
    refine gi_pick [0, 1, 2, 3, 4, 5, 6, 7, 8, 9, 10, 11, 12, 13, 14, 15, 16] (w' := [xO o (fu fx 5 ((fx 5) - 1)) rx n, cR g 3 (rx 4) 6 (cpF D D 1 0 5), wO n fn rn o, cI g (rn 1) 32 Se, cZ g (rn 2) 192 Bi, cZ g (rn 3) 192 Tu, cI g (rn 5) 3 Ma, wO d1 f1 r1 o1, wO d2 f2 r2 o2, wO d3 f3 r3 o3, wO d4 f4 r4 o4, wO d5 f5 r5 o5, wO q41 (fun _ => 0) r_46 o, cI g (r_46 1) 32 (fun _ => 0), cZ g (r_46 2) 192 (fun _ => 0), cZ g (r_46 3) 192 (fun _ => 0), cI g (r_46 5) 3 (fun _ => 0)]) rfl rfl ?_
    refine gi_wide (k' := 5) (n' := 427) (Nat.le_of_eq (by first | rfl | (dsimp only; omega))) (Nat.le_of_eq (by first | rfl | (dsimp only; omega))) ?_
    refine gi_aload_n C dX0_notes_49 0 rfl ?_
    refine gi_get (v := .ref n) C in_X0 dX0_notes_50 2 q168 0 rfl rfl (by decide) (fun _ h => h) rfl ?_
    refine gi_runV (wr := [xO o (fu fx 5 ((fx 5) - 1)) rx n, cR g 3 (rx 4) 6 (cpF D D 1 0 5), wO d1 f1 r1 o1, wO d2 f2 r2 o2, wO d3 f3 r3 o3, wO d4 f4 r4 o4, wO d5 f5 r5 o5]) (rest := [vi ((fx 5) - 1), .ref (rx 4)]) C (mX1_as C.ok q41 (fun _ => 0) r_46 o n fn rn o (fun _ => 0) (fun _ => 0) (fun _ => 0) (fun _ => 0) Se Bi Tu Ma (show ∀ b : Int, 0 ≤ b → b < 192 → (Bi b = 0 ∨ Bi b = 1) ∧ (Tu b = 0 ∨ Tu b = 1) from (fun b h0 h1 => hz b h0 h1)) (show fn 4 = 0 ∨ fn 4 = 1 from (by omega))) dX0_notes_53 q386 q387 q388 q56 q389 hdX1_as ⟨Nat.le_of_ble_eq_true rfl, Nat.le_of_ble_eq_true rfl⟩ 12 rfl rfl [12, 13, 14, 15, 16, 2, 3, 4, 5, 6] [0, 1, 7, 8, 9, 10, 11] rfl rfl rfl rfl (by decide) rfl (Nat.le_of_ble_eq_true rfl) ⟨Nat.le_of_ble_eq_true rfl, Nat.le_of_ble_eq_true rfl⟩ (kR fun r_53 w1 hv53 => ?_)
    obtain ⟨hr_53, rfl⟩ := hv53
    replace hr_53 := hr_53.symm
    subst hr_53
    refine gi_pick [0, 1, 12, 13, 14, 15, 16, 2, 3, 4, 5, 6, 7, 8, 9, 10, 11] (w' := [xO o (fu fx 5 ((fx 5) - 1)) rx n, cR g 3 (rx 4) 6 (cpF D D 1 0 5), wO n fn rn o, cI g (rn 1) 32 Se, cZ g (rn 2) 192 Bi, cZ g (rn 3) 192 Tu, cI g (rn 5) 3 Ma, wO d1 f1 r1 o1, wO d2 f2 r2 o2, wO d3 f3 r3 o3, wO d4 f4 r4 o4, wO d5 f5 r5 o5, wO q41 fn r_46 o, cI g (r_46 1) 32 Se, cZ g (r_46 2) 192 Bi, cZ g (r_46 3) 192 Tu, cI g (r_46 5) 3 Ma]) rfl rfl ?_
    refine gi_aast (w' := [xO o (fu fx 5 ((fx 5) - 1)) rx n, cR g 3 (rx 4) 6 (uF (cpF D D 1 0 5) ((fx 5) - 1) (some q41)), wO n fn rn o, cI g (rn 1) 32 Se, cZ g (rn 2) 192 Bi, cZ g (rn 3) 192 Tu, cI g (rn 5) 3 Ma, wO d1 f1 r1 o1, wO d2 f2 r2 o2, wO d3 f3 r3 o3, wO d4 f4 r4 o4, wO d5 f5 r5 o5, wO q41 fn r_46 o, cI g (r_46 1) 32 Se, cZ g (r_46 2) 192 Bi, cZ g (r_46 3) 192 Tu, cI g (r_46 5) 3 Ma]) C dX0_notes_56 1 12 rfl rfl rfl rfl (by decide) (by omega) rfl ?_
    refine gi_aload_n C dX0_notes_57 0 rfl ?_
    refine gi_dup C dX0_notes_58 rfl ?_
    refine gi_get (v := vi ((fx 5) - 1)) C in_X0 dX0_notes_59 5 q172 0 rfl rfl (by decide) (fun _ h => h) rfl ?_
    refine gi_iconst C dX0_notes_62 ?_
    refine gi_iadd C dX0_notes_63 ?_
    refine gi_put (w' := [xO o (fu fx 5 (((fx 5) - 1) + 1)) rx n, cR g 3 (rx 4) 6 (uF (cpF D D 1 0 5) ((fx 5) - 1) (some q41)), wO n fn rn o, cI g (rn 1) 32 Se, cZ g (rn 2) 192 Bi, cZ g (rn 3) 192 Tu, cI g (rn 5) 3 Ma, wO d1 f1 r1 o1, wO d2 f2 r2 o2, wO d3 f3 r3 o3, wO d4 f4 r4 o4, wO d5 f5 r5 o5, wO q41 fn r_46 o, cI g (r_46 1) 32 Se, cZ g (r_46 2) 192 Bi, cZ g (r_46 3) 192 Tu, cI g (r_46 5) 3 Ma]) C in_X0 tyX0 tyX0_ok nmX0 dX0_notes_64 5 q172 0 rfl rfl (by decide) (fun _ h => h) rfl rfl ⟨rfl, rfl⟩ (Nat.le_of_ble_eq_true rfl) rfl ?_
    refine gi_extR (w' := [xO o (fu fx 5 (((fx 5) - 1) + 1)) rx n, cR g 3 (rx 4) 6 (uF (cpF D D 1 0 5) 5 (some q41)), wO n fn rn o, cI g (rn 1) 32 Se, cZ g (rn 2) 192 Bi, cZ g (rn 3) 192 Tu, cI g (rn 5) 3 Ma, wO d1 f1 r1 o1, wO d2 f2 r2 o2, wO d3 f3 r3 o3, wO d4 f4 r4 o4, wO d5 f5 r5 o5, wO q41 fn r_46 o, cI g (r_46 1) 32 Se, cZ g (r_46 2) 192 Bi, cZ g (r_46 3) 192 Tu, cI g (r_46 5) 3 Ma]) 1 rfl (fun j _ _ => by rw [show fx 5 - 1 = 5 by omega]) rfl ?_
    refine gi_extO (w' := [xO o (fu fx 5 (noteU (fx 5))) rx n, cR g 3 (rx 4) 6 (uF (cpF D D 1 0 5) 5 (some q41)), wO n fn rn o, cI g (rn 1) 32 Se, cZ g (rn 2) 192 Bi, cZ g (rn 3) 192 Tu, cI g (rn 5) 3 Ma, wO d1 f1 r1 o1, wO d2 f2 r2 o2, wO d3 f3 r3 o3, wO d4 f4 r4 o4, wO d5 f5 r5 o5, wO q41 fn r_46 o, cI g (r_46 1) 32 Se, cZ g (r_46 2) 192 Bi, cZ g (r_46 3) 192 Tu, cI g (r_46 5) 3 Ma]) 0 rfl (by unfold noteU; rw [if_pos hu]; show xFs (fu (fu fx 5 (fx 5 - 1)) 5 (fx 5 - 1 + 1)) rx n = _; rw [show fx 5 - 1 + 1 = 6 by omega]; rfl) rfl ?_
    refine gi_pick [0, 1, 2, 3, 4, 5, 6, 7, 8, 9, 10, 11, 12, 13, 14, 15, 16] (w' := [xO o (fu fx 5 (noteU (fx 5))) rx n, cR g 3 (rx 4) 6 (uF (cpF D D 1 0 5) 5 (some q41)), wO n fn rn o, cI g (rn 1) 32 Se, cZ g (rn 2) 192 Bi, cZ g (rn 3) 192 Tu, cI g (rn 5) 3 Ma, wO d1 f1 r1 o1, wO d2 f2 r2 o2, wO d3 f3 r3 o3, wO d4 f4 r4 o4, wO d5 f5 r5 o5, wO q41 fn r_46 o, cI g (r_46 1) 32 Se, cZ g (r_46 2) 192 Bi, cZ g (r_46 3) 192 Tu, cI g (r_46 5) 3 Ma]) rfl rfl ?_
    exact gi_return C dX0_notes_67 (Nat.le_of_ble_eq_true rfl) (Nat.le_of_ble_eq_true rfl) ⟨rfl, q41, r_46, rfl⟩
theorem hdX0_sent : yX0_sent.cls ≠ "java/lang/invoke/MethodHandle" ∧ yX0_sent.cls ≠ "java/lang/invoke/VarHandle" ∧ (parseMethodDescriptor yX0_sent.desc).map (fun d => d.parameters.length) = some 1 := by decide +kernel
abbrev rmX0_sentF : Room := { frames := 1, cells := 0, slots := 0, locals := 13 }
set_option maxHeartbeats 4000000 in
set_option maxRecDepth 100000 in
/-- EvenWords.sent(I)I -/
theorem mX0_sentF {g : GG} (hg : OKG g) (o : Nat) (fx : Nat → Int) (rx : Nat → Nat) (n : Nat) (fn : Nat → Int) (rn : Nat → Nat) (S : Int → Int) (Se : Int → Int) (Bi : Int → Int) (Tu : Int → Int) (Ma : Int → Int) (k : Int) (hW : WR S fn Se Bi Tu Ma) (hF : S 0 = 32) : Con g yX0_sent cX0_sent 2 (some .int) rmX0_sentF [.ref o, vi k] [xO o fx rx n, wO n fn rn o, cI g (rn 1) 32 Se, cZ g (rn 2) 192 Bi, cZ g (rn 3) 192 Tu, cI g (rn 5) 3 Ma] (pI fun r_ w => r_ = (-3) ∧ w = [xO o fx rx n, wO n fn rn o, cI g (rn 1) 32 Se, cZ g (rn 2) 192 Bi, cZ g (rn 3) 192 Tu, cI g (rn 5) 3 Ma]) := by
  refine con_of_go hg (by decide +kernel) (Nat.le_of_ble_eq_true rfl) ?_
  intro x C
  have hn := hW.n
  refine gi_lv (lv' := [(0, .ref o), (1, vi k)]) [0, 1] rfl ?_
  refine gi_aload_n C dX0_sent_0 0 rfl ?_
  refine gi_get (v := .ref n) C in_X0 dX0_sent_1 2 q168 0 rfl rfl (by decide) (fun _ h => h) rfl ?_
  refine gi_getN (v := vi (fn 0)) C in_X1 dX0_sent_4 0 q119 1 rfl rfl (by decide) (fun _ h => h) rfl ?_
  refine gi_bipush C dX0_sent_7 (by decide +kernel) ?_
  refine gi_icmp_ne (tgt := 15) C dX0_sent_9 (by decide) (by omega) (by omega) (fun h9 => ?_) (fun h9 => ?_)
  · skip
    exact absurd hF (by omega)
  · skip
    refine gi_bipush C dX0_sent_12 (by decide +kernel) ?_
    refine gi_pick [0, 1, 2, 3, 4, 5] (w' := [xO o fx rx n, wO n fn rn o, cI g (rn 1) 32 Se, cZ g (rn 2) 192 Bi, cZ g (rn 3) 192 Tu, cI g (rn 5) 3 Ma]) rfl rfl ?_
    exact gi_ireturn C dX0_sent_14 (Nat.le_of_ble_eq_true rfl) (Nat.le_of_ble_eq_true rfl) ⟨_, rfl, (by first | rfl | omega), rfl⟩
abbrev rmX0_sent : Room := { frames := 4, cells := 5, slots := 427, locals := 109 }
set_option maxHeartbeats 4000000 in
set_option maxRecDepth 100000 in
/-- EvenWords.sent(I)I -/
theorem mX0_sent {g : GG} (hg : OKG g) (o : Nat) (fx : Nat → Int) (rx : Nat → Nat) (n : Nat) (fn : Nat → Int) (rn : Nat → Nat) (S : Int → Int) (Se : Int → Int) (Bi : Int → Int) (Tu : Int → Int) (Ma : Int → Int) (D : Int → Option Nat) (k : Int) (hW : WR S fn Se Bi Tu Ma) (hu : 0 ≤ fx 5 ∧ fx 5 < 6) (hk : 0 ≤ k ∧ k < 34) (hn : S 0 < 32) : Con g yX0_sent cX0_sent 2 (some .int) rmX0_sent [.ref o, vi k] [xO o fx rx n, cI g (rx 0) 34 fA, cR g 3 (rx 4) 6 D, wO n fn rn o, cI g (rn 1) 32 Se, cZ g (rn 2) 192 Bi, cZ g (rn 3) 192 Tu, cI g (rn 5) 3 Ma] (pI fun r_ w => ∃ (f1_ : Nat → Int), ∃ (Se1 : Int → Int), ∃ (Bi1 : Int → Int), ∃ (Tu1 : Int → Int), ∃ (Ma1 : Int → Int), ∃ (q : Nat), ∃ (rq : Nat → Nat), r_ = (fm k (dueB S)) ∧ w = [xO o (fu fx 5 (noteU (fx 5))) rx n, cI g (rx 0) 34 fA, cR g 3 (rx 4) 6 (uF D (fx 5) (some q)), wO n f1_ rn o, cI g (rn 1) 32 Se1, cZ g (rn 2) 192 Bi1, cZ g (rn 3) 192 Tu1, cI g (rn 5) 3 Ma1, wO q fn rq o, cI g (rq 1) 32 Se, cZ g (rq 2) 192 Bi, cZ g (rq 3) 192 Tu, cI g (rq 5) 3 Ma] ∧ (WR (sendS S k) f1_ Se1 Bi1 Tu1 Ma1)) := by
  refine con_of_go hg (by decide +kernel) (Nat.le_of_ble_eq_true rfl) ?_
  intro x C
  have hn0 := hW.n
  have hwd : 0 ≤ fm k (dueB S) ∧ fm k (dueB S) < 64 := fm_b (by omega)
  refine gi_lv (lv' := [(0, .ref o), (1, vi k)]) [0, 1] rfl ?_
  refine gi_aload_n C dX0_sent_0 0 rfl ?_
  refine gi_get (v := .ref n) C in_X0 dX0_sent_1 2 q168 0 rfl rfl (by decide) (fun _ h => h) rfl ?_
  refine gi_getN (v := vi (fn 0)) C in_X1 dX0_sent_4 0 q119 3 rfl rfl (by decide) (fun _ h => h) rfl ?_
  refine gi_bipush C dX0_sent_7 (by decide +kernel) ?_
  refine gi_icmp_ne (tgt := 15) C dX0_sent_9 (by decide) (by omega) (by omega) (fun h9 => ?_) (fun h9 => ?_)
  · skip
    refine gi_aload_n C dX0_sent_15 0 rfl ?_
    refine gi_runV (wr := [cI g (rx 0) 34 fA]) (rest := []) C (mX0_notes C.ok o fx rx n fn rn S Se Bi Tu Ma D (show WR S fn Se Bi Tu Ma from (hW)) (show 0 ≤ fx 5 ∧ fx 5 < 6 from (by omega))) dX0_sent_16 q379 q381 qs8 q53 q382 hdX0_notes ⟨Nat.le_of_ble_eq_true rfl, Nat.le_of_ble_eq_true rfl⟩ 0 rfl rfl [0, 2, 3, 4, 5, 6, 7] [1] rfl rfl rfl rfl (by decide) rfl (Nat.le_of_ble_eq_true rfl) ⟨Nat.le_of_ble_eq_true rfl, Nat.le_of_ble_eq_true rfl⟩ (kV fun w1 hv16 => ?_)
    obtain ⟨q_16, rq_16, rfl⟩ := hv16
    refine gi_pick [1, 0, 2, 3, 4, 5, 6, 7, 8, 9, 10, 11, 12] (w' := [xO o (fu fx 5 (noteU (fx 5))) rx n, cI g (rx 0) 34 fA, cR g 3 (rx 4) 6 (uF D (fx 5) (some q_16)), wO n fn rn o, cI g (rn 1) 32 Se, cZ g (rn 2) 192 Bi, cZ g (rn 3) 192 Tu, cI g (rn 5) 3 Ma, wO q_16 fn rq_16 o, cI g (rq_16 1) 32 Se, cZ g (rq_16 2) 192 Bi, cZ g (rq_16 3) 192 Tu, cI g (rq_16 5) 3 Ma]) rfl rfl ?_
    refine gi_wide (k' := 5) (n' := 427) (Nat.le_of_eq (by first | rfl | (dsimp only; omega))) (Nat.le_of_eq (by first | rfl | (dsimp only; omega))) ?_
    refine gi_aload_n C dX0_sent_19 0 rfl ?_
    refine gi_get (v := .ref n) C in_X0 dX0_sent_20 2 q168 0 rfl rfl (by decide) (fun _ h => h) rfl ?_
    refine gi_iload_n C dX0_sent_23 1 rfl ?_
    refine gi_runV (wr := [cR g 3 (rx 4) 6 (uF D (fx 5) (some q_16)), wO q_16 fn rq_16 o, cI g (rq_16 1) 32 Se, cZ g (rq_16 2) 192 Bi, cZ g (rq_16 3) 192 Tu, cI g (rq_16 5) 3 Ma]) (rest := []) C (mX1_sends C.ok n fn rn o (fu fx 5 (noteU (fx 5))) rx n S Se Bi Tu Ma k (show WR S fn Se Bi Tu Ma from (by omega)) (show 0 ≤ k ∧ k < 34 from (by omega)) (show S 0 < 32 from (by omega))) dX0_sent_24 q391 q392 q393 q56 q394 hdX1_sends ⟨Nat.le_of_ble_eq_true rfl, Nat.le_of_ble_eq_true rfl⟩ 3 rfl rfl [3, 4, 5, 6, 7, 0, 1] [2, 8, 9, 10, 11, 12] rfl rfl rfl rfl (by decide) rfl (Nat.le_of_ble_eq_true rfl) ⟨Nat.le_of_ble_eq_true rfl, Nat.le_of_ble_eq_true rfl⟩ (kI fun r_24 w1 hv24 => ?_)
    obtain ⟨f1_24, Se1_24, Bi1_24, Tu1_24, Ma1_24, hr_24, rfl, hW1_24⟩ := hv24
    replace hW1_24 : WR (sendS S k) f1_24 Se1_24 Bi1_24 Tu1_24 Ma1_24 := hW1_24
    refine gi_pick [11, 12, 0, 6, 7, 8, 9, 10, 1, 2, 3, 4, 5] (w' := [xO o (fu fx 5 (noteU (fx 5))) rx n, cI g (rx 0) 34 fA, cR g 3 (rx 4) 6 (uF D (fx 5) (some q_16)), wO n f1_24 rn o, cI g (rn 1) 32 Se1_24, cZ g (rn 2) 192 Bi1_24, cZ g (rn 3) 192 Tu1_24, cI g (rn 5) 3 Ma1_24, wO q_16 fn rq_16 o, cI g (rq_16 1) 32 Se, cZ g (rq_16 2) 192 Bi, cZ g (rq_16 3) 192 Tu, cI g (rq_16 5) 3 Ma]) rfl rfl ?_
    refine gi_top (b := (fm k (dueB S))) hr_24 ?_
    refine gi_pick [0, 1, 2, 3, 4, 5, 6, 7, 8, 9, 10, 11, 12] (w' := [xO o (fu fx 5 (noteU (fx 5))) rx n, cI g (rx 0) 34 fA, cR g 3 (rx 4) 6 (uF D (fx 5) (some q_16)), wO n f1_24 rn o, cI g (rn 1) 32 Se1_24, cZ g (rn 2) 192 Bi1_24, cZ g (rn 3) 192 Tu1_24, cI g (rn 5) 3 Ma1_24, wO q_16 fn rq_16 o, cI g (rq_16 1) 32 Se, cZ g (rq_16 2) 192 Bi, cZ g (rq_16 3) 192 Tu, cI g (rq_16 5) 3 Ma]) rfl rfl ?_
    exact gi_ireturn C dX0_sent_27 (Nat.le_of_ble_eq_true rfl) (Nat.le_of_ble_eq_true rfl) ⟨_, rfl, f1_24, Se1_24, Bi1_24, Tu1_24, Ma1_24, q_16, rq_16, (by first | rfl | omega), rfl, (by assumption)⟩
  · skip
    exact absurd hn (by omega)
theorem hdX0_sends : yX0_sends.cls ≠ "java/lang/invoke/MethodHandle" ∧ yX0_sends.cls ≠ "java/lang/invoke/VarHandle" ∧ (parseMethodDescriptor yX0_sends.desc).map (fun d => d.parameters.length) = some 1 := by decide +kernel
abbrev rmX0_sends : Room := { frames := 5, cells := 5, slots := 427, locals := 130 }
set_option maxHeartbeats 4000000 in
set_option maxRecDepth 100000 in
/-- EvenWords.sends(I)I -/
theorem mX0_sends {g : GG} (hg : OKG g) (o : Nat) (fx : Nat → Int) (rx : Nat → Nat) (n : Nat) (fn : Nat → Int) (rn : Nat → Nat) (S : Int → Int) (Se : Int → Int) (Bi : Int → Int) (Tu : Int → Int) (Ma : Int → Int) (D : Int → Option Nat) (k : Int) (hW : WR S fn Se Bi Tu Ma) (hu : 0 ≤ fx 5 ∧ fx 5 < 6) (hk : 0 ≤ k ∧ k < 31) (hn : S 0 < 32) : Con g yX0_sends cX0_sends 2 (some .int) rmX0_sends [.ref o, vi k] [xO o fx rx n, cI g (rx 0) 34 fA, cR g 3 (rx 4) 6 D, wO n fn rn o, cI g (rn 1) 32 Se, cZ g (rn 2) 192 Bi, cZ g (rn 3) 192 Tu, cI g (rn 5) 3 Ma] (pI fun r_ w => ∃ (f1_ : Nat → Int), ∃ (Se1 : Int → Int), ∃ (Bi1 : Int → Int), ∃ (Tu1 : Int → Int), ∃ (Ma1 : Int → Int), ∃ (q : Nat), ∃ (rq : Nat → Nat), r_ = (fm k (dueB S)) ∧ w = [xO o (fu fx 5 (noteU (fx 5))) rx n, cI g (rx 0) 34 fA, cR g 3 (rx 4) 6 (uF D (fx 5) (some q)), wO n f1_ rn o, cI g (rn 1) 32 Se1, cZ g (rn 2) 192 Bi1, cZ g (rn 3) 192 Tu1, cI g (rn 5) 3 Ma1, wO q fn rq o, cI g (rq 1) 32 Se, cZ g (rq 2) 192 Bi, cZ g (rq 3) 192 Tu, cI g (rq 5) 3 Ma] ∧ (WR (sendS S k) f1_ Se1 Bi1 Tu1 Ma1)) := by
  refine con_of_go hg (by decide +kernel) (Nat.le_of_ble_eq_true rfl) ?_
  intro x C
  have hn0 := hW.n
  have hwd : 0 ≤ fm k (dueB S) ∧ fm k (dueB S) < 64 := fm_b (by omega)
  refine gi_lv (lv' := [(0, .ref o), (1, vi k)]) [0, 1] rfl ?_
  refine gi_iload_n C dX0_sends_0 1 rfl ?_
  refine gi_iconst C dX0_sends_1 ?_
  refine gi_bipush C dX0_sends_2 (by decide +kernel) ?_
  refine gi_runS (wr := [xO o fx rx n, cI g (rx 0) 34 fA, cR g 3 (rx 4) 6 D, wO n fn rn o, cI g (rn 1) 32 Se, cZ g (rn 2) 192 Bi, cZ g (rn 3) 192 Tu, cI g (rn 5) 3 Ma]) (rest := []) C (mX0_in C.ok k 0 30 (by omega) (by omega) (by omega)) dX0_sends_4 q220 q221 q53 q222 hdX0_in ⟨Nat.le_of_ble_eq_true rfl, Nat.le_of_ble_eq_true rfl⟩ [] [0, 1, 2, 3, 4, 5, 6, 7] rfl rfl rfl rfl (by decide) rfl (Nat.le_of_ble_eq_true rfl) ⟨Nat.le_of_ble_eq_true rfl, Nat.le_of_ble_eq_true rfl⟩ (kI fun r_4 w1 hv4 => ?_)
  obtain ⟨rfl, hr_4⟩ := hv4
  refine gi_pick [0, 1, 2, 3, 4, 5, 6, 7] (w' := [xO o fx rx n, cI g (rx 0) 34 fA, cR g 3 (rx 4) 6 D, wO n fn rn o, cI g (rn 1) 32 Se, cZ g (rn 2) 192 Bi, cZ g (rn 3) 192 Tu, cI g (rn 5) 3 Ma]) rfl rfl ?_
  refine gi_top (b := (bI (0 ≤ k ∧ k ≤ 30))) hr_4 ?_
  refine gi_if_eq (tgt := 18) C dX0_sends_7 (by decide) (bI_rg _) (fun h7 => ?_) (fun h7 => ?_)
  · skip
    replace h7 := bI_eq0.mp h7
    exact absurd (by omega) h7
  · skip
    replace h7 := bI_ne0.mp h7
    refine gi_aload_n C dX0_sends_10 0 rfl ?_
    refine gi_iload_n C dX0_sends_11 1 rfl ?_
    refine gi_runV (wr := []) (rest := []) C (mX0_sent C.ok o fx rx n fn rn S Se Bi Tu Ma D k (show WR S fn Se Bi Tu Ma from (hW)) (show 0 ≤ fx 5 ∧ fx 5 < 6 from (by omega)) (show 0 ≤ k ∧ k < 34 from (by omega)) (show S 0 < 32 from (by omega))) dX0_sends_12 q411 q413 qs10 q53 q414 hdX0_sent ⟨Nat.le_of_ble_eq_true rfl, Nat.le_of_ble_eq_true rfl⟩ 0 rfl rfl [0, 1, 2, 3, 4, 5, 6, 7] [] rfl rfl rfl rfl (by decide) rfl (Nat.le_of_ble_eq_true rfl) ⟨Nat.le_of_ble_eq_true rfl, Nat.le_of_ble_eq_true rfl⟩ (kI fun r_12 w1 hv12 => ?_)
    obtain ⟨f1__12, Se1_12, Bi1_12, Tu1_12, Ma1_12, q_12, rq_12, hr_12, rfl, hW1_12⟩ := hv12
    replace hW1_12 : WR (sendS S k) f1__12 Se1_12 Bi1_12 Tu1_12 Ma1_12 := hW1_12
    refine gi_pick [0, 1, 2, 3, 4, 5, 6, 7, 8, 9, 10, 11, 12] (w' := [xO o (fu fx 5 (noteU (fx 5))) rx n, cI g (rx 0) 34 fA, cR g 3 (rx 4) 6 (uF D (fx 5) (some q_12)), wO n f1__12 rn o, cI g (rn 1) 32 Se1_12, cZ g (rn 2) 192 Bi1_12, cZ g (rn 3) 192 Tu1_12, cI g (rn 5) 3 Ma1_12, wO q_12 fn rq_12 o, cI g (rq_12 1) 32 Se, cZ g (rq_12 2) 192 Bi, cZ g (rq_12 3) 192 Tu, cI g (rq_12 5) 3 Ma]) rfl rfl ?_
    refine gi_top (b := (fm k (dueB S))) hr_12 ?_
    refine gi_wide (k' := 5) (n' := 427) (Nat.le_of_eq (by first | rfl | (dsimp only; omega))) (Nat.le_of_eq (by first | rfl | (dsimp only; omega))) ?_
    refine gi_goto (tgt := 19) C dX0_sends_15 (by decide) ?_
    refine gi_pick [0, 1, 2, 3, 4, 5, 6, 7, 8, 9, 10, 11, 12] (w' := [xO o (fu fx 5 (noteU (fx 5))) rx n, cI g (rx 0) 34 fA, cR g 3 (rx 4) 6 (uF D (fx 5) (some q_12)), wO n f1__12 rn o, cI g (rn 1) 32 Se1_12, cZ g (rn 2) 192 Bi1_12, cZ g (rn 3) 192 Tu1_12, cI g (rn 5) 3 Ma1_12, wO q_12 fn rq_12 o, cI g (rq_12 1) 32 Se, cZ g (rq_12 2) 192 Bi, cZ g (rq_12 3) 192 Tu, cI g (rq_12 5) 3 Ma]) rfl rfl ?_
    exact gi_ireturn C dX0_sends_19 (Nat.le_of_ble_eq_true rfl) (Nat.le_of_ble_eq_true rfl) ⟨_, rfl, f1__12, Se1_12, Bi1_12, Tu1_12, Ma1_12, q_12, rq_12, (by first | rfl | omega), rfl, (by assumption)⟩
theorem hdX0_marks : yX0_marks.cls ≠ "java/lang/invoke/MethodHandle" ∧ yX0_marks.cls ≠ "java/lang/invoke/VarHandle" ∧ (parseMethodDescriptor yX0_marks.desc).map (fun d => d.parameters.length) = some 1 := by decide +kernel
abbrev rmX0_marks : Room := { frames := 5, cells := 5, slots := 427, locals := 130 }
set_option maxHeartbeats 4000000 in
set_option maxRecDepth 100000 in
/-- EvenWords.marks(I)I -/
theorem mX0_marks {g : GG} (hg : OKG g) (o : Nat) (fx : Nat → Int) (rx : Nat → Nat) (n : Nat) (fn : Nat → Int) (rn : Nat → Nat) (S : Int → Int) (Se : Int → Int) (Bi : Int → Int) (Tu : Int → Int) (Ma : Int → Int) (D : Int → Option Nat) (k : Int) (hW : WR S fn Se Bi Tu Ma) (hu : 0 ≤ fx 5 ∧ fx 5 < 6) (hk : 0 ≤ k ∧ k < 3) (hn : S 0 < 32) : Con g yX0_marks cX0_marks 2 (some .int) rmX0_marks [.ref o, vi k] [xO o fx rx n, cI g (rx 0) 34 fA, cR g 3 (rx 4) 6 D, wO n fn rn o, cI g (rn 1) 32 Se, cZ g (rn 2) 192 Bi, cZ g (rn 3) 192 Tu, cI g (rn 5) 3 Ma] (pI fun r_ w => ∃ (f1_ : Nat → Int), ∃ (Se1 : Int → Int), ∃ (Bi1 : Int → Int), ∃ (Tu1 : Int → Int), ∃ (Ma1 : Int → Int), ∃ (q : Nat), ∃ (rq : Nat → Nat), r_ = (fm (31 + k) (dueB S)) ∧ w = [xO o (fu fx 5 (noteU (fx 5))) rx n, cI g (rx 0) 34 fA, cR g 3 (rx 4) 6 (uF D (fx 5) (some q)), wO n f1_ rn o, cI g (rn 1) 32 Se1, cZ g (rn 2) 192 Bi1, cZ g (rn 3) 192 Tu1, cI g (rn 5) 3 Ma1, wO q fn rq o, cI g (rq 1) 32 Se, cZ g (rq 2) 192 Bi, cZ g (rq 3) 192 Tu, cI g (rq 5) 3 Ma] ∧ (WR (sendS S (31 + k)) f1_ Se1 Bi1 Tu1 Ma1)) := by
  refine con_of_go hg (by decide +kernel) (Nat.le_of_ble_eq_true rfl) ?_
  intro x C
  have hn0 := hW.n
  have hwd : 0 ≤ fm (31 + k) (dueB S) ∧ fm (31 + k) (dueB S) < 64 := fm_b (by omega)
  refine gi_lv (lv' := [(0, .ref o), (1, vi k)]) [0, 1] rfl ?_
  refine gi_iload_n C dX0_marks_0 1 rfl ?_
  refine gi_iconst C dX0_marks_1 ?_
  refine gi_iconst C dX0_marks_2 ?_
  refine gi_runS (wr := [xO o fx rx n, cI g (rx 0) 34 fA, cR g 3 (rx 4) 6 D, wO n fn rn o, cI g (rn 1) 32 Se, cZ g (rn 2) 192 Bi, cZ g (rn 3) 192 Tu, cI g (rn 5) 3 Ma]) (rest := []) C (mX0_in C.ok k 0 2 (by omega) (by omega) (by omega)) dX0_marks_3 q220 q221 q53 q222 hdX0_in ⟨Nat.le_of_ble_eq_true rfl, Nat.le_of_ble_eq_true rfl⟩ [] [0, 1, 2, 3, 4, 5, 6, 7] rfl rfl rfl rfl (by decide) rfl (Nat.le_of_ble_eq_true rfl) ⟨Nat.le_of_ble_eq_true rfl, Nat.le_of_ble_eq_true rfl⟩ (kI fun r_3 w1 hv3 => ?_)
  obtain ⟨rfl, hr_3⟩ := hv3
  refine gi_pick [0, 1, 2, 3, 4, 5, 6, 7] (w' := [xO o fx rx n, cI g (rx 0) 34 fA, cR g 3 (rx 4) 6 D, wO n fn rn o, cI g (rn 1) 32 Se, cZ g (rn 2) 192 Bi, cZ g (rn 3) 192 Tu, cI g (rn 5) 3 Ma]) rfl rfl ?_
  refine gi_top (b := (bI (0 ≤ k ∧ k ≤ 2))) hr_3 ?_
  refine gi_if_eq (tgt := 20) C dX0_marks_6 (by decide) (bI_rg _) (fun h6 => ?_) (fun h6 => ?_)
  · skip
    replace h6 := bI_eq0.mp h6
    exact absurd (by omega) h6
  · skip
    replace h6 := bI_ne0.mp h6
    refine gi_aload_n C dX0_marks_9 0 rfl ?_
    refine gi_bipush C dX0_marks_10 (by decide +kernel) ?_
    refine gi_iload_n C dX0_marks_12 1 rfl ?_
    refine gi_iadd C dX0_marks_13 ?_
    refine gi_runV (wr := []) (rest := []) C (mX0_sent C.ok o fx rx n fn rn S Se Bi Tu Ma D (31 + k) (show WR S fn Se Bi Tu Ma from (hW)) (show 0 ≤ fx 5 ∧ fx 5 < 6 from (by omega)) (show 0 ≤ (31 + k) ∧ (31 + k) < 34 from (by omega)) (show S 0 < 32 from (by omega))) dX0_marks_14 q411 q413 qs10 q53 q414 hdX0_sent ⟨Nat.le_of_ble_eq_true rfl, Nat.le_of_ble_eq_true rfl⟩ 0 rfl rfl [0, 1, 2, 3, 4, 5, 6, 7] [] rfl rfl rfl rfl (by decide) rfl (Nat.le_of_ble_eq_true rfl) ⟨Nat.le_of_ble_eq_true rfl, Nat.le_of_ble_eq_true rfl⟩ (kI fun r_14 w1 hv14 => ?_)
    obtain ⟨f1__14, Se1_14, Bi1_14, Tu1_14, Ma1_14, q_14, rq_14, hr_14, rfl, hW1_14⟩ := hv14
    replace hW1_14 : WR (sendS S (31 + k)) f1__14 Se1_14 Bi1_14 Tu1_14 Ma1_14 := hW1_14
    refine gi_pick [0, 1, 2, 3, 4, 5, 6, 7, 8, 9, 10, 11, 12] (w' := [xO o (fu fx 5 (noteU (fx 5))) rx n, cI g (rx 0) 34 fA, cR g 3 (rx 4) 6 (uF D (fx 5) (some q_14)), wO n f1__14 rn o, cI g (rn 1) 32 Se1_14, cZ g (rn 2) 192 Bi1_14, cZ g (rn 3) 192 Tu1_14, cI g (rn 5) 3 Ma1_14, wO q_14 fn rq_14 o, cI g (rq_14 1) 32 Se, cZ g (rq_14 2) 192 Bi, cZ g (rq_14 3) 192 Tu, cI g (rq_14 5) 3 Ma]) rfl rfl ?_
    refine gi_top (b := (fm (31 + k) (dueB S))) hr_14 ?_
    refine gi_wide (k' := 5) (n' := 427) (Nat.le_of_eq (by first | rfl | (dsimp only; omega))) (Nat.le_of_eq (by first | rfl | (dsimp only; omega))) ?_
    refine gi_goto (tgt := 21) C dX0_marks_17 (by decide) ?_
    refine gi_pick [0, 1, 2, 3, 4, 5, 6, 7, 8, 9, 10, 11, 12] (w' := [xO o (fu fx 5 (noteU (fx 5))) rx n, cI g (rx 0) 34 fA, cR g 3 (rx 4) 6 (uF D (fx 5) (some q_14)), wO n f1__14 rn o, cI g (rn 1) 32 Se1_14, cZ g (rn 2) 192 Bi1_14, cZ g (rn 3) 192 Tu1_14, cI g (rn 5) 3 Ma1_14, wO q_14 fn rq_14 o, cI g (rq_14 1) 32 Se, cZ g (rq_14 2) 192 Bi, cZ g (rq_14 3) 192 Tu, cI g (rq_14 5) 3 Ma]) rfl rfl ?_
    exact gi_ireturn C dX0_marks_21 (Nat.le_of_ble_eq_true rfl) (Nat.le_of_ble_eq_true rfl) ⟨_, rfl, f1__14, Se1_14, Bi1_14, Tu1_14, Ma1_14, q_14, rq_14, (by first | rfl | omega), rfl, (by assumption)⟩
abbrev rmX0_sent6 : Room := { frames := 4, cells := 5, slots := 427, locals := 109 }
set_option maxHeartbeats 4000000 in
set_option maxRecDepth 100000 in
/-- EvenWords.sent(I)I -/
theorem mX0_sent6 {g : GG} (hg : OKG g) (o : Nat) (fx : Nat → Int) (rx : Nat → Nat) (n : Nat) (fn : Nat → Int) (rn : Nat → Nat) (S : Int → Int) (Se : Int → Int) (Bi : Int → Int) (Tu : Int → Int) (Ma : Int → Int) (D : Int → Option Nat) (d1 : Nat) (f1 : Nat → Int) (r1 : Nat → Nat) (o1 : Nat) (d2 : Nat) (f2 : Nat → Int) (r2 : Nat → Nat) (o2 : Nat) (d3 : Nat) (f3 : Nat → Int) (r3 : Nat → Nat) (o3 : Nat) (d4 : Nat) (f4 : Nat → Int) (r4 : Nat → Nat) (o4 : Nat) (d5 : Nat) (f5 : Nat → Int) (r5 : Nat → Nat) (o5 : Nat) (k : Int) (hW : WR S fn Se Bi Tu Ma) (hd1 : D 1 = some d1) (hd2 : D 2 = some d2) (hd3 : D 3 = some d3) (hd4 : D 4 = some d4) (hd5 : D 5 = some d5) (hu : fx 5 = 6) (hk : 0 ≤ k ∧ k < 34) (hn : S 0 < 32) : Con g yX0_sent cX0_sent 2 (some .int) rmX0_sent6 [.ref o, vi k] [xO o fx rx n, cI g (rx 0) 34 fA, cR g 3 (rx 4) 6 D, wO n fn rn o, cI g (rn 1) 32 Se, cZ g (rn 2) 192 Bi, cZ g (rn 3) 192 Tu, cI g (rn 5) 3 Ma, wO d1 f1 r1 o1, wO d2 f2 r2 o2, wO d3 f3 r3 o3, wO d4 f4 r4 o4, wO d5 f5 r5 o5] (pI fun r_ w => ∃ (f1_ : Nat → Int), ∃ (Se1 : Int → Int), ∃ (Bi1 : Int → Int), ∃ (Tu1 : Int → Int), ∃ (Ma1 : Int → Int), ∃ (q : Nat), ∃ (rq : Nat → Nat), r_ = (fm k (dueB S)) ∧ w = [xO o (fu fx 5 (noteU (fx 5))) rx n, cI g (rx 0) 34 fA, cR g 3 (rx 4) 6 (uF (cpF D D 1 0 5) 5 (some q)), wO n f1_ rn o, cI g (rn 1) 32 Se1, cZ g (rn 2) 192 Bi1, cZ g (rn 3) 192 Tu1, cI g (rn 5) 3 Ma1, wO d1 f1 r1 o1, wO d2 f2 r2 o2, wO d3 f3 r3 o3, wO d4 f4 r4 o4, wO d5 f5 r5 o5, wO q fn rq o, cI g (rq 1) 32 Se, cZ g (rq 2) 192 Bi, cZ g (rq 3) 192 Tu, cI g (rq 5) 3 Ma] ∧ (WR (sendS S k) f1_ Se1 Bi1 Tu1 Ma1)) := by
  refine con_of_go hg (by decide +kernel) (Nat.le_of_ble_eq_true rfl) ?_
  intro x C
  have hn0 := hW.n
  have hwd : 0 ≤ fm k (dueB S) ∧ fm k (dueB S) < 64 := fm_b (by omega)
  refine gi_lv (lv' := [(0, .ref o), (1, vi k)]) [0, 1] rfl ?_
  refine gi_aload_n C dX0_sent_0 0 rfl ?_
  refine gi_get (v := .ref n) C in_X0 dX0_sent_1 2 q168 0 rfl rfl (by decide) (fun _ h => h) rfl ?_
  refine gi_getN (v := vi (fn 0)) C in_X1 dX0_sent_4 0 q119 3 rfl rfl (by decide) (fun _ h => h) rfl ?_
  refine gi_bipush C dX0_sent_7 (by decide +kernel) ?_
  refine gi_icmp_ne (tgt := 15) C dX0_sent_9 (by decide) (by omega) (by omega) (fun h9 => ?_) (fun h9 => ?_)
  · skip
    refine gi_aload_n C dX0_sent_15 0 rfl ?_
    refine gi_runV (wr := [cI g (rx 0) 34 fA]) (rest := []) C (mX0_notes6 C.ok o fx rx n fn rn S Se Bi Tu Ma D d1 f1 r1 o1 d2 f2 r2 o2 d3 f3 r3 o3 d4 f4 r4 o4 d5 f5 r5 o5 (show WR S fn Se Bi Tu Ma from (hW)) (show D 1 = some d1 from (hd1)) (show D 2 = some d2 from (hd2)) (show D 3 = some d3 from (hd3)) (show D 4 = some d4 from (hd4)) (show D 5 = some d5 from (hd5)) (show fx 5 = 6 from (by omega))) dX0_sent_16 q379 q381 qs8 q53 q382 hdX0_notes ⟨Nat.le_of_ble_eq_true rfl, Nat.le_of_ble_eq_true rfl⟩ 0 rfl rfl [0, 2, 3, 4, 5, 6, 7, 8, 9, 10, 11, 12] [1] rfl rfl rfl rfl (by decide) rfl (Nat.le_of_ble_eq_true rfl) ⟨Nat.le_of_ble_eq_true rfl, Nat.le_of_ble_eq_true rfl⟩ (kV fun w1 hv16 => ?_)
    obtain ⟨q_16, rq_16, rfl⟩ := hv16
    refine gi_pick [1, 0, 2, 3, 4, 5, 6, 7, 8, 9, 10, 11, 12, 13, 14, 15, 16, 17] (w' := [xO o (fu fx 5 (noteU (fx 5))) rx n, cI g (rx 0) 34 fA, cR g 3 (rx 4) 6 (uF (cpF D D 1 0 5) 5 (some q_16)), wO n fn rn o, cI g (rn 1) 32 Se, cZ g (rn 2) 192 Bi, cZ g (rn 3) 192 Tu, cI g (rn 5) 3 Ma, wO d1 f1 r1 o1, wO d2 f2 r2 o2, wO d3 f3 r3 o3, wO d4 f4 r4 o4, wO d5 f5 r5 o5, wO q_16 fn rq_16 o, cI g (rq_16 1) 32 Se, cZ g (rq_16 2) 192 Bi, cZ g (rq_16 3) 192 Tu, cI g (rq_16 5) 3 Ma]) rfl rfl ?_
    refine gi_wide (k' := 5) (n' := 427) (Nat.le_of_eq (by first | rfl | (dsimp only; omega))) (Nat.le_of_eq (by first | rfl | (dsimp only; omega))) ?_
    refine gi_aload_n C dX0_sent_19 0 rfl ?_
    refine gi_get (v := .ref n) C in_X0 dX0_sent_20 2 q168 0 rfl rfl (by decide) (fun _ h => h) rfl ?_
    refine gi_iload_n C dX0_sent_23 1 rfl ?_
    refine gi_runV (wr := [cR g 3 (rx 4) 6 (uF (cpF D D 1 0 5) 5 (some q_16)), wO d1 f1 r1 o1, wO d2 f2 r2 o2, wO d3 f3 r3 o3, wO d4 f4 r4 o4, wO d5 f5 r5 o5, wO q_16 fn rq_16 o, cI g (rq_16 1) 32 Se, cZ g (rq_16 2) 192 Bi, cZ g (rq_16 3) 192 Tu, cI g (rq_16 5) 3 Ma]) (rest := []) C (mX1_sends C.ok n fn rn o (fu fx 5 (noteU (fx 5))) rx n S Se Bi Tu Ma k (show WR S fn Se Bi Tu Ma from (by omega)) (show 0 ≤ k ∧ k < 34 from (by omega)) (show S 0 < 32 from (by omega))) dX0_sent_24 q391 q392 q393 q56 q394 hdX1_sends ⟨Nat.le_of_ble_eq_true rfl, Nat.le_of_ble_eq_true rfl⟩ 3 rfl rfl [3, 4, 5, 6, 7, 0, 1] [2, 8, 9, 10, 11, 12, 13, 14, 15, 16, 17] rfl rfl rfl rfl (by decide) rfl (Nat.le_of_ble_eq_true rfl) ⟨Nat.le_of_ble_eq_true rfl, Nat.le_of_ble_eq_true rfl⟩ (kI fun r_24 w1 hv24 => ?_)
    obtain ⟨f1_24, Se1_24, Bi1_24, Tu1_24, Ma1_24, hr_24, rfl, hW1_24⟩ := hv24
    replace hW1_24 : WR (sendS S k) f1_24 Se1_24 Bi1_24 Tu1_24 Ma1_24 := hW1_24
    refine gi_pick [16, 17, 0, 11, 12, 13, 14, 15, 1, 2, 3, 4, 5, 6, 7, 8, 9, 10] (w' := [xO o (fu fx 5 (noteU (fx 5))) rx n, cI g (rx 0) 34 fA, cR g 3 (rx 4) 6 (uF (cpF D D 1 0 5) 5 (some q_16)), wO n f1_24 rn o, cI g (rn 1) 32 Se1_24, cZ g (rn 2) 192 Bi1_24, cZ g (rn 3) 192 Tu1_24, cI g (rn 5) 3 Ma1_24, wO d1 f1 r1 o1, wO d2 f2 r2 o2, wO d3 f3 r3 o3, wO d4 f4 r4 o4, wO d5 f5 r5 o5, wO q_16 fn rq_16 o, cI g (rq_16 1) 32 Se, cZ g (rq_16 2) 192 Bi, cZ g (rq_16 3) 192 Tu, cI g (rq_16 5) 3 Ma]) rfl rfl ?_
    refine gi_top (b := (fm k (dueB S))) hr_24 ?_
    refine gi_pick [0, 1, 2, 3, 4, 5, 6, 7, 8, 9, 10, 11, 12, 13, 14, 15, 16, 17] (w' := [xO o (fu fx 5 (noteU (fx 5))) rx n, cI g (rx 0) 34 fA, cR g 3 (rx 4) 6 (uF (cpF D D 1 0 5) 5 (some q_16)), wO n f1_24 rn o, cI g (rn 1) 32 Se1_24, cZ g (rn 2) 192 Bi1_24, cZ g (rn 3) 192 Tu1_24, cI g (rn 5) 3 Ma1_24, wO d1 f1 r1 o1, wO d2 f2 r2 o2, wO d3 f3 r3 o3, wO d4 f4 r4 o4, wO d5 f5 r5 o5, wO q_16 fn rq_16 o, cI g (rq_16 1) 32 Se, cZ g (rq_16 2) 192 Bi, cZ g (rq_16 3) 192 Tu, cI g (rq_16 5) 3 Ma]) rfl rfl ?_
    exact gi_ireturn C dX0_sent_27 (Nat.le_of_ble_eq_true rfl) (Nat.le_of_ble_eq_true rfl) ⟨_, rfl, f1_24, Se1_24, Bi1_24, Tu1_24, Ma1_24, q_16, rq_16, (by first | rfl | omega), rfl, (by assumption)⟩
  · skip
    exact absurd hn (by omega)
abbrev rmX0_sends6 : Room := { frames := 5, cells := 5, slots := 427, locals := 130 }
set_option maxHeartbeats 4000000 in
set_option maxRecDepth 100000 in
/-- EvenWords.sends(I)I -/
theorem mX0_sends6 {g : GG} (hg : OKG g) (o : Nat) (fx : Nat → Int) (rx : Nat → Nat) (n : Nat) (fn : Nat → Int) (rn : Nat → Nat) (S : Int → Int) (Se : Int → Int) (Bi : Int → Int) (Tu : Int → Int) (Ma : Int → Int) (D : Int → Option Nat) (d1 : Nat) (f1 : Nat → Int) (r1 : Nat → Nat) (o1 : Nat) (d2 : Nat) (f2 : Nat → Int) (r2 : Nat → Nat) (o2 : Nat) (d3 : Nat) (f3 : Nat → Int) (r3 : Nat → Nat) (o3 : Nat) (d4 : Nat) (f4 : Nat → Int) (r4 : Nat → Nat) (o4 : Nat) (d5 : Nat) (f5 : Nat → Int) (r5 : Nat → Nat) (o5 : Nat) (k : Int) (hW : WR S fn Se Bi Tu Ma) (hd1 : D 1 = some d1) (hd2 : D 2 = some d2) (hd3 : D 3 = some d3) (hd4 : D 4 = some d4) (hd5 : D 5 = some d5) (hu : fx 5 = 6) (hk : 0 ≤ k ∧ k < 31) (hn : S 0 < 32) : Con g yX0_sends cX0_sends 2 (some .int) rmX0_sends6 [.ref o, vi k] [xO o fx rx n, cI g (rx 0) 34 fA, cR g 3 (rx 4) 6 D, wO n fn rn o, cI g (rn 1) 32 Se, cZ g (rn 2) 192 Bi, cZ g (rn 3) 192 Tu, cI g (rn 5) 3 Ma, wO d1 f1 r1 o1, wO d2 f2 r2 o2, wO d3 f3 r3 o3, wO d4 f4 r4 o4, wO d5 f5 r5 o5] (pI fun r_ w => ∃ (f1_ : Nat → Int), ∃ (Se1 : Int → Int), ∃ (Bi1 : Int → Int), ∃ (Tu1 : Int → Int), ∃ (Ma1 : Int → Int), ∃ (q : Nat), ∃ (rq : Nat → Nat), r_ = (fm k (dueB S)) ∧ w = [xO o (fu fx 5 (noteU (fx 5))) rx n, cI g (rx 0) 34 fA, cR g 3 (rx 4) 6 (uF (cpF D D 1 0 5) 5 (some q)), wO n f1_ rn o, cI g (rn 1) 32 Se1, cZ g (rn 2) 192 Bi1, cZ g (rn 3) 192 Tu1, cI g (rn 5) 3 Ma1, wO d1 f1 r1 o1, wO d2 f2 r2 o2, wO d3 f3 r3 o3, wO d4 f4 r4 o4, wO d5 f5 r5 o5, wO q fn rq o, cI g (rq 1) 32 Se, cZ g (rq 2) 192 Bi, cZ g (rq 3) 192 Tu, cI g (rq 5) 3 Ma] ∧ (WR (sendS S k) f1_ Se1 Bi1 Tu1 Ma1)) := by
  refine con_of_go hg (by decide +kernel) (Nat.le_of_ble_eq_true rfl) ?_
  intro x C
  have hn0 := hW.n
  have hwd : 0 ≤ fm k (dueB S) ∧ fm k (dueB S) < 64 := fm_b (by omega)
  refine gi_lv (lv' := [(0, .ref o), (1, vi k)]) [0, 1] rfl ?_
  refine gi_iload_n C dX0_sends_0 1 rfl ?_
  refine gi_iconst C dX0_sends_1 ?_
  refine gi_bipush C dX0_sends_2 (by decide +kernel) ?_
  refine gi_runS (wr := [xO o fx rx n, cI g (rx 0) 34 fA, cR g 3 (rx 4) 6 D, wO n fn rn o, cI g (rn 1) 32 Se, cZ g (rn 2) 192 Bi, cZ g (rn 3) 192 Tu, cI g (rn 5) 3 Ma, wO d1 f1 r1 o1, wO d2 f2 r2 o2, wO d3 f3 r3 o3, wO d4 f4 r4 o4, wO d5 f5 r5 o5]) (rest := []) C (mX0_in C.ok k 0 30 (by omega) (by omega) (by omega)) dX0_sends_4 q220 q221 q53 q222 hdX0_in ⟨Nat.le_of_ble_eq_true rfl, Nat.le_of_ble_eq_true rfl⟩ [] [0, 1, 2, 3, 4, 5, 6, 7, 8, 9, 10, 11, 12] rfl rfl rfl rfl (by decide) rfl (Nat.le_of_ble_eq_true rfl) ⟨Nat.le_of_ble_eq_true rfl, Nat.le_of_ble_eq_true rfl⟩ (kI fun r_4 w1 hv4 => ?_)
  obtain ⟨rfl, hr_4⟩ := hv4
  refine gi_pick [0, 1, 2, 3, 4, 5, 6, 7, 8, 9, 10, 11, 12] (w' := [xO o fx rx n, cI g (rx 0) 34 fA, cR g 3 (rx 4) 6 D, wO n fn rn o, cI g (rn 1) 32 Se, cZ g (rn 2) 192 Bi, cZ g (rn 3) 192 Tu, cI g (rn 5) 3 Ma, wO d1 f1 r1 o1, wO d2 f2 r2 o2, wO d3 f3 r3 o3, wO d4 f4 r4 o4, wO d5 f5 r5 o5]) rfl rfl ?_
  refine gi_top (b := (bI (0 ≤ k ∧ k ≤ 30))) hr_4 ?_
  refine gi_if_eq (tgt := 18) C dX0_sends_7 (by decide) (bI_rg _) (fun h7 => ?_) (fun h7 => ?_)
  · skip
    replace h7 := bI_eq0.mp h7
    exact absurd (by omega) h7
  · skip
    replace h7 := bI_ne0.mp h7
    refine gi_aload_n C dX0_sends_10 0 rfl ?_
    refine gi_iload_n C dX0_sends_11 1 rfl ?_
    refine gi_runV (wr := []) (rest := []) C (mX0_sent6 C.ok o fx rx n fn rn S Se Bi Tu Ma D d1 f1 r1 o1 d2 f2 r2 o2 d3 f3 r3 o3 d4 f4 r4 o4 d5 f5 r5 o5 k (show WR S fn Se Bi Tu Ma from (hW)) (show D 1 = some d1 from (hd1)) (show D 2 = some d2 from (hd2)) (show D 3 = some d3 from (hd3)) (show D 4 = some d4 from (hd4)) (show D 5 = some d5 from (hd5)) (show fx 5 = 6 from (by omega)) (show 0 ≤ k ∧ k < 34 from (by omega)) (show S 0 < 32 from (by omega))) dX0_sends_12 q411 q413 qs10 q53 q414 hdX0_sent ⟨Nat.le_of_ble_eq_true rfl, Nat.le_of_ble_eq_true rfl⟩ 0 rfl rfl [0, 1, 2, 3, 4, 5, 6, 7, 8, 9, 10, 11, 12] [] rfl rfl rfl rfl (by decide) rfl (Nat.le_of_ble_eq_true rfl) ⟨Nat.le_of_ble_eq_true rfl, Nat.le_of_ble_eq_true rfl⟩ (kI fun r_12 w1 hv12 => ?_)
    obtain ⟨f1__12, Se1_12, Bi1_12, Tu1_12, Ma1_12, q_12, rq_12, hr_12, rfl, hW1_12⟩ := hv12
    replace hW1_12 : WR (sendS S k) f1__12 Se1_12 Bi1_12 Tu1_12 Ma1_12 := hW1_12
    refine gi_pick [0, 1, 2, 3, 4, 5, 6, 7, 8, 9, 10, 11, 12, 13, 14, 15, 16, 17] (w' := [xO o (fu fx 5 (noteU (fx 5))) rx n, cI g (rx 0) 34 fA, cR g 3 (rx 4) 6 (uF (cpF D D 1 0 5) 5 (some q_12)), wO n f1__12 rn o, cI g (rn 1) 32 Se1_12, cZ g (rn 2) 192 Bi1_12, cZ g (rn 3) 192 Tu1_12, cI g (rn 5) 3 Ma1_12, wO d1 f1 r1 o1, wO d2 f2 r2 o2, wO d3 f3 r3 o3, wO d4 f4 r4 o4, wO d5 f5 r5 o5, wO q_12 fn rq_12 o, cI g (rq_12 1) 32 Se, cZ g (rq_12 2) 192 Bi, cZ g (rq_12 3) 192 Tu, cI g (rq_12 5) 3 Ma]) rfl rfl ?_
    refine gi_top (b := (fm k (dueB S))) hr_12 ?_
    refine gi_wide (k' := 5) (n' := 427) (Nat.le_of_eq (by first | rfl | (dsimp only; omega))) (Nat.le_of_eq (by first | rfl | (dsimp only; omega))) ?_
    refine gi_goto (tgt := 19) C dX0_sends_15 (by decide) ?_
    refine gi_pick [0, 1, 2, 3, 4, 5, 6, 7, 8, 9, 10, 11, 12, 13, 14, 15, 16, 17] (w' := [xO o (fu fx 5 (noteU (fx 5))) rx n, cI g (rx 0) 34 fA, cR g 3 (rx 4) 6 (uF (cpF D D 1 0 5) 5 (some q_12)), wO n f1__12 rn o, cI g (rn 1) 32 Se1_12, cZ g (rn 2) 192 Bi1_12, cZ g (rn 3) 192 Tu1_12, cI g (rn 5) 3 Ma1_12, wO d1 f1 r1 o1, wO d2 f2 r2 o2, wO d3 f3 r3 o3, wO d4 f4 r4 o4, wO d5 f5 r5 o5, wO q_12 fn rq_12 o, cI g (rq_12 1) 32 Se, cZ g (rq_12 2) 192 Bi, cZ g (rq_12 3) 192 Tu, cI g (rq_12 5) 3 Ma]) rfl rfl ?_
    exact gi_ireturn C dX0_sends_19 (Nat.le_of_ble_eq_true rfl) (Nat.le_of_ble_eq_true rfl) ⟨_, rfl, f1__12, Se1_12, Bi1_12, Tu1_12, Ma1_12, q_12, rq_12, (by first | rfl | omega), rfl, (by assumption)⟩
abbrev rmX0_marks6 : Room := { frames := 5, cells := 5, slots := 427, locals := 130 }
set_option maxHeartbeats 4000000 in
set_option maxRecDepth 100000 in
/-- EvenWords.marks(I)I -/
theorem mX0_marks6 {g : GG} (hg : OKG g) (o : Nat) (fx : Nat → Int) (rx : Nat → Nat) (n : Nat) (fn : Nat → Int) (rn : Nat → Nat) (S : Int → Int) (Se : Int → Int) (Bi : Int → Int) (Tu : Int → Int) (Ma : Int → Int) (D : Int → Option Nat) (d1 : Nat) (f1 : Nat → Int) (r1 : Nat → Nat) (o1 : Nat) (d2 : Nat) (f2 : Nat → Int) (r2 : Nat → Nat) (o2 : Nat) (d3 : Nat) (f3 : Nat → Int) (r3 : Nat → Nat) (o3 : Nat) (d4 : Nat) (f4 : Nat → Int) (r4 : Nat → Nat) (o4 : Nat) (d5 : Nat) (f5 : Nat → Int) (r5 : Nat → Nat) (o5 : Nat) (k : Int) (hW : WR S fn Se Bi Tu Ma) (hd1 : D 1 = some d1) (hd2 : D 2 = some d2) (hd3 : D 3 = some d3) (hd4 : D 4 = some d4) (hd5 : D 5 = some d5) (hu : fx 5 = 6) (hk : 0 ≤ k ∧ k < 3) (hn : S 0 < 32) : Con g yX0_marks cX0_marks 2 (some .int) rmX0_marks6 [.ref o, vi k] [xO o fx rx n, cI g (rx 0) 34 fA, cR g 3 (rx 4) 6 D, wO n fn rn o, cI g (rn 1) 32 Se, cZ g (rn 2) 192 Bi, cZ g (rn 3) 192 Tu, cI g (rn 5) 3 Ma, wO d1 f1 r1 o1, wO d2 f2 r2 o2, wO d3 f3 r3 o3, wO d4 f4 r4 o4, wO d5 f5 r5 o5] (pI fun r_ w => ∃ (f1_ : Nat → Int), ∃ (Se1 : Int → Int), ∃ (Bi1 : Int → Int), ∃ (Tu1 : Int → Int), ∃ (Ma1 : Int → Int), ∃ (q : Nat), ∃ (rq : Nat → Nat), r_ = (fm (31 + k) (dueB S)) ∧ w = [xO o (fu fx 5 (noteU (fx 5))) rx n, cI g (rx 0) 34 fA, cR g 3 (rx 4) 6 (uF (cpF D D 1 0 5) 5 (some q)), wO n f1_ rn o, cI g (rn 1) 32 Se1, cZ g (rn 2) 192 Bi1, cZ g (rn 3) 192 Tu1, cI g (rn 5) 3 Ma1, wO d1 f1 r1 o1, wO d2 f2 r2 o2, wO d3 f3 r3 o3, wO d4 f4 r4 o4, wO d5 f5 r5 o5, wO q fn rq o, cI g (rq 1) 32 Se, cZ g (rq 2) 192 Bi, cZ g (rq 3) 192 Tu, cI g (rq 5) 3 Ma] ∧ (WR (sendS S (31 + k)) f1_ Se1 Bi1 Tu1 Ma1)) := by
  refine con_of_go hg (by decide +kernel) (Nat.le_of_ble_eq_true rfl) ?_
  intro x C
  have hn0 := hW.n
  have hwd : 0 ≤ fm (31 + k) (dueB S) ∧ fm (31 + k) (dueB S) < 64 := fm_b (by omega)
  refine gi_lv (lv' := [(0, .ref o), (1, vi k)]) [0, 1] rfl ?_
  refine gi_iload_n C dX0_marks_0 1 rfl ?_
  refine gi_iconst C dX0_marks_1 ?_
  refine gi_iconst C dX0_marks_2 ?_
  refine gi_runS (wr := [xO o fx rx n, cI g (rx 0) 34 fA, cR g 3 (rx 4) 6 D, wO n fn rn o, cI g (rn 1) 32 Se, cZ g (rn 2) 192 Bi, cZ g (rn 3) 192 Tu, cI g (rn 5) 3 Ma, wO d1 f1 r1 o1, wO d2 f2 r2 o2, wO d3 f3 r3 o3, wO d4 f4 r4 o4, wO d5 f5 r5 o5]) (rest := []) C (mX0_in C.ok k 0 2 (by omega) (by omega) (by omega)) dX0_marks_3 q220 q221 q53 q222 hdX0_in ⟨Nat.le_of_ble_eq_true rfl, Nat.le_of_ble_eq_true rfl⟩ [] [0, 1, 2, 3, 4, 5, 6, 7, 8, 9, 10, 11, 12] rfl rfl rfl rfl (by decide) rfl (Nat.le_of_ble_eq_true rfl) ⟨Nat.le_of_ble_eq_true rfl, Nat.le_of_ble_eq_true rfl⟩ (kI fun r_3 w1 hv3 => ?_)
  obtain ⟨rfl, hr_3⟩ := hv3
  refine gi_pick [0, 1, 2, 3, 4, 5, 6, 7, 8, 9, 10, 11, 12] (w' := [xO o fx rx n, cI g (rx 0) 34 fA, cR g 3 (rx 4) 6 D, wO n fn rn o, cI g (rn 1) 32 Se, cZ g (rn 2) 192 Bi, cZ g (rn 3) 192 Tu, cI g (rn 5) 3 Ma, wO d1 f1 r1 o1, wO d2 f2 r2 o2, wO d3 f3 r3 o3, wO d4 f4 r4 o4, wO d5 f5 r5 o5]) rfl rfl ?_
  refine gi_top (b := (bI (0 ≤ k ∧ k ≤ 2))) hr_3 ?_
  refine gi_if_eq (tgt := 20) C dX0_marks_6 (by decide) (bI_rg _) (fun h6 => ?_) (fun h6 => ?_)
  · skip
    replace h6 := bI_eq0.mp h6
    exact absurd (by omega) h6
  · skip
    replace h6 := bI_ne0.mp h6
    refine gi_aload_n C dX0_marks_9 0 rfl ?_
    refine gi_bipush C dX0_marks_10 (by decide +kernel) ?_
    refine gi_iload_n C dX0_marks_12 1 rfl ?_
    refine gi_iadd C dX0_marks_13 ?_
    refine gi_runV (wr := []) (rest := []) C (mX0_sent6 C.ok o fx rx n fn rn S Se Bi Tu Ma D d1 f1 r1 o1 d2 f2 r2 o2 d3 f3 r3 o3 d4 f4 r4 o4 d5 f5 r5 o5 (31 + k) (show WR S fn Se Bi Tu Ma from (hW)) (show D 1 = some d1 from (hd1)) (show D 2 = some d2 from (hd2)) (show D 3 = some d3 from (hd3)) (show D 4 = some d4 from (hd4)) (show D 5 = some d5 from (hd5)) (show fx 5 = 6 from (by omega)) (show 0 ≤ (31 + k) ∧ (31 + k) < 34 from (by omega)) (show S 0 < 32 from (by omega))) dX0_marks_14 q411 q413 qs10 q53 q414 hdX0_sent ⟨Nat.le_of_ble_eq_true rfl, Nat.le_of_ble_eq_true rfl⟩ 0 rfl rfl [0, 1, 2, 3, 4, 5, 6, 7, 8, 9, 10, 11, 12] [] rfl rfl rfl rfl (by decide) rfl (Nat.le_of_ble_eq_true rfl) ⟨Nat.le_of_ble_eq_true rfl, Nat.le_of_ble_eq_true rfl⟩ (kI fun r_14 w1 hv14 => ?_)
    obtain ⟨f1__14, Se1_14, Bi1_14, Tu1_14, Ma1_14, q_14, rq_14, hr_14, rfl, hW1_14⟩ := hv14
    replace hW1_14 : WR (sendS S (31 + k)) f1__14 Se1_14 Bi1_14 Tu1_14 Ma1_14 := hW1_14
    refine gi_pick [0, 1, 2, 3, 4, 5, 6, 7, 8, 9, 10, 11, 12, 13, 14, 15, 16, 17] (w' := [xO o (fu fx 5 (noteU (fx 5))) rx n, cI g (rx 0) 34 fA, cR g 3 (rx 4) 6 (uF (cpF D D 1 0 5) 5 (some q_14)), wO n f1__14 rn o, cI g (rn 1) 32 Se1_14, cZ g (rn 2) 192 Bi1_14, cZ g (rn 3) 192 Tu1_14, cI g (rn 5) 3 Ma1_14, wO d1 f1 r1 o1, wO d2 f2 r2 o2, wO d3 f3 r3 o3, wO d4 f4 r4 o4, wO d5 f5 r5 o5, wO q_14 fn rq_14 o, cI g (rq_14 1) 32 Se, cZ g (rq_14 2) 192 Bi, cZ g (rq_14 3) 192 Tu, cI g (rq_14 5) 3 Ma]) rfl rfl ?_
    refine gi_top (b := (fm (31 + k) (dueB S))) hr_14 ?_
    refine gi_wide (k' := 5) (n' := 427) (Nat.le_of_eq (by first | rfl | (dsimp only; omega))) (Nat.le_of_eq (by first | rfl | (dsimp only; omega))) ?_
    refine gi_goto (tgt := 21) C dX0_marks_17 (by decide) ?_
    refine gi_pick [0, 1, 2, 3, 4, 5, 6, 7, 8, 9, 10, 11, 12, 13, 14, 15, 16, 17] (w' := [xO o (fu fx 5 (noteU (fx 5))) rx n, cI g (rx 0) 34 fA, cR g 3 (rx 4) 6 (uF (cpF D D 1 0 5) 5 (some q_14)), wO n f1__14 rn o, cI g (rn 1) 32 Se1_14, cZ g (rn 2) 192 Bi1_14, cZ g (rn 3) 192 Tu1_14, cI g (rn 5) 3 Ma1_14, wO d1 f1 r1 o1, wO d2 f2 r2 o2, wO d3 f3 r3 o3, wO d4 f4 r4 o4, wO d5 f5 r5 o5, wO q_14 fn rq_14 o, cI g (rq_14 1) 32 Se, cZ g (rq_14 2) 192 Bi, cZ g (rq_14 3) 192 Tu, cI g (rq_14 5) 3 Ma]) rfl rfl ?_
    exact gi_ireturn C dX0_marks_21 (Nat.le_of_ble_eq_true rfl) (Nat.le_of_ble_eq_true rfl) ⟨_, rfl, f1__14, Se1_14, Bi1_14, Tu1_14, Ma1_14, q_14, rq_14, (by first | rfl | omega), rfl, (by assumption)⟩
abbrev rmX0_sendsF : Room := { frames := 2, cells := 0, slots := 0, locals := 35 }
set_option maxHeartbeats 4000000 in
set_option maxRecDepth 100000 in
/-- EvenWords.sends(I)I -/
theorem mX0_sendsF {g : GG} (hg : OKG g) (o : Nat) (fx : Nat → Int) (rx : Nat → Nat) (n : Nat) (fn : Nat → Int) (rn : Nat → Nat) (S : Int → Int) (Se : Int → Int) (Bi : Int → Int) (Tu : Int → Int) (Ma : Int → Int) (k : Int) (hW : WR S fn Se Bi Tu Ma) (hk : Rg k) (hF : (0 ≤ k ∧ k < 31) → S 0 = 32) : Con g yX0_sends cX0_sends 2 (some .int) rmX0_sendsF [.ref o, vi k] [xO o fx rx n, wO n fn rn o, cI g (rn 1) 32 Se, cZ g (rn 2) 192 Bi, cZ g (rn 3) 192 Tu, cI g (rn 5) 3 Ma] (pI fun r_ w => r_ = (if 0 ≤ k ∧ k < 31 then -3 else -1) ∧ w = [xO o fx rx n, wO n fn rn o, cI g (rn 1) 32 Se, cZ g (rn 2) 192 Bi, cZ g (rn 3) 192 Tu, cI g (rn 5) 3 Ma]) := by
  refine con_of_go hg (by decide +kernel) (Nat.le_of_ble_eq_true rfl) ?_
  intro x C
  refine gi_lv (lv' := [(0, .ref o), (1, vi k)]) [0, 1] rfl ?_
  refine gi_iload_n C dX0_sends_0 1 rfl ?_
  refine gi_iconst C dX0_sends_1 ?_
  refine gi_bipush C dX0_sends_2 (by decide +kernel) ?_
  refine gi_runS (wr := [xO o fx rx n, wO n fn rn o, cI g (rn 1) 32 Se, cZ g (rn 2) 192 Bi, cZ g (rn 3) 192 Tu, cI g (rn 5) 3 Ma]) (rest := []) C (mX0_in C.ok k 0 30 (by omega) (by omega) (by omega)) dX0_sends_4 q220 q221 q53 q222 hdX0_in ⟨Nat.le_of_ble_eq_true rfl, Nat.le_of_ble_eq_true rfl⟩ [] [0, 1, 2, 3, 4, 5] rfl rfl rfl rfl (by decide) rfl (Nat.le_of_ble_eq_true rfl) ⟨Nat.le_of_ble_eq_true rfl, Nat.le_of_ble_eq_true rfl⟩ (kI fun r_4 w1 hv4 => ?_)
  obtain ⟨rfl, hr_4⟩ := hv4
  refine gi_pick [0, 1, 2, 3, 4, 5] (w' := [xO o fx rx n, wO n fn rn o, cI g (rn 1) 32 Se, cZ g (rn 2) 192 Bi, cZ g (rn 3) 192 Tu, cI g (rn 5) 3 Ma]) rfl rfl ?_
  refine gi_top (b := (bI (0 ≤ k ∧ k ≤ 30))) hr_4 ?_
  refine gi_if_eq (tgt := 18) C dX0_sends_7 (by decide) (bI_rg _) (fun h7 => ?_) (fun h7 => ?_)
  · skip
    replace h7 := bI_eq0.mp h7
    refine gi_iconst C dX0_sends_18 ?_
    refine gi_pick [0, 1, 2, 3, 4, 5] (w' := [xO o fx rx n, wO n fn rn o, cI g (rn 1) 32 Se, cZ g (rn 2) 192 Bi, cZ g (rn 3) 192 Tu, cI g (rn 5) 3 Ma]) rfl rfl ?_
    exact gi_ireturn C dX0_sends_19 (Nat.le_of_ble_eq_true rfl) (Nat.le_of_ble_eq_true rfl) ⟨_, rfl, (by first | exact (if_pos (by omega)).symm | exact (if_neg (by omega)).symm), rfl⟩
  · skip
    replace h7 := bI_ne0.mp h7
    refine gi_aload_n C dX0_sends_10 0 rfl ?_
    refine gi_iload_n C dX0_sends_11 1 rfl ?_
    refine gi_runV (wr := []) (rest := []) C (mX0_sentF C.ok o fx rx n fn rn S Se Bi Tu Ma k (show WR S fn Se Bi Tu Ma from (hW)) (show S 0 = 32 from (hF (by omega)))) dX0_sends_12 q411 q413 qs10 q53 q414 hdX0_sent ⟨Nat.le_of_ble_eq_true rfl, Nat.le_of_ble_eq_true rfl⟩ 0 rfl rfl [0, 1, 2, 3, 4, 5] [] rfl rfl rfl rfl (by decide) rfl (Nat.le_of_ble_eq_true rfl) ⟨Nat.le_of_ble_eq_true rfl, Nat.le_of_ble_eq_true rfl⟩ (kI fun r_12 w1 hv12 => ?_)
    obtain ⟨hr_12, rfl⟩ := hv12
    refine gi_pick [0, 1, 2, 3, 4, 5] (w' := [xO o fx rx n, wO n fn rn o, cI g (rn 1) 32 Se, cZ g (rn 2) 192 Bi, cZ g (rn 3) 192 Tu, cI g (rn 5) 3 Ma]) rfl rfl ?_
    refine gi_top (b := (-3)) hr_12 ?_
    refine gi_goto (tgt := 19) C dX0_sends_15 (by decide) ?_
    refine gi_pick [0, 1, 2, 3, 4, 5] (w' := [xO o fx rx n, wO n fn rn o, cI g (rn 1) 32 Se, cZ g (rn 2) 192 Bi, cZ g (rn 3) 192 Tu, cI g (rn 5) 3 Ma]) rfl rfl ?_
    exact gi_ireturn C dX0_sends_19 (Nat.le_of_ble_eq_true rfl) (Nat.le_of_ble_eq_true rfl) ⟨_, rfl, (by first | exact (if_pos (by omega)).symm | exact (if_neg (by omega)).symm), rfl⟩
abbrev rmX0_marksF : Room := { frames := 2, cells := 0, slots := 0, locals := 35 }
set_option maxHeartbeats 4000000 in
set_option maxRecDepth 100000 in
/-- EvenWords.marks(I)I -/
theorem mX0_marksF {g : GG} (hg : OKG g) (o : Nat) (fx : Nat → Int) (rx : Nat → Nat) (n : Nat) (fn : Nat → Int) (rn : Nat → Nat) (S : Int → Int) (Se : Int → Int) (Bi : Int → Int) (Tu : Int → Int) (Ma : Int → Int) (k : Int) (hW : WR S fn Se Bi Tu Ma) (hk : Rg k) (hF : (0 ≤ k ∧ k < 3) → S 0 = 32) : Con g yX0_marks cX0_marks 2 (some .int) rmX0_marksF [.ref o, vi k] [xO o fx rx n, wO n fn rn o, cI g (rn 1) 32 Se, cZ g (rn 2) 192 Bi, cZ g (rn 3) 192 Tu, cI g (rn 5) 3 Ma] (pI fun r_ w => r_ = (if 0 ≤ k ∧ k < 3 then -3 else -1) ∧ w = [xO o fx rx n, wO n fn rn o, cI g (rn 1) 32 Se, cZ g (rn 2) 192 Bi, cZ g (rn 3) 192 Tu, cI g (rn 5) 3 Ma]) := by
  refine con_of_go hg (by decide +kernel) (Nat.le_of_ble_eq_true rfl) ?_
  intro x C
  refine gi_lv (lv' := [(0, .ref o), (1, vi k)]) [0, 1] rfl ?_
  refine gi_iload_n C dX0_marks_0 1 rfl ?_
  refine gi_iconst C dX0_marks_1 ?_
  refine gi_iconst C dX0_marks_2 ?_
  refine gi_runS (wr := [xO o fx rx n, wO n fn rn o, cI g (rn 1) 32 Se, cZ g (rn 2) 192 Bi, cZ g (rn 3) 192 Tu, cI g (rn 5) 3 Ma]) (rest := []) C (mX0_in C.ok k 0 2 (by omega) (by omega) (by omega)) dX0_marks_3 q220 q221 q53 q222 hdX0_in ⟨Nat.le_of_ble_eq_true rfl, Nat.le_of_ble_eq_true rfl⟩ [] [0, 1, 2, 3, 4, 5] rfl rfl rfl rfl (by decide) rfl (Nat.le_of_ble_eq_true rfl) ⟨Nat.le_of_ble_eq_true rfl, Nat.le_of_ble_eq_true rfl⟩ (kI fun r_3 w1 hv3 => ?_)
  obtain ⟨rfl, hr_3⟩ := hv3
  refine gi_pick [0, 1, 2, 3, 4, 5] (w' := [xO o fx rx n, wO n fn rn o, cI g (rn 1) 32 Se, cZ g (rn 2) 192 Bi, cZ g (rn 3) 192 Tu, cI g (rn 5) 3 Ma]) rfl rfl ?_
  refine gi_top (b := (bI (0 ≤ k ∧ k ≤ 2))) hr_3 ?_
  refine gi_if_eq (tgt := 20) C dX0_marks_6 (by decide) (bI_rg _) (fun h6 => ?_) (fun h6 => ?_)
  · skip
    replace h6 := bI_eq0.mp h6
    refine gi_iconst C dX0_marks_20 ?_
    refine gi_pick [0, 1, 2, 3, 4, 5] (w' := [xO o fx rx n, wO n fn rn o, cI g (rn 1) 32 Se, cZ g (rn 2) 192 Bi, cZ g (rn 3) 192 Tu, cI g (rn 5) 3 Ma]) rfl rfl ?_
    exact gi_ireturn C dX0_marks_21 (Nat.le_of_ble_eq_true rfl) (Nat.le_of_ble_eq_true rfl) ⟨_, rfl, (by first | exact (if_pos (by omega)).symm | exact (if_neg (by omega)).symm), rfl⟩
  · skip
    replace h6 := bI_ne0.mp h6
    refine gi_aload_n C dX0_marks_9 0 rfl ?_
    refine gi_bipush C dX0_marks_10 (by decide +kernel) ?_
    refine gi_iload_n C dX0_marks_12 1 rfl ?_
    refine gi_iadd C dX0_marks_13 ?_
    refine gi_runV (wr := []) (rest := []) C (mX0_sentF C.ok o fx rx n fn rn S Se Bi Tu Ma (31 + k) (show WR S fn Se Bi Tu Ma from (hW)) (show S 0 = 32 from (hF (by omega)))) dX0_marks_14 q411 q413 qs10 q53 q414 hdX0_sent ⟨Nat.le_of_ble_eq_true rfl, Nat.le_of_ble_eq_true rfl⟩ 0 rfl rfl [0, 1, 2, 3, 4, 5] [] rfl rfl rfl rfl (by decide) rfl (Nat.le_of_ble_eq_true rfl) ⟨Nat.le_of_ble_eq_true rfl, Nat.le_of_ble_eq_true rfl⟩ (kI fun r_14 w1 hv14 => ?_)
    obtain ⟨hr_14, rfl⟩ := hv14
    refine gi_pick [0, 1, 2, 3, 4, 5] (w' := [xO o fx rx n, wO n fn rn o, cI g (rn 1) 32 Se, cZ g (rn 2) 192 Bi, cZ g (rn 3) 192 Tu, cI g (rn 5) 3 Ma]) rfl rfl ?_
    refine gi_top (b := (-3)) hr_14 ?_
    refine gi_goto (tgt := 21) C dX0_marks_17 (by decide) ?_
    refine gi_pick [0, 1, 2, 3, 4, 5] (w' := [xO o fx rx n, wO n fn rn o, cI g (rn 1) 32 Se, cZ g (rn 2) 192 Bi, cZ g (rn 3) 192 Tu, cI g (rn 5) 3 Ma]) rfl rfl ?_
    exact gi_ireturn C dX0_marks_21 (Nat.le_of_ble_eq_true rfl) (Nat.le_of_ble_eq_true rfl) ⟨_, rfl, (by first | exact (if_pos (by omega)).symm | exact (if_neg (by omega)).symm), rfl⟩
theorem hdX0_isBit : yX0_isBit.cls ≠ "java/lang/invoke/MethodHandle" ∧ yX0_isBit.cls ≠ "java/lang/invoke/VarHandle" ∧ (parseMethodDescriptor yX0_isBit.desc).map (fun d => d.parameters.length) = some 1 := by decide +kernel
abbrev rmX0_isBit : Room := { frames := 2, cells := 0, slots := 0, locals := 35 }
set_option maxHeartbeats 4000000 in
set_option maxRecDepth 100000 in
/-- EvenWords.isBit(I)Z -/
theorem mX0_isBit {g : GG} (hg : OKG g) (o : Nat) (fx : Nat → Int) (rx : Nat → Nat) (n : Nat) (fn : Nat → Int) (rn : Nat → Nat) (S : Int → Int) (Se : Int → Int) (Bi : Int → Int) (Tu : Int → Int) (Ma : Int → Int) (b : Int) (hW : WR S fn Se Bi Tu Ma) (hb : Rg b) : Con g yX0_isBit cX0_isBit 2 (some .boolean) rmX0_isBit [.ref o, vi b] [xO o fx rx n, wO n fn rn o, cI g (rn 1) 32 Se, cZ g (rn 2) 192 Bi, cZ g (rn 3) 192 Tu, cI g (rn 5) 3 Ma] (pI fun r_ w => r_ = (bI (0 ≤ b ∧ b ≤ 6 * S 0 - 1)) ∧ w = [xO o fx rx n, wO n fn rn o, cI g (rn 1) 32 Se, cZ g (rn 2) 192 Bi, cZ g (rn 3) 192 Tu, cI g (rn 5) 3 Ma]) := by
  refine con_of_go hg (by decide +kernel) (Nat.le_of_ble_eq_true rfl) ?_
  intro x C
  have hn := hW.n
  refine gi_lv (lv' := [(0, .ref o), (1, vi b)]) [0, 1] rfl ?_
  refine gi_iload_n C dX0_isBit_0 1 rfl ?_
  refine gi_iconst C dX0_isBit_1 ?_
  refine gi_aload_n C dX0_isBit_2 0 rfl ?_
  refine gi_get (v := .ref n) C in_X0 dX0_isBit_3 2 q168 0 rfl rfl (by decide) (fun _ h => h) rfl ?_
  refine gi_runV (wr := [xO o fx rx n, cI g (rn 1) 32 Se, cZ g (rn 2) 192 Bi, cZ g (rn 3) 192 Tu, cI g (rn 5) 3 Ma]) (rest := [vi 0, vi b]) C (mX1_many C.ok n fn rn o) dX0_isBit_6 q427 q397 q398 q56 q399 hdX1_many ⟨Nat.le_of_ble_eq_true rfl, Nat.le_of_ble_eq_true rfl⟩ 1 rfl rfl [1] [0, 2, 3, 4, 5] rfl rfl rfl rfl (by decide) rfl (Nat.le_of_ble_eq_true rfl) ⟨Nat.le_of_ble_eq_true rfl, Nat.le_of_ble_eq_true rfl⟩ (kI fun r_6 w1 hv6 => ?_)
  obtain ⟨hr_6, rfl⟩ := hv6
  refine gi_pick [0, 5, 1, 2, 3, 4] (w' := [xO o fx rx n, wO n fn rn o, cI g (rn 1) 32 Se, cZ g (rn 2) 192 Bi, cZ g (rn 3) 192 Tu, cI g (rn 5) 3 Ma]) rfl rfl ?_
  refine gi_top (b := (6 * fn 0)) hr_6 ?_
  refine gi_top (b := (6 * S 0)) (by omega) ?_
  refine gi_iconst C dX0_isBit_9 ?_
  refine gi_isub C dX0_isBit_10 ?_
  refine gi_runS (wr := [xO o fx rx n, wO n fn rn o, cI g (rn 1) 32 Se, cZ g (rn 2) 192 Bi, cZ g (rn 3) 192 Tu, cI g (rn 5) 3 Ma]) (rest := []) C (mX0_in C.ok b 0 ((6 * S 0) - 1) (by omega) (by omega) (by omega)) dX0_isBit_11 q220 q221 q53 q222 hdX0_in ⟨Nat.le_of_ble_eq_true rfl, Nat.le_of_ble_eq_true rfl⟩ [] [0, 1, 2, 3, 4, 5] rfl rfl rfl rfl (by decide) rfl (Nat.le_of_ble_eq_true rfl) ⟨Nat.le_of_ble_eq_true rfl, Nat.le_of_ble_eq_true rfl⟩ (kI fun r_11 w1 hv11 => ?_)
  obtain ⟨rfl, hr_11⟩ := hv11
  refine gi_pick [0, 1, 2, 3, 4, 5] (w' := [xO o fx rx n, wO n fn rn o, cI g (rn 1) 32 Se, cZ g (rn 2) 192 Bi, cZ g (rn 3) 192 Tu, cI g (rn 5) 3 Ma]) rfl rfl ?_
  refine gi_top (b := (bI (0 ≤ b ∧ b ≤ ((6 * S 0) - 1)))) hr_11 ?_
  refine gi_top (b := (bI (0 ≤ b ∧ b ≤ 6 * S 0 - 1))) (rfl) ?_
  refine gi_pick [0, 1, 2, 3, 4, 5] (w' := [xO o fx rx n, wO n fn rn o, cI g (rn 1) 32 Se, cZ g (rn 2) 192 Bi, cZ g (rn 3) 192 Tu, cI g (rn 5) 3 Ma]) rfl rfl ?_
  exact gi_zreturn C dX0_isBit_14 (Nat.le_of_ble_eq_true rfl) (Nat.le_of_ble_eq_true rfl) (bI_01 _) ⟨_, rfl, (by first | rfl | omega), rfl⟩
theorem hdX0_flips : yX0_flips.cls ≠ "java/lang/invoke/MethodHandle" ∧ yX0_flips.cls ≠ "java/lang/invoke/VarHandle" ∧ (parseMethodDescriptor yX0_flips.desc).map (fun d => d.parameters.length) = some 1 := by decide +kernel
abbrev rmX0_flipsF : Room := { frames := 3, cells := 0, slots := 0, locals := 56 }
set_option maxHeartbeats 4000000 in
set_option maxRecDepth 100000 in
/-- EvenWords.flips(I)I -/
theorem mX0_flipsF {g : GG} (hg : OKG g) (o : Nat) (fx : Nat → Int) (rx : Nat → Nat) (n : Nat) (fn : Nat → Int) (rn : Nat → Nat) (S : Int → Int) (Se : Int → Int) (Bi : Int → Int) (Tu : Int → Int) (Ma : Int → Int) (b : Int) (hW : WR S fn Se Bi Tu Ma) (hb : Rg b) (hF : ¬ flipsB S b) : Con g yX0_flips cX0_flips 2 (some .int) rmX0_flipsF [.ref o, vi b] [xO o fx rx n, wO n fn rn o, cI g (rn 1) 32 Se, cZ g (rn 2) 192 Bi, cZ g (rn 3) 192 Tu, cI g (rn 5) 3 Ma] (pI fun r_ w => r_ = (-1) ∧ w = [xO o fx rx n, wO n fn rn o, cI g (rn 1) 32 Se, cZ g (rn 2) 192 Bi, cZ g (rn 3) 192 Tu, cI g (rn 5) 3 Ma]) := by
  refine con_of_go hg (by decide +kernel) (Nat.le_of_ble_eq_true rfl) ?_
  intro x C
  refine gi_lv (lv' := [(0, .ref o), (1, vi b)]) [0, 1] rfl ?_
  refine gi_aload_n C dX0_flips_0 0 rfl ?_
  refine gi_iload_n C dX0_flips_1 1 rfl ?_
  refine gi_runV (wr := []) (rest := []) C (mX0_isBit C.ok o fx rx n fn rn S Se Bi Tu Ma b (show WR S fn Se Bi Tu Ma from (hW)) (show Rg b from (by omega))) dX0_flips_2 q423 q425 qs11 q53 q426 hdX0_isBit ⟨Nat.le_of_ble_eq_true rfl, Nat.le_of_ble_eq_true rfl⟩ 0 rfl rfl [0, 1, 2, 3, 4, 5] [] rfl rfl rfl rfl (by decide) rfl (Nat.le_of_ble_eq_true rfl) ⟨Nat.le_of_ble_eq_true rfl, Nat.le_of_ble_eq_true rfl⟩ (kI fun r_2 w1 hv2 => ?_)
  obtain ⟨hr_2, rfl⟩ := hv2
  refine gi_pick [0, 1, 2, 3, 4, 5] (w' := [xO o fx rx n, wO n fn rn o, cI g (rn 1) 32 Se, cZ g (rn 2) 192 Bi, cZ g (rn 3) 192 Tu, cI g (rn 5) 3 Ma]) rfl rfl ?_
  refine gi_top (b := (bI (0 ≤ b ∧ b ≤ 6 * S 0 - 1))) hr_2 ?_
  refine gi_if_ne (tgt := 10) C dX0_flips_5 (by decide) (bI_rg _) (fun h5 => ?_) (fun h5 => ?_)
  · skip
    replace h5 := bI_ne0.mp h5
    exact absurd h5 hF
  · skip
    replace h5 := bI_eq0.mp h5
    refine gi_iconst C dX0_flips_8 ?_
    refine gi_pick [0, 1, 2, 3, 4, 5] (w' := [xO o fx rx n, wO n fn rn o, cI g (rn 1) 32 Se, cZ g (rn 2) 192 Bi, cZ g (rn 3) 192 Tu, cI g (rn 5) 3 Ma]) rfl rfl ?_
    exact gi_ireturn C dX0_flips_9 (Nat.le_of_ble_eq_true rfl) (Nat.le_of_ble_eq_true rfl) ⟨_, rfl, (by first | rfl | omega), rfl⟩
abbrev rmX0_flips : Room := { frames := 3, cells := 5, slots := 427, locals := 105 }
set_option maxHeartbeats 4000000 in
set_option maxRecDepth 100000 in
/-- EvenWords.flips(I)I -/
theorem mX0_flips {g : GG} (hg : OKG g) (o : Nat) (fx : Nat → Int) (rx : Nat → Nat) (n : Nat) (fn : Nat → Int) (rn : Nat → Nat) (S : Int → Int) (Se : Int → Int) (Bi : Int → Int) (Tu : Int → Int) (Ma : Int → Int) (D : Int → Option Nat) (b : Int) (hW : WR S fn Se Bi Tu Ma) (hu : 0 ≤ fx 5 ∧ fx 5 < 6) (hb : flipsB S b) : Con g yX0_flips cX0_flips 2 (some .int) rmX0_flips [.ref o, vi b] [xO o fx rx n, cR g 3 (rx 4) 6 D, wO n fn rn o, cI g (rn 1) 32 Se, cZ g (rn 2) 192 Bi, cZ g (rn 3) 192 Tu, cI g (rn 5) 3 Ma] (pI fun r_ w => ∃ (q : Nat), ∃ (rq : Nat → Nat), r_ = (1 - S (36 + b)) ∧ w = [xO o (fu fx 5 (noteU (fx 5))) rx n, cR g 3 (rx 4) 6 (uF D (fx 5) (some q)), wO n fn rn o, cI g (rn 1) 32 Se, cZ g (rn 2) 192 (uF Bi b (1 - Bi b)), cZ g (rn 3) 192 (uF Tu b (1 - Tu b)), cI g (rn 5) 3 Ma, wO q fn rq o, cI g (rq 1) 32 Se, cZ g (rq 2) 192 Bi, cZ g (rq 3) 192 Tu, cI g (rq 5) 3 Ma]) := by
  refine con_of_go hg (by decide +kernel) (Nat.le_of_ble_eq_true rfl) ?_
  intro x C
  have hn0 := hW.n
  have hbb := hW.b hb.1 (by omega)
  have hz := hW.z hb.1 (by omega)
  refine gi_lv (lv' := [(0, .ref o), (1, vi b)]) [0, 1] rfl ?_
  refine gi_aload_n C dX0_flips_0 0 rfl ?_
  refine gi_iload_n C dX0_flips_1 1 rfl ?_
  refine gi_runV (wr := [cR g 3 (rx 4) 6 D]) (rest := []) C (mX0_isBit C.ok o fx rx n fn rn S Se Bi Tu Ma b (show WR S fn Se Bi Tu Ma from (hW)) (show Rg b from (by omega))) dX0_flips_2 q423 q425 qs11 q53 q426 hdX0_isBit ⟨Nat.le_of_ble_eq_true rfl, Nat.le_of_ble_eq_true rfl⟩ 0 rfl rfl [0, 2, 3, 4, 5, 6] [1] rfl rfl rfl rfl (by decide) rfl (Nat.le_of_ble_eq_true rfl) ⟨Nat.le_of_ble_eq_true rfl, Nat.le_of_ble_eq_true rfl⟩ (kI fun r_2 w1 hv2 => ?_)
  obtain ⟨hr_2, rfl⟩ := hv2
  refine gi_pick [1, 0, 2, 3, 4, 5, 6] (w' := [xO o fx rx n, cR g 3 (rx 4) 6 D, wO n fn rn o, cI g (rn 1) 32 Se, cZ g (rn 2) 192 Bi, cZ g (rn 3) 192 Tu, cI g (rn 5) 3 Ma]) rfl rfl ?_
  refine gi_top (b := (bI (0 ≤ b ∧ b ≤ 6 * S 0 - 1))) hr_2 ?_
  refine gi_if_ne (tgt := 10) C dX0_flips_5 (by decide) (bI_rg _) (fun h5 => ?_) (fun h5 => ?_)
  · skip
    replace h5 := bI_ne0.mp h5
    refine gi_aload_n C dX0_flips_10 0 rfl ?_
    refine gi_runV (wr := []) (rest := []) C (mX0_notes C.ok o fx rx n fn rn S Se Bi Tu Ma D (show WR S fn Se Bi Tu Ma from (hW)) (show 0 ≤ fx 5 ∧ fx 5 < 6 from (by omega))) dX0_flips_11 q379 q381 qs8 q53 q382 hdX0_notes ⟨Nat.le_of_ble_eq_true rfl, Nat.le_of_ble_eq_true rfl⟩ 0 rfl rfl [0, 1, 2, 3, 4, 5, 6] [] rfl rfl rfl rfl (by decide) rfl (Nat.le_of_ble_eq_true rfl) ⟨Nat.le_of_ble_eq_true rfl, Nat.le_of_ble_eq_true rfl⟩ (kV fun w1 hv11 => ?_)
    obtain ⟨q_11, rq_11, rfl⟩ := hv11
    refine gi_pick [0, 1, 2, 3, 4, 5, 6, 7, 8, 9, 10, 11] (w' := [xO o (fu fx 5 (noteU (fx 5))) rx n, cR g 3 (rx 4) 6 (uF D (fx 5) (some q_11)), wO n fn rn o, cI g (rn 1) 32 Se, cZ g (rn 2) 192 Bi, cZ g (rn 3) 192 Tu, cI g (rn 5) 3 Ma, wO q_11 fn rq_11 o, cI g (rq_11 1) 32 Se, cZ g (rq_11 2) 192 Bi, cZ g (rq_11 3) 192 Tu, cI g (rq_11 5) 3 Ma]) rfl rfl ?_
    refine gi_wide (k' := 5) (n' := 427) (Nat.le_of_eq (by first | rfl | (dsimp only; omega))) (Nat.le_of_eq (by first | rfl | (dsimp only; omega))) ?_
    refine gi_aload_n C dX0_flips_14 0 rfl ?_
    refine gi_get (v := .ref n) C in_X0 dX0_flips_15 2 q168 0 rfl rfl (by decide) (fun _ h => h) rfl ?_
    refine gi_iload_n C dX0_flips_18 1 rfl ?_
    refine gi_runV (wr := [xO o (fu fx 5 (noteU (fx 5))) rx n, cR g 3 (rx 4) 6 (uF D (fx 5) (some q_11)), cI g (rn 1) 32 Se, cI g (rn 5) 3 Ma, wO q_11 fn rq_11 o, cI g (rq_11 1) 32 Se, cZ g (rq_11 2) 192 Bi, cZ g (rq_11 3) 192 Tu, cI g (rq_11 5) 3 Ma]) (rest := []) C (mX1_turns C.ok n fn rn o Bi Tu b (show 0 ≤ b ∧ b < 192 from (by omega)) (show Bi b = 0 ∨ Bi b = 1 from (hz.1)) (show Tu b = 0 ∨ Tu b = 1 from (hz.2))) dX0_flips_19 q428 q429 q430 q56 q431 hdX1_turns ⟨Nat.le_of_ble_eq_true rfl, Nat.le_of_ble_eq_true rfl⟩ 2 rfl rfl [2, 4, 5] [0, 1, 3, 6, 7, 8, 9, 10, 11] rfl rfl rfl rfl (by decide) rfl (Nat.le_of_ble_eq_true rfl) ⟨Nat.le_of_ble_eq_true rfl, Nat.le_of_ble_eq_true rfl⟩ (kI fun r_19 w1 hv19 => ?_)
    obtain ⟨hr_19, rfl⟩ := hv19
    refine gi_pick [0, 1, 9, 2, 10, 11, 3, 4, 5, 6, 7, 8] (w' := [xO o (fu fx 5 (noteU (fx 5))) rx n, cR g 3 (rx 4) 6 (uF D (fx 5) (some q_11)), wO n fn rn o, cI g (rn 1) 32 Se, cZ g (rn 2) 192 (uF Bi b (1 - Bi b)), cZ g (rn 3) 192 (uF Tu b (1 - Tu b)), cI g (rn 5) 3 Ma, wO q_11 fn rq_11 o, cI g (rq_11 1) 32 Se, cZ g (rq_11 2) 192 Bi, cZ g (rq_11 3) 192 Tu, cI g (rq_11 5) 3 Ma]) rfl rfl ?_
    refine gi_top (b := (1 - Bi b)) hr_19 ?_
    refine gi_pick [0, 1, 2, 3, 4, 5, 6, 7, 8, 9, 10, 11] (w' := [xO o (fu fx 5 (noteU (fx 5))) rx n, cR g 3 (rx 4) 6 (uF D (fx 5) (some q_11)), wO n fn rn o, cI g (rn 1) 32 Se, cZ g (rn 2) 192 (uF Bi b (1 - Bi b)), cZ g (rn 3) 192 (uF Tu b (1 - Tu b)), cI g (rn 5) 3 Ma, wO q_11 fn rq_11 o, cI g (rq_11 1) 32 Se, cZ g (rq_11 2) 192 Bi, cZ g (rq_11 3) 192 Tu, cI g (rq_11 5) 3 Ma]) rfl rfl ?_
    exact gi_ireturn C dX0_flips_22 (Nat.le_of_ble_eq_true rfl) (Nat.le_of_ble_eq_true rfl) ⟨_, rfl, q_11, rq_11, (by rw [hbb]), rfl⟩
  · skip
    replace h5 := bI_eq0.mp h5
    exact absurd hb h5
theorem hdX0_clears : yX0_clears.cls ≠ "java/lang/invoke/MethodHandle" ∧ yX0_clears.cls ≠ "java/lang/invoke/VarHandle" ∧ (parseMethodDescriptor yX0_clears.desc).map (fun d => d.parameters.length) = some 0 := by decide +kernel
abbrev rmX0_clears : Room := { frames := 3, cells := 10, slots := 854, locals := 105 }
set_option maxHeartbeats 4000000 in
set_option maxRecDepth 100000 in
/-- EvenWords.clears()I -/
theorem mX0_clears {g : GG} (hg : OKG g) (o : Nat) (fx : Nat → Int) (rx : Nat → Nat) (n : Nat) (fn : Nat → Int) (rn : Nat → Nat) (S : Int → Int) (Se : Int → Int) (Bi : Int → Int) (Tu : Int → Int) (Ma : Int → Int) (D : Int → Option Nat) (hW : WR S fn Se Bi Tu Ma) (hu : 0 ≤ fx 5 ∧ fx 5 < 6) (hn : S 0 ≠ 0) : Con g yX0_clears cX0_clears 2 (some .int) rmX0_clears [.ref o] [xO o fx rx n, cR g 3 (rx 4) 6 D, wO n fn rn o, cI g (rn 1) 32 Se, cZ g (rn 2) 192 Bi, cZ g (rn 3) 192 Tu, cI g (rn 5) 3 Ma] (pI fun r_ w => ∃ (n1 : Nat), ∃ (rn1 : Nat → Nat), ∃ (q : Nat), ∃ (rq : Nat → Nat), r_ = (S 0) ∧ w = [xO o (fu fx 5 (noteU (fx 5))) rx n1, cR g 3 (rx 4) 6 (uF D (fx 5) (some q)), wO n fn rn o, cI g (rn 1) 32 Se, cZ g (rn 2) 192 Bi, cZ g (rn 3) 192 Tu, cI g (rn 5) 3 Ma, wO q fn rq o, cI g (rq 1) 32 Se, cZ g (rq 2) 192 Bi, cZ g (rq 3) 192 Tu, cI g (rq 5) 3 Ma, wO n1 (fun _ => 0) rn1 o, cI g (rn1 1) 32 (fun _ => 0), cZ g (rn1 2) 192 (fun _ => 0), cZ g (rn1 3) 192 (fun _ => 0), cI g (rn1 5) 3 (fun _ => 0)]) := by
  refine con_of_go hg (by decide +kernel) (Nat.le_of_ble_eq_true rfl) ?_
  intro x C
  have hn0 := hW.n
  refine gi_lv (lv' := [(0, .ref o)]) [0] rfl ?_
  refine gi_aload_n C dX0_clears_0 0 rfl ?_
  refine gi_get (v := .ref n) C in_X0 dX0_clears_1 2 q168 0 rfl rfl (by decide) (fun _ h => h) rfl ?_
  refine gi_getN (v := vi (fn 0)) C in_X1 dX0_clears_4 0 q119 2 rfl rfl (by decide) (fun _ h => h) rfl ?_
  refine gi_istore_n (lv' := [(1, vi (fn 0)), (0, .ref o)]) C dX0_clears_7 (by decide) rfl ?_
  refine gi_iload_n C dX0_clears_8 0 rfl ?_
  refine gi_if_ne (tgt := 15) C dX0_clears_9 (by decide) (by omega) (fun h9 => ?_) (fun h9 => ?_)
  · skip
    refine gi_aload_n C dX0_clears_15 1 rfl ?_
    refine gi_runV (wr := []) (rest := []) C (mX0_notes C.ok o fx rx n fn rn S Se Bi Tu Ma D (show WR S fn Se Bi Tu Ma from (hW)) (show 0 ≤ fx 5 ∧ fx 5 < 6 from (by omega))) dX0_clears_16 q379 q381 qs8 q53 q382 hdX0_notes ⟨Nat.le_of_ble_eq_true rfl, Nat.le_of_ble_eq_true rfl⟩ 0 rfl rfl [0, 1, 2, 3, 4, 5, 6] [] rfl rfl rfl rfl (by decide) rfl (Nat.le_of_ble_eq_true rfl) ⟨Nat.le_of_ble_eq_true rfl, Nat.le_of_ble_eq_true rfl⟩ (kV fun w1 hv16 => ?_)
    obtain ⟨q_16, rq_16, rfl⟩ := hv16
    refine gi_pick [0, 1, 2, 3, 4, 5, 6, 7, 8, 9, 10, 11] (w' := [xO o (fu fx 5 (noteU (fx 5))) rx n, cR g 3 (rx 4) 6 (uF D (fx 5) (some q_16)), wO n fn rn o, cI g (rn 1) 32 Se, cZ g (rn 2) 192 Bi, cZ g (rn 3) 192 Tu, cI g (rn 5) 3 Ma, wO q_16 fn rq_16 o, cI g (rq_16 1) 32 Se, cZ g (rq_16 2) 192 Bi, cZ g (rq_16 3) 192 Tu, cI g (rq_16 5) 3 Ma]) rfl rfl ?_
    refine gi_wide (k' := 5) (n' := 427) (Nat.le_of_eq (by first | rfl | (dsimp only; omega))) (Nat.le_of_eq (by first | rfl | (dsimp only; omega))) ?_
    refine gi_aload_n C dX0_clears_19 1 rfl ?_
    refine gi_new (c := 1) (N := 8) (fs := [vi 0, .null, .null, .null, vi 0, .null, vi 0, .null]) C in_X1 tyX1 tyX1_ok dX0_clears_20 q111 q112 q56 rfl (newfsX1) (Nat.le_of_ble_eq_true rfl) (Nat.le_of_ble_eq_true rfl) (fun q20 => ?_)
    refine gi_ws (w' := [xO o (fu fx 5 (noteU (fx 5))) rx n, cR g 3 (rx 4) 6 (uF D (fx 5) (some q_16)), wO n fn rn o, cI g (rn 1) 32 Se, cZ g (rn 2) 192 Bi, cZ g (rn 3) 192 Tu, cI g (rn 5) 3 Ma, wO q_16 fn rq_16 o, cI g (rq_16 1) 32 Se, cZ g (rq_16 2) 192 Bi, cZ g (rq_16 3) 192 Tu, cI g (rq_16 5) 3 Ma, cO q20 1 [vi 0, .null, .null, .null, vi 0, .null, vi 0, .null]]) rfl ?_
    refine gi_dup C dX0_clears_23 rfl ?_
    refine gi_aload_n C dX0_clears_24 1 rfl ?_
    refine gi_runIN (wr := [xO o (fu fx 5 (noteU (fx 5))) rx n, cR g 3 (rx 4) 6 (uF D (fx 5) (some q_16)), wO n fn rn o, cI g (rn 1) 32 Se, cZ g (rn 2) 192 Bi, cZ g (rn 3) 192 Tu, cI g (rn 5) 3 Ma, wO q_16 fn rq_16 o, cI g (rq_16 1) 32 Se, cZ g (rq_16 2) 192 Bi, cZ g (rq_16 3) 192 Tu, cI g (rq_16 5) 3 Ma]) (rest := [.ref q20, .ref o]) C (mX1_init C.ok q20 o) dX0_clears_25 q113 q114 q56 q115 rfl hdX1_init ⟨Nat.le_of_ble_eq_true rfl, Nat.le_of_ble_eq_true rfl⟩ [12] [0, 1, 2, 3, 4, 5, 6, 7, 8, 9, 10, 11] rfl rfl rfl rfl (by decide) rfl (Nat.le_of_ble_eq_true rfl) ⟨Nat.le_of_ble_eq_true rfl, Nat.le_of_ble_eq_true rfl⟩ (kV fun w1 hv25 => ?_)
    obtain ⟨r_25, rfl⟩ := hv25
    refine gi_pick [0, 1, 2, 3, 4, 5, 6, 7, 8, 9, 10, 11, 12, 13, 14, 15, 16] (w' := [xO o (fu fx 5 (noteU (fx 5))) rx n, cR g 3 (rx 4) 6 (uF D (fx 5) (some q_16)), wO n fn rn o, cI g (rn 1) 32 Se, cZ g (rn 2) 192 Bi, cZ g (rn 3) 192 Tu, cI g (rn 5) 3 Ma, wO q_16 fn rq_16 o, cI g (rq_16 1) 32 Se, cZ g (rq_16 2) 192 Bi, cZ g (rq_16 3) 192 Tu, cI g (rq_16 5) 3 Ma, wO q20 (fun _ => 0) r_25 o, cI g (r_25 1) 32 (fun _ => 0), cZ g (r_25 2) 192 (fun _ => 0), cZ g (r_25 3) 192 (fun _ => 0), cI g (r_25 5) 3 (fun _ => 0)]) rfl rfl ?_
    refine gi_wide (k' := 10) (n' := 854) (Nat.le_of_eq (by first | rfl | (dsimp only; omega))) (Nat.le_of_eq (by first | rfl | (dsimp only; omega))) ?_
    refine gi_put (w' := [xO o (fu fx 5 (noteU (fx 5))) rx q20, cR g 3 (rx 4) 6 (uF D (fx 5) (some q_16)), wO n fn rn o, cI g (rn 1) 32 Se, cZ g (rn 2) 192 Bi, cZ g (rn 3) 192 Tu, cI g (rn 5) 3 Ma, wO q_16 fn rq_16 o, cI g (rq_16 1) 32 Se, cZ g (rq_16 2) 192 Bi, cZ g (rq_16 3) 192 Tu, cI g (rq_16 5) 3 Ma, wO q20 (fun _ => 0) r_25 o, cI g (r_25 1) 32 (fun _ => 0), cZ g (r_25 2) 192 (fun _ => 0), cZ g (r_25 3) 192 (fun _ => 0), cI g (r_25 5) 3 (fun _ => 0)]) C in_X0 tyX0 tyX0_ok nmX0 dX0_clears_28 2 q168 0 rfl rfl (by decide) (fun _ h => h) rfl rfl ⟨rfl, rfl⟩ (Nat.le_of_ble_eq_true rfl) rfl ?_
    refine gi_iload_n C dX0_clears_31 0 rfl ?_
    refine gi_pick [0, 1, 2, 3, 4, 5, 6, 7, 8, 9, 10, 11, 12, 13, 14, 15, 16] (w' := [xO o (fu fx 5 (noteU (fx 5))) rx q20, cR g 3 (rx 4) 6 (uF D (fx 5) (some q_16)), wO n fn rn o, cI g (rn 1) 32 Se, cZ g (rn 2) 192 Bi, cZ g (rn 3) 192 Tu, cI g (rn 5) 3 Ma, wO q_16 fn rq_16 o, cI g (rq_16 1) 32 Se, cZ g (rq_16 2) 192 Bi, cZ g (rq_16 3) 192 Tu, cI g (rq_16 5) 3 Ma, wO q20 (fun _ => 0) r_25 o, cI g (r_25 1) 32 (fun _ => 0), cZ g (r_25 2) 192 (fun _ => 0), cZ g (r_25 3) 192 (fun _ => 0), cI g (r_25 5) 3 (fun _ => 0)]) rfl rfl ?_
    exact gi_ireturn C dX0_clears_32 (Nat.le_of_ble_eq_true rfl) (Nat.le_of_ble_eq_true rfl) ⟨_, rfl, q20, r_25, q_16, rq_16, (by omega), rfl⟩
  · skip
    exact absurd h9 (by omega)
abbrev rmX0_flips6 : Room := { frames := 3, cells := 5, slots := 427, locals := 105 }
set_option maxHeartbeats 4000000 in
set_option maxRecDepth 100000 in
/-- EvenWords.flips(I)I -/
theorem mX0_flips6 {g : GG} (hg : OKG g) (o : Nat) (fx : Nat → Int) (rx : Nat → Nat) (n : Nat) (fn : Nat → Int) (rn : Nat → Nat) (S : Int → Int) (Se : Int → Int) (Bi : Int → Int) (Tu : Int → Int) (Ma : Int → Int) (D : Int → Option Nat) (d1 : Nat) (f1 : Nat → Int) (r1 : Nat → Nat) (o1 : Nat) (d2 : Nat) (f2 : Nat → Int) (r2 : Nat → Nat) (o2 : Nat) (d3 : Nat) (f3 : Nat → Int) (r3 : Nat → Nat) (o3 : Nat) (d4 : Nat) (f4 : Nat → Int) (r4 : Nat → Nat) (o4 : Nat) (d5 : Nat) (f5 : Nat → Int) (r5 : Nat → Nat) (o5 : Nat) (b : Int) (hW : WR S fn Se Bi Tu Ma) (hd1 : D 1 = some d1) (hd2 : D 2 = some d2) (hd3 : D 3 = some d3) (hd4 : D 4 = some d4) (hd5 : D 5 = some d5) (hu : fx 5 = 6) (hb : flipsB S b) : Con g yX0_flips cX0_flips 2 (some .int) rmX0_flips6 [.ref o, vi b] [xO o fx rx n, cR g 3 (rx 4) 6 D, wO n fn rn o, cI g (rn 1) 32 Se, cZ g (rn 2) 192 Bi, cZ g (rn 3) 192 Tu, cI g (rn 5) 3 Ma, wO d1 f1 r1 o1, wO d2 f2 r2 o2, wO d3 f3 r3 o3, wO d4 f4 r4 o4, wO d5 f5 r5 o5] (pI fun r_ w => ∃ (q : Nat), ∃ (rq : Nat → Nat), r_ = (1 - S (36 + b)) ∧ w = [xO o (fu fx 5 (noteU (fx 5))) rx n, cR g 3 (rx 4) 6 (uF (cpF D D 1 0 5) 5 (some q)), wO n fn rn o, cI g (rn 1) 32 Se, cZ g (rn 2) 192 (uF Bi b (1 - Bi b)), cZ g (rn 3) 192 (uF Tu b (1 - Tu b)), cI g (rn 5) 3 Ma, wO d1 f1 r1 o1, wO d2 f2 r2 o2, wO d3 f3 r3 o3, wO d4 f4 r4 o4, wO d5 f5 r5 o5, wO q fn rq o, cI g (rq 1) 32 Se, cZ g (rq 2) 192 Bi, cZ g (rq 3) 192 Tu, cI g (rq 5) 3 Ma]) := by
  refine con_of_go hg (by decide +kernel) (Nat.le_of_ble_eq_true rfl) ?_
  intro x C
  have hn0 := hW.n
  have hbb := hW.b hb.1 (by omega)
  have hz := hW.z hb.1 (by omega)
  refine gi_lv (lv' := [(0, .ref o), (1, vi b)]) [0, 1] rfl ?_
  refine gi_aload_n C dX0_flips_0 0 rfl ?_
  refine gi_iload_n C dX0_flips_1 1 rfl ?_
  refine gi_runV (wr := [cR g 3 (rx 4) 6 D, wO d1 f1 r1 o1, wO d2 f2 r2 o2, wO d3 f3 r3 o3, wO d4 f4 r4 o4, wO d5 f5 r5 o5]) (rest := []) C (mX0_isBit C.ok o fx rx n fn rn S Se Bi Tu Ma b (show WR S fn Se Bi Tu Ma from (hW)) (show Rg b from (by omega))) dX0_flips_2 q423 q425 qs11 q53 q426 hdX0_isBit ⟨Nat.le_of_ble_eq_true rfl, Nat.le_of_ble_eq_true rfl⟩ 0 rfl rfl [0, 2, 3, 4, 5, 6] [1, 7, 8, 9, 10, 11] rfl rfl rfl rfl (by decide) rfl (Nat.le_of_ble_eq_true rfl) ⟨Nat.le_of_ble_eq_true rfl, Nat.le_of_ble_eq_true rfl⟩ (kI fun r_2 w1 hv2 => ?_)
  obtain ⟨hr_2, rfl⟩ := hv2
  refine gi_pick [6, 0, 7, 8, 9, 10, 11, 1, 2, 3, 4, 5] (w' := [xO o fx rx n, cR g 3 (rx 4) 6 D, wO n fn rn o, cI g (rn 1) 32 Se, cZ g (rn 2) 192 Bi, cZ g (rn 3) 192 Tu, cI g (rn 5) 3 Ma, wO d1 f1 r1 o1, wO d2 f2 r2 o2, wO d3 f3 r3 o3, wO d4 f4 r4 o4, wO d5 f5 r5 o5]) rfl rfl ?_
  refine gi_top (b := (bI (0 ≤ b ∧ b ≤ 6 * S 0 - 1))) hr_2 ?_
  refine gi_if_ne (tgt := 10) C dX0_flips_5 (by decide) (bI_rg _) (fun h5 => ?_) (fun h5 => ?_)
  · skip
    replace h5 := bI_ne0.mp h5
    refine gi_aload_n C dX0_flips_10 0 rfl ?_
    refine gi_runV (wr := []) (rest := []) C (mX0_notes6 C.ok o fx rx n fn rn S Se Bi Tu Ma D d1 f1 r1 o1 d2 f2 r2 o2 d3 f3 r3 o3 d4 f4 r4 o4 d5 f5 r5 o5 (show WR S fn Se Bi Tu Ma from (hW)) (show D 1 = some d1 from (hd1)) (show D 2 = some d2 from (hd2)) (show D 3 = some d3 from (hd3)) (show D 4 = some d4 from (hd4)) (show D 5 = some d5 from (hd5)) (show fx 5 = 6 from (by omega))) dX0_flips_11 q379 q381 qs8 q53 q382 hdX0_notes ⟨Nat.le_of_ble_eq_true rfl, Nat.le_of_ble_eq_true rfl⟩ 0 rfl rfl [0, 1, 2, 3, 4, 5, 6, 7, 8, 9, 10, 11] [] rfl rfl rfl rfl (by decide) rfl (Nat.le_of_ble_eq_true rfl) ⟨Nat.le_of_ble_eq_true rfl, Nat.le_of_ble_eq_true rfl⟩ (kV fun w1 hv11 => ?_)
    obtain ⟨q_11, rq_11, rfl⟩ := hv11
    refine gi_pick [0, 1, 2, 3, 4, 5, 6, 7, 8, 9, 10, 11, 12, 13, 14, 15, 16] (w' := [xO o (fu fx 5 (noteU (fx 5))) rx n, cR g 3 (rx 4) 6 (uF (cpF D D 1 0 5) 5 (some q_11)), wO n fn rn o, cI g (rn 1) 32 Se, cZ g (rn 2) 192 Bi, cZ g (rn 3) 192 Tu, cI g (rn 5) 3 Ma, wO d1 f1 r1 o1, wO d2 f2 r2 o2, wO d3 f3 r3 o3, wO d4 f4 r4 o4, wO d5 f5 r5 o5, wO q_11 fn rq_11 o, cI g (rq_11 1) 32 Se, cZ g (rq_11 2) 192 Bi, cZ g (rq_11 3) 192 Tu, cI g (rq_11 5) 3 Ma]) rfl rfl ?_
    refine gi_wide (k' := 5) (n' := 427) (Nat.le_of_eq (by first | rfl | (dsimp only; omega))) (Nat.le_of_eq (by first | rfl | (dsimp only; omega))) ?_
    refine gi_aload_n C dX0_flips_14 0 rfl ?_
    refine gi_get (v := .ref n) C in_X0 dX0_flips_15 2 q168 0 rfl rfl (by decide) (fun _ h => h) rfl ?_
    refine gi_iload_n C dX0_flips_18 1 rfl ?_
    refine gi_runV (wr := [xO o (fu fx 5 (noteU (fx 5))) rx n, cR g 3 (rx 4) 6 (uF (cpF D D 1 0 5) 5 (some q_11)), cI g (rn 1) 32 Se, cI g (rn 5) 3 Ma, wO d1 f1 r1 o1, wO d2 f2 r2 o2, wO d3 f3 r3 o3, wO d4 f4 r4 o4, wO d5 f5 r5 o5, wO q_11 fn rq_11 o, cI g (rq_11 1) 32 Se, cZ g (rq_11 2) 192 Bi, cZ g (rq_11 3) 192 Tu, cI g (rq_11 5) 3 Ma]) (rest := []) C (mX1_turns C.ok n fn rn o Bi Tu b (show 0 ≤ b ∧ b < 192 from (by omega)) (show Bi b = 0 ∨ Bi b = 1 from (hz.1)) (show Tu b = 0 ∨ Tu b = 1 from (hz.2))) dX0_flips_19 q428 q429 q430 q56 q431 hdX1_turns ⟨Nat.le_of_ble_eq_true rfl, Nat.le_of_ble_eq_true rfl⟩ 2 rfl rfl [2, 4, 5] [0, 1, 3, 6, 7, 8, 9, 10, 11, 12, 13, 14, 15, 16] rfl rfl rfl rfl (by decide) rfl (Nat.le_of_ble_eq_true rfl) ⟨Nat.le_of_ble_eq_true rfl, Nat.le_of_ble_eq_true rfl⟩ (kI fun r_19 w1 hv19 => ?_)
    obtain ⟨hr_19, rfl⟩ := hv19
    refine gi_pick [0, 1, 14, 2, 15, 16, 3, 4, 5, 6, 7, 8, 9, 10, 11, 12, 13] (w' := [xO o (fu fx 5 (noteU (fx 5))) rx n, cR g 3 (rx 4) 6 (uF (cpF D D 1 0 5) 5 (some q_11)), wO n fn rn o, cI g (rn 1) 32 Se, cZ g (rn 2) 192 (uF Bi b (1 - Bi b)), cZ g (rn 3) 192 (uF Tu b (1 - Tu b)), cI g (rn 5) 3 Ma, wO d1 f1 r1 o1, wO d2 f2 r2 o2, wO d3 f3 r3 o3, wO d4 f4 r4 o4, wO d5 f5 r5 o5, wO q_11 fn rq_11 o, cI g (rq_11 1) 32 Se, cZ g (rq_11 2) 192 Bi, cZ g (rq_11 3) 192 Tu, cI g (rq_11 5) 3 Ma]) rfl rfl ?_
    refine gi_top (b := (1 - Bi b)) hr_19 ?_
    refine gi_pick [0, 1, 2, 3, 4, 5, 6, 7, 8, 9, 10, 11, 12, 13, 14, 15, 16] (w' := [xO o (fu fx 5 (noteU (fx 5))) rx n, cR g 3 (rx 4) 6 (uF (cpF D D 1 0 5) 5 (some q_11)), wO n fn rn o, cI g (rn 1) 32 Se, cZ g (rn 2) 192 (uF Bi b (1 - Bi b)), cZ g (rn 3) 192 (uF Tu b (1 - Tu b)), cI g (rn 5) 3 Ma, wO d1 f1 r1 o1, wO d2 f2 r2 o2, wO d3 f3 r3 o3, wO d4 f4 r4 o4, wO d5 f5 r5 o5, wO q_11 fn rq_11 o, cI g (rq_11 1) 32 Se, cZ g (rq_11 2) 192 Bi, cZ g (rq_11 3) 192 Tu, cI g (rq_11 5) 3 Ma]) rfl rfl ?_
    exact gi_ireturn C dX0_flips_22 (Nat.le_of_ble_eq_true rfl) (Nat.le_of_ble_eq_true rfl) ⟨_, rfl, q_11, rq_11, (by rw [hbb]), rfl⟩
  · skip
    replace h5 := bI_eq0.mp h5
    exact absurd hb h5
abbrev rmX0_clears6 : Room := { frames := 3, cells := 10, slots := 854, locals := 105 }
set_option maxHeartbeats 4000000 in
set_option maxRecDepth 100000 in
/-- EvenWords.clears()I -/
theorem mX0_clears6 {g : GG} (hg : OKG g) (o : Nat) (fx : Nat → Int) (rx : Nat → Nat) (n : Nat) (fn : Nat → Int) (rn : Nat → Nat) (S : Int → Int) (Se : Int → Int) (Bi : Int → Int) (Tu : Int → Int) (Ma : Int → Int) (D : Int → Option Nat) (d1 : Nat) (f1 : Nat → Int) (r1 : Nat → Nat) (o1 : Nat) (d2 : Nat) (f2 : Nat → Int) (r2 : Nat → Nat) (o2 : Nat) (d3 : Nat) (f3 : Nat → Int) (r3 : Nat → Nat) (o3 : Nat) (d4 : Nat) (f4 : Nat → Int) (r4 : Nat → Nat) (o4 : Nat) (d5 : Nat) (f5 : Nat → Int) (r5 : Nat → Nat) (o5 : Nat) (hW : WR S fn Se Bi Tu Ma) (hd1 : D 1 = some d1) (hd2 : D 2 = some d2) (hd3 : D 3 = some d3) (hd4 : D 4 = some d4) (hd5 : D 5 = some d5) (hu : fx 5 = 6) (hn : S 0 ≠ 0) : Con g yX0_clears cX0_clears 2 (some .int) rmX0_clears6 [.ref o] [xO o fx rx n, cR g 3 (rx 4) 6 D, wO n fn rn o, cI g (rn 1) 32 Se, cZ g (rn 2) 192 Bi, cZ g (rn 3) 192 Tu, cI g (rn 5) 3 Ma, wO d1 f1 r1 o1, wO d2 f2 r2 o2, wO d3 f3 r3 o3, wO d4 f4 r4 o4, wO d5 f5 r5 o5] (pI fun r_ w => ∃ (n1 : Nat), ∃ (rn1 : Nat → Nat), ∃ (q : Nat), ∃ (rq : Nat → Nat), r_ = (S 0) ∧ w = [xO o (fu fx 5 (noteU (fx 5))) rx n1, cR g 3 (rx 4) 6 (uF (cpF D D 1 0 5) 5 (some q)), wO n fn rn o, cI g (rn 1) 32 Se, cZ g (rn 2) 192 Bi, cZ g (rn 3) 192 Tu, cI g (rn 5) 3 Ma, wO d1 f1 r1 o1, wO d2 f2 r2 o2, wO d3 f3 r3 o3, wO d4 f4 r4 o4, wO d5 f5 r5 o5, wO q fn rq o, cI g (rq 1) 32 Se, cZ g (rq 2) 192 Bi, cZ g (rq 3) 192 Tu, cI g (rq 5) 3 Ma, wO n1 (fun _ => 0) rn1 o, cI g (rn1 1) 32 (fun _ => 0), cZ g (rn1 2) 192 (fun _ => 0), cZ g (rn1 3) 192 (fun _ => 0), cI g (rn1 5) 3 (fun _ => 0)]) := by
  refine con_of_go hg (by decide +kernel) (Nat.le_of_ble_eq_true rfl) ?_
  intro x C
  have hn0 := hW.n
  refine gi_lv (lv' := [(0, .ref o)]) [0] rfl ?_
  refine gi_aload_n C dX0_clears_0 0 rfl ?_
  refine gi_get (v := .ref n) C in_X0 dX0_clears_1 2 q168 0 rfl rfl (by decide) (fun _ h => h) rfl ?_
  refine gi_getN (v := vi (fn 0)) C in_X1 dX0_clears_4 0 q119 2 rfl rfl (by decide) (fun _ h => h) rfl ?_
  refine gi_istore_n (lv' := [(1, vi (fn 0)), (0, .ref o)]) C dX0_clears_7 (by decide) rfl ?_
  refine gi_iload_n C dX0_clears_8 0 rfl ?_
  refine gi_if_ne (tgt := 15) C dX0_clears_9 (by decide) (by omega) (fun h9 => ?_) (fun h9 => ?_)
  · skip
    refine gi_aload_n C dX0_clears_15 1 rfl ?_
    refine gi_runV (wr := []) (rest := []) C (mX0_notes6 C.ok o fx rx n fn rn S Se Bi Tu Ma D d1 f1 r1 o1 d2 f2 r2 o2 d3 f3 r3 o3 d4 f4 r4 o4 d5 f5 r5 o5 (show WR S fn Se Bi Tu Ma from (hW)) (show D 1 = some d1 from (hd1)) (show D 2 = some d2 from (hd2)) (show D 3 = some d3 from (hd3)) (show D 4 = some d4 from (hd4)) (show D 5 = some d5 from (hd5)) (show fx 5 = 6 from (by omega))) dX0_clears_16 q379 q381 qs8 q53 q382 hdX0_notes ⟨Nat.le_of_ble_eq_true rfl, Nat.le_of_ble_eq_true rfl⟩ 0 rfl rfl [0, 1, 2, 3, 4, 5, 6, 7, 8, 9, 10, 11] [] rfl rfl rfl rfl (by decide) rfl (Nat.le_of_ble_eq_true rfl) ⟨Nat.le_of_ble_eq_true rfl, Nat.le_of_ble_eq_true rfl⟩ (kV fun w1 hv16 => ?_)
    obtain ⟨q_16, rq_16, rfl⟩ := hv16
    refine gi_pick [0, 1, 2, 3, 4, 5, 6, 7, 8, 9, 10, 11, 12, 13, 14, 15, 16] (w' := [xO o (fu fx 5 (noteU (fx 5))) rx n, cR g 3 (rx 4) 6 (uF (cpF D D 1 0 5) 5 (some q_16)), wO n fn rn o, cI g (rn 1) 32 Se, cZ g (rn 2) 192 Bi, cZ g (rn 3) 192 Tu, cI g (rn 5) 3 Ma, wO d1 f1 r1 o1, wO d2 f2 r2 o2, wO d3 f3 r3 o3, wO d4 f4 r4 o4, wO d5 f5 r5 o5, wO q_16 fn rq_16 o, cI g (rq_16 1) 32 Se, cZ g (rq_16 2) 192 Bi, cZ g (rq_16 3) 192 Tu, cI g (rq_16 5) 3 Ma]) rfl rfl ?_
    refine gi_wide (k' := 5) (n' := 427) (Nat.le_of_eq (by first | rfl | (dsimp only; omega))) (Nat.le_of_eq (by first | rfl | (dsimp only; omega))) ?_
    refine gi_aload_n C dX0_clears_19 1 rfl ?_
    refine gi_new (c := 1) (N := 8) (fs := [vi 0, .null, .null, .null, vi 0, .null, vi 0, .null]) C in_X1 tyX1 tyX1_ok dX0_clears_20 q111 q112 q56 rfl (newfsX1) (Nat.le_of_ble_eq_true rfl) (Nat.le_of_ble_eq_true rfl) (fun q20 => ?_)
    refine gi_ws (w' := [xO o (fu fx 5 (noteU (fx 5))) rx n, cR g 3 (rx 4) 6 (uF (cpF D D 1 0 5) 5 (some q_16)), wO n fn rn o, cI g (rn 1) 32 Se, cZ g (rn 2) 192 Bi, cZ g (rn 3) 192 Tu, cI g (rn 5) 3 Ma, wO d1 f1 r1 o1, wO d2 f2 r2 o2, wO d3 f3 r3 o3, wO d4 f4 r4 o4, wO d5 f5 r5 o5, wO q_16 fn rq_16 o, cI g (rq_16 1) 32 Se, cZ g (rq_16 2) 192 Bi, cZ g (rq_16 3) 192 Tu, cI g (rq_16 5) 3 Ma, cO q20 1 [vi 0, .null, .null, .null, vi 0, .null, vi 0, .null]]) rfl ?_
    refine gi_dup C dX0_clears_23 rfl ?_
    refine gi_aload_n C dX0_clears_24 1 rfl ?_
    refine gi_runIN (wr := [xO o (fu fx 5 (noteU (fx 5))) rx n, cR g 3 (rx 4) 6 (uF (cpF D D 1 0 5) 5 (some q_16)), wO n fn rn o, cI g (rn 1) 32 Se, cZ g (rn 2) 192 Bi, cZ g (rn 3) 192 Tu, cI g (rn 5) 3 Ma, wO d1 f1 r1 o1, wO d2 f2 r2 o2, wO d3 f3 r3 o3, wO d4 f4 r4 o4, wO d5 f5 r5 o5, wO q_16 fn rq_16 o, cI g (rq_16 1) 32 Se, cZ g (rq_16 2) 192 Bi, cZ g (rq_16 3) 192 Tu, cI g (rq_16 5) 3 Ma]) (rest := [.ref q20, .ref o]) C (mX1_init C.ok q20 o) dX0_clears_25 q113 q114 q56 q115 rfl hdX1_init ⟨Nat.le_of_ble_eq_true rfl, Nat.le_of_ble_eq_true rfl⟩ [17] [0, 1, 2, 3, 4, 5, 6, 7, 8, 9, 10, 11, 12, 13, 14, 15, 16] rfl rfl rfl rfl (by decide) rfl (Nat.le_of_ble_eq_true rfl) ⟨Nat.le_of_ble_eq_true rfl, Nat.le_of_ble_eq_true rfl⟩ (kV fun w1 hv25 => ?_)
    obtain ⟨r_25, rfl⟩ := hv25
    refine gi_pick [0, 1, 2, 3, 4, 5, 6, 7, 8, 9, 10, 11, 12, 13, 14, 15, 16, 17, 18, 19, 20, 21] (w' := [xO o (fu fx 5 (noteU (fx 5))) rx n, cR g 3 (rx 4) 6 (uF (cpF D D 1 0 5) 5 (some q_16)), wO n fn rn o, cI g (rn 1) 32 Se, cZ g (rn 2) 192 Bi, cZ g (rn 3) 192 Tu, cI g (rn 5) 3 Ma, wO d1 f1 r1 o1, wO d2 f2 r2 o2, wO d3 f3 r3 o3, wO d4 f4 r4 o4, wO d5 f5 r5 o5, wO q_16 fn rq_16 o, cI g (rq_16 1) 32 Se, cZ g (rq_16 2) 192 Bi, cZ g (rq_16 3) 192 Tu, cI g (rq_16 5) 3 Ma, wO q20 (fun _ => 0) r_25 o, cI g (r_25 1) 32 (fun _ => 0), cZ g (r_25 2) 192 (fun _ => 0), cZ g (r_25 3) 192 (fun _ => 0), cI g (r_25 5) 3 (fun _ => 0)]) rfl rfl ?_
    refine gi_wide (k' := 10) (n' := 854) (Nat.le_of_eq (by first | rfl | (dsimp only; omega))) (Nat.le_of_eq (by first | rfl | (dsimp only; omega))) ?_
    refine gi_put (w' := [xO o (fu fx 5 (noteU (fx 5))) rx q20, cR g 3 (rx 4) 6 (uF (cpF D D 1 0 5) 5 (some q_16)), wO n fn rn o, cI g (rn 1) 32 Se, cZ g (rn 2) 192 Bi, cZ g (rn 3) 192 Tu, cI g (rn 5) 3 Ma, wO d1 f1 r1 o1, wO d2 f2 r2 o2, wO d3 f3 r3 o3, wO d4 f4 r4 o4, wO d5 f5 r5 o5, wO q_16 fn rq_16 o, cI g (rq_16 1) 32 Se, cZ g (rq_16 2) 192 Bi, cZ g (rq_16 3) 192 Tu, cI g (rq_16 5) 3 Ma, wO q20 (fun _ => 0) r_25 o, cI g (r_25 1) 32 (fun _ => 0), cZ g (r_25 2) 192 (fun _ => 0), cZ g (r_25 3) 192 (fun _ => 0), cI g (r_25 5) 3 (fun _ => 0)]) C in_X0 tyX0 tyX0_ok nmX0 dX0_clears_28 2 q168 0 rfl rfl (by decide) (fun _ h => h) rfl rfl ⟨rfl, rfl⟩ (Nat.le_of_ble_eq_true rfl) rfl ?_
    refine gi_iload_n C dX0_clears_31 0 rfl ?_
    refine gi_pick [0, 1, 2, 3, 4, 5, 6, 7, 8, 9, 10, 11, 12, 13, 14, 15, 16, 17, 18, 19, 20, 21] (w' := [xO o (fu fx 5 (noteU (fx 5))) rx q20, cR g 3 (rx 4) 6 (uF (cpF D D 1 0 5) 5 (some q_16)), wO n fn rn o, cI g (rn 1) 32 Se, cZ g (rn 2) 192 Bi, cZ g (rn 3) 192 Tu, cI g (rn 5) 3 Ma, wO d1 f1 r1 o1, wO d2 f2 r2 o2, wO d3 f3 r3 o3, wO d4 f4 r4 o4, wO d5 f5 r5 o5, wO q_16 fn rq_16 o, cI g (rq_16 1) 32 Se, cZ g (rq_16 2) 192 Bi, cZ g (rq_16 3) 192 Tu, cI g (rq_16 5) 3 Ma, wO q20 (fun _ => 0) r_25 o, cI g (r_25 1) 32 (fun _ => 0), cZ g (r_25 2) 192 (fun _ => 0), cZ g (r_25 3) 192 (fun _ => 0), cI g (r_25 5) 3 (fun _ => 0)]) rfl rfl ?_
    exact gi_ireturn C dX0_clears_32 (Nat.le_of_ble_eq_true rfl) (Nat.le_of_ble_eq_true rfl) ⟨_, rfl, q20, r_25, q_16, rq_16, (by omega), rfl⟩
  · skip
    exact absurd h9 (by omega)
abbrev rmX0_clearsF : Room := { frames := 1, cells := 0, slots := 0, locals := 13 }
set_option maxHeartbeats 4000000 in
set_option maxRecDepth 100000 in
/-- EvenWords.clears()I -/
theorem mX0_clearsF {g : GG} (hg : OKG g) (o : Nat) (fx : Nat → Int) (rx : Nat → Nat) (n : Nat) (fn : Nat → Int) (rn : Nat → Nat) (S : Int → Int) (Se : Int → Int) (Bi : Int → Int) (Tu : Int → Int) (Ma : Int → Int) (hW : WR S fn Se Bi Tu Ma) (hF : S 0 = 0) : Con g yX0_clears cX0_clears 2 (some .int) rmX0_clearsF [.ref o] [xO o fx rx n, wO n fn rn o, cI g (rn 1) 32 Se, cZ g (rn 2) 192 Bi, cZ g (rn 3) 192 Tu, cI g (rn 5) 3 Ma] (pI fun r_ w => r_ = (-2) ∧ w = [xO o fx rx n, wO n fn rn o, cI g (rn 1) 32 Se, cZ g (rn 2) 192 Bi, cZ g (rn 3) 192 Tu, cI g (rn 5) 3 Ma]) := by
  refine con_of_go hg (by decide +kernel) (Nat.le_of_ble_eq_true rfl) ?_
  intro x C
  have hn0 := hW.n
  refine gi_lv (lv' := [(0, .ref o)]) [0] rfl ?_
  refine gi_aload_n C dX0_clears_0 0 rfl ?_
  refine gi_get (v := .ref n) C in_X0 dX0_clears_1 2 q168 0 rfl rfl (by decide) (fun _ h => h) rfl ?_
  refine gi_getN (v := vi (fn 0)) C in_X1 dX0_clears_4 0 q119 1 rfl rfl (by decide) (fun _ h => h) rfl ?_
  refine gi_istore_n (lv' := [(1, vi (fn 0)), (0, .ref o)]) C dX0_clears_7 (by decide) rfl ?_
  refine gi_iload_n C dX0_clears_8 0 rfl ?_
  refine gi_if_ne (tgt := 15) C dX0_clears_9 (by decide) (by omega) (fun h9 => ?_) (fun h9 => ?_)
  · skip
    exact absurd h9 (by omega)
  · skip
    refine gi_bipush C dX0_clears_12 (by decide +kernel) ?_
    refine gi_pick [0, 1, 2, 3, 4, 5] (w' := [xO o fx rx n, wO n fn rn o, cI g (rn 1) 32 Se, cZ g (rn 2) 192 Bi, cZ g (rn 3) 192 Tu, cI g (rn 5) 3 Ma]) rfl rfl ?_
    exact gi_ireturn C dX0_clears_14 (Nat.le_of_ble_eq_true rfl) (Nat.le_of_ble_eq_true rfl) ⟨_, rfl, (by first | rfl | omega), rfl⟩
theorem hdX0_undo : yX0_undo.cls ≠ "java/lang/invoke/MethodHandle" ∧ yX0_undo.cls ≠ "java/lang/invoke/VarHandle" ∧ (parseMethodDescriptor yX0_undo.desc).map (fun d => d.parameters.length) = some 0 := by decide +kernel
abbrev rmX0_undoF : Room := { frames := 1, cells := 0, slots := 0, locals := 13 }
set_option maxHeartbeats 4000000 in
set_option maxRecDepth 100000 in
/-- EvenWords.undo()I -/
theorem mX0_undoF {g : GG} (hg : OKG g) (o : Nat) (fx : Nat → Int) (rx : Nat → Nat) (n : Nat) (hu : fx 5 = 0) : Con g yX0_undo cX0_undo 1 (some .int) rmX0_undoF [.ref o] [xO o fx rx n] (pI fun r_ w => r_ = (-2) ∧ w = [xO o fx rx n]) := by
  refine con_of_go hg (by decide +kernel) (Nat.le_of_ble_eq_true rfl) ?_
  intro x C
  refine gi_lv (lv' := [(0, .ref o)]) [0] rfl ?_
  refine gi_aload_n C dX0_undo_0 0 rfl ?_
  refine gi_get (v := vi (fx 5)) C in_X0 dX0_undo_1 5 q172 0 rfl rfl (by decide) (fun _ h => h) rfl ?_
  refine gi_if_ne (tgt := 10) C dX0_undo_4 (by decide) (by omega) (fun h4 => ?_) (fun h4 => ?_)
  · skip
    exact absurd h4 (by omega)
  · skip
    refine gi_bipush C dX0_undo_7 (by decide +kernel) ?_
    refine gi_pick [0] (w' := [xO o fx rx n]) rfl rfl ?_
    exact gi_ireturn C dX0_undo_9 (Nat.le_of_ble_eq_true rfl) (Nat.le_of_ble_eq_true rfl) ⟨_, rfl, (by first | rfl | omega), rfl⟩
abbrev rmX0_undo : Room := { frames := 1, cells := 0, slots := 0, locals := 13 }
set_option maxHeartbeats 4000000 in
set_option maxRecDepth 100000 in
/-- EvenWords.undo()I -/
theorem mX0_undo {g : GG} (hg : OKG g) (o : Nat) (fx : Nat → Int) (rx : Nat → Nat) (n : Nat) (D : Int → Option Nat) (d : Nat) (hu : 0 < fx 5 ∧ fx 5 ≤ 6) (hd : D (fx 5 - 1) = some d) : Con g yX0_undo cX0_undo 1 (some .int) rmX0_undo [.ref o] [xO o fx rx n, cR g 3 (rx 4) 6 D] (pI fun r_ w => r_ = (fx 5 - 1) ∧ w = [xO o (fu fx 5 (fx 5 - 1)) rx d, cR g 3 (rx 4) 6 D]) := by
  refine con_of_go hg (by decide +kernel) (Nat.le_of_ble_eq_true rfl) ?_
  intro x C
  refine gi_lv (lv' := [(0, .ref o)]) [0] rfl ?_
  refine gi_aload_n C dX0_undo_0 0 rfl ?_
  refine gi_get (v := vi (fx 5)) C in_X0 dX0_undo_1 5 q172 0 rfl rfl (by decide) (fun _ h => h) rfl ?_
  refine gi_if_ne (tgt := 10) C dX0_undo_4 (by decide) (by omega) (fun h4 => ?_) (fun h4 => ?_)
  · skip
    refine gi_aload_n C dX0_undo_10 0 rfl ?_
    refine gi_dup C dX0_undo_11 rfl ?_
    refine gi_get (v := vi (fx 5)) C in_X0 dX0_undo_12 5 q172 0 rfl rfl (by decide) (fun _ h => h) rfl ?_
    refine gi_iconst C dX0_undo_15 ?_
    refine gi_isub C dX0_undo_16 ?_
    refine gi_put (w' := [xO o (fu fx 5 ((fx 5) - 1)) rx n, cR g 3 (rx 4) 6 D]) C in_X0 tyX0 tyX0_ok nmX0 dX0_undo_17 5 q172 0 rfl rfl (by decide) (fun _ h => h) rfl rfl ⟨rfl, rfl⟩ (Nat.le_of_ble_eq_true rfl) rfl ?_
    refine gi_aload_n C dX0_undo_20 0 rfl ?_
    refine gi_aload_n C dX0_undo_21 0 rfl ?_
    refine gi_get (v := .ref (rx 4)) C in_X0 dX0_undo_22 4 q171 0 rfl rfl (by decide) (fun _ h => h) rfl ?_
    refine gi_aload_n C dX0_undo_25 0 rfl ?_
    refine gi_get (v := vi ((fx 5) - 1)) C in_X0 dX0_undo_26 5 q172 0 rfl rfl (by decide) (fun _ h => h) rfl ?_
    refine gi_aald C dX0_undo_29 1 rfl rfl (by decide) (by omega) ?_
    refine gi_st (st' := [.ref d, .ref o]) (by rw [hd]; first | done | rfl) ?_
    refine gi_put (w' := [xO o (fu fx 5 ((fx 5) - 1)) rx d, cR g 3 (rx 4) 6 D]) C in_X0 tyX0 tyX0_ok nmX0 dX0_undo_30 2 q168 0 rfl rfl (by decide) (fun _ h => h) rfl rfl ⟨rfl, rfl⟩ (Nat.le_of_ble_eq_true rfl) rfl ?_
    refine gi_aload_n C dX0_undo_33 0 rfl ?_
    refine gi_get (v := vi ((fx 5) - 1)) C in_X0 dX0_undo_34 5 q172 0 rfl rfl (by decide) (fun _ h => h) rfl ?_
    refine gi_pick [0, 1] (w' := [xO o (fu fx 5 ((fx 5) - 1)) rx d, cR g 3 (rx 4) 6 D]) rfl rfl ?_
    exact gi_ireturn C dX0_undo_37 (Nat.le_of_ble_eq_true rfl) (Nat.le_of_ble_eq_true rfl) ⟨_, rfl, (by first | rfl | omega), rfl⟩
  · skip
    exact absurd h4 (by omega)
theorem hdX0_form : yX0_form.cls ≠ "java/lang/invoke/MethodHandle" ∧ yX0_form.cls ≠ "java/lang/invoke/VarHandle" ∧ (parseMethodDescriptor yX0_form.desc).map (fun d => d.parameters.length) = some 2 := by decide +kernel
abbrev rmX0_form : Room := { frames := 2, cells := 0, slots := 0, locals := 35 }
set_option maxHeartbeats 4000000 in
set_option maxRecDepth 100000 in
/-- EvenWords.form(II)I -/
theorem mX0_form {g : GG} (hg : OKG g) (o : Nat) (fx : Nat → Int) (rx : Nat → Nat) (n : Nat) (k : Int) (b : Int) (hk : Rg k) (hb : Rg b) : Con g yX0_form cX0_form 3 (some .int) rmX0_form [.ref o, vi k, vi b] [xO o fx rx n, cI g (rx 0) 34 fA] (pI fun r_ w => r_ = (formR k b) ∧ w = [xO o fx rx n, cI g (rx 0) 34 fA]) := by
  refine con_of_go hg (by decide +kernel) (Nat.le_of_ble_eq_true rfl) ?_
  intro x C
  refine gi_lv (lv' := [(0, .ref o), (1, vi k), (2, vi b)]) [0, 1, 2] rfl ?_
  refine gi_iload_n C dX0_form_0 1 rfl ?_
  refine gi_iconst C dX0_form_1 ?_
  refine gi_bipush C dX0_form_2 (by decide +kernel) ?_
  refine gi_runS (wr := [xO o fx rx n, cI g (rx 0) 34 fA]) (rest := []) C (mX0_in C.ok k 0 33 (by omega) (by omega) (by omega)) dX0_form_4 q220 q221 q53 q222 hdX0_in ⟨Nat.le_of_ble_eq_true rfl, Nat.le_of_ble_eq_true rfl⟩ [] [0, 1] rfl rfl rfl rfl (by decide) rfl (Nat.le_of_ble_eq_true rfl) ⟨Nat.le_of_ble_eq_true rfl, Nat.le_of_ble_eq_true rfl⟩ (kI fun r_4 w1 hv4 => ?_)
  obtain ⟨rfl, hr_4⟩ := hv4
  refine gi_pick [0, 1] (w' := [xO o fx rx n, cI g (rx 0) 34 fA]) rfl rfl ?_
  refine gi_top (b := (bI (0 ≤ k ∧ k ≤ 33))) hr_4 ?_
  refine gi_if_eq (tgt := 37) C dX0_form_7 (by decide) (bI_rg _) (fun h7 => ?_) (fun h7 => ?_)
  · skip
    replace h7 := bI_eq0.mp h7
    refine gi_iconst C dX0_form_37 ?_
    refine gi_pick [0, 1] (w' := [xO o fx rx n, cI g (rx 0) 34 fA]) rfl rfl ?_
    exact gi_ireturn C dX0_form_38 (Nat.le_of_ble_eq_true rfl) (Nat.le_of_ble_eq_true rfl) ⟨_, rfl, (by unfold formR; first | (rw [if_pos ⟨by omega, by omega⟩]; congr 1; omega) | rw [if_neg (fun z => by omega)]), rfl⟩
  · skip
    replace h7 := bI_ne0.mp h7
    refine gi_iload_n C dX0_form_10 2 rfl ?_
    refine gi_iconst C dX0_form_11 ?_
    refine gi_iconst C dX0_form_12 ?_
    refine gi_runS (wr := [xO o fx rx n, cI g (rx 0) 34 fA]) (rest := []) C (mX0_in C.ok b 0 1 (by omega) (by omega) (by omega)) dX0_form_13 q220 q221 q53 q222 hdX0_in ⟨Nat.le_of_ble_eq_true rfl, Nat.le_of_ble_eq_true rfl⟩ [] [0, 1] rfl rfl rfl rfl (by decide) rfl (Nat.le_of_ble_eq_true rfl) ⟨Nat.le_of_ble_eq_true rfl, Nat.le_of_ble_eq_true rfl⟩ (kI fun r_13 w1 hv13 => ?_)
    obtain ⟨rfl, hr_13⟩ := hv13
    refine gi_pick [0, 1] (w' := [xO o fx rx n, cI g (rx 0) 34 fA]) rfl rfl ?_
    refine gi_top (b := (bI (0 ≤ b ∧ b ≤ 1))) hr_13 ?_
    refine gi_if_eq (tgt := 37) C dX0_form_16 (by decide) (bI_rg _) (fun h16 => ?_) (fun h16 => ?_)
    · skip
      replace h16 := bI_eq0.mp h16
      refine gi_iconst C dX0_form_37 ?_
      refine gi_pick [0, 1] (w' := [xO o fx rx n, cI g (rx 0) 34 fA]) rfl rfl ?_
      exact gi_ireturn C dX0_form_38 (Nat.le_of_ble_eq_true rfl) (Nat.le_of_ble_eq_true rfl) ⟨_, rfl, (by unfold formR; first | (rw [if_pos ⟨by omega, by omega⟩]; congr 1; omega) | rw [if_neg (fun z => by omega)]), rfl⟩
    · skip
      replace h16 := bI_ne0.mp h16
      refine gi_aload_n C dX0_form_19 0 rfl ?_
      refine gi_iload_n C dX0_form_20 1 rfl ?_
      refine gi_iload_n C dX0_form_21 2 rfl ?_
      refine gi_iconst C dX0_form_22 ?_
      refine gi_icmp_ne (tgt := 30) C dX0_form_23 (by decide) (by omega) (by omega) (fun h23 => ?_) (fun h23 => ?_)
      · skip
        refine gi_iconst C dX0_form_30 ?_
        refine gi_runV (wr := []) (rest := []) C (mX0_formOf C.ok o fx rx n k 0 (show 0 ≤ k ∧ k < 34 from (by omega)) (show 0 = 0 ∨ 0 = 1 from (by omega))) dX0_form_31 q107 q109 qs0 q53 q110 hdX0_formOf ⟨Nat.le_of_ble_eq_true rfl, Nat.le_of_ble_eq_true rfl⟩ 0 rfl rfl [0, 1] [] rfl rfl rfl rfl (by decide) rfl (Nat.le_of_ble_eq_true rfl) ⟨Nat.le_of_ble_eq_true rfl, Nat.le_of_ble_eq_true rfl⟩ (kI fun r_31 w1 hv31 => ?_)
        obtain ⟨hr_31, rfl⟩ := hv31
        refine gi_pick [0, 1] (w' := [xO o fx rx n, cI g (rx 0) 34 fA]) rfl rfl ?_
        refine gi_top (b := (fm k 0)) hr_31 ?_
        refine gi_goto (tgt := 38) C dX0_form_34 (by decide) ?_
        refine gi_pick [0, 1] (w' := [xO o fx rx n, cI g (rx 0) 34 fA]) rfl rfl ?_
        exact gi_ireturn C dX0_form_38 (Nat.le_of_ble_eq_true rfl) (Nat.le_of_ble_eq_true rfl) ⟨_, rfl, (by unfold formR; first | (rw [if_pos ⟨by omega, by omega⟩]; congr 1; omega) | rw [if_neg (fun z => by omega)]), rfl⟩
      · skip
        refine gi_iconst C dX0_form_26 ?_
        refine gi_goto (tgt := 31) C dX0_form_27 (by decide) ?_
        refine gi_runV (wr := []) (rest := []) C (mX0_formOf C.ok o fx rx n k 1 (show 0 ≤ k ∧ k < 34 from (by omega)) (show 1 = 0 ∨ 1 = 1 from (by omega))) dX0_form_31 q107 q109 qs0 q53 q110 hdX0_formOf ⟨Nat.le_of_ble_eq_true rfl, Nat.le_of_ble_eq_true rfl⟩ 0 rfl rfl [0, 1] [] rfl rfl rfl rfl (by decide) rfl (Nat.le_of_ble_eq_true rfl) ⟨Nat.le_of_ble_eq_true rfl, Nat.le_of_ble_eq_true rfl⟩ (kI fun r_31 w1 hv31 => ?_)
        obtain ⟨hr_31, rfl⟩ := hv31
        refine gi_pick [0, 1] (w' := [xO o fx rx n, cI g (rx 0) 34 fA]) rfl rfl ?_
        refine gi_top (b := (fm k 1)) hr_31 ?_
        refine gi_goto (tgt := 38) C dX0_form_34 (by decide) ?_
        refine gi_pick [0, 1] (w' := [xO o fx rx n, cI g (rx 0) 34 fA]) rfl rfl ?_
        exact gi_ireturn C dX0_form_38 (Nat.le_of_ble_eq_true rfl) (Nat.le_of_ble_eq_true rfl) ⟨_, rfl, (by unfold formR; first | (rw [if_pos ⟨by omega, by omega⟩]; congr 1; omega) | rw [if_neg (fun z => by omega)]), rfl⟩
theorem hdX0_bit : yX0_bit.cls ≠ "java/lang/invoke/MethodHandle" ∧ yX0_bit.cls ≠ "java/lang/invoke/VarHandle" ∧ (parseMethodDescriptor yX0_bit.desc).map (fun d => d.parameters.length) = some 1 := by decide +kernel
abbrev rmX0_bit : Room := { frames := 3, cells := 0, slots := 0, locals := 56 }
set_option maxHeartbeats 4000000 in
set_option maxRecDepth 100000 in
/-- EvenWords.bit(I)I -/
theorem mX0_bit {g : GG} (hg : OKG g) (o : Nat) (fx : Nat → Int) (rx : Nat → Nat) (n : Nat) (fn : Nat → Int) (rn : Nat → Nat) (S : Int → Int) (Se : Int → Int) (Bi : Int → Int) (Tu : Int → Int) (Ma : Int → Int) (b : Int) (hW : WR S fn Se Bi Tu Ma) (hb : Rg b) : Con g yX0_bit cX0_bit 2 (some .int) rmX0_bit [.ref o, vi b] [xO o fx rx n, wO n fn rn o, cI g (rn 1) 32 Se, cZ g (rn 2) 192 Bi, cZ g (rn 3) 192 Tu, cI g (rn 5) 3 Ma] (pI fun r_ w => r_ = (bitR S b) ∧ w = [xO o fx rx n, wO n fn rn o, cI g (rn 1) 32 Se, cZ g (rn 2) 192 Bi, cZ g (rn 3) 192 Tu, cI g (rn 5) 3 Ma]) := by
  refine con_of_go hg (by decide +kernel) (Nat.le_of_ble_eq_true rfl) ?_
  intro x C
  have hn0 := hW.n
  refine gi_lv (lv' := [(0, .ref o), (1, vi b)]) [0, 1] rfl ?_
  refine gi_aload_n C dX0_bit_0 0 rfl ?_
  refine gi_iload_n C dX0_bit_1 1 rfl ?_
  refine gi_runV (wr := []) (rest := []) C (mX0_isBit C.ok o fx rx n fn rn S Se Bi Tu Ma b (show WR S fn Se Bi Tu Ma from (hW)) (show Rg b from (by omega))) dX0_bit_2 q423 q425 qs11 q53 q426 hdX0_isBit ⟨Nat.le_of_ble_eq_true rfl, Nat.le_of_ble_eq_true rfl⟩ 0 rfl rfl [0, 1, 2, 3, 4, 5] [] rfl rfl rfl rfl (by decide) rfl (Nat.le_of_ble_eq_true rfl) ⟨Nat.le_of_ble_eq_true rfl, Nat.le_of_ble_eq_true rfl⟩ (kI fun r_2 w1 hv2 => ?_)
  obtain ⟨hr_2, rfl⟩ := hv2
  refine gi_pick [0, 1, 2, 3, 4, 5] (w' := [xO o fx rx n, wO n fn rn o, cI g (rn 1) 32 Se, cZ g (rn 2) 192 Bi, cZ g (rn 3) 192 Tu, cI g (rn 5) 3 Ma]) rfl rfl ?_
  refine gi_top (b := (bI (0 ≤ b ∧ b ≤ 6 * S 0 - 1))) hr_2 ?_
  refine gi_if_ne (tgt := 12) C dX0_bit_5 (by decide) (bI_rg _) (fun h5 => ?_) (fun h5 => ?_)
  · skip
    replace h5 := bI_ne0.mp h5
    refine gi_aload_n C dX0_bit_12 0 rfl ?_
    refine gi_get (v := .ref n) C in_X0 dX0_bit_13 2 q168 0 rfl rfl (by decide) (fun _ h => h) rfl ?_
    refine gi_getN (v := .ref (rn 2)) C in_X1 dX0_bit_16 2 q124 1 rfl rfl (by decide) (fun _ h => h) rfl ?_
    refine gi_iload_n C dX0_bit_19 1 rfl ?_
    have hbb := hW.b (b := b) (by omega) (by omega)
    have hz := hW.z (b := b) (by omega) (by omega)
    refine gi_zald C dX0_bit_20 3 rfl (by decide) (by omega) ?_
    refine gi_if_eq (tgt := 28) C dX0_bit_21 (by decide) (by omega) (fun h21 => ?_) (fun h21 => ?_)
    · skip
      refine gi_iconst C dX0_bit_28 ?_
      refine gi_pick [0, 1, 2, 3, 4, 5] (w' := [xO o fx rx n, wO n fn rn o, cI g (rn 1) 32 Se, cZ g (rn 2) 192 Bi, cZ g (rn 3) 192 Tu, cI g (rn 5) 3 Ma]) rfl rfl ?_
      exact gi_ireturn C dX0_bit_29 (Nat.le_of_ble_eq_true rfl) (Nat.le_of_ble_eq_true rfl) ⟨_, rfl, (by unfold bitR; first | (rw [if_pos (by omega), ← hbb]; omega) | rw [if_neg (by omega)]), rfl⟩
    · skip
      refine gi_iconst C dX0_bit_24 ?_
      refine gi_goto (tgt := 29) C dX0_bit_25 (by decide) ?_
      refine gi_pick [0, 1, 2, 3, 4, 5] (w' := [xO o fx rx n, wO n fn rn o, cI g (rn 1) 32 Se, cZ g (rn 2) 192 Bi, cZ g (rn 3) 192 Tu, cI g (rn 5) 3 Ma]) rfl rfl ?_
      exact gi_ireturn C dX0_bit_29 (Nat.le_of_ble_eq_true rfl) (Nat.le_of_ble_eq_true rfl) ⟨_, rfl, (by unfold bitR; first | (rw [if_pos (by omega), ← hbb]; omega) | rw [if_neg (by omega)]), rfl⟩
  · skip
    replace h5 := bI_eq0.mp h5
    refine gi_iconst C dX0_bit_8 ?_
    refine gi_goto (tgt := 29) C dX0_bit_9 (by decide) ?_
    refine gi_pick [0, 1, 2, 3, 4, 5] (w' := [xO o fx rx n, wO n fn rn o, cI g (rn 1) 32 Se, cZ g (rn 2) 192 Bi, cZ g (rn 3) 192 Tu, cI g (rn 5) 3 Ma]) rfl rfl ?_
    exact gi_ireturn C dX0_bit_29 (Nat.le_of_ble_eq_true rfl) (Nat.le_of_ble_eq_true rfl) ⟨_, rfl, (by unfold bitR; first | (rw [if_pos (by omega), ← hbb]; omega) | rw [if_neg (by omega)]), rfl⟩
theorem hdX0_word : yX0_word.cls ≠ "java/lang/invoke/MethodHandle" ∧ yX0_word.cls ≠ "java/lang/invoke/VarHandle" ∧ (parseMethodDescriptor yX0_word.desc).map (fun d => d.parameters.length) = some 1 := by decide +kernel
abbrev rmX0_word : Room := { frames := 2, cells := 0, slots := 0, locals := 35 }
set_option maxHeartbeats 4000000 in
set_option maxRecDepth 100000 in
/-- EvenWords.word(I)I -/
theorem mX0_word {g : GG} (hg : OKG g) (o : Nat) (fx : Nat → Int) (rx : Nat → Nat) (n : Nat) (fn : Nat → Int) (rn : Nat → Nat) (S : Int → Int) (Se : Int → Int) (Bi : Int → Int) (Tu : Int → Int) (Ma : Int → Int) (b : Int) (hW : WR S fn Se Bi Tu Ma) (hb : Rg b) : Con g yX0_word cX0_word 2 (some .int) rmX0_word [.ref o, vi b] [xO o fx rx n, wO n fn rn o, cI g (rn 1) 32 Se, cZ g (rn 2) 192 Bi, cZ g (rn 3) 192 Tu, cI g (rn 5) 3 Ma] (pI fun r_ w => r_ = (wordR S b) ∧ w = [xO o fx rx n, wO n fn rn o, cI g (rn 1) 32 Se, cZ g (rn 2) 192 Bi, cZ g (rn 3) 192 Tu, cI g (rn 5) 3 Ma]) := by
  refine con_of_go hg (by decide +kernel) (Nat.le_of_ble_eq_true rfl) ?_
  intro x C
  have hn0 := hW.n
  refine gi_lv (lv' := [(0, .ref o), (1, vi b)]) [0, 1] rfl ?_
  refine gi_iload_n C dX0_word_0 1 rfl ?_
  refine gi_iconst C dX0_word_1 ?_
  refine gi_aload_n C dX0_word_2 0 rfl ?_
  refine gi_get (v := .ref n) C in_X0 dX0_word_3 2 q168 0 rfl rfl (by decide) (fun _ h => h) rfl ?_
  refine gi_getN (v := vi (fn 0)) C in_X1 dX0_word_6 0 q119 1 rfl rfl (by decide) (fun _ h => h) rfl ?_
  refine gi_top (b := (S 0)) (by omega) ?_
  refine gi_iconst C dX0_word_9 ?_
  refine gi_isub C dX0_word_10 ?_
  refine gi_runS (wr := [xO o fx rx n, wO n fn rn o, cI g (rn 1) 32 Se, cZ g (rn 2) 192 Bi, cZ g (rn 3) 192 Tu, cI g (rn 5) 3 Ma]) (rest := []) C (mX0_in C.ok b 0 ((S 0) - 1) (by omega) (by omega) (by omega)) dX0_word_11 q220 q221 q53 q222 hdX0_in ⟨Nat.le_of_ble_eq_true rfl, Nat.le_of_ble_eq_true rfl⟩ [] [0, 1, 2, 3, 4, 5] rfl rfl rfl rfl (by decide) rfl (Nat.le_of_ble_eq_true rfl) ⟨Nat.le_of_ble_eq_true rfl, Nat.le_of_ble_eq_true rfl⟩ (kI fun r_11 w1 hv11 => ?_)
  obtain ⟨rfl, hr_11⟩ := hv11
  refine gi_pick [0, 1, 2, 3, 4, 5] (w' := [xO o fx rx n, wO n fn rn o, cI g (rn 1) 32 Se, cZ g (rn 2) 192 Bi, cZ g (rn 3) 192 Tu, cI g (rn 5) 3 Ma]) rfl rfl ?_
  refine gi_top (b := (bI (0 ≤ b ∧ b ≤ ((S 0) - 1)))) hr_11 ?_
  refine gi_if_eq (tgt := 29) C dX0_word_14 (by decide) (bI_rg _) (fun h14 => ?_) (fun h14 => ?_)
  · skip
    replace h14 := bI_eq0.mp h14
    refine gi_iconst C dX0_word_29 ?_
    refine gi_pick [0, 1, 2, 3, 4, 5] (w' := [xO o fx rx n, wO n fn rn o, cI g (rn 1) 32 Se, cZ g (rn 2) 192 Bi, cZ g (rn 3) 192 Tu, cI g (rn 5) 3 Ma]) rfl rfl ?_
    exact gi_ireturn C dX0_word_30 (Nat.le_of_ble_eq_true rfl) (Nat.le_of_ble_eq_true rfl) ⟨_, rfl, (by unfold wordR; first | (rw [if_pos (by omega)]; exact hbb.1) | rw [if_neg (by omega)]), rfl⟩
  · skip
    replace h14 := bI_ne0.mp h14
    refine gi_aload_n C dX0_word_17 0 rfl ?_
    refine gi_get (v := .ref n) C in_X0 dX0_word_18 2 q168 0 rfl rfl (by decide) (fun _ h => h) rfl ?_
    refine gi_getN (v := .ref (rn 1)) C in_X1 dX0_word_21 1 q121 1 rfl rfl (by decide) (fun _ h => h) rfl ?_
    refine gi_iload_n C dX0_word_24 1 rfl ?_
    have hbb := hW.w (w := b) (by omega) (by omega)
    refine gi_iald C dX0_word_25 2 rfl (by decide) (by omega) ?_
    refine gi_goto (tgt := 30) C dX0_word_26 (by decide) ?_
    refine gi_pick [0, 1, 2, 3, 4, 5] (w' := [xO o fx rx n, wO n fn rn o, cI g (rn 1) 32 Se, cZ g (rn 2) 192 Bi, cZ g (rn 3) 192 Tu, cI g (rn 5) 3 Ma]) rfl rfl ?_
    exact gi_ireturn C dX0_word_30 (Nat.le_of_ble_eq_true rfl) (Nat.le_of_ble_eq_true rfl) ⟨_, rfl, (by unfold wordR; first | (rw [if_pos (by omega)]; exact hbb.1) | rw [if_neg (by omega)]), rfl⟩
theorem hdX0_type : yX0_type.cls ≠ "java/lang/invoke/MethodHandle" ∧ yX0_type.cls ≠ "java/lang/invoke/VarHandle" ∧ (parseMethodDescriptor yX0_type.desc).map (fun d => d.parameters.length) = some 1 := by decide +kernel
abbrev rmX0_typeF : Room := { frames := 2, cells := 0, slots := 0, locals := 35 }
set_option maxHeartbeats 4000000 in
set_option maxRecDepth 100000 in
/-- EvenWords.type(I)I -/
theorem mX0_typeF {g : GG} (hg : OKG g) (o : Nat) (fx : Nat → Int) (rx : Nat → Nat) (n : Nat) (l : Int) (hl : Rg l) (ht : 0 ≤ fx 8 ∧ fx 8 ≤ 120) (hF : ¬ typeB (fx 8) l) : Con g yX0_type cX0_type 2 (some .int) rmX0_typeF [.ref o, vi l] [xO o fx rx n] (pI fun r_ w => r_ = (typeR (fx 8) l) ∧ w = [xO o fx rx n]) := by
  refine con_of_go hg (by decide +kernel) (Nat.le_of_ble_eq_true rfl) ?_
  intro x C
  refine gi_lv (lv' := [(0, .ref o), (1, vi l)]) [0, 1] rfl ?_
  refine gi_iload_n C dX0_type_0 1 rfl ?_
  refine gi_iconst C dX0_type_1 ?_
  refine gi_sipush C dX0_type_2 (by decide +kernel) ?_
  refine gi_runS (wr := [xO o fx rx n]) (rest := []) C (mX0_in C.ok l 0 255 (by omega) (by omega) (by omega)) dX0_type_5 q220 q221 q53 q222 hdX0_in ⟨Nat.le_of_ble_eq_true rfl, Nat.le_of_ble_eq_true rfl⟩ [] [0] rfl rfl rfl rfl (by decide) rfl (Nat.le_of_ble_eq_true rfl) ⟨Nat.le_of_ble_eq_true rfl, Nat.le_of_ble_eq_true rfl⟩ (kI fun r_5 w1 hv5 => ?_)
  obtain ⟨rfl, hr_5⟩ := hv5
  refine gi_pick [0] (w' := [xO o fx rx n]) rfl rfl ?_
  refine gi_top (b := (bI (0 ≤ l ∧ l ≤ 255))) hr_5 ?_
  refine gi_if_ne (tgt := 13) C dX0_type_8 (by decide) (bI_rg _) (fun h8 => ?_) (fun h8 => ?_)
  · skip
    replace h8 := bI_ne0.mp h8
    refine gi_aload_n C dX0_type_13 0 rfl ?_
    refine gi_get (v := vi (fx 8)) C in_X0 dX0_type_14 8 q177 0 rfl rfl (by decide) (fun _ h => h) rfl ?_
    refine gi_bipush C dX0_type_17 (by decide +kernel) ?_
    refine gi_icmp_ne (tgt := 25) C dX0_type_19 (by decide) (by omega) (by omega) (fun h19 => ?_) (fun h19 => ?_)
    · skip
      exact absurd (show typeB (fx 8) l from ⟨by omega, h19⟩) hF
    · skip
      refine gi_bipush C dX0_type_22 (by decide +kernel) ?_
      refine gi_pick [0] (w' := [xO o fx rx n]) rfl rfl ?_
      exact gi_ireturn C dX0_type_24 (Nat.le_of_ble_eq_true rfl) (Nat.le_of_ble_eq_true rfl) ⟨_, rfl, (by unfold typeR; first | rw [if_neg (by omega)] | rw [if_pos (by omega), if_pos (by omega)]), rfl⟩
  · skip
    replace h8 := bI_eq0.mp h8
    refine gi_iconst C dX0_type_11 ?_
    refine gi_pick [0] (w' := [xO o fx rx n]) rfl rfl ?_
    exact gi_ireturn C dX0_type_12 (Nat.le_of_ble_eq_true rfl) (Nat.le_of_ble_eq_true rfl) ⟨_, rfl, (by unfold typeR; first | rw [if_neg (by omega)] | rw [if_pos (by omega), if_pos (by omega)]), rfl⟩
abbrev rmX0_type : Room := { frames := 2, cells := 0, slots := 0, locals := 35 }
set_option maxHeartbeats 4000000 in
set_option maxRecDepth 100000 in
/-- EvenWords.type(I)I -/
theorem mX0_type {g : GG} (hg : OKG g) (o : Nat) (fx : Nat → Int) (rx : Nat → Nat) (n : Nat) (B : Int → Int) (l : Int) (ht : 0 ≤ fx 8 ∧ fx 8 ≤ 120) (hF : typeB (fx 8) l) : Con g yX0_type cX0_type 2 (some .int) rmX0_type [.ref o, vi l] [xO o fx rx n, cB g (rx 7) 120 B] (pI fun r_ w => r_ = (fx 8 + 1) ∧ w = [xO o (fu fx 8 (fx 8 + 1)) rx n, cB g (rx 7) 120 (uF B (fx 8) (sby l))]) := by
  refine con_of_go hg (by decide +kernel) (Nat.le_of_ble_eq_true rfl) ?_
  intro x C
  have hl := hF.1
  have hs := sby_i hl
  refine gi_lv (lv' := [(0, .ref o), (1, vi l)]) [0, 1] rfl ?_
  refine gi_iload_n C dX0_type_0 1 rfl ?_
  refine gi_iconst C dX0_type_1 ?_
  refine gi_sipush C dX0_type_2 (by decide +kernel) ?_
  refine gi_runS (wr := [xO o fx rx n, cB g (rx 7) 120 B]) (rest := []) C (mX0_in C.ok l 0 255 (by omega) (by omega) (by omega)) dX0_type_5 q220 q221 q53 q222 hdX0_in ⟨Nat.le_of_ble_eq_true rfl, Nat.le_of_ble_eq_true rfl⟩ [] [0, 1] rfl rfl rfl rfl (by decide) rfl (Nat.le_of_ble_eq_true rfl) ⟨Nat.le_of_ble_eq_true rfl, Nat.le_of_ble_eq_true rfl⟩ (kI fun r_5 w1 hv5 => ?_)
  obtain ⟨rfl, hr_5⟩ := hv5
  refine gi_pick [0, 1] (w' := [xO o fx rx n, cB g (rx 7) 120 B]) rfl rfl ?_
  refine gi_top (b := (bI (0 ≤ l ∧ l ≤ 255))) hr_5 ?_
  refine gi_if_ne (tgt := 13) C dX0_type_8 (by decide) (bI_rg _) (fun h8 => ?_) (fun h8 => ?_)
  · skip
    replace h8 := bI_ne0.mp h8
    refine gi_aload_n C dX0_type_13 0 rfl ?_
    refine gi_get (v := vi (fx 8)) C in_X0 dX0_type_14 8 q177 0 rfl rfl (by decide) (fun _ h => h) rfl ?_
    refine gi_bipush C dX0_type_17 (by decide +kernel) ?_
    refine gi_icmp_ne (tgt := 25) C dX0_type_19 (by decide) (by omega) (by omega) (fun h19 => ?_) (fun h19 => ?_)
    · skip
      refine gi_aload_n C dX0_type_25 0 rfl ?_
      refine gi_get (v := .ref (rx 7)) C in_X0 dX0_type_26 7 q175 0 rfl rfl (by decide) (fun _ h => h) rfl ?_
      refine gi_aload_n C dX0_type_29 0 rfl ?_
      refine gi_get (v := vi (fx 8)) C in_X0 dX0_type_30 8 q177 0 rfl rfl (by decide) (fun _ h => h) rfl ?_
      refine gi_iload_n C dX0_type_33 1 rfl ?_
      refine gi_i2b C dX0_type_34 (by omega) ?_
      refine gi_bast (w' := [xO o fx rx n, cB g (rx 7) 120 (uF B (fx 8) (sby l))]) C dX0_type_35 1 rfl (by decide) (by omega) (hs.2.1) rfl ?_
      refine gi_aload_n C dX0_type_36 0 rfl ?_
      refine gi_dup C dX0_type_37 rfl ?_
      refine gi_get (v := vi (fx 8)) C in_X0 dX0_type_38 8 q177 0 rfl rfl (by decide) (fun _ h => h) rfl ?_
      refine gi_iconst C dX0_type_41 ?_
      refine gi_iadd C dX0_type_42 ?_
      refine gi_put (w' := [xO o (fu fx 8 ((fx 8) + 1)) rx n, cB g (rx 7) 120 (uF B (fx 8) (sby l))]) C in_X0 tyX0 tyX0_ok nmX0 dX0_type_43 8 q177 0 rfl rfl (by decide) (fun _ h => h) rfl rfl ⟨rfl, rfl⟩ (Nat.le_of_ble_eq_true rfl) rfl ?_
      refine gi_aload_n C dX0_type_46 0 rfl ?_
      refine gi_get (v := vi ((fx 8) + 1)) C in_X0 dX0_type_47 8 q177 0 rfl rfl (by decide) (fun _ h => h) rfl ?_
      refine gi_pick [0, 1] (w' := [xO o (fu fx 8 ((fx 8) + 1)) rx n, cB g (rx 7) 120 (uF B (fx 8) (sby l))]) rfl rfl ?_
      exact gi_ireturn C dX0_type_50 (Nat.le_of_ble_eq_true rfl) (Nat.le_of_ble_eq_true rfl) ⟨_, rfl, (by first | rfl | omega), rfl⟩
    · skip
      exact absurd h19 hF.2
  · skip
    replace h8 := bI_eq0.mp h8
    exact absurd hl h8
theorem hdX0_clear : yX0_clear.cls ≠ "java/lang/invoke/MethodHandle" ∧ yX0_clear.cls ≠ "java/lang/invoke/VarHandle" ∧ (parseMethodDescriptor yX0_clear.desc).map (fun d => d.parameters.length) = some 0 := by decide +kernel
abbrev rmX0_clear : Room := { frames := 1, cells := 0, slots := 0, locals := 13 }
set_option maxHeartbeats 4000000 in
set_option maxRecDepth 100000 in
/-- EvenWords.clear()I -/
theorem mX0_clear {g : GG} (hg : OKG g) (o : Nat) (fx : Nat → Int) (rx : Nat → Nat) (n : Nat) : Con g yX0_clear cX0_clear 2 (some .int) rmX0_clear [.ref o] [xO o fx rx n] (pI fun r_ w => r_ = (fx 8) ∧ w = [xO o (fu fx 8 0) rx n]) := by
  refine con_of_go hg (by decide +kernel) (Nat.le_of_ble_eq_true rfl) ?_
  intro x C
  refine gi_lv (lv' := [(0, .ref o)]) [0] rfl ?_
  refine gi_aload_n C dX0_clear_0 0 rfl ?_
  refine gi_get (v := vi (fx 8)) C in_X0 dX0_clear_1 8 q177 0 rfl rfl (by decide) (fun _ h => h) rfl ?_
  refine gi_istore_n (lv' := [(1, vi (fx 8)), (0, .ref o)]) C dX0_clear_4 (by decide) rfl ?_
  refine gi_aload_n C dX0_clear_5 1 rfl ?_
  refine gi_iconst C dX0_clear_6 ?_
  refine gi_put (w' := [xO o (fu fx 8 0) rx n]) C in_X0 tyX0 tyX0_ok nmX0 dX0_clear_7 8 q177 0 rfl rfl (by decide) (fun _ h => h) rfl rfl ⟨rfl, rfl⟩ (Nat.le_of_ble_eq_true rfl) rfl ?_
  refine gi_iload_n C dX0_clear_10 0 rfl ?_
  refine gi_pick [0] (w' := [xO o (fu fx 8 0) rx n]) rfl rfl ?_
  exact gi_ireturn C dX0_clear_11 (Nat.le_of_ble_eq_true rfl) (Nat.le_of_ble_eq_true rfl) ⟨_, rfl, (by first | rfl | omega), rfl⟩
theorem hdX0_bitsBy : yX0_bitsBy.cls ≠ "java/lang/invoke/MethodHandle" ∧ yX0_bitsBy.cls ≠ "java/lang/invoke/VarHandle" ∧ (parseMethodDescriptor yX0_bitsBy.desc).map (fun d => d.parameters.length) = some 1 := by decide +kernel
abbrev rmX0_bitsBy : Room := { frames := 2, cells := 0, slots := 0, locals := 33 }
set_option maxHeartbeats 4000000 in
set_option maxRecDepth 100000 in
/-- EvenWords.bitsBy(Z)I -/
theorem mX0_bitsBy {g : GG} (hg : OKG g) (o : Nat) (fx : Nat → Int) (rx : Nat → Nat) (n : Nat) (fn : Nat → Int) (rn : Nat → Nat) (S : Int → Int) (Se : Int → Int) (Bi : Int → Int) (Tu : Int → Int) (Ma : Int → Int) (t : Int) (hW : WR S fn Se Bi Tu Ma) (ht : t = 0 ∨ t = 1) : Con g yX0_bitsBy cX0_bitsBy 4 (some .int) rmX0_bitsBy [.ref o, vi t] [xO o fx rx n, wO n fn rn o, cI g (rn 1) 32 Se, cZ g (rn 2) 192 Bi, cZ g (rn 3) 192 Tu, cI g (rn 5) 3 Ma] (pI fun r_ w => r_ = (sumI (if t = 1 then Tu else Bi) (6 * S 0)) ∧ w = [xO o fx rx n, wO n fn rn o, cI g (rn 1) 32 Se, cZ g (rn 2) 192 Bi, cZ g (rn 3) 192 Tu, cI g (rn 5) 3 Ma]) := by
  refine con_of_go hg (by decide +kernel) (Nat.le_of_ble_eq_true rfl) ?_
  intro x C
  have hn0 := hW.n
  refine gi_lv (lv' := [(0, .ref o), (1, vi t)]) [0, 1] rfl ?_
  refine gi_iconst C dX0_bitsBy_0 ?_
  refine gi_istore_n (lv' := [(2, vi 0), (0, .ref o), (1, vi t)]) C dX0_bitsBy_1 (by decide) rfl ?_
  refine gi_iconst C dX0_bitsBy_2 ?_
  refine gi_istore_n (lv' := [(3, vi 0), (2, vi 0), (0, .ref o), (1, vi t)]) C dX0_bitsBy_3 (by decide) rfl ?_
  have L4 : ∀ (q_ : Nat) (m : Int) (b : Int) (hb : 0 ≤ b ∧ b ≤ 6 * S 0) (hm : m = sumI (if t = 1 then Tu else Bi) b) (hmm : 0 ≤ m ∧ m ≤ b) (hq_ : (6 * S 0 - b).toNat < q_), Go g x 4 rmX0_bitsBy 0 0 4 [(2, vi m), (3, vi b), (0, .ref o), (1, vi t)] [] [xO o fx rx n, wO n fn rn o, cI g (rn 1) 32 Se, cZ g (rn 2) 192 Bi, cZ g (rn 3) 192 Tu, cI g (rn 5) 3 Ma] := by
    intro q_
    induction q_ with
    | zero => intro m b hb hm hmm hq_; exact absurd hq_ (Nat.not_lt_zero _)
    | succ q_ ih4 =>
      intro m b hb hm hmm hq_
      refine gi_iload_n C dX0_bitsBy_4 1 rfl ?_
      refine gi_aload_n C dX0_bitsBy_5 2 rfl ?_
      refine gi_get (v := .ref n) C in_X0 dX0_bitsBy_6 2 q168 0 rfl rfl (by decide) (fun _ h => h) rfl ?_
      refine gi_runV (wr := [xO o fx rx n, cI g (rn 1) 32 Se, cZ g (rn 2) 192 Bi, cZ g (rn 3) 192 Tu, cI g (rn 5) 3 Ma]) (rest := [vi b]) C (mX1_many C.ok n fn rn o) dX0_bitsBy_9 q427 q397 q398 q56 q399 hdX1_many ⟨Nat.le_of_ble_eq_true rfl, Nat.le_of_ble_eq_true rfl⟩ 1 rfl rfl [1] [0, 2, 3, 4, 5] rfl rfl rfl rfl (by decide) rfl (Nat.le_of_ble_eq_true rfl) ⟨Nat.le_of_ble_eq_true rfl, Nat.le_of_ble_eq_true rfl⟩ (kI fun r_9 w1 hv9 => ?_)
      obtain ⟨hr_9, rfl⟩ := hv9
      refine gi_pick [0, 5, 1, 2, 3, 4] (w' := [xO o fx rx n, wO n fn rn o, cI g (rn 1) 32 Se, cZ g (rn 2) 192 Bi, cZ g (rn 3) 192 Tu, cI g (rn 5) 3 Ma]) rfl rfl ?_
      refine gi_top (b := (6 * fn 0)) hr_9 ?_
      refine gi_icmp_ge (tgt := 60) C dX0_bitsBy_12 (by decide) (by omega) (by omega) (fun h12 => ?_) (fun h12 => ?_)
      · skip
        refine gi_iload_n C dX0_bitsBy_60 0 rfl ?_
        refine gi_pick [0, 1, 2, 3, 4, 5] (w' := [xO o fx rx n, wO n fn rn o, cI g (rn 1) 32 Se, cZ g (rn 2) 192 Bi, cZ g (rn 3) 192 Tu, cI g (rn 5) 3 Ma]) rfl rfl ?_
        exact gi_ireturn C dX0_bitsBy_61 (Nat.le_of_ble_eq_true rfl) (Nat.le_of_ble_eq_true rfl) ⟨_, rfl, (by obtain rfl : b = 6 * S 0 := (by omega); exact hm), rfl⟩
      · skip
        have hz := hW.z hb.1 (by omega)
        have L52 : ∀ (v : Int) (hv : v = (if t = 1 then Tu else Bi) b) (hv2 : v = 0 ∨ v = 1), Go g x 4 rmX0_bitsBy 0 0 52 [(2, vi m), (3, vi b), (0, .ref o), (1, vi t)] [vi v, vi m] [xO o fx rx n, wO n fn rn o, cI g (rn 1) 32 Se, cZ g (rn 2) 192 Bi, cZ g (rn 3) 192 Tu, cI g (rn 5) 3 Ma] := by
          intro v hv hv2
          refine gi_iadd C dX0_bitsBy_52 ?_
          refine gi_istore_n (lv' := [(2, vi (m + v)), (3, vi b), (0, .ref o), (1, vi t)]) C dX0_bitsBy_53 (by decide) rfl ?_
          refine gi_iinc (lv' := [(3, vi (b + 1)), (2, vi (m + v)), (0, .ref o), (1, vi t)]) C dX0_bitsBy_54 1 rfl (by decide) rfl ?_
          refine gi_goto (tgt := 4) C dX0_bitsBy_57 (by decide) ?_
          exact gi_to [1, 0, 2, 3] [0, 1, 2, 3, 4, 5] rfl rfl rfl (ih4 (m + v) (b + 1) (by omega) (by rw [sumI_s _ hb.1, hm, hv]) (by omega) (by omega))
        refine gi_iload_n C dX0_bitsBy_15 0 rfl ?_
        refine gi_iload_n C dX0_bitsBy_16 3 rfl ?_
        refine gi_if_eq (tgt := 35) C dX0_bitsBy_17 (by decide) (by omega) (fun h17 => ?_) (fun h17 => ?_)
        · skip
          refine gi_aload_n C dX0_bitsBy_35 2 rfl ?_
          refine gi_get (v := .ref n) C in_X0 dX0_bitsBy_36 2 q168 0 rfl rfl (by decide) (fun _ h => h) rfl ?_
          refine gi_getN (v := .ref (rn 2)) C in_X1 dX0_bitsBy_39 2 q124 1 rfl rfl (by decide) (fun _ h => h) rfl ?_
          refine gi_iload_n C dX0_bitsBy_42 1 rfl ?_
          refine gi_zald C dX0_bitsBy_43 3 rfl (by decide) (by omega) ?_
          refine gi_if_eq (tgt := 51) C dX0_bitsBy_44 (by decide) (by omega) (fun h44 => ?_) (fun h44 => ?_)
          · skip
            refine gi_iconst C dX0_bitsBy_51 ?_
            exact gi_to [0, 1, 2, 3] [0, 1, 2, 3, 4, 5] rfl rfl rfl (L52 0 (by first | (rw [if_pos (by omega)]; omega) | (rw [if_neg (by omega)]; omega)) (by omega))
          · skip
            refine gi_iconst C dX0_bitsBy_47 ?_
            refine gi_goto (tgt := 52) C dX0_bitsBy_48 (by decide) ?_
            exact gi_to [0, 1, 2, 3] [0, 1, 2, 3, 4, 5] rfl rfl rfl (L52 1 (by first | (rw [if_pos (by omega)]; omega) | (rw [if_neg (by omega)]; omega)) (by omega))
        · skip
          refine gi_aload_n C dX0_bitsBy_20 2 rfl ?_
          refine gi_get (v := .ref n) C in_X0 dX0_bitsBy_21 2 q168 0 rfl rfl (by decide) (fun _ h => h) rfl ?_
          refine gi_getN (v := .ref (rn 3)) C in_X1 dX0_bitsBy_24 3 q126 1 rfl rfl (by decide) (fun _ h => h) rfl ?_
          refine gi_iload_n C dX0_bitsBy_27 1 rfl ?_
          refine gi_zald C dX0_bitsBy_28 4 rfl (by decide) (by omega) ?_
          refine gi_if_eq (tgt := 51) C dX0_bitsBy_29 (by decide) (by omega) (fun h29 => ?_) (fun h29 => ?_)
          · skip
            refine gi_iconst C dX0_bitsBy_51 ?_
            exact gi_to [0, 1, 2, 3] [0, 1, 2, 3, 4, 5] rfl rfl rfl (L52 0 (by first | (rw [if_pos (by omega)]; omega) | (rw [if_neg (by omega)]; omega)) (by omega))
          · skip
            refine gi_goto (tgt := 47) C dX0_bitsBy_32 (by decide) ?_
            refine gi_iconst C dX0_bitsBy_47 ?_
            refine gi_goto (tgt := 52) C dX0_bitsBy_48 (by decide) ?_
            exact gi_to [0, 1, 2, 3] [0, 1, 2, 3, 4, 5] rfl rfl rfl (L52 1 (by first | (rw [if_pos (by omega)]; omega) | (rw [if_neg (by omega)]; omega)) (by omega))
  exact gi_to [1, 0, 2, 3] [0, 1, 2, 3, 4, 5] rfl rfl rfl (L4 _ 0 0 (by omega) (rfl) (by omega) (Nat.lt_succ_self _))
theorem hdX0_marksSent : yX0_marksSent.cls ≠ "java/lang/invoke/MethodHandle" ∧ yX0_marksSent.cls ≠ "java/lang/invoke/VarHandle" ∧ (parseMethodDescriptor yX0_marksSent.desc).map (fun d => d.parameters.length) = some 0 := by decide +kernel
abbrev rmX0_marksSent : Room := { frames := 1, cells := 0, slots := 0, locals := 13 }
set_option maxHeartbeats 4000000 in
set_option maxRecDepth 100000 in
/-- EvenWords.marksSent()I -/
theorem mX0_marksSent {g : GG} (hg : OKG g) (o : Nat) (fx : Nat → Int) (rx : Nat → Nat) (n : Nat) (fn : Nat → Int) (rn : Nat → Nat) (S : Int → Int) (Se : Int → Int) (Bi : Int → Int) (Tu : Int → Int) (Ma : Int → Int) (hW : WR S fn Se Bi Tu Ma) : Con g yX0_marksSent cX0_marksSent 3 (some .int) rmX0_marksSent [.ref o] [xO o fx rx n, wO n fn rn o, cI g (rn 1) 32 Se, cZ g (rn 2) 192 Bi, cZ g (rn 3) 192 Tu, cI g (rn 5) 3 Ma] (pI fun r_ w => r_ = (sumI (fun w => bI (30 < Se w)) (S 0)) ∧ w = [xO o fx rx n, wO n fn rn o, cI g (rn 1) 32 Se, cZ g (rn 2) 192 Bi, cZ g (rn 3) 192 Tu, cI g (rn 5) 3 Ma]) := by
  refine con_of_go hg (by decide +kernel) (Nat.le_of_ble_eq_true rfl) ?_
  intro x C
  have hn0 := hW.n
  refine gi_lv (lv' := [(0, .ref o)]) [0] rfl ?_
  refine gi_iconst C dX0_marksSent_0 ?_
  refine gi_istore_n (lv' := [(1, vi 0), (0, .ref o)]) C dX0_marksSent_1 (by decide) rfl ?_
  refine gi_iconst C dX0_marksSent_2 ?_
  refine gi_istore_n (lv' := [(2, vi 0), (1, vi 0), (0, .ref o)]) C dX0_marksSent_3 (by decide) rfl ?_
  have L4 : ∀ (q_ : Nat) (m : Int) (w : Int) (hw : 0 ≤ w ∧ w ≤ S 0) (hm : m = sumI (fun w => bI (30 < Se w)) w) (hmm : 0 ≤ m ∧ m ≤ w) (hq_ : (S 0 - w).toNat < q_), Go g x 3 rmX0_marksSent 0 0 4 [(1, vi m), (2, vi w), (0, .ref o)] [] [xO o fx rx n, wO n fn rn o, cI g (rn 1) 32 Se, cZ g (rn 2) 192 Bi, cZ g (rn 3) 192 Tu, cI g (rn 5) 3 Ma] := by
    intro q_
    induction q_ with
    | zero => intro m w hw hm hmm hq_; exact absurd hq_ (Nat.not_lt_zero _)
    | succ q_ ih4 =>
      intro m w hw hm hmm hq_
      refine gi_iload_n C dX0_marksSent_4 1 rfl ?_
      refine gi_aload_n C dX0_marksSent_5 2 rfl ?_
      refine gi_get (v := .ref n) C in_X0 dX0_marksSent_6 2 q168 0 rfl rfl (by decide) (fun _ h => h) rfl ?_
      refine gi_getN (v := vi (fn 0)) C in_X1 dX0_marksSent_9 0 q119 1 rfl rfl (by decide) (fun _ h => h) rfl ?_
      refine gi_icmp_ge (tgt := 43) C dX0_marksSent_12 (by decide) (by omega) (by omega) (fun h12 => ?_) (fun h12 => ?_)
      · skip
        refine gi_iload_n C dX0_marksSent_43 0 rfl ?_
        refine gi_pick [0, 1, 2, 3, 4, 5] (w' := [xO o fx rx n, wO n fn rn o, cI g (rn 1) 32 Se, cZ g (rn 2) 192 Bi, cZ g (rn 3) 192 Tu, cI g (rn 5) 3 Ma]) rfl rfl ?_
        exact gi_ireturn C dX0_marksSent_44 (Nat.le_of_ble_eq_true rfl) (Nat.le_of_ble_eq_true rfl) ⟨_, rfl, (by obtain rfl : w = S 0 := (by omega); exact hm), rfl⟩
      · skip
        have hz := hW.w hw.1 (by omega)
        have L35 : ∀ (v : Int) (hv : v = bI (30 < Se w)) (hv2 : v = 0 ∨ v = 1), Go g x 3 rmX0_marksSent 0 0 35 [(1, vi m), (2, vi w), (0, .ref o)] [vi v, vi m] [xO o fx rx n, wO n fn rn o, cI g (rn 1) 32 Se, cZ g (rn 2) 192 Bi, cZ g (rn 3) 192 Tu, cI g (rn 5) 3 Ma] := by
          intro v hv hv2
          refine gi_iadd C dX0_marksSent_35 ?_
          refine gi_istore_n (lv' := [(1, vi (m + v)), (2, vi w), (0, .ref o)]) C dX0_marksSent_36 (by decide) rfl ?_
          refine gi_iinc (lv' := [(2, vi (w + 1)), (1, vi (m + v)), (0, .ref o)]) C dX0_marksSent_37 1 rfl (by decide) rfl ?_
          refine gi_goto (tgt := 4) C dX0_marksSent_40 (by decide) ?_
          exact gi_to [1, 0, 2] [0, 1, 2, 3, 4, 5] rfl rfl rfl (ih4 (m + v) (w + 1) (by omega) (by rw [sumI_s _ hw.1, hm, hv]) (by omega) (by omega))
        refine gi_iload_n C dX0_marksSent_15 0 rfl ?_
        refine gi_aload_n C dX0_marksSent_16 2 rfl ?_
        refine gi_get (v := .ref n) C in_X0 dX0_marksSent_17 2 q168 0 rfl rfl (by decide) (fun _ h => h) rfl ?_
        refine gi_getN (v := .ref (rn 1)) C in_X1 dX0_marksSent_20 1 q121 1 rfl rfl (by decide) (fun _ h => h) rfl ?_
        refine gi_iload_n C dX0_marksSent_23 1 rfl ?_
        refine gi_iald C dX0_marksSent_24 2 rfl (by decide) (by omega) ?_
        refine gi_bipush C dX0_marksSent_25 (by decide +kernel) ?_
        refine gi_icmp_lt (tgt := 34) C dX0_marksSent_27 (by decide) (by omega) (by omega) (fun h27 => ?_) (fun h27 => ?_)
        · skip
          refine gi_iconst C dX0_marksSent_34 ?_
          exact gi_to [0, 1, 2] [0, 1, 2, 3, 4, 5] rfl rfl rfl (L35 0 (by first | exact (bI_t (by omega)).symm | exact (bI_f (by omega)).symm) (by omega))
        · skip
          refine gi_iconst C dX0_marksSent_30 ?_
          refine gi_goto (tgt := 35) C dX0_marksSent_31 (by decide) ?_
          exact gi_to [0, 1, 2] [0, 1, 2, 3, 4, 5] rfl rfl rfl (L35 1 (by first | exact (bI_t (by omega)).symm | exact (bI_f (by omega)).symm) (by omega))
  exact gi_to [1, 0, 2] [0, 1, 2, 3, 4, 5] rfl rfl rfl (L4 _ 0 0 (by omega) (rfl) (by omega) (Nat.lt_succ_self _))
theorem hdX0_count : yX0_count.cls ≠ "java/lang/invoke/MethodHandle" ∧ yX0_count.cls ≠ "java/lang/invoke/VarHandle" ∧ (parseMethodDescriptor yX0_count.desc).map (fun d => d.parameters.length) = some 1 := by decide +kernel
abbrev rmX0_count : Room := { frames := 3, cells := 0, slots := 0, locals := 87 }
set_option maxHeartbeats 4000000 in
set_option maxRecDepth 100000 in
/-- EvenWords.count(I)I -/
theorem mX0_count {g : GG} (hg : OKG g) (o : Nat) (fx : Nat → Int) (rx : Nat → Nat) (n : Nat) (fn : Nat → Int) (rn : Nat → Nat) (S : Int → Int) (Se : Int → Int) (Bi : Int → Int) (Tu : Int → Int) (Ma : Int → Int) (c : Int) (hW : WR S fn Se Bi Tu Ma) (hc : Rg c) (hu : 0 ≤ fx 5 ∧ fx 5 ≤ 6) (ht : 0 ≤ fx 8 ∧ fx 8 ≤ 120) : Con g yX0_count cX0_count 2 (some .int) rmX0_count [.ref o, vi c] [xO o fx rx n, wO n fn rn o, cI g (rn 1) 32 Se, cZ g (rn 2) 192 Bi, cZ g (rn 3) 192 Tu, cI g (rn 5) 3 Ma] (pI fun r_ w => r_ = (countR S (fx 8) (fx 5) c) ∧ w = [xO o fx rx n, wO n fn rn o, cI g (rn 1) 32 Se, cZ g (rn 2) 192 Bi, cZ g (rn 3) 192 Tu, cI g (rn 5) 3 Ma]) := by
  refine con_of_go hg (by decide +kernel) (Nat.le_of_ble_eq_true rfl) ?_
  intro x C
  have hn0 := hW.n
  have ha := hW.a2
  have hz : ∀ b : Int, 0 ≤ b → b < 192 → (Bi b = 0 ∨ Bi b = 1) := fun b h0 h1 => (hW.z h0 h1).1
  have hS1 := hW.ws.s1
  refine gi_lv (lv' := [(0, .ref o), (1, vi c)]) [0, 1] rfl ?_
  refine gi_iload_n C dX0_count_0 1 rfl ?_
  by_cases h1_0 : c = 0
  · refine gi_tableIn (tgt := 48) C 0 dX0_count_1 h1_0 (by omega) (by decide) (by decide) rfl (by decide) ?_
    refine gi_aload_n C dX0_count_48 0 rfl ?_
    refine gi_get (v := .ref n) C in_X0 dX0_count_49 2 q168 0 rfl rfl (by decide) (fun _ h => h) rfl ?_
    refine gi_getN (v := vi (fn 0)) C in_X1 dX0_count_52 0 q119 1 rfl rfl (by decide) (fun _ h => h) rfl ?_
    refine gi_pick [0, 1, 2, 3, 4, 5] (w' := [xO o fx rx n, wO n fn rn o, cI g (rn 1) 32 Se, cZ g (rn 2) 192 Bi, cZ g (rn 3) 192 Tu, cI g (rn 5) 3 Ma]) rfl rfl ?_
    exact gi_ireturn C dX0_count_55 (Nat.le_of_ble_eq_true rfl) (Nat.le_of_ble_eq_true rfl) ⟨_, rfl, (by unfold countR; rw [if_pos (by omega)]; omega), rfl⟩
  by_cases h1_1 : c = 1
  · refine gi_tableIn (tgt := 56) C 1 dX0_count_1 h1_1 (by omega) (by decide) (by decide) rfl (by decide) ?_
    refine gi_aload_n C dX0_count_56 0 rfl ?_
    refine gi_get (v := .ref n) C in_X0 dX0_count_57 2 q168 0 rfl rfl (by decide) (fun _ h => h) rfl ?_
    refine gi_getN (v := vi (fn 4)) C in_X1 dX0_count_60 4 q128 1 rfl rfl (by decide) (fun _ h => h) rfl ?_
    refine gi_if_eq (tgt := 70) C dX0_count_63 (by decide) (by omega) (fun h63 => ?_) (fun h63 => ?_)
    · skip
      refine gi_iconst C dX0_count_70 ?_
      refine gi_pick [0, 1, 2, 3, 4, 5] (w' := [xO o fx rx n, wO n fn rn o, cI g (rn 1) 32 Se, cZ g (rn 2) 192 Bi, cZ g (rn 3) 192 Tu, cI g (rn 5) 3 Ma]) rfl rfl ?_
      exact gi_ireturn C dX0_count_71 (Nat.le_of_ble_eq_true rfl) (Nat.le_of_ble_eq_true rfl) ⟨_, rfl, (by unfold countR; rw [if_neg (by omega)]; rw [if_pos (by omega)]; first | rw [if_neg (by omega)] | rw [if_pos (by omega)]), rfl⟩
    · skip
      refine gi_iconst C dX0_count_66 ?_
      refine gi_goto (tgt := 71) C dX0_count_67 (by decide) ?_
      refine gi_pick [0, 1, 2, 3, 4, 5] (w' := [xO o fx rx n, wO n fn rn o, cI g (rn 1) 32 Se, cZ g (rn 2) 192 Bi, cZ g (rn 3) 192 Tu, cI g (rn 5) 3 Ma]) rfl rfl ?_
      exact gi_ireturn C dX0_count_71 (Nat.le_of_ble_eq_true rfl) (Nat.le_of_ble_eq_true rfl) ⟨_, rfl, (by unfold countR; rw [if_neg (by omega)]; rw [if_pos (by omega)]; first | rw [if_neg (by omega)] | rw [if_pos (by omega)]), rfl⟩
  by_cases h1_2 : c = 2
  · refine gi_tableIn (tgt := 72) C 2 dX0_count_1 h1_2 (by omega) (by decide) (by decide) rfl (by decide) ?_
    refine gi_aload_n C dX0_count_72 0 rfl ?_
    refine gi_iconst C dX0_count_73 ?_
    refine gi_runV (wr := []) (rest := []) C (mX0_bitsBy C.ok o fx rx n fn rn S Se Bi Tu Ma 0 (show WR S fn Se Bi Tu Ma from (hW)) (show 0 = 0 ∨ 0 = 1 from (by omega))) dX0_count_74 q1551 q1553 qs27 q53 q1554 hdX0_bitsBy ⟨Nat.le_of_ble_eq_true rfl, Nat.le_of_ble_eq_true rfl⟩ 0 rfl rfl [0, 1, 2, 3, 4, 5] [] rfl rfl rfl rfl (by decide) rfl (Nat.le_of_ble_eq_true rfl) ⟨Nat.le_of_ble_eq_true rfl, Nat.le_of_ble_eq_true rfl⟩ (kI fun r_74 w1 hv74 => ?_)
    obtain ⟨hr_74, rfl⟩ := hv74
    refine gi_pick [0, 1, 2, 3, 4, 5] (w' := [xO o fx rx n, wO n fn rn o, cI g (rn 1) 32 Se, cZ g (rn 2) 192 Bi, cZ g (rn 3) 192 Tu, cI g (rn 5) 3 Ma]) rfl rfl ?_
    refine gi_top (b := (sumI (if 0 = 1 then Tu else Bi) (6 * S 0))) hr_74 ?_
    refine gi_pick [0, 1, 2, 3, 4, 5] (w' := [xO o fx rx n, wO n fn rn o, cI g (rn 1) 32 Se, cZ g (rn 2) 192 Bi, cZ g (rn 3) 192 Tu, cI g (rn 5) 3 Ma]) rfl rfl ?_
    exact gi_ireturn C dX0_count_77 (Nat.le_of_ble_eq_true rfl) (Nat.le_of_ble_eq_true rfl) ⟨_, rfl, (by rw [if_neg (by decide)]; unfold countR; rw [if_neg (by omega)]; rw [if_neg (by omega)]; rw [if_pos (by omega)]; exact sumI_cg (fun b h0 h1 => hW.b h0 h1) _ (by omega) (Int.le_refl _)), rfl⟩
  by_cases h1_3 : c = 3
  · refine gi_tableIn (tgt := 78) C 3 dX0_count_1 h1_3 (by omega) (by decide) (by decide) rfl (by decide) ?_
    refine gi_aload_n C dX0_count_78 0 rfl ?_
    refine gi_iconst C dX0_count_79 ?_
    refine gi_runV (wr := []) (rest := []) C (mX0_bitsBy C.ok o fx rx n fn rn S Se Bi Tu Ma 1 (show WR S fn Se Bi Tu Ma from (hW)) (show 1 = 0 ∨ 1 = 1 from (by omega))) dX0_count_80 q1551 q1553 qs27 q53 q1554 hdX0_bitsBy ⟨Nat.le_of_ble_eq_true rfl, Nat.le_of_ble_eq_true rfl⟩ 0 rfl rfl [0, 1, 2, 3, 4, 5] [] rfl rfl rfl rfl (by decide) rfl (Nat.le_of_ble_eq_true rfl) ⟨Nat.le_of_ble_eq_true rfl, Nat.le_of_ble_eq_true rfl⟩ (kI fun r_80 w1 hv80 => ?_)
    obtain ⟨hr_80, rfl⟩ := hv80
    refine gi_pick [0, 1, 2, 3, 4, 5] (w' := [xO o fx rx n, wO n fn rn o, cI g (rn 1) 32 Se, cZ g (rn 2) 192 Bi, cZ g (rn 3) 192 Tu, cI g (rn 5) 3 Ma]) rfl rfl ?_
    refine gi_top (b := (sumI (if 1 = 1 then Tu else Bi) (6 * S 0))) hr_80 ?_
    refine gi_pick [0, 1, 2, 3, 4, 5] (w' := [xO o fx rx n, wO n fn rn o, cI g (rn 1) 32 Se, cZ g (rn 2) 192 Bi, cZ g (rn 3) 192 Tu, cI g (rn 5) 3 Ma]) rfl rfl ?_
    exact gi_ireturn C dX0_count_83 (Nat.le_of_ble_eq_true rfl) (Nat.le_of_ble_eq_true rfl) ⟨_, rfl, (by rw [if_pos (by decide)]; unfold countR; rw [if_neg (by omega)]; rw [if_neg (by omega)]; rw [if_neg (by omega)]; rw [if_pos (by omega)]; exact sumI_cg (fun b h0 h1 => hW.t h0 h1) _ (by omega) (Int.le_refl _)), rfl⟩
  by_cases h1_4 : c = 4
  · refine gi_tableIn (tgt := 84) C 4 dX0_count_1 h1_4 (by omega) (by decide) (by decide) rfl (by decide) ?_
    refine gi_aload_n C dX0_count_84 0 rfl ?_
    refine gi_get (v := .ref n) C in_X0 dX0_count_85 2 q168 0 rfl rfl (by decide) (fun _ h => h) rfl ?_
    refine gi_runV (wr := [xO o fx rx n, cI g (rn 1) 32 Se, cZ g (rn 3) 192 Tu, cI g (rn 5) 3 Ma]) (rest := []) C (mX1_longest C.ok n fn rn o Bi (show 0 ≤ fn 0 ∧ fn 0 ≤ 32 from (by omega)) (show ∀ b : Int, 0 ≤ b → b < 192 → (Bi b = 0 ∨ Bi b = 1) from (hz))) dX0_count_88 q1498 q1499 q1500 q56 q1501 hdX1_longest ⟨Nat.le_of_ble_eq_true rfl, Nat.le_of_ble_eq_true rfl⟩ 1 rfl rfl [1, 3] [0, 2, 4, 5] rfl rfl rfl rfl (by decide) rfl (Nat.le_of_ble_eq_true rfl) ⟨Nat.le_of_ble_eq_true rfl, Nat.le_of_ble_eq_true rfl⟩ (kI fun r_88 w1 hv88 => ?_)
    obtain ⟨hr_88, rfl⟩ := hv88
    refine gi_pick [0, 4, 1, 5, 2, 3] (w' := [xO o fx rx n, wO n fn rn o, cI g (rn 1) 32 Se, cZ g (rn 2) 192 Bi, cZ g (rn 3) 192 Tu, cI g (rn 5) 3 Ma]) rfl rfl ?_
    refine gi_top (b := (mostI Bi (6 * fn 0))) hr_88 ?_
    refine gi_pick [0, 1, 2, 3, 4, 5] (w' := [xO o fx rx n, wO n fn rn o, cI g (rn 1) 32 Se, cZ g (rn 2) 192 Bi, cZ g (rn 3) 192 Tu, cI g (rn 5) 3 Ma]) rfl rfl ?_
    exact gi_ireturn C dX0_count_91 (Nat.le_of_ble_eq_true rfl) (Nat.le_of_ble_eq_true rfl) ⟨_, rfl, (by unfold countR; rw [if_neg (by omega)]; rw [if_neg (by omega)]; rw [if_neg (by omega)]; rw [if_neg (by omega)]; rw [if_pos (by omega)]; rw [hn0.1]; exact mostI_cg (fun b h0 h1 => hW.b h0 h1) _ (by omega) (Int.le_refl _)), rfl⟩
  by_cases h1_5 : c = 5
  · refine gi_tableIn (tgt := 92) C 5 dX0_count_1 h1_5 (by omega) (by decide) (by decide) rfl (by decide) ?_
    refine gi_aload_n C dX0_count_92 0 rfl ?_
    refine gi_runV (wr := []) (rest := []) C (mX0_marksSent C.ok o fx rx n fn rn S Se Bi Tu Ma (show WR S fn Se Bi Tu Ma from (hW))) dX0_count_93 q1555 q1557 qs28 q53 q1558 hdX0_marksSent ⟨Nat.le_of_ble_eq_true rfl, Nat.le_of_ble_eq_true rfl⟩ 0 rfl rfl [0, 1, 2, 3, 4, 5] [] rfl rfl rfl rfl (by decide) rfl (Nat.le_of_ble_eq_true rfl) ⟨Nat.le_of_ble_eq_true rfl, Nat.le_of_ble_eq_true rfl⟩ (kI fun r_93 w1 hv93 => ?_)
    obtain ⟨hr_93, rfl⟩ := hv93
    refine gi_pick [0, 1, 2, 3, 4, 5] (w' := [xO o fx rx n, wO n fn rn o, cI g (rn 1) 32 Se, cZ g (rn 2) 192 Bi, cZ g (rn 3) 192 Tu, cI g (rn 5) 3 Ma]) rfl rfl ?_
    refine gi_top (b := (sumI (fun w => bI (30 < Se w)) (S 0))) hr_93 ?_
    refine gi_pick [0, 1, 2, 3, 4, 5] (w' := [xO o fx rx n, wO n fn rn o, cI g (rn 1) 32 Se, cZ g (rn 2) 192 Bi, cZ g (rn 3) 192 Tu, cI g (rn 5) 3 Ma]) rfl rfl ?_
    exact gi_ireturn C dX0_count_96 (Nat.le_of_ble_eq_true rfl) (Nat.le_of_ble_eq_true rfl) ⟨_, rfl, (by unfold countR; rw [if_neg (by omega)]; rw [if_neg (by omega)]; rw [if_neg (by omega)]; rw [if_neg (by omega)]; rw [if_neg (by omega)]; rw [if_pos (by omega)]; exact sumI_cg (fun w h0 h1 => by rw [(hW.w h0 h1).1]) _ (by omega) (Int.le_refl _)), rfl⟩
  by_cases h1_6 : c = 6
  · refine gi_tableIn (tgt := 97) C 6 dX0_count_1 h1_6 (by omega) (by decide) (by decide) rfl (by decide) ?_
    refine gi_aload_n C dX0_count_97 0 rfl ?_
    refine gi_get (v := vi (fx 8)) C in_X0 dX0_count_98 8 q177 0 rfl rfl (by decide) (fun _ h => h) rfl ?_
    refine gi_pick [0, 1, 2, 3, 4, 5] (w' := [xO o fx rx n, wO n fn rn o, cI g (rn 1) 32 Se, cZ g (rn 2) 192 Bi, cZ g (rn 3) 192 Tu, cI g (rn 5) 3 Ma]) rfl rfl ?_
    exact gi_ireturn C dX0_count_101 (Nat.le_of_ble_eq_true rfl) (Nat.le_of_ble_eq_true rfl) ⟨_, rfl, (by unfold countR; rw [if_neg (by omega)]; rw [if_neg (by omega)]; rw [if_neg (by omega)]; rw [if_neg (by omega)]; rw [if_neg (by omega)]; rw [if_neg (by omega)]; rw [if_pos (by omega)]; ), rfl⟩
  by_cases h1_7 : c = 7
  · refine gi_tableIn (tgt := 102) C 7 dX0_count_1 h1_7 (by omega) (by decide) (by decide) rfl (by decide) ?_
    refine gi_aload_n C dX0_count_102 0 rfl ?_
    refine gi_get (v := vi (fx 5)) C in_X0 dX0_count_103 5 q172 0 rfl rfl (by decide) (fun _ h => h) rfl ?_
    refine gi_pick [0, 1, 2, 3, 4, 5] (w' := [xO o fx rx n, wO n fn rn o, cI g (rn 1) 32 Se, cZ g (rn 2) 192 Bi, cZ g (rn 3) 192 Tu, cI g (rn 5) 3 Ma]) rfl rfl ?_
    exact gi_ireturn C dX0_count_106 (Nat.le_of_ble_eq_true rfl) (Nat.le_of_ble_eq_true rfl) ⟨_, rfl, (by unfold countR; rw [if_neg (by omega)]; rw [if_neg (by omega)]; rw [if_neg (by omega)]; rw [if_neg (by omega)]; rw [if_neg (by omega)]; rw [if_neg (by omega)]; rw [if_neg (by omega)]; rw [if_pos (by omega)]; ), rfl⟩
  refine gi_tableOut (tgt := 107) C dX0_count_1 (by omega) (by omega) (by decide) ?_
  refine gi_iconst C dX0_count_107 ?_
  refine gi_pick [0, 1, 2, 3, 4, 5] (w' := [xO o fx rx n, wO n fn rn o, cI g (rn 1) 32 Se, cZ g (rn 2) 192 Bi, cZ g (rn 3) 192 Tu, cI g (rn 5) 3 Ma]) rfl rfl ?_
  exact gi_ireturn C dX0_count_108 (Nat.le_of_ble_eq_true rfl) (Nat.le_of_ble_eq_true rfl) ⟨_, rfl, (by unfold countR; rw [if_neg (by omega)]; rw [if_neg (by omega)]; rw [if_neg (by omega)]; rw [if_neg (by omega)]; rw [if_neg (by omega)]; rw [if_neg (by omega)]; rw [if_neg (by omega)]; rw [if_neg (by omega)]; ), rfl⟩
theorem hdX0_keep : yX0_keep.cls ≠ "java/lang/invoke/MethodHandle" ∧ yX0_keep.cls ≠ "java/lang/invoke/VarHandle" ∧ (parseMethodDescriptor yX0_keep.desc).map (fun d => d.parameters.length) = some 1 := by decide +kernel
abbrev rmX0_keepF : Room := { frames := 2, cells := 0, slots := 0, locals := 35 }
set_option maxHeartbeats 4000000 in
set_option maxRecDepth 100000 in
/-- EvenWords.keep(I)I -/
theorem mX0_keepF {g : GG} (hg : OKG g) (o : Nat) (fx : Nat → Int) (rx : Nat → Nat) (n : Nat) (i : Int) (hi : Rg i) (hF : ¬ (0 ≤ i ∧ i ≤ 1)) : Con g yX0_keep cX0_keep 2 (some .int) rmX0_keepF [.ref o, vi i] [xO o fx rx n] (pI fun r_ w => r_ = (-1) ∧ w = [xO o fx rx n]) := by
  refine con_of_go hg (by decide +kernel) (Nat.le_of_ble_eq_true rfl) ?_
  intro x C
  refine gi_lv (lv' := [(0, .ref o), (1, vi i)]) [0, 1] rfl ?_
  refine gi_iload_n C dX0_keep_0 1 rfl ?_
  refine gi_iconst C dX0_keep_1 ?_
  refine gi_iconst C dX0_keep_2 ?_
  refine gi_runS (wr := [xO o fx rx n]) (rest := []) C (mX0_in C.ok i 0 1 (by omega) (by omega) (by omega)) dX0_keep_3 q220 q221 q53 q222 hdX0_in ⟨Nat.le_of_ble_eq_true rfl, Nat.le_of_ble_eq_true rfl⟩ [] [0] rfl rfl rfl rfl (by decide) rfl (Nat.le_of_ble_eq_true rfl) ⟨Nat.le_of_ble_eq_true rfl, Nat.le_of_ble_eq_true rfl⟩ (kI fun r_3 w1 hv3 => ?_)
  obtain ⟨rfl, hr_3⟩ := hv3
  refine gi_pick [0] (w' := [xO o fx rx n]) rfl rfl ?_
  refine gi_top (b := (bI (0 ≤ i ∧ i ≤ 1))) hr_3 ?_
  refine gi_if_ne (tgt := 11) C dX0_keep_6 (by decide) (bI_rg _) (fun h6 => ?_) (fun h6 => ?_)
  · skip
    replace h6 := bI_ne0.mp h6
    exact absurd h6 hF
  · skip
    replace h6 := bI_eq0.mp h6
    refine gi_iconst C dX0_keep_9 ?_
    refine gi_pick [0] (w' := [xO o fx rx n]) rfl rfl ?_
    exact gi_ireturn C dX0_keep_10 (Nat.le_of_ble_eq_true rfl) (Nat.le_of_ble_eq_true rfl) ⟨_, rfl, (by first | rfl | omega), rfl⟩
abbrev rmX0_keep : Room := { frames := 2, cells := 5, slots := 427, locals := 85 }
set_option maxHeartbeats 4000000 in
set_option maxRecDepth 100000 in
/-- EvenWords.keep(I)I -/
theorem mX0_keep {g : GG} (hg : OKG g) (o : Nat) (fx : Nat → Int) (rx : Nat → Nat) (n : Nat) (fn : Nat → Int) (rn : Nat → Nat) (S : Int → Int) (Se : Int → Int) (Bi : Int → Int) (Tu : Int → Int) (Ma : Int → Int) (K : Int → Option Nat) (i : Int) (hW : WR S fn Se Bi Tu Ma) (hF : 0 ≤ i ∧ i ≤ 1) : Con g yX0_keep cX0_keep 2 (some .int) rmX0_keep [.ref o, vi i] [xO o fx rx n, cR g 3 (rx 6) 2 K, wO n fn rn o, cI g (rn 1) 32 Se, cZ g (rn 2) 192 Bi, cZ g (rn 3) 192 Tu, cI g (rn 5) 3 Ma] (pI fun r_ w => ∃ (q : Nat), ∃ (rq : Nat → Nat), r_ = (S 0) ∧ w = [xO o fx rx n, cR g 3 (rx 6) 2 (uF K i (some q)), wO n fn rn o, cI g (rn 1) 32 Se, cZ g (rn 2) 192 Bi, cZ g (rn 3) 192 Tu, cI g (rn 5) 3 Ma, wO q fn rq o, cI g (rq 1) 32 Se, cZ g (rq 2) 192 Bi, cZ g (rq 3) 192 Tu, cI g (rq 5) 3 Ma]) := by
  refine con_of_go hg (by decide +kernel) (Nat.le_of_ble_eq_true rfl) ?_
  intro x C
  have hn0 := hW.n
  have ha := hW.a2
  refine gi_lv (lv' := [(0, .ref o), (1, vi i)]) [0, 1] rfl ?_
  refine gi_iload_n C dX0_keep_0 1 rfl ?_
  refine gi_iconst C dX0_keep_1 ?_
  refine gi_iconst C dX0_keep_2 ?_
  refine gi_runS (wr := [xO o fx rx n, cR g 3 (rx 6) 2 K, wO n fn rn o, cI g (rn 1) 32 Se, cZ g (rn 2) 192 Bi, cZ g (rn 3) 192 Tu, cI g (rn 5) 3 Ma]) (rest := []) C (mX0_in C.ok i 0 1 (by omega) (by omega) (by omega)) dX0_keep_3 q220 q221 q53 q222 hdX0_in ⟨Nat.le_of_ble_eq_true rfl, Nat.le_of_ble_eq_true rfl⟩ [] [0, 1, 2, 3, 4, 5, 6] rfl rfl rfl rfl (by decide) rfl (Nat.le_of_ble_eq_true rfl) ⟨Nat.le_of_ble_eq_true rfl, Nat.le_of_ble_eq_true rfl⟩ (kI fun r_3 w1 hv3 => ?_)
  obtain ⟨rfl, hr_3⟩ := hv3
  refine gi_pick [0, 1, 2, 3, 4, 5, 6] (w' := [xO o fx rx n, cR g 3 (rx 6) 2 K, wO n fn rn o, cI g (rn 1) 32 Se, cZ g (rn 2) 192 Bi, cZ g (rn 3) 192 Tu, cI g (rn 5) 3 Ma]) rfl rfl ?_
  refine gi_top (b := (bI (0 ≤ i ∧ i ≤ 1))) hr_3 ?_
  refine gi_if_ne (tgt := 11) C dX0_keep_6 (by decide) (bI_rg _) (fun h6 => ?_) (fun h6 => ?_)
  · skip
    replace h6 := bI_ne0.mp h6
    refine gi_aload_n C dX0_keep_11 0 rfl ?_
    refine gi_get (v := .ref (rx 6)) C in_X0 dX0_keep_12 6 q173 0 rfl rfl (by decide) (fun _ h => h) rfl ?_
    refine gi_iload_n C dX0_keep_15 1 rfl ?_
    refine gi_new (c := 1) (N := 8) (fs := [vi 0, .null, .null, .null, vi 0, .null, vi 0, .null]) C in_X1 tyX1 tyX1_ok dX0_keep_16 q111 q112 q56 rfl (newfsX1) (Nat.le_of_ble_eq_true rfl) (Nat.le_of_ble_eq_true rfl) (fun q16 => ?_)
    refine gi_ws (w' := [xO o fx rx n, cR g 3 (rx 6) 2 K, wO n fn rn o, cI g (rn 1) 32 Se, cZ g (rn 2) 192 Bi, cZ g (rn 3) 192 Tu, cI g (rn 5) 3 Ma, cO q16 1 [vi 0, .null, .null, .null, vi 0, .null, vi 0, .null]]) rfl ?_
    refine gi_dup C dX0_keep_19 rfl ?_
    refine gi_aload_n C dX0_keep_20 0 rfl ?_
    refine gi_runIN (wr := [xO o fx rx n, cR g 3 (rx 6) 2 K, wO n fn rn o, cI g (rn 1) 32 Se, cZ g (rn 2) 192 Bi, cZ g (rn 3) 192 Tu, cI g (rn 5) 3 Ma]) (rest := [.ref q16, vi i, .ref (rx 6)]) C (mX1_init C.ok q16 o) dX0_keep_21 q113 q114 q56 q115 rfl hdX1_init ⟨Nat.le_of_ble_eq_true rfl, Nat.le_of_ble_eq_true rfl⟩ [7] [0, 1, 2, 3, 4, 5, 6] rfl rfl rfl rfl (by decide) rfl (Nat.le_of_ble_eq_true rfl) ⟨Nat.le_of_ble_eq_true rfl, Nat.le_of_ble_eq_true rfl⟩ (kV fun w1 hv21 => ?_)
    obtain ⟨r_21, rfl⟩ := hv21
    refine gi_pick [0, 1, 2, 3, 4, 5, 6, 7, 8, 9, 10, 11] (w' := [xO o fx rx n, cR g 3 (rx 6) 2 K, wO n fn rn o, cI g (rn 1) 32 Se, cZ g (rn 2) 192 Bi, cZ g (rn 3) 192 Tu, cI g (rn 5) 3 Ma, wO q16 (fun _ => 0) r_21 o, cI g (r_21 1) 32 (fun _ => 0), cZ g (r_21 2) 192 (fun _ => 0), cZ g (r_21 3) 192 (fun _ => 0), cI g (r_21 5) 3 (fun _ => 0)]) rfl rfl ?_
    refine gi_wide (k' := 5) (n' := 427) (Nat.le_of_eq (by first | rfl | (dsimp only; omega))) (Nat.le_of_eq (by first | rfl | (dsimp only; omega))) ?_
    refine gi_aload_n C dX0_keep_24 0 rfl ?_
    refine gi_get (v := .ref n) C in_X0 dX0_keep_25 2 q168 0 rfl rfl (by decide) (fun _ h => h) rfl ?_
    refine gi_runV (wr := [xO o fx rx n, cR g 3 (rx 6) 2 K]) (rest := [vi i, .ref (rx 6)]) C (mX1_as C.ok q16 (fun _ => 0) r_21 o n fn rn o (fun _ => 0) (fun _ => 0) (fun _ => 0) (fun _ => 0) Se Bi Tu Ma (show ∀ b : Int, 0 ≤ b → b < 192 → (Bi b = 0 ∨ Bi b = 1) ∧ (Tu b = 0 ∨ Tu b = 1) from (fun b h0 h1 => hW.z h0 h1)) (show fn 4 = 0 ∨ fn 4 = 1 from (by omega))) dX0_keep_28 q386 q387 q388 q56 q389 hdX1_as ⟨Nat.le_of_ble_eq_true rfl, Nat.le_of_ble_eq_true rfl⟩ 7 rfl rfl [7, 8, 9, 10, 11, 2, 3, 4, 5, 6] [0, 1] rfl rfl rfl rfl (by decide) rfl (Nat.le_of_ble_eq_true rfl) ⟨Nat.le_of_ble_eq_true rfl, Nat.le_of_ble_eq_true rfl⟩ (kR fun r_28 w1 hv28 => ?_)
    obtain ⟨hr_28, rfl⟩ := hv28
    replace hr_28 := hr_28.symm
    subst hr_28
    refine gi_pick [0, 1, 7, 8, 9, 10, 11, 2, 3, 4, 5, 6] (w' := [xO o fx rx n, cR g 3 (rx 6) 2 K, wO n fn rn o, cI g (rn 1) 32 Se, cZ g (rn 2) 192 Bi, cZ g (rn 3) 192 Tu, cI g (rn 5) 3 Ma, wO q16 fn r_21 o, cI g (r_21 1) 32 Se, cZ g (r_21 2) 192 Bi, cZ g (r_21 3) 192 Tu, cI g (r_21 5) 3 Ma]) rfl rfl ?_
    refine gi_aast (w' := [xO o fx rx n, cR g 3 (rx 6) 2 (uF K i (some q16)), wO n fn rn o, cI g (rn 1) 32 Se, cZ g (rn 2) 192 Bi, cZ g (rn 3) 192 Tu, cI g (rn 5) 3 Ma, wO q16 fn r_21 o, cI g (r_21 1) 32 Se, cZ g (r_21 2) 192 Bi, cZ g (r_21 3) 192 Tu, cI g (r_21 5) 3 Ma]) C dX0_keep_31 1 7 rfl rfl rfl rfl (by decide) (by omega) rfl ?_
    refine gi_aload_n C dX0_keep_32 0 rfl ?_
    refine gi_get (v := .ref n) C in_X0 dX0_keep_33 2 q168 0 rfl rfl (by decide) (fun _ h => h) rfl ?_
    refine gi_getN (v := vi (fn 0)) C in_X1 dX0_keep_36 0 q119 2 rfl rfl (by decide) (fun _ h => h) rfl ?_
    refine gi_pick [0, 1, 2, 3, 4, 5, 6, 7, 8, 9, 10, 11] (w' := [xO o fx rx n, cR g 3 (rx 6) 2 (uF K i (some q16)), wO n fn rn o, cI g (rn 1) 32 Se, cZ g (rn 2) 192 Bi, cZ g (rn 3) 192 Tu, cI g (rn 5) 3 Ma, wO q16 fn r_21 o, cI g (r_21 1) 32 Se, cZ g (r_21 2) 192 Bi, cZ g (r_21 3) 192 Tu, cI g (r_21 5) 3 Ma]) rfl rfl ?_
    exact gi_ireturn C dX0_keep_39 (Nat.le_of_ble_eq_true rfl) (Nat.le_of_ble_eq_true rfl) ⟨_, rfl, q16, r_21, (by omega), rfl⟩
  · skip
    replace h6 := bI_eq0.mp h6
    exact absurd hF h6
theorem hdX0_back : yX0_back.cls ≠ "java/lang/invoke/MethodHandle" ∧ yX0_back.cls ≠ "java/lang/invoke/VarHandle" ∧ (parseMethodDescriptor yX0_back.desc).map (fun d => d.parameters.length) = some 1 := by decide +kernel
abbrev rmX0_backF : Room := { frames := 2, cells := 0, slots := 0, locals := 35 }
set_option maxHeartbeats 4000000 in
set_option maxRecDepth 100000 in
/-- EvenWords.back(I)I -/
theorem mX0_backF {g : GG} (hg : OKG g) (o : Nat) (fx : Nat → Int) (rx : Nat → Nat) (n : Nat) (i : Int) (hi : Rg i) (hF : ¬ (0 ≤ i ∧ i ≤ 1)) : Con g yX0_back cX0_back 2 (some .int) rmX0_backF [.ref o, vi i] [xO o fx rx n] (pI fun r_ w => r_ = (-1) ∧ w = [xO o fx rx n]) := by
  refine con_of_go hg (by decide +kernel) (Nat.le_of_ble_eq_true rfl) ?_
  intro x C
  refine gi_lv (lv' := [(0, .ref o), (1, vi i)]) [0, 1] rfl ?_
  refine gi_iload_n C dX0_back_0 1 rfl ?_
  refine gi_iconst C dX0_back_1 ?_
  refine gi_iconst C dX0_back_2 ?_
  refine gi_runS (wr := [xO o fx rx n]) (rest := []) C (mX0_in C.ok i 0 1 (by omega) (by omega) (by omega)) dX0_back_3 q220 q221 q53 q222 hdX0_in ⟨Nat.le_of_ble_eq_true rfl, Nat.le_of_ble_eq_true rfl⟩ [] [0] rfl rfl rfl rfl (by decide) rfl (Nat.le_of_ble_eq_true rfl) ⟨Nat.le_of_ble_eq_true rfl, Nat.le_of_ble_eq_true rfl⟩ (kI fun r_3 w1 hv3 => ?_)
  obtain ⟨rfl, hr_3⟩ := hv3
  refine gi_pick [0] (w' := [xO o fx rx n]) rfl rfl ?_
  refine gi_top (b := (bI (0 ≤ i ∧ i ≤ 1))) hr_3 ?_
  refine gi_if_ne (tgt := 11) C dX0_back_6 (by decide) (bI_rg _) (fun h6 => ?_) (fun h6 => ?_)
  · skip
    replace h6 := bI_ne0.mp h6
    exact absurd h6 hF
  · skip
    replace h6 := bI_eq0.mp h6
    refine gi_iconst C dX0_back_9 ?_
    refine gi_pick [0] (w' := [xO o fx rx n]) rfl rfl ?_
    exact gi_ireturn C dX0_back_10 (Nat.le_of_ble_eq_true rfl) (Nat.le_of_ble_eq_true rfl) ⟨_, rfl, (by first | rfl | omega), rfl⟩
abbrev rmX0_backN : Room := { frames := 2, cells := 0, slots := 0, locals := 35 }
set_option maxHeartbeats 4000000 in
set_option maxRecDepth 100000 in
/-- EvenWords.back(I)I -/
theorem mX0_backN {g : GG} (hg : OKG g) (o : Nat) (fx : Nat → Int) (rx : Nat → Nat) (n : Nat) (K : Int → Option Nat) (i : Int) (hF : 0 ≤ i ∧ i ≤ 1) (hK : K i = none) : Con g yX0_back cX0_back 2 (some .int) rmX0_backN [.ref o, vi i] [xO o fx rx n, cR g 3 (rx 6) 2 K] (pI fun r_ w => r_ = (-2) ∧ w = [xO o fx rx n, cR g 3 (rx 6) 2 K]) := by
  refine con_of_go hg (by decide +kernel) (Nat.le_of_ble_eq_true rfl) ?_
  intro x C
  refine gi_lv (lv' := [(0, .ref o), (1, vi i)]) [0, 1] rfl ?_
  refine gi_iload_n C dX0_back_0 1 rfl ?_
  refine gi_iconst C dX0_back_1 ?_
  refine gi_iconst C dX0_back_2 ?_
  refine gi_runS (wr := [xO o fx rx n, cR g 3 (rx 6) 2 K]) (rest := []) C (mX0_in C.ok i 0 1 (by omega) (by omega) (by omega)) dX0_back_3 q220 q221 q53 q222 hdX0_in ⟨Nat.le_of_ble_eq_true rfl, Nat.le_of_ble_eq_true rfl⟩ [] [0, 1] rfl rfl rfl rfl (by decide) rfl (Nat.le_of_ble_eq_true rfl) ⟨Nat.le_of_ble_eq_true rfl, Nat.le_of_ble_eq_true rfl⟩ (kI fun r_3 w1 hv3 => ?_)
  obtain ⟨rfl, hr_3⟩ := hv3
  refine gi_pick [0, 1] (w' := [xO o fx rx n, cR g 3 (rx 6) 2 K]) rfl rfl ?_
  refine gi_top (b := (bI (0 ≤ i ∧ i ≤ 1))) hr_3 ?_
  refine gi_if_ne (tgt := 11) C dX0_back_6 (by decide) (bI_rg _) (fun h6 => ?_) (fun h6 => ?_)
  · skip
    replace h6 := bI_ne0.mp h6
    refine gi_aload_n C dX0_back_11 0 rfl ?_
    refine gi_get (v := .ref (rx 6)) C in_X0 dX0_back_12 6 q173 0 rfl rfl (by decide) (fun _ h => h) rfl ?_
    refine gi_iload_n C dX0_back_15 1 rfl ?_
    refine gi_aald C dX0_back_16 1 rfl rfl (by decide) (by omega) ?_
    refine gi_st (st' := [.null]) (by rw [hK]; first | done | rfl) ?_
    refine gi_ifnonnullN C dX0_back_17 ?_
    refine gi_bipush C dX0_back_20 (by decide +kernel) ?_
    refine gi_pick [0, 1] (w' := [xO o fx rx n, cR g 3 (rx 6) 2 K]) rfl rfl ?_
    exact gi_ireturn C dX0_back_22 (Nat.le_of_ble_eq_true rfl) (Nat.le_of_ble_eq_true rfl) ⟨_, rfl, (by first | rfl | omega), rfl⟩
  · skip
    replace h6 := bI_eq0.mp h6
    exact absurd hF h6
abbrev rmX0_back : Room := { frames := 2, cells := 5, slots := 427, locals := 85 }
set_option maxHeartbeats 4000000 in
set_option maxRecDepth 100000 in
/-- EvenWords.back(I)I -/
theorem mX0_back {g : GG} (hg : OKG g) (o : Nat) (fx : Nat → Int) (rx : Nat → Nat) (n : Nat) (K : Int → Option Nat) (i : Int) (k : Nat) (fk : Nat → Int) (rk : Nat → Nat) (S : Int → Int) (Sek : Int → Int) (Bik : Int → Int) (Tuk : Int → Int) (Mak : Int → Int) (hF : 0 ≤ i ∧ i ≤ 1) (hK : K i = some k) (hW : WR S fk Sek Bik Tuk Mak) : Con g yX0_back cX0_back 2 (some .int) rmX0_back [.ref o, vi i] [xO o fx rx n, cR g 3 (rx 6) 2 K, wO k fk rk o, cI g (rk 1) 32 Sek, cZ g (rk 2) 192 Bik, cZ g (rk 3) 192 Tuk, cI g (rk 5) 3 Mak] (pI fun r_ w => ∃ (n1 : Nat), ∃ (rn1 : Nat → Nat), r_ = (S 0) ∧ w = [xO o (fu fx 5 0) rx n1, cR g 3 (rx 6) 2 K, wO k fk rk o, cI g (rk 1) 32 Sek, cZ g (rk 2) 192 Bik, cZ g (rk 3) 192 Tuk, cI g (rk 5) 3 Mak, wO n1 fk rn1 o, cI g (rn1 1) 32 Sek, cZ g (rn1 2) 192 Bik, cZ g (rn1 3) 192 Tuk, cI g (rn1 5) 3 Mak]) := by
  refine con_of_go hg (by decide +kernel) (Nat.le_of_ble_eq_true rfl) ?_
  intro x C
  have hn0 := hW.n
  have ha := hW.a2
  refine gi_lv (lv' := [(0, .ref o), (1, vi i)]) [0, 1] rfl ?_
  refine gi_iload_n C dX0_back_0 1 rfl ?_
  refine gi_iconst C dX0_back_1 ?_
  refine gi_iconst C dX0_back_2 ?_
  refine gi_runS (wr := [xO o fx rx n, cR g 3 (rx 6) 2 K, wO k fk rk o, cI g (rk 1) 32 Sek, cZ g (rk 2) 192 Bik, cZ g (rk 3) 192 Tuk, cI g (rk 5) 3 Mak]) (rest := []) C (mX0_in C.ok i 0 1 (by omega) (by omega) (by omega)) dX0_back_3 q220 q221 q53 q222 hdX0_in ⟨Nat.le_of_ble_eq_true rfl, Nat.le_of_ble_eq_true rfl⟩ [] [0, 1, 2, 3, 4, 5, 6] rfl rfl rfl rfl (by decide) rfl (Nat.le_of_ble_eq_true rfl) ⟨Nat.le_of_ble_eq_true rfl, Nat.le_of_ble_eq_true rfl⟩ (kI fun r_3 w1 hv3 => ?_)
  obtain ⟨rfl, hr_3⟩ := hv3
  refine gi_pick [0, 1, 2, 3, 4, 5, 6] (w' := [xO o fx rx n, cR g 3 (rx 6) 2 K, wO k fk rk o, cI g (rk 1) 32 Sek, cZ g (rk 2) 192 Bik, cZ g (rk 3) 192 Tuk, cI g (rk 5) 3 Mak]) rfl rfl ?_
  refine gi_top (b := (bI (0 ≤ i ∧ i ≤ 1))) hr_3 ?_
  refine gi_if_ne (tgt := 11) C dX0_back_6 (by decide) (bI_rg _) (fun h6 => ?_) (fun h6 => ?_)
  · skip
    replace h6 := bI_ne0.mp h6
    refine gi_aload_n C dX0_back_11 0 rfl ?_
    refine gi_get (v := .ref (rx 6)) C in_X0 dX0_back_12 6 q173 0 rfl rfl (by decide) (fun _ h => h) rfl ?_
    refine gi_iload_n C dX0_back_15 1 rfl ?_
    refine gi_aald C dX0_back_16 1 rfl rfl (by decide) (by omega) ?_
    refine gi_st (st' := [.ref k]) (by rw [hK]; first | done | rfl) ?_
    refine gi_ifnonnullR (tgt := 23) C dX0_back_17 (by decide) ?_
    refine gi_aload_n C dX0_back_23 0 rfl ?_
    refine gi_new (c := 1) (N := 8) (fs := [vi 0, .null, .null, .null, vi 0, .null, vi 0, .null]) C in_X1 tyX1 tyX1_ok dX0_back_24 q111 q112 q56 rfl (newfsX1) (Nat.le_of_ble_eq_true rfl) (Nat.le_of_ble_eq_true rfl) (fun q24 => ?_)
    refine gi_ws (w' := [xO o fx rx n, cR g 3 (rx 6) 2 K, wO k fk rk o, cI g (rk 1) 32 Sek, cZ g (rk 2) 192 Bik, cZ g (rk 3) 192 Tuk, cI g (rk 5) 3 Mak, cO q24 1 [vi 0, .null, .null, .null, vi 0, .null, vi 0, .null]]) rfl ?_
    refine gi_dup C dX0_back_27 rfl ?_
    refine gi_aload_n C dX0_back_28 0 rfl ?_
    refine gi_runIN (wr := [xO o fx rx n, cR g 3 (rx 6) 2 K, wO k fk rk o, cI g (rk 1) 32 Sek, cZ g (rk 2) 192 Bik, cZ g (rk 3) 192 Tuk, cI g (rk 5) 3 Mak]) (rest := [.ref q24, .ref o]) C (mX1_init C.ok q24 o) dX0_back_29 q113 q114 q56 q115 rfl hdX1_init ⟨Nat.le_of_ble_eq_true rfl, Nat.le_of_ble_eq_true rfl⟩ [7] [0, 1, 2, 3, 4, 5, 6] rfl rfl rfl rfl (by decide) rfl (Nat.le_of_ble_eq_true rfl) ⟨Nat.le_of_ble_eq_true rfl, Nat.le_of_ble_eq_true rfl⟩ (kV fun w1 hv29 => ?_)
    obtain ⟨r_29, rfl⟩ := hv29
    refine gi_pick [0, 1, 2, 3, 4, 5, 6, 7, 8, 9, 10, 11] (w' := [xO o fx rx n, cR g 3 (rx 6) 2 K, wO k fk rk o, cI g (rk 1) 32 Sek, cZ g (rk 2) 192 Bik, cZ g (rk 3) 192 Tuk, cI g (rk 5) 3 Mak, wO q24 (fun _ => 0) r_29 o, cI g (r_29 1) 32 (fun _ => 0), cZ g (r_29 2) 192 (fun _ => 0), cZ g (r_29 3) 192 (fun _ => 0), cI g (r_29 5) 3 (fun _ => 0)]) rfl rfl ?_
    refine gi_wide (k' := 5) (n' := 427) (Nat.le_of_eq (by first | rfl | (dsimp only; omega))) (Nat.le_of_eq (by first | rfl | (dsimp only; omega))) ?_
    refine gi_aload_n C dX0_back_32 0 rfl ?_
    refine gi_get (v := .ref (rx 6)) C in_X0 dX0_back_33 6 q173 0 rfl rfl (by decide) (fun _ h => h) rfl ?_
    refine gi_iload_n C dX0_back_36 1 rfl ?_
    refine gi_aald C dX0_back_37 1 rfl rfl (by decide) (by omega) ?_
    refine gi_st (st' := [.ref k, .ref q24, .ref o]) (by rw [hK]; first | done | rfl) ?_
    refine gi_runV (wr := [xO o fx rx n, cR g 3 (rx 6) 2 K]) (rest := [.ref o]) C (mX1_as C.ok q24 (fun _ => 0) r_29 o k fk rk o (fun _ => 0) (fun _ => 0) (fun _ => 0) (fun _ => 0) Sek Bik Tuk Mak (show ∀ b : Int, 0 ≤ b → b < 192 → (Bik b = 0 ∨ Bik b = 1) ∧ (Tuk b = 0 ∨ Tuk b = 1) from (fun b h0 h1 => hW.z h0 h1)) (show fk 4 = 0 ∨ fk 4 = 1 from (by omega))) dX0_back_38 q386 q387 q388 q56 q389 hdX1_as ⟨Nat.le_of_ble_eq_true rfl, Nat.le_of_ble_eq_true rfl⟩ 7 rfl rfl [7, 8, 9, 10, 11, 2, 3, 4, 5, 6] [0, 1] rfl rfl rfl rfl (by decide) rfl (Nat.le_of_ble_eq_true rfl) ⟨Nat.le_of_ble_eq_true rfl, Nat.le_of_ble_eq_true rfl⟩ (kR fun r_38 w1 hv38 => ?_)
    obtain ⟨hr_38, rfl⟩ := hv38
    replace hr_38 := hr_38.symm
    subst hr_38
    refine gi_pick [0, 1, 7, 8, 9, 10, 11, 2, 3, 4, 5, 6] (w' := [xO o fx rx n, cR g 3 (rx 6) 2 K, wO k fk rk o, cI g (rk 1) 32 Sek, cZ g (rk 2) 192 Bik, cZ g (rk 3) 192 Tuk, cI g (rk 5) 3 Mak, wO q24 fk r_29 o, cI g (r_29 1) 32 Sek, cZ g (r_29 2) 192 Bik, cZ g (r_29 3) 192 Tuk, cI g (r_29 5) 3 Mak]) rfl rfl ?_
    refine gi_put (w' := [xO o fx rx q24, cR g 3 (rx 6) 2 K, wO k fk rk o, cI g (rk 1) 32 Sek, cZ g (rk 2) 192 Bik, cZ g (rk 3) 192 Tuk, cI g (rk 5) 3 Mak, wO q24 fk r_29 o, cI g (r_29 1) 32 Sek, cZ g (r_29 2) 192 Bik, cZ g (r_29 3) 192 Tuk, cI g (r_29 5) 3 Mak]) C in_X0 tyX0 tyX0_ok nmX0 dX0_back_41 2 q168 0 rfl rfl (by decide) (fun _ h => h) rfl rfl ⟨rfl, rfl⟩ (Nat.le_of_ble_eq_true rfl) rfl ?_
    refine gi_aload_n C dX0_back_44 0 rfl ?_
    refine gi_iconst C dX0_back_45 ?_
    refine gi_put (w' := [xO o (fu fx 5 0) rx q24, cR g 3 (rx 6) 2 K, wO k fk rk o, cI g (rk 1) 32 Sek, cZ g (rk 2) 192 Bik, cZ g (rk 3) 192 Tuk, cI g (rk 5) 3 Mak, wO q24 fk r_29 o, cI g (r_29 1) 32 Sek, cZ g (r_29 2) 192 Bik, cZ g (r_29 3) 192 Tuk, cI g (r_29 5) 3 Mak]) C in_X0 tyX0 tyX0_ok nmX0 dX0_back_46 5 q172 0 rfl rfl (by decide) (fun _ h => h) rfl rfl ⟨rfl, rfl⟩ (Nat.le_of_ble_eq_true rfl) rfl ?_
    refine gi_aload_n C dX0_back_49 0 rfl ?_
    refine gi_get (v := .ref q24) C in_X0 dX0_back_50 2 q168 0 rfl rfl (by decide) (fun _ h => h) rfl ?_
    refine gi_getN (v := vi (fk 0)) C in_X1 dX0_back_53 0 q119 7 rfl rfl (by decide) (fun _ h => h) rfl ?_
    refine gi_pick [0, 1, 2, 3, 4, 5, 6, 7, 8, 9, 10, 11] (w' := [xO o (fu fx 5 0) rx q24, cR g 3 (rx 6) 2 K, wO k fk rk o, cI g (rk 1) 32 Sek, cZ g (rk 2) 192 Bik, cZ g (rk 3) 192 Tuk, cI g (rk 5) 3 Mak, wO q24 fk r_29 o, cI g (r_29 1) 32 Sek, cZ g (r_29 2) 192 Bik, cZ g (r_29 3) 192 Tuk, cI g (r_29 5) 3 Mak]) rfl rfl ?_
    exact gi_ireturn C dX0_back_56 (Nat.le_of_ble_eq_true rfl) (Nat.le_of_ble_eq_true rfl) ⟨_, rfl, q24, r_29, (by omega), rfl⟩
  · skip
    replace h6 := bI_eq0.mp h6
    exact absurd hF h6
