theorem hdX0_isRead : yX0_isRead.cls ≠ "java/lang/invoke/MethodHandle" ∧ yX0_isRead.cls ≠ "java/lang/invoke/VarHandle" ∧ (parseMethodDescriptor yX0_isRead.desc).map (fun d => d.parameters.length) = some 2 := by decide +kernel
abbrev rmX0_isRead : Room := { frames := 2, cells := 0, slots := 0, locals := 35 }
set_option maxHeartbeats 4000000 in
set_option maxRecDepth 100000 in
/-- EvenWords.isRead(II)Z -/
theorem mX0_isRead {g : GG} (hg : OKG g) (f : Int) (U : Int) (hf : Rg f) (hU : Rg U) : Con g yX0_isRead cX0_isRead 2 (some .boolean) rmX0_isRead [vi f, vi U] [] (pI fun r_ w => r_ = (bI (beginB f U)) ∧ w = []) := by
  refine con_of_go hg (by decide +kernel) (Nat.le_of_ble_eq_true rfl) ?_
  intro x C
  refine gi_lv (lv' := [(0, vi f), (1, vi U)]) [0, 1] rfl ?_
  refine gi_iload_n C dX0_isRead_0 0 rfl ?_
  refine gi_iconst C dX0_isRead_1 ?_
  refine gi_iconst C dX0_isRead_2 ?_
  refine gi_runS (wr := []) (rest := []) C (mX0_in C.ok f 0 5 (by omega) (by omega) (by omega)) dX0_isRead_3 q220 q221 q53 q222 hdX0_in ⟨Nat.le_of_ble_eq_true rfl, Nat.le_of_ble_eq_true rfl⟩ [] [] rfl rfl rfl rfl (by decide) rfl (Nat.le_of_ble_eq_true rfl) ⟨Nat.le_of_ble_eq_true rfl, Nat.le_of_ble_eq_true rfl⟩ (kI fun r_3 w1 hv3 => ?_)
  obtain ⟨rfl, hr_3⟩ := hv3
  refine gi_pick [] (w' := []) rfl rfl ?_
  refine gi_top (b := (bI (0 ≤ f ∧ f ≤ 5))) hr_3 ?_
  refine gi_if_eq (tgt := 22) C dX0_isRead_6 (by decide) (bI_rg _) (fun h6 => ?_) (fun h6 => ?_)
  · skip
    replace h6 := bI_eq0.mp h6
    refine gi_iconst C dX0_isRead_22 ?_
    refine gi_pick [] (w' := []) rfl rfl ?_
    exact gi_zreturn C dX0_isRead_23 (Nat.le_of_ble_eq_true rfl) (Nat.le_of_ble_eq_true rfl) (by omega) ⟨_, rfl, (by first | exact (bI_t ⟨by omega, by omega⟩).symm | exact (bI_f (fun z => by have := z.1; have := z.2; omega)).symm), rfl⟩
  · skip
    replace h6 := bI_ne0.mp h6
    refine gi_iload_n C dX0_isRead_9 1 rfl ?_
    refine gi_iconst C dX0_isRead_10 ?_
    refine gi_iconst C dX0_isRead_11 ?_
    refine gi_runS (wr := []) (rest := []) C (mX0_in C.ok U 0 1 (by omega) (by omega) (by omega)) dX0_isRead_12 q220 q221 q53 q222 hdX0_in ⟨Nat.le_of_ble_eq_true rfl, Nat.le_of_ble_eq_true rfl⟩ [] [] rfl rfl rfl rfl (by decide) rfl (Nat.le_of_ble_eq_true rfl) ⟨Nat.le_of_ble_eq_true rfl, Nat.le_of_ble_eq_true rfl⟩ (kI fun r_12 w1 hv12 => ?_)
    obtain ⟨rfl, hr_12⟩ := hv12
    refine gi_pick [] (w' := []) rfl rfl ?_
    refine gi_top (b := (bI (0 ≤ U ∧ U ≤ 1))) hr_12 ?_
    refine gi_if_eq (tgt := 22) C dX0_isRead_15 (by decide) (bI_rg _) (fun h15 => ?_) (fun h15 => ?_)
    · skip
      replace h15 := bI_eq0.mp h15
      refine gi_iconst C dX0_isRead_22 ?_
      refine gi_pick [] (w' := []) rfl rfl ?_
      exact gi_zreturn C dX0_isRead_23 (Nat.le_of_ble_eq_true rfl) (Nat.le_of_ble_eq_true rfl) (by omega) ⟨_, rfl, (by first | exact (bI_t ⟨by omega, by omega⟩).symm | exact (bI_f (fun z => by have := z.1; have := z.2; omega)).symm), rfl⟩
    · skip
      replace h15 := bI_ne0.mp h15
      refine gi_iconst C dX0_isRead_18 ?_
      refine gi_goto (tgt := 23) C dX0_isRead_19 (by decide) ?_
      refine gi_pick [] (w' := []) rfl rfl ?_
      exact gi_zreturn C dX0_isRead_23 (Nat.le_of_ble_eq_true rfl) (Nat.le_of_ble_eq_true rfl) (by omega) ⟨_, rfl, (by first | exact (bI_t ⟨by omega, by omega⟩).symm | exact (bI_f (fun z => by have := z.1; have := z.2; omega)).symm), rfl⟩
theorem hdX0_toldOf : yX0_toldOf.cls ≠ "java/lang/invoke/MethodHandle" ∧ yX0_toldOf.cls ≠ "java/lang/invoke/VarHandle" ∧ (parseMethodDescriptor yX0_toldOf.desc).map (fun d => d.parameters.length) = some 2 := by decide +kernel
abbrev rmX0_toldOf : Room := { frames := 5, cells := 0, slots := 0, locals := 100 }
set_option maxHeartbeats 4000000 in
set_option maxRecDepth 100000 in
/-- EvenWords.toldOf(LEvenWords$Piece;I)I -/
theorem mX0_toldOf {g : GG} (hg : OKG g) (o : Nat) (fx : Nat → Int) (rx : Nat → Nat) (n : Nat) (q : Nat) (B : Int → Int) (fr : Int) (u : Int) (p : Int) (So : Int → Option Nat) (l0 : Nat) (l1 : Nat) (c : Int) (hu : u = 1 ∨ u = -1) (hpp : 0 ≤ p ∧ p < 100) (hwb : 0 ≤ wordP B fr p ∧ wordP B fr p < 64) (hc : Rg c) (hs0 : So 0 = some l0) (hs1 : So 1 = some l1) (hs2 : So 2 = some (lA g 266 56 lmZ2)) (hs3 : So 3 = some (lA g 274 59 lmZ3)) : Con g yX0_toldOf cX0_toldOf 3 (some .int) rmX0_toldOf [.ref o, .ref q, vi c] [xO o fx rx n, cI g (rx 0) 34 fA, cI g (rx 1) 64 meanT, cR g 4 (rx 9) 4 So, cL g 249 51 lmZ0 l0 o, cL g 258 55 lmZ1 l1 o, cO q 6 [vi (wordP B fr p), vi (if sbI B fr u p < 0 then 0 else 1), vi (if sbI B fr u (p + 1) < 0 then 0 else 1), vi (mqI B fr p 6), vi (hiI B fr u p 6), vi (loI B fr u p 6)]] (pI fun r_ w => r_ = (tldB B fr u p c) ∧ w = [xO o fx rx n, cI g (rx 0) 34 fA, cI g (rx 1) 64 meanT, cR g 4 (rx 9) 4 So, cL g 249 51 lmZ0 l0 o, cL g 258 55 lmZ1 l1 o, cO q 6 [vi (wordP B fr p), vi (if sbI B fr u p < 0 then 0 else 1), vi (if sbI B fr u (p + 1) < 0 then 0 else 1), vi (mqI B fr p 6), vi (hiI B fr u p 6), vi (loI B fr u p 6)]]) := by
  refine con_of_go hg (by decide +kernel) (Nat.le_of_ble_eq_true rfl) ?_
  intro x C
  have hmb := mqI_b B fr hpp.1 (show (0 : Int) ≤ 6 by decide)
  have hhb := hl_b B fr u hpp.1 (show (0 : Int) ≤ 6 by decide)
  have hbb := brP_b B fr u p
  have hri := br_ri (B := B) (fr := fr) (p := p) hu rfl hwb rfl rfl rfl rfl
  have hmt := meanT_b hwb
  refine gi_lv (lv' := [(0, .ref o), (1, .ref q), (2, vi c)]) [0, 1, 2] rfl ?_
  refine gi_iload_n C dX0_toldOf_0 2 rfl ?_
  by_cases h1_0 : c = 0
  · refine gi_tableIn (tgt := 32) C 0 dX0_toldOf_1 h1_0 (by omega) (by decide) (by decide) rfl (by decide) ?_
    refine gi_aload_n C dX0_toldOf_32 1 rfl ?_
    refine gi_getN (v := vi (wordP B fr p)) C in_X6 dX0_toldOf_33 0 q1160 6 rfl rfl (by decide) (fun _ h => h) rfl ?_
    refine gi_pick [0, 1, 2, 3, 4, 5, 6] (w' := [xO o fx rx n, cI g (rx 0) 34 fA, cI g (rx 1) 64 meanT, cR g 4 (rx 9) 4 So, cL g 249 51 lmZ0 l0 o, cL g 258 55 lmZ1 l1 o, cO q 6 [vi (wordP B fr p), vi (if sbI B fr u p < 0 then 0 else 1), vi (if sbI B fr u (p + 1) < 0 then 0 else 1), vi (mqI B fr p 6), vi (hiI B fr u p 6), vi (loI B fr u p 6)]]) rfl rfl ?_
    exact gi_ireturn C dX0_toldOf_36 (Nat.le_of_ble_eq_true rfl) (Nat.le_of_ble_eq_true rfl) ⟨_, rfl, (by unfold tldB; rw [if_pos (by omega)]), rfl⟩
  by_cases h1_1 : c = 1
  · refine gi_tableIn (tgt := 37) C 1 dX0_toldOf_1 h1_1 (by omega) (by decide) (by decide) rfl (by decide) ?_
    refine gi_aload_n C dX0_toldOf_37 0 rfl ?_
    refine gi_get (v := .ref (rx 1)) C in_X0 dX0_toldOf_38 1 q167 0 rfl rfl (by decide) (fun _ h => h) rfl ?_
    refine gi_aload_n C dX0_toldOf_41 1 rfl ?_
    refine gi_getN (v := vi (wordP B fr p)) C in_X6 dX0_toldOf_42 0 q1160 6 rfl rfl (by decide) (fun _ h => h) rfl ?_
    refine gi_iald C dX0_toldOf_45 2 rfl (by decide) (by omega) ?_
    refine gi_pick [0, 1, 2, 3, 4, 5, 6] (w' := [xO o fx rx n, cI g (rx 0) 34 fA, cI g (rx 1) 64 meanT, cR g 4 (rx 9) 4 So, cL g 249 51 lmZ0 l0 o, cL g 258 55 lmZ1 l1 o, cO q 6 [vi (wordP B fr p), vi (if sbI B fr u p < 0 then 0 else 1), vi (if sbI B fr u (p + 1) < 0 then 0 else 1), vi (mqI B fr p 6), vi (hiI B fr u p 6), vi (loI B fr u p 6)]]) rfl rfl ?_
    exact gi_ireturn C dX0_toldOf_46 (Nat.le_of_ble_eq_true rfl) (Nat.le_of_ble_eq_true rfl) ⟨_, rfl, (by unfold tldB; rw [if_neg (by omega), if_pos (by omega)]), rfl⟩
  by_cases h1_2 : c = 2
  · refine gi_tableIn (tgt := 47) C 2 dX0_toldOf_1 h1_2 (by omega) (by decide) (by decide) rfl (by decide) ?_
    refine gi_aload_n C dX0_toldOf_47 0 rfl ?_
    refine gi_aload_n C dX0_toldOf_48 1 rfl ?_
    refine gi_runV (wr := []) (rest := []) C (mX0_breaches C.ok o fx rx n q (wordP B fr p) (if sbI B fr u p < 0 then 0 else 1) (if sbI B fr u (p + 1) < 0 then 0 else 1) (mqI B fr p 6) (hiI B fr u p 6) (loI B fr u p 6) So l0 l1 (show 0 ≤ (wordP B fr p) ∧ (wordP B fr p) < 64 from (hwb)) (show (if sbI B fr u p < 0 then 0 else 1) = 0 ∨ (if sbI B fr u p < 0 then 0 else 1) = 1 from (by split <;> simp)) (show Rg (mqI B fr p 6) from (by omega)) (show Rg (hiI B fr u p 6) from (by omega)) (show Rg (loI B fr u p 6) from (by omega)) (show So 0 = some l0 from (hs0)) (show So 1 = some l1 from (hs1)) (show So 2 = some (lA g 266 56 lmZ2) from (hs2)) (show So 3 = some (lA g 274 59 lmZ3) from (hs3))) dX0_toldOf_49 q1267 q1269 qs15 q53 q1270 hdX0_breaches ⟨Nat.le_of_ble_eq_true rfl, Nat.le_of_ble_eq_true rfl⟩ 0 rfl rfl [0, 1, 2, 3, 4, 5, 6] [] rfl rfl rfl rfl (by decide) rfl (Nat.le_of_ble_eq_true rfl) ⟨Nat.le_of_ble_eq_true rfl, Nat.le_of_ble_eq_true rfl⟩ (kI fun r_49 w1 hv49 => ?_)
    obtain ⟨hr_49, rfl⟩ := hv49
    refine gi_pick [0, 1, 2, 3, 4, 5, 6] (w' := [xO o fx rx n, cI g (rx 0) 34 fA, cI g (rx 1) 64 meanT, cR g 4 (rx 9) 4 So, cL g 249 51 lmZ0 l0 o, cL g 258 55 lmZ1 l1 o, cO q 6 [vi (wordP B fr p), vi (if sbI B fr u p < 0 then 0 else 1), vi (if sbI B fr u (p + 1) < 0 then 0 else 1), vi (mqI B fr p 6), vi (hiI B fr u p 6), vi (loI B fr u p 6)]]) rfl rfl ?_
    refine gi_top (b := (brC (meanT (wordP B fr p) = -9) (meanT (wordP B fr p) ≠ -9 ∧ fm (meanT (wordP B fr p)) (if sbI B fr u p < 0 then 0 else 1) ≠ (wordP B fr p)) (6 < (mqI B fr p 6)) (3 < (hiI B fr u p 6) ∨ (loI B fr u p 6) < -3))) hr_49 ?_
    refine gi_top (b := (brP B fr u p)) (by exact (br_eq hu rfl hwb rfl rfl rfl rfl).1) ?_
    refine gi_iconst C dX0_toldOf_52 ?_
    refine gi_mask (v := (brP B fr u p) % 4) C dX0_toldOf_53 (by omega) 2 (by decide) (by decide) (by rfl) ?_
    refine gi_if_ne (tgt := 61) C dX0_toldOf_54 (by decide) (by omega) (fun h54 => ?_) (fun h54 => ?_)
    · skip
      refine gi_iconst C dX0_toldOf_61 ?_
      refine gi_pick [0, 1, 2, 3, 4, 5, 6] (w' := [xO o fx rx n, cI g (rx 0) 34 fA, cI g (rx 1) 64 meanT, cR g 4 (rx 9) 4 So, cL g 249 51 lmZ0 l0 o, cL g 258 55 lmZ1 l1 o, cO q 6 [vi (wordP B fr p), vi (if sbI B fr u p < 0 then 0 else 1), vi (if sbI B fr u (p + 1) < 0 then 0 else 1), vi (mqI B fr p 6), vi (hiI B fr u p 6), vi (loI B fr u p 6)]]) rfl rfl ?_
      exact gi_ireturn C dX0_toldOf_62 (Nat.le_of_ble_eq_true rfl) (Nat.le_of_ble_eq_true rfl) ⟨_, rfl, (by unfold tldB; rw [if_neg (by omega), if_neg (by omega), if_pos (by omega), hri]; first | exact (bI_t (by omega)).symm | exact (bI_f (by omega)).symm), rfl⟩
    · skip
      refine gi_iconst C dX0_toldOf_57 ?_
      refine gi_goto (tgt := 62) C dX0_toldOf_58 (by decide) ?_
      refine gi_pick [0, 1, 2, 3, 4, 5, 6] (w' := [xO o fx rx n, cI g (rx 0) 34 fA, cI g (rx 1) 64 meanT, cR g 4 (rx 9) 4 So, cL g 249 51 lmZ0 l0 o, cL g 258 55 lmZ1 l1 o, cO q 6 [vi (wordP B fr p), vi (if sbI B fr u p < 0 then 0 else 1), vi (if sbI B fr u (p + 1) < 0 then 0 else 1), vi (mqI B fr p 6), vi (hiI B fr u p 6), vi (loI B fr u p 6)]]) rfl rfl ?_
      exact gi_ireturn C dX0_toldOf_62 (Nat.le_of_ble_eq_true rfl) (Nat.le_of_ble_eq_true rfl) ⟨_, rfl, (by unfold tldB; rw [if_neg (by omega), if_neg (by omega), if_pos (by omega), hri]; first | exact (bI_t (by omega)).symm | exact (bI_f (by omega)).symm), rfl⟩
  by_cases h1_3 : c = 3
  · refine gi_tableIn (tgt := 63) C 3 dX0_toldOf_1 h1_3 (by omega) (by decide) (by decide) rfl (by decide) ?_
    refine gi_aload_n C dX0_toldOf_63 0 rfl ?_
    refine gi_aload_n C dX0_toldOf_64 1 rfl ?_
    refine gi_runV (wr := []) (rest := []) C (mX0_breaches C.ok o fx rx n q (wordP B fr p) (if sbI B fr u p < 0 then 0 else 1) (if sbI B fr u (p + 1) < 0 then 0 else 1) (mqI B fr p 6) (hiI B fr u p 6) (loI B fr u p 6) So l0 l1 (show 0 ≤ (wordP B fr p) ∧ (wordP B fr p) < 64 from (hwb)) (show (if sbI B fr u p < 0 then 0 else 1) = 0 ∨ (if sbI B fr u p < 0 then 0 else 1) = 1 from (by split <;> simp)) (show Rg (mqI B fr p 6) from (by omega)) (show Rg (hiI B fr u p 6) from (by omega)) (show Rg (loI B fr u p 6) from (by omega)) (show So 0 = some l0 from (hs0)) (show So 1 = some l1 from (hs1)) (show So 2 = some (lA g 266 56 lmZ2) from (hs2)) (show So 3 = some (lA g 274 59 lmZ3) from (hs3))) dX0_toldOf_65 q1267 q1269 qs15 q53 q1270 hdX0_breaches ⟨Nat.le_of_ble_eq_true rfl, Nat.le_of_ble_eq_true rfl⟩ 0 rfl rfl [0, 1, 2, 3, 4, 5, 6] [] rfl rfl rfl rfl (by decide) rfl (Nat.le_of_ble_eq_true rfl) ⟨Nat.le_of_ble_eq_true rfl, Nat.le_of_ble_eq_true rfl⟩ (kI fun r_65 w1 hv65 => ?_)
    obtain ⟨hr_65, rfl⟩ := hv65
    refine gi_pick [0, 1, 2, 3, 4, 5, 6] (w' := [xO o fx rx n, cI g (rx 0) 34 fA, cI g (rx 1) 64 meanT, cR g 4 (rx 9) 4 So, cL g 249 51 lmZ0 l0 o, cL g 258 55 lmZ1 l1 o, cO q 6 [vi (wordP B fr p), vi (if sbI B fr u p < 0 then 0 else 1), vi (if sbI B fr u (p + 1) < 0 then 0 else 1), vi (mqI B fr p 6), vi (hiI B fr u p 6), vi (loI B fr u p 6)]]) rfl rfl ?_
    refine gi_top (b := (brC (meanT (wordP B fr p) = -9) (meanT (wordP B fr p) ≠ -9 ∧ fm (meanT (wordP B fr p)) (if sbI B fr u p < 0 then 0 else 1) ≠ (wordP B fr p)) (6 < (mqI B fr p 6)) (3 < (hiI B fr u p 6) ∨ (loI B fr u p 6) < -3))) hr_65 ?_
    refine gi_top (b := (brP B fr u p)) (by exact (br_eq hu rfl hwb rfl rfl rfl rfl).1) ?_
    refine gi_pick [0, 1, 2, 3, 4, 5, 6] (w' := [xO o fx rx n, cI g (rx 0) 34 fA, cI g (rx 1) 64 meanT, cR g 4 (rx 9) 4 So, cL g 249 51 lmZ0 l0 o, cL g 258 55 lmZ1 l1 o, cO q 6 [vi (wordP B fr p), vi (if sbI B fr u p < 0 then 0 else 1), vi (if sbI B fr u (p + 1) < 0 then 0 else 1), vi (mqI B fr p 6), vi (hiI B fr u p 6), vi (loI B fr u p 6)]]) rfl rfl ?_
    exact gi_ireturn C dX0_toldOf_68 (Nat.le_of_ble_eq_true rfl) (Nat.le_of_ble_eq_true rfl) ⟨_, rfl, (by unfold tldB; rw [if_neg (by omega), if_neg (by omega), if_neg (by omega), if_pos (by omega)]), rfl⟩
  refine gi_tableOut (tgt := 69) C dX0_toldOf_1 (by omega) (by omega) (by decide) ?_
  refine gi_aload_n C dX0_toldOf_69 1 rfl ?_
  refine gi_getN (v := vi (if sbI B fr u (p + 1) < 0 then 0 else 1)) C in_X6 dX0_toldOf_70 2 q1165 6 rfl rfl (by decide) (fun _ h => h) rfl ?_
  refine gi_if_eq (tgt := 80) C dX0_toldOf_73 (by decide) (by omega) (fun h73 => ?_) (fun h73 => ?_)
  · skip
    refine gi_iconst C dX0_toldOf_80 ?_
    refine gi_pick [0, 1, 2, 3, 4, 5, 6] (w' := [xO o fx rx n, cI g (rx 0) 34 fA, cI g (rx 1) 64 meanT, cR g 4 (rx 9) 4 So, cL g 249 51 lmZ0 l0 o, cL g 258 55 lmZ1 l1 o, cO q 6 [vi (wordP B fr p), vi (if sbI B fr u p < 0 then 0 else 1), vi (if sbI B fr u (p + 1) < 0 then 0 else 1), vi (mqI B fr p 6), vi (hiI B fr u p 6), vi (loI B fr u p 6)]]) rfl rfl ?_
    exact gi_ireturn C dX0_toldOf_81 (Nat.le_of_ble_eq_true rfl) (Nat.le_of_ble_eq_true rfl) ⟨_, rfl, (by unfold tldB; rw [if_neg (show ¬ c = 0 by omega), if_neg (show ¬ c = 1 by omega), if_neg (show ¬ c = 2 by omega), if_neg (show ¬ c = 3 by omega)]; split at h73 <;> omega), rfl⟩
  · skip
    refine gi_iconst C dX0_toldOf_76 ?_
    refine gi_goto (tgt := 81) C dX0_toldOf_77 (by decide) ?_
    refine gi_pick [0, 1, 2, 3, 4, 5, 6] (w' := [xO o fx rx n, cI g (rx 0) 34 fA, cI g (rx 1) 64 meanT, cR g 4 (rx 9) 4 So, cL g 249 51 lmZ0 l0 o, cL g 258 55 lmZ1 l1 o, cO q 6 [vi (wordP B fr p), vi (if sbI B fr u p < 0 then 0 else 1), vi (if sbI B fr u (p + 1) < 0 then 0 else 1), vi (mqI B fr p 6), vi (hiI B fr u p 6), vi (loI B fr u p 6)]]) rfl rfl ?_
    exact gi_ireturn C dX0_toldOf_81 (Nat.le_of_ble_eq_true rfl) (Nat.le_of_ble_eq_true rfl) ⟨_, rfl, (by unfold tldB; rw [if_neg (show ¬ c = 0 by omega), if_neg (show ¬ c = 1 by omega), if_neg (show ¬ c = 2 by omega), if_neg (show ¬ c = 3 by omega)]; split at h73 <;> omega), rfl⟩
theorem hdX0_piece : yX0_piece.cls ≠ "java/lang/invoke/MethodHandle" ∧ yX0_piece.cls ≠ "java/lang/invoke/VarHandle" ∧ (parseMethodDescriptor yX0_piece.desc).map (fun d => d.parameters.length) = some 4 := by decide +kernel
abbrev rmX0_piece : Room := { frames := 6, cells := 34, slots := 201, locals := 126 }
set_option maxHeartbeats 4000000 in
set_option maxRecDepth 100000 in
/-- EvenWords.piece(IIII)I -/
theorem mX0_piece {g : GG} (hg : OKG g) (o : Nat) (fx : Nat → Int) (rx : Nat → Nat) (n : Nat) (fn : Nat → Int) (rn : Nat → Nat) (S : Int → Int) (Se : Int → Int) (Bi : Int → Int) (Tu : Int → Int) (Ma : Int → Int) (So : Int → Option Nat) (l0 : Nat) (l1 : Nat) (f : Int) (U : Int) (pp : Int) (c : Int) (hW : WR S fn Se Bi Tu Ma) (hf : Rg f) (hU : Rg U) (hpp : Rg pp) (hc : Rg c) (hs0 : So 0 = some l0) (hs1 : So 1 = some l1) (hs2 : So 2 = some (lA g 266 56 lmZ2)) (hs3 : So 3 = some (lA g 274 59 lmZ3)) : Con g yX0_piece cX0_piece 8 (some .int) rmX0_piece [.ref o, vi f, vi U, vi pp, vi c] [xO o fx rx n, cI g (rx 0) 34 fA, cI g (rx 1) 64 meanT, cR g 4 (rx 9) 4 So, cL g 249 51 lmZ0 l0 o, cL g 258 55 lmZ1 l1 o, wO n fn rn o, cZ g (rn 2) 192 Bi] (pI fun r_ w => r_ = (pieceR S f U pp c) ∧ w = [xO o fx rx n, cI g (rx 0) 34 fA, cI g (rx 1) 64 meanT, cR g 4 (rx 9) 4 So, cL g 249 51 lmZ0 l0 o, cL g 258 55 lmZ1 l1 o, wO n fn rn o, cZ g (rn 2) 192 Bi]) := by
  refine con_of_go hg (by decide +kernel) (Nat.le_of_ble_eq_true rfl) ?_
  intro x C
  have hn0 := hW.n
  have hB : ∀ b : Int, 0 ≤ b → b < 192 → (Bi b = 0 ∨ Bi b = 1) := fun b h0 h1 => (hW.z h0 h1).1
  refine gi_lv (lv' := [(0, .ref o), (1, vi f), (2, vi U), (3, vi pp), (4, vi c)]) [0, 1, 2, 3, 4] rfl ?_
  refine gi_iload_n C dX0_piece_0 1 rfl ?_
  refine gi_iload_n C dX0_piece_1 2 rfl ?_
  refine gi_runS (wr := [xO o fx rx n, cI g (rx 0) 34 fA, cI g (rx 1) 64 meanT, cR g 4 (rx 9) 4 So, cL g 249 51 lmZ0 l0 o, cL g 258 55 lmZ1 l1 o, wO n fn rn o, cZ g (rn 2) 192 Bi]) (rest := []) C (mX0_isRead C.ok f U (by omega) (by omega)) dX0_piece_2 q1209 q1210 q53 q1211 hdX0_isRead ⟨Nat.le_of_ble_eq_true rfl, Nat.le_of_ble_eq_true rfl⟩ [] [0, 1, 2, 3, 4, 5, 6, 7] rfl rfl rfl rfl (by decide) rfl (Nat.le_of_ble_eq_true rfl) ⟨Nat.le_of_ble_eq_true rfl, Nat.le_of_ble_eq_true rfl⟩ (kI fun r_2 w1 hv2 => ?_)
  obtain ⟨hr_2, rfl⟩ := hv2
  refine gi_pick [0, 1, 2, 3, 4, 5, 6, 7] (w' := [xO o fx rx n, cI g (rx 0) 34 fA, cI g (rx 1) 64 meanT, cR g 4 (rx 9) 4 So, cL g 249 51 lmZ0 l0 o, cL g 258 55 lmZ1 l1 o, wO n fn rn o, cZ g (rn 2) 192 Bi]) rfl rfl ?_
  refine gi_top (b := (bI (beginB f U))) hr_2 ?_
  refine gi_if_eq (tgt := 22) C dX0_piece_5 (by decide) (bI_rg _) (fun h5 => ?_) (fun h5 => ?_)
  · skip
    replace h5 := bI_eq0.mp h5
    refine gi_iconst C dX0_piece_22 ?_
    refine gi_pick [0, 1, 2, 3, 4, 5, 6, 7] (w' := [xO o fx rx n, cI g (rx 0) 34 fA, cI g (rx 1) 64 meanT, cR g 4 (rx 9) 4 So, cL g 249 51 lmZ0 l0 o, cL g 258 55 lmZ1 l1 o, wO n fn rn o, cZ g (rn 2) 192 Bi]) rfl rfl ?_
    exact gi_ireturn C dX0_piece_23 (Nat.le_of_ble_eq_true rfl) (Nat.le_of_ble_eq_true rfl) ⟨_, rfl, (by unfold pieceR; rw [if_neg (fun z => by have z1 := z.1; have z2 := z.2; first | exact h5 z1 | omega)]), rfl⟩
  · skip
    replace h5 := bI_ne0.mp h5
    refine gi_iload_n C dX0_piece_8 3 rfl ?_
    refine gi_if_lt (tgt := 22) C dX0_piece_9 (by decide) (by omega) (fun h9 => ?_) (fun h9 => ?_)
    · skip
      refine gi_iconst C dX0_piece_22 ?_
      refine gi_pick [0, 1, 2, 3, 4, 5, 6, 7] (w' := [xO o fx rx n, cI g (rx 0) 34 fA, cI g (rx 1) 64 meanT, cR g 4 (rx 9) 4 So, cL g 249 51 lmZ0 l0 o, cL g 258 55 lmZ1 l1 o, wO n fn rn o, cZ g (rn 2) 192 Bi]) rfl rfl ?_
      exact gi_ireturn C dX0_piece_23 (Nat.le_of_ble_eq_true rfl) (Nat.le_of_ble_eq_true rfl) ⟨_, rfl, (by unfold pieceR; rw [if_neg (fun z => by have z1 := z.1; have z2 := z.2; first | exact h5 z1 | omega)]), rfl⟩
    · skip
      refine gi_iload C dX0_piece_12 4 rfl ?_
      refine gi_iconst C dX0_piece_14 ?_
      refine gi_iconst C dX0_piece_15 ?_
      refine gi_runS (wr := [xO o fx rx n, cI g (rx 0) 34 fA, cI g (rx 1) 64 meanT, cR g 4 (rx 9) 4 So, cL g 249 51 lmZ0 l0 o, cL g 258 55 lmZ1 l1 o, wO n fn rn o, cZ g (rn 2) 192 Bi]) (rest := []) C (mX0_in C.ok c 0 4 (by omega) (by omega) (by omega)) dX0_piece_16 q220 q221 q53 q222 hdX0_in ⟨Nat.le_of_ble_eq_true rfl, Nat.le_of_ble_eq_true rfl⟩ [] [0, 1, 2, 3, 4, 5, 6, 7] rfl rfl rfl rfl (by decide) rfl (Nat.le_of_ble_eq_true rfl) ⟨Nat.le_of_ble_eq_true rfl, Nat.le_of_ble_eq_true rfl⟩ (kI fun r_16 w1 hv16 => ?_)
      obtain ⟨rfl, hr_16⟩ := hv16
      refine gi_pick [0, 1, 2, 3, 4, 5, 6, 7] (w' := [xO o fx rx n, cI g (rx 0) 34 fA, cI g (rx 1) 64 meanT, cR g 4 (rx 9) 4 So, cL g 249 51 lmZ0 l0 o, cL g 258 55 lmZ1 l1 o, wO n fn rn o, cZ g (rn 2) 192 Bi]) rfl rfl ?_
      refine gi_top (b := (bI (0 ≤ c ∧ c ≤ 4))) hr_16 ?_
      refine gi_if_ne (tgt := 24) C dX0_piece_19 (by decide) (bI_rg _) (fun h19 => ?_) (fun h19 => ?_)
      · skip
        replace h19 := bI_ne0.mp h19
        have hbg : beginB f U := h5
        have hfr := hbg.1
        have huu := uOf_01 U
        have hpn0 := npc_b (nb := 6 * S 0) (fr := f) (by omega) hfr.1
        refine gi_iload_n C dX0_piece_24 3 rfl ?_
        refine gi_istore (lv' := [(5, vi pp), (0, .ref o), (1, vi f), (2, vi U), (3, vi pp), (4, vi c)]) C dX0_piece_25 (by decide) rfl ?_
        refine gi_new (c := 7) (N := 4) (fs := [.null, vi 0, vi 0, .null]) C in_X7 tyX7 tyX7_ok dX0_piece_27 q1212 q1213 q85 rfl (newfsX7) (Nat.le_of_ble_eq_true rfl) (Nat.le_of_ble_eq_true rfl) (fun q27 => ?_)
        refine gi_ws (w' := [xO o fx rx n, cI g (rx 0) 34 fA, cI g (rx 1) 64 meanT, cR g 4 (rx 9) 4 So, cL g 249 51 lmZ0 l0 o, cL g 258 55 lmZ1 l1 o, wO n fn rn o, cZ g (rn 2) 192 Bi, cO q27 7 [.null, vi 0, vi 0, .null]]) rfl ?_
        refine gi_dup C dX0_piece_30 rfl ?_
        refine gi_aload_n C dX0_piece_31 1 rfl ?_
        refine gi_aload_n C dX0_piece_32 1 rfl ?_
        refine gi_get (v := .ref n) C in_X0 dX0_piece_33 2 q168 0 rfl rfl (by decide) (fun _ h => h) rfl ?_
        refine gi_iload_n C dX0_piece_36 2 rfl ?_
        have L47 : ∀ (ab : Int) (hab : ab = (if (uOf U) < 0 then 0 else 1)), Go g x 8 rmX0_piece 1 4 47 [(5, vi pp), (0, .ref o), (1, vi f), (2, vi U), (3, vi pp), (4, vi c)] [vi ab, vi f, .ref n, .ref o, .ref q27, .ref q27] [xO o fx rx n, cI g (rx 0) 34 fA, cI g (rx 1) 64 meanT, cR g 4 (rx 9) 4 So, cL g 249 51 lmZ0 l0 o, cL g 258 55 lmZ1 l1 o, wO n fn rn o, cZ g (rn 2) 192 Bi, cO q27 7 [.null, vi 0, vi 0, .null]] := by
          intro ab hab
          refine gi_st (st' := [vi (if (uOf U) < 0 then 0 else 1), vi f, .ref n, .ref o, .ref q27, .ref q27]) (by rw [hab]) ?_
          refine gi_runI (wr := [xO o fx rx n, cI g (rx 0) 34 fA, cI g (rx 1) 64 meanT, cR g 4 (rx 9) 4 So, cL g 249 51 lmZ0 l0 o, cL g 258 55 lmZ1 l1 o, wO n fn rn o, cZ g (rn 2) 192 Bi]) (rest := [.ref q27]) C (mX7_init C.ok q27 o n f (if (uOf U) < 0 then 0 else 1) (by split <;> simp)) dX0_piece_47 q1214 q1215 q85 q1216 rfl hdX7_init ⟨Nat.le_of_ble_eq_true rfl, Nat.le_of_ble_eq_true rfl⟩ [8] [0, 1, 2, 3, 4, 5, 6, 7] rfl rfl rfl rfl (by decide) rfl (Nat.le_of_ble_eq_true rfl) ⟨Nat.le_of_ble_eq_true rfl, Nat.le_of_ble_eq_true rfl⟩ (kV fun w1 hv47 => ?_)
          obtain rfl := hv47
          refine gi_pick [0, 1, 2, 3, 4, 5, 6, 7, 8] (w' := [xO o fx rx n, cI g (rx 0) 34 fA, cI g (rx 1) 64 meanT, cR g 4 (rx 9) 4 So, cL g 249 51 lmZ0 l0 o, cL g 258 55 lmZ1 l1 o, wO n fn rn o, cZ g (rn 2) 192 Bi, cO q27 7 [.ref n, vi f, vi (if (uOf U) < 0 then 0 else 1), .ref o]]) rfl rfl ?_
          refine gi_runV (wr := [xO o fx rx n, cI g (rx 0) 34 fA, cI g (rx 1) 64 meanT, cR g 4 (rx 9) 4 So, cL g 249 51 lmZ0 l0 o, cL g 258 55 lmZ1 l1 o, wO n fn rn o, cZ g (rn 2) 192 Bi]) (rest := []) C (mX7_iterator C.ok q27 n f o Bi (uOf U) (huu)) dX0_piece_50 q1236 q1237 q1238 q85 q1239 hdX7_iterator ⟨Nat.le_of_ble_eq_true rfl, Nat.le_of_ble_eq_true rfl⟩ 8 rfl rfl [8] [0, 1, 2, 3, 4, 5, 6, 7] rfl rfl rfl rfl (by decide) rfl (Nat.le_of_ble_eq_true rfl) ⟨Nat.le_of_ble_eq_true rfl, Nat.le_of_ble_eq_true rfl⟩ (kR fun it w1 hv50 => ?_)
          obtain rfl := hv50
          refine gi_pick [0, 1, 2, 3, 4, 5, 6, 7, 8, 9] (w' := [xO o fx rx n, cI g (rx 0) 34 fA, cI g (rx 1) 64 meanT, cR g 4 (rx 9) 4 So, cL g 249 51 lmZ0 l0 o, cL g 258 55 lmZ1 l1 o, wO n fn rn o, cZ g (rn 2) 192 Bi, cO q27 7 [.ref n, vi f, vi (if (uOf U) < 0 then 0 else 1), .ref o], cO it 8 [vi (f + 6 * 0), vi (if sbI Bi f (uOf U) 0 < 0 then 0 else 1), vi (levI Bi f (uOf U) (6 * 0)), vi (runI (shB Bi f) (6 * 0)), .ref q27]]) rfl rfl ?_
          refine gi_wide (k' := 2) (n' := 9) (Nat.le_of_eq (by first | rfl | (dsimp only; omega))) (Nat.le_of_eq (by first | rfl | (dsimp only; omega))) ?_
          refine gi_astore (lv' := [(6, .ref it), (5, vi pp), (0, .ref o), (1, vi f), (2, vi U), (3, vi pp), (4, vi c)]) C dX0_piece_53 (by decide) rfl ?_
          have L55 : ∀ (q_ : Nat) (p : Int) (l : Int) (hp : 0 ≤ p ∧ p ≤ (npc (6 * S 0) f)) (hl : l = pp - p ∧ p ≤ pp) (hq_ : ((npc (6 * S 0) f) - p).toNat < q_), Go g x 8 rmX0_piece (2 + Int.toNat p) (9 + 6 * Int.toNat p) 55 [(5, vi l), (6, .ref it), (0, .ref o), (1, vi f), (2, vi U), (3, vi pp), (4, vi c)] [] [xO o fx rx n, cI g (rx 0) 34 fA, cI g (rx 1) 64 meanT, cR g 4 (rx 9) 4 So, cL g 249 51 lmZ0 l0 o, cL g 258 55 lmZ1 l1 o, wO n fn rn o, cZ g (rn 2) 192 Bi, cO q27 7 [.ref n, vi f, vi (if (uOf U) < 0 then 0 else 1), .ref o], cO it 8 [vi (f + 6 * p), vi (if sbI Bi f (uOf U) p < 0 then 0 else 1), vi (levI Bi f (uOf U) (6 * p)), vi (runI (shB Bi f) (6 * p)), .ref q27]] := by
            intro q_
            induction q_ with
            | zero => intro p l hp hl hq_; exact absurd hq_ (Nat.not_lt_zero _)
            | succ q_ ih55 =>
              intro p l hp hl hq_
              have hiff := npc_iff (nb := 6 * S 0) (fr := f) (p := p) hfr.1 hp.1
              have hlvp := levI_b Bi f (uOf U) (i := 6 * p) (by omega)
              have hrnp := runI_b (shB Bi f) (b := 6 * p) (by omega)
              refine gi_aload C dX0_piece_55 1 rfl ?_
              refine gi_runF (f := ⟨"java/util/Iterator", "hasNext", "()Z"⟩) (y := yX8_hasNext) (K := "EvenWords$Read$1") (wr := [xO o fx rx n, cI g (rx 0) 34 fA, cI g (rx 1) 64 meanT, cR g 4 (rx 9) 4 So, cL g 249 51 lmZ0 l0 o, cL g 258 55 lmZ1 l1 o, cZ g (rn 2) 192 Bi]) (rest := []) C (mX8_hasNext C.ok it q27 n f fn rn o Bi (uOf U) p (f + 6 * p) (if sbI Bi f (uOf U) p < 0 then 0 else 1) (levI Bi f (uOf U) (6 * p)) (runI (shB Bi f) (6 * p)) (if (uOf U) < 0 then 0 else 1) (show 0 ≤ fn 0 ∧ fn 0 ≤ 32 from (by omega)) (show 0 ≤ (f + 6 * p) ∧ (f + 6 * p) < 1000 from (by omega))) dX0_piece_57 q1119 q1121 q1120 q1123 q1125 q1126 q1124 q1122 q86 q1127 ⟨by decide, by decide, by decide +kernel⟩ ⟨Nat.le_of_ble_eq_true rfl, Nat.le_of_ble_eq_true rfl⟩ 9 rfl rfl [9, 8, 6] [0, 1, 2, 3, 4, 5, 7] rfl rfl rfl rfl (by decide) rfl (Nat.le_of_ble_eq_true rfl) ⟨by dsimp only; omega, by dsimp only; omega⟩ (kI fun r_57 w1 hv57 => ?_)
              obtain ⟨hr_57, rfl⟩ := hv57
              refine gi_pick [0, 1, 2, 3, 4, 5, 9, 6, 8, 7] (w' := [xO o fx rx n, cI g (rx 0) 34 fA, cI g (rx 1) 64 meanT, cR g 4 (rx 9) 4 So, cL g 249 51 lmZ0 l0 o, cL g 258 55 lmZ1 l1 o, wO n fn rn o, cZ g (rn 2) 192 Bi, cO q27 7 [.ref n, vi f, vi (if (uOf U) < 0 then 0 else 1), .ref o], cO it 8 [vi (f + 6 * p), vi (if sbI Bi f (uOf U) p < 0 then 0 else 1), vi (levI Bi f (uOf U) (6 * p)), vi (runI (shB Bi f) (6 * p)), .ref q27]]) rfl rfl ?_
              refine gi_top (b := (bI ((f + 6 * p) + 6 ≤ 6 * fn 0))) hr_57 ?_
              refine gi_if_eq (tgt := 97) C dX0_piece_62 (by decide) (bI_rg _) (fun h62 => ?_) (fun h62 => ?_)
              · skip
                replace h62 := bI_eq0.mp h62
                refine gi_bipush C dX0_piece_97 (by decide +kernel) ?_
                refine gi_pick [0, 1, 2, 3, 4, 5, 6, 7] (w' := [xO o fx rx n, cI g (rx 0) 34 fA, cI g (rx 1) 64 meanT, cR g 4 (rx 9) 4 So, cL g 249 51 lmZ0 l0 o, cL g 258 55 lmZ1 l1 o, wO n fn rn o, cZ g (rn 2) 192 Bi]) rfl rfl ?_
                exact gi_ireturn C dX0_piece_99 (by dsimp only; omega) (by dsimp only; omega) ⟨_, rfl, (by unfold pieceR; rw [if_pos ⟨hbg, by omega, by omega⟩, if_pos (by omega)]), rfl⟩
              · skip
                replace h62 := bI_ne0.mp h62
                refine gi_aload C dX0_piece_65 1 rfl ?_
                refine gi_runF (f := ⟨"java/util/Iterator", "next", "()Ljava/lang/Object;"⟩) (y := yX8_next) (K := "EvenWords$Read$1") (wr := [xO o fx rx n, cI g (rx 0) 34 fA, cI g (rx 1) 64 meanT, cR g 4 (rx 9) 4 So, cL g 249 51 lmZ0 l0 o, cL g 258 55 lmZ1 l1 o]) (rest := []) C (mX8_next C.ok it q27 n f fn rn o Bi (uOf U) p (show 0 ≤ fn 0 ∧ fn 0 ≤ 32 from (by omega)) (show ∀ z9 : Int, 0 ≤ z9 → z9 < 192 → (Bi z9 = 0 ∨ Bi z9 = 1) from (hB)) (show 0 ≤ f ∧ f ≤ 5 from (hfr)) (show (uOf U) = 1 ∨ (uOf U) = -1 from (huu)) (show 0 ≤ p ∧ f + 6 * p + 6 ≤ 6 * fn 0 from (⟨hp.1, by omega⟩))) dX0_piece_67 q1136 q1138 q1137 q1139 q1141 q1142 q1140 q1122 q86 q1143 ⟨by decide, by decide, by decide +kernel⟩ ⟨Nat.le_of_ble_eq_true rfl, Nat.le_of_ble_eq_true rfl⟩ 9 rfl rfl [9, 8, 6, 7] [0, 1, 2, 3, 4, 5] rfl rfl rfl rfl (by decide) rfl (Nat.le_of_ble_eq_true rfl) ⟨by dsimp only; omega, by dsimp only; omega⟩ (kR fun pc1 w1 hv67 => ?_)
                obtain rfl := hv67
                refine gi_pick [0, 1, 2, 3, 4, 5, 8, 9, 7, 6, 10] (w' := [xO o fx rx n, cI g (rx 0) 34 fA, cI g (rx 1) 64 meanT, cR g 4 (rx 9) 4 So, cL g 249 51 lmZ0 l0 o, cL g 258 55 lmZ1 l1 o, wO n fn rn o, cZ g (rn 2) 192 Bi, cO q27 7 [.ref n, vi f, vi (if (uOf U) < 0 then 0 else 1), .ref o], cO it 8 [vi (f + 6 * (p + 1)), vi (if sbI Bi f (uOf U) (p + 1) < 0 then 0 else 1), vi (levI Bi f (uOf U) (6 * (p + 1))), vi (runI (shB Bi f) (6 * (p + 1))), .ref q27], cO pc1 6 [vi (wordP Bi f p), vi (if sbI Bi f (uOf U) p < 0 then 0 else 1), vi (if sbI Bi f (uOf U) (p + 1) < 0 then 0 else 1), vi (mqI Bi f p 6), vi (hiI Bi f (uOf U) p 6), vi (loI Bi f (uOf U) p 6)]]) rfl rfl ?_
                refine gi_wide (k' := ((2 + Int.toNat p) + 1)) (n' := ((9 + 6 * Int.toNat p) + 6)) (Nat.le_of_eq (by first | rfl | (dsimp only; omega))) (Nat.le_of_eq (by first | rfl | (dsimp only; omega))) ?_
                refine gi_castS (r := (RX6, TX6, 6)) C dX0_piece_72 q1262 10 rfl rfl ?_
                have hwb : 0 ≤ wordP Bi f p ∧ wordP Bi f p < 64 := wdI_b (B := Bi) (s := f + 6 * p) (fun j h0 h1 => by have := hB (f + 6 * p + j) (by omega) (by omega); omega) 6 (by decide) (by decide)
                refine gi_astore (lv' := [(7, .ref pc1), (5, vi l), (6, .ref it), (0, .ref o), (1, vi f), (2, vi U), (3, vi pp), (4, vi c)]) C dX0_piece_75 (by decide) rfl ?_
                refine gi_iload C dX0_piece_77 1 rfl ?_
                refine gi_if_ne (tgt := 91) C dX0_piece_79 (by decide) (by omega) (fun h79 => ?_) (fun h79 => ?_)
                · skip
                  refine gi_iinc (lv' := [(5, vi (l + (-1))), (7, .ref pc1), (6, .ref it), (0, .ref o), (1, vi f), (2, vi U), (3, vi pp), (4, vi c)]) C dX0_piece_91 1 rfl (by decide) rfl ?_
                  refine gi_goto (tgt := 55) C dX0_piece_94 (by decide) ?_
                  refine gi_wide (k' := (2 + Int.toNat (p + 1))) (n' := (9 + 6 * Int.toNat (p + 1))) (by first | omega | (dsimp only; omega)) (by first | omega | (dsimp only; omega)) ?_
                  exact gi_to [0, 2, 3, 4, 5, 6, 7] [0, 1, 2, 3, 4, 5, 6, 7, 8, 9] rfl rfl rfl (ih55 (p + 1) (l + (-1)) (by omega) (by omega) (by omega))
                · skip
                  refine gi_aload_n C dX0_piece_82 3 rfl ?_
                  refine gi_aload C dX0_piece_83 0 rfl ?_
                  refine gi_iload C dX0_piece_85 7 rfl ?_
                  refine gi_runV (wr := [wO n fn rn o, cZ g (rn 2) 192 Bi, cO q27 7 [.ref n, vi f, vi (if (uOf U) < 0 then 0 else 1), .ref o], cO it 8 [vi (f + 6 * (p + 1)), vi (if sbI Bi f (uOf U) (p + 1) < 0 then 0 else 1), vi (levI Bi f (uOf U) (6 * (p + 1))), vi (runI (shB Bi f) (6 * (p + 1))), .ref q27]]) (rest := []) C (mX0_toldOf C.ok o fx rx n pc1 Bi f (uOf U) p So l0 l1 c (show (uOf U) = 1 ∨ (uOf U) = -1 from (huu)) (show 0 ≤ p ∧ p < 100 from (by omega)) (show 0 ≤ wordP Bi f p ∧ wordP Bi f p < 64 from (hwb)) (show Rg c from (by omega)) (show So 0 = some l0 from (hs0)) (show So 1 = some l1 from (hs1)) (show So 2 = some (lA g 266 56 lmZ2) from (hs2)) (show So 3 = some (lA g 274 59 lmZ3) from (hs3))) dX0_piece_87 q1263 q1265 qs14 q53 q1266 hdX0_toldOf ⟨Nat.le_of_ble_eq_true rfl, Nat.le_of_ble_eq_true rfl⟩ 0 rfl rfl [0, 1, 2, 3, 4, 5, 10] [6, 7, 8, 9] rfl rfl rfl rfl (by decide) rfl (Nat.le_of_ble_eq_true rfl) ⟨by dsimp only; omega, by dsimp only; omega⟩ (kI fun r_87 w1 hv87 => ?_)
                  obtain ⟨hr_87, rfl⟩ := hv87
                  refine gi_pick [4, 5, 6, 7, 8, 9, 0, 1, 2, 3, 10] (w' := [xO o fx rx n, cI g (rx 0) 34 fA, cI g (rx 1) 64 meanT, cR g 4 (rx 9) 4 So, cL g 249 51 lmZ0 l0 o, cL g 258 55 lmZ1 l1 o, wO n fn rn o, cZ g (rn 2) 192 Bi, cO q27 7 [.ref n, vi f, vi (if (uOf U) < 0 then 0 else 1), .ref o], cO it 8 [vi (f + 6 * (p + 1)), vi (if sbI Bi f (uOf U) (p + 1) < 0 then 0 else 1), vi (levI Bi f (uOf U) (6 * (p + 1))), vi (runI (shB Bi f) (6 * (p + 1))), .ref q27], cO pc1 6 [vi (wordP Bi f p), vi (if sbI Bi f (uOf U) p < 0 then 0 else 1), vi (if sbI Bi f (uOf U) (p + 1) < 0 then 0 else 1), vi (mqI Bi f p 6), vi (hiI Bi f (uOf U) p 6), vi (loI Bi f (uOf U) p 6)]]) rfl rfl ?_
                  refine gi_top (b := (tldB Bi f (uOf U) p c)) hr_87 ?_
                  refine gi_pick [0, 1, 2, 3, 4, 5, 6, 7] (w' := [xO o fx rx n, cI g (rx 0) 34 fA, cI g (rx 1) 64 meanT, cR g 4 (rx 9) 4 So, cL g 249 51 lmZ0 l0 o, cL g 258 55 lmZ1 l1 o, wO n fn rn o, cZ g (rn 2) 192 Bi]) rfl rfl ?_
                  exact gi_ireturn C dX0_piece_90 (by dsimp only; omega) (by dsimp only; omega) ⟨_, rfl, (by unfold pieceR; rw [if_pos ⟨hbg, by omega, by omega⟩, if_neg (by omega), show pp = p by omega]; exact tld_pq hp.1 hfr.1 (fun b g0 g1 => hW.b g0 (by omega))), rfl⟩
          refine gi_wide (k' := (2 + Int.toNat 0)) (n' := (9 + 6 * Int.toNat 0)) (by first | omega | (dsimp only; omega)) (by first | omega | (dsimp only; omega)) ?_
          exact gi_to [1, 0, 2, 3, 4, 5, 6] [0, 1, 2, 3, 4, 5, 6, 7, 8, 9] rfl rfl rfl (L55 _ 0 pp (by omega) (by omega) (Nat.lt_succ_self _))
        refine gi_iload_n C dX0_piece_37 3 rfl ?_
        refine gi_iconst C dX0_piece_38 ?_
        refine gi_icmp_ne (tgt := 46) C dX0_piece_39 (by decide) (by omega) (by omega) (fun h39 => ?_) (fun h39 => ?_)
        · skip
          refine gi_iconst C dX0_piece_46 ?_
          exact gi_to [0, 1, 2, 3, 4, 5] [0, 1, 2, 3, 4, 5, 6, 7, 8] rfl rfl rfl (L47 0 (by first | (rw [← uO_ab (by omega), if_pos (by omega)]) | (rw [← uO_ab (by omega), if_neg (by omega)])))
        · skip
          refine gi_iconst C dX0_piece_42 ?_
          refine gi_goto (tgt := 47) C dX0_piece_43 (by decide) ?_
          exact gi_to [0, 1, 2, 3, 4, 5] [0, 1, 2, 3, 4, 5, 6, 7, 8] rfl rfl rfl (L47 1 (by first | (rw [← uO_ab (by omega), if_pos (by omega)]) | (rw [← uO_ab (by omega), if_neg (by omega)])))
      · skip
        replace h19 := bI_eq0.mp h19
        refine gi_iconst C dX0_piece_22 ?_
        refine gi_pick [0, 1, 2, 3, 4, 5, 6, 7] (w' := [xO o fx rx n, cI g (rx 0) 34 fA, cI g (rx 1) 64 meanT, cR g 4 (rx 9) 4 So, cL g 249 51 lmZ0 l0 o, cL g 258 55 lmZ1 l1 o, wO n fn rn o, cZ g (rn 2) 192 Bi]) rfl rfl ?_
        exact gi_ireturn C dX0_piece_23 (Nat.le_of_ble_eq_true rfl) (Nat.le_of_ble_eq_true rfl) ⟨_, rfl, (by unfold pieceR; rw [if_neg (fun z => by have z1 := z.1; have z2 := z.2; first | exact h5 z1 | omega)]), rfl⟩
