theorem hdX7_first : yX7_first.cls ≠ "java/lang/invoke/MethodHandle" ∧ yX7_first.cls ≠ "java/lang/invoke/VarHandle" ∧ (parseMethodDescriptor yX7_first.desc).map (fun d => d.parameters.length) = some 0 := by decide +kernel
abbrev rmX7_first : Room := { frames := 6, cells := 33, slots := 197, locals := 126 }
set_option maxHeartbeats 4000000 in
set_option maxRecDepth 100000 in
/-- EvenWords$Read.first()I -/
theorem mX7_first {g : GG} (hg : OKG g) (rd : Nat) (ow : Nat) (fr : Int) (fw : Nat → Int) (rw : Nat → Nat) (o : Nat) (fx : Nat → Int) (rx : Nat → Nat) (n : Nat) (B : Int → Int) (u : Int) (So : Int → Option Nat) (l0 : Nat) (l1 : Nat) (hn : 0 ≤ fw 0 ∧ fw 0 ≤ 32) (hB : ∀ z9 : Int, 0 ≤ z9 → z9 < 192 → (B z9 = 0 ∨ B z9 = 1)) (hfr : 0 ≤ fr ∧ fr ≤ 5) (hu : u = 1 ∨ u = -1) (hs0 : So 0 = some l0) (hs1 : So 1 = some l1) (hs2 : So 2 = some (lA g 266 56 lmZ2)) (hs3 : So 3 = some (lA g 274 59 lmZ3)) : Con g yX7_first cX7_first 4 (some .int) rmX7_first [.ref rd] [cO rd 7 [.ref ow, vi fr, vi (if u < 0 then 0 else 1), .ref o], wO ow fw rw o, cZ g (rw 2) 192 B, xO o fx rx n, cI g (rx 0) 34 fA, cI g (rx 1) 64 meanT, cR g 4 (rx 9) 4 So, cL g 249 51 lmZ0 l0 o, cL g 258 55 lmZ1 l1 o] (pI fun r_ w => r_ = (fstI (brP B fr u) (npc (6 * fw 0) fr)) ∧ w = [cO rd 7 [.ref ow, vi fr, vi (if u < 0 then 0 else 1), .ref o], wO ow fw rw o, cZ g (rw 2) 192 B, xO o fx rx n, cI g (rx 0) 34 fA, cI g (rx 1) 64 meanT, cR g 4 (rx 9) 4 So, cL g 249 51 lmZ0 l0 o, cL g 258 55 lmZ1 l1 o]) := by
  refine con_of_go hg (by decide +kernel) (Nat.le_of_ble_eq_true rfl) ?_
  intro x C
  have hpn0 := npc_b (nb := 6 * fw 0) (fr := fr) (by omega) hfr.1
  refine gi_lv (lv' := [(0, .ref rd)]) [0] rfl ?_
  refine gi_iconst C dX7_first_0 ?_
  refine gi_istore_n (lv' := [(1, vi 0), (0, .ref rd)]) C dX7_first_1 (by decide) rfl ?_
  refine gi_aload_n C dX7_first_2 1 rfl ?_
  refine gi_runV (wr := [wO ow fw rw o, cZ g (rw 2) 192 B, xO o fx rx n, cI g (rx 0) 34 fA, cI g (rx 1) 64 meanT, cR g 4 (rx 9) 4 So, cL g 249 51 lmZ0 l0 o, cL g 258 55 lmZ1 l1 o]) (rest := []) C (mX7_iterator C.ok rd ow fr o B u (by omega)) dX7_first_3 q1290 q1237 q1238 q85 q1239 hdX7_iterator ⟨Nat.le_of_ble_eq_true rfl, Nat.le_of_ble_eq_true rfl⟩ 0 rfl rfl [0] [1, 2, 3, 4, 5, 6, 7, 8] rfl rfl rfl rfl (by decide) rfl (Nat.le_of_ble_eq_true rfl) ⟨Nat.le_of_ble_eq_true rfl, Nat.le_of_ble_eq_true rfl⟩ (kR fun it w1 hv3 => ?_)
  obtain rfl := hv3
  refine gi_pick [8, 0, 1, 2, 3, 4, 5, 6, 7, 9] (w' := [cO rd 7 [.ref ow, vi fr, vi (if u < 0 then 0 else 1), .ref o], wO ow fw rw o, cZ g (rw 2) 192 B, xO o fx rx n, cI g (rx 0) 34 fA, cI g (rx 1) 64 meanT, cR g 4 (rx 9) 4 So, cL g 249 51 lmZ0 l0 o, cL g 258 55 lmZ1 l1 o, cO it 8 [vi (fr + 6 * 0), vi (if sbI B fr u 0 < 0 then 0 else 1), vi (levI B fr u (6 * 0)), vi (runI (shB B fr) (6 * 0)), .ref rd]]) rfl rfl ?_
  refine gi_wide (k' := 1) (n' := 5) (Nat.le_of_eq (by first | rfl | (dsimp only; omega))) (Nat.le_of_eq (by first | rfl | (dsimp only; omega))) ?_
  refine gi_astore_n (lv' := [(2, .ref it), (1, vi 0), (0, .ref rd)]) C dX7_first_6 (by decide) rfl ?_
  have L7 : ∀ (q_ : Nat) (p : Int) (hp : 0 ≤ p ∧ p ≤ (npc (6 * fw 0) fr)) (hz : ∀ q : Int, 0 ≤ q → q < p → brP B fr u q = 0) (hq_ : ((npc (6 * fw 0) fr) - p).toNat < q_), Go g x 4 rmX7_first (1 + Int.toNat p) (5 + 6 * Int.toNat p) 7 [(1, vi p), (2, .ref it), (0, .ref rd)] [] [cO rd 7 [.ref ow, vi fr, vi (if u < 0 then 0 else 1), .ref o], wO ow fw rw o, cZ g (rw 2) 192 B, xO o fx rx n, cI g (rx 0) 34 fA, cI g (rx 1) 64 meanT, cR g 4 (rx 9) 4 So, cL g 249 51 lmZ0 l0 o, cL g 258 55 lmZ1 l1 o, cO it 8 [vi (fr + 6 * p), vi (if sbI B fr u p < 0 then 0 else 1), vi (levI B fr u (6 * p)), vi (runI (shB B fr) (6 * p)), .ref rd]] := by
    intro q_
    induction q_ with
    | zero => intro p hp hz hq_; exact absurd hq_ (Nat.not_lt_zero _)
    | succ q_ ih7 =>
      intro p hp hz hq_
      have hiff := npc_iff (nb := 6 * fw 0) (fr := fr) (p := p) hfr.1 hp.1
      have hpn := npc_b (nb := 6 * fw 0) (fr := fr) (by omega) hfr.1
      have hlvp := levI_b B fr u (i := 6 * p) (by omega)
      refine gi_aload_n C dX7_first_7 1 rfl ?_
      refine gi_runF (f := ⟨"java/util/Iterator", "hasNext", "()Z"⟩) (y := yX8_hasNext) (K := "EvenWords$Read$1") (wr := [cZ g (rw 2) 192 B, xO o fx rx n, cI g (rx 0) 34 fA, cI g (rx 1) 64 meanT, cR g 4 (rx 9) 4 So, cL g 249 51 lmZ0 l0 o, cL g 258 55 lmZ1 l1 o]) (rest := []) C (mX8_hasNext C.ok it rd ow fr fw rw o B u p (fr + 6 * p) (if sbI B fr u p < 0 then 0 else 1) (levI B fr u (6 * p)) (runI (shB B fr) (6 * p)) (if u < 0 then 0 else 1) (show 0 ≤ fw 0 ∧ fw 0 ≤ 32 from (hn)) (show 0 ≤ (fr + 6 * p) ∧ (fr + 6 * p) < 1000 from (by omega))) dX7_first_8 q1292 q1121 q1120 q1123 q1125 q1126 q1124 q1122 q86 q1127 ⟨by decide, by decide, by decide +kernel⟩ ⟨Nat.le_of_ble_eq_true rfl, Nat.le_of_ble_eq_true rfl⟩ 9 rfl rfl [9, 0, 1] [2, 3, 4, 5, 6, 7, 8] rfl rfl rfl rfl (by decide) rfl (Nat.le_of_ble_eq_true rfl) ⟨by dsimp only; omega, by dsimp only; omega⟩ (kI fun r_8 w1 hv8 => ?_)
      obtain ⟨hr_8, rfl⟩ := hv8
      refine gi_pick [8, 9, 0, 1, 2, 3, 4, 5, 6, 7] (w' := [cO rd 7 [.ref ow, vi fr, vi (if u < 0 then 0 else 1), .ref o], wO ow fw rw o, cZ g (rw 2) 192 B, xO o fx rx n, cI g (rx 0) 34 fA, cI g (rx 1) 64 meanT, cR g 4 (rx 9) 4 So, cL g 249 51 lmZ0 l0 o, cL g 258 55 lmZ1 l1 o, cO it 8 [vi (fr + 6 * p), vi (if sbI B fr u p < 0 then 0 else 1), vi (levI B fr u (6 * p)), vi (runI (shB B fr) (6 * p)), .ref rd]]) rfl rfl ?_
      refine gi_top (b := (bI ((fr + 6 * p) + 6 ≤ 6 * fw 0))) hr_8 ?_
      refine gi_if_eq (tgt := 45) C dX7_first_13 (by decide) (bI_rg _) (fun h13 => ?_) (fun h13 => ?_)
      · skip
        replace h13 := bI_eq0.mp h13
        refine gi_bipush C dX7_first_45 (by decide +kernel) ?_
        refine gi_pick [0, 1, 2, 3, 4, 5, 6, 7, 8] (w' := [cO rd 7 [.ref ow, vi fr, vi (if u < 0 then 0 else 1), .ref o], wO ow fw rw o, cZ g (rw 2) 192 B, xO o fx rx n, cI g (rx 0) 34 fA, cI g (rx 1) 64 meanT, cR g 4 (rx 9) 4 So, cL g 249 51 lmZ0 l0 o, cL g 258 55 lmZ1 l1 o]) rfl rfl ?_
        exact gi_ireturn C dX7_first_47 (by dsimp only; omega) (by dsimp only; omega) ⟨_, rfl, (by rw [show (npc (6 * fw 0) fr) = p by omega]; exact (fstI_none hp.1 hz).symm), rfl⟩
      · skip
        replace h13 := bI_ne0.mp h13
        refine gi_aload_n C dX7_first_16 1 rfl ?_
        refine gi_runF (f := ⟨"java/util/Iterator", "next", "()Ljava/lang/Object;"⟩) (y := yX8_next) (K := "EvenWords$Read$1") (wr := [xO o fx rx n, cI g (rx 0) 34 fA, cI g (rx 1) 64 meanT, cR g 4 (rx 9) 4 So, cL g 249 51 lmZ0 l0 o, cL g 258 55 lmZ1 l1 o]) (rest := []) C (mX8_next C.ok it rd ow fr fw rw o B u p (show 0 ≤ fw 0 ∧ fw 0 ≤ 32 from (hn)) (show ∀ z9 : Int, 0 ≤ z9 → z9 < 192 → (B z9 = 0 ∨ B z9 = 1) from (hB)) (show 0 ≤ fr ∧ fr ≤ 5 from (by omega)) (show u = 1 ∨ u = -1 from (by omega)) (show 0 ≤ p ∧ fr + 6 * p + 6 ≤ 6 * fw 0 from (⟨hp.1, h13⟩))) dX7_first_17 q1294 q1138 q1137 q1139 q1141 q1142 q1140 q1122 q86 q1143 ⟨by decide, by decide, by decide +kernel⟩ ⟨Nat.le_of_ble_eq_true rfl, Nat.le_of_ble_eq_true rfl⟩ 9 rfl rfl [9, 0, 1, 2] [3, 4, 5, 6, 7, 8] rfl rfl rfl rfl (by decide) rfl (Nat.le_of_ble_eq_true rfl) ⟨by dsimp only; omega, by dsimp only; omega⟩ (kR fun pc1 w1 hv17 => ?_)
        obtain rfl := hv17
        refine gi_pick [7, 8, 9, 0, 1, 2, 3, 4, 5, 6, 10] (w' := [cO rd 7 [.ref ow, vi fr, vi (if u < 0 then 0 else 1), .ref o], wO ow fw rw o, cZ g (rw 2) 192 B, xO o fx rx n, cI g (rx 0) 34 fA, cI g (rx 1) 64 meanT, cR g 4 (rx 9) 4 So, cL g 249 51 lmZ0 l0 o, cL g 258 55 lmZ1 l1 o, cO it 8 [vi (fr + 6 * (p + 1)), vi (if sbI B fr u (p + 1) < 0 then 0 else 1), vi (levI B fr u (6 * (p + 1))), vi (runI (shB B fr) (6 * (p + 1))), .ref rd], cO pc1 6 [vi (wordP B fr p), vi (if sbI B fr u p < 0 then 0 else 1), vi (if sbI B fr u (p + 1) < 0 then 0 else 1), vi (mqI B fr p 6), vi (hiI B fr u p 6), vi (loI B fr u p 6)]]) rfl rfl ?_
        refine gi_wide (k' := ((1 + Int.toNat p) + 1)) (n' := ((5 + 6 * Int.toNat p) + 6)) (Nat.le_of_eq (by first | rfl | (dsimp only; omega))) (Nat.le_of_eq (by first | rfl | (dsimp only; omega))) ?_
        refine gi_castS (r := (RX6, TX6, 6)) C dX7_first_22 q1295 10 rfl rfl ?_
        refine gi_astore_n (lv' := [(3, .ref pc1), (1, vi p), (2, .ref it), (0, .ref rd)]) C dX7_first_25 (by decide) rfl ?_
        have hwb : 0 ≤ wordP B fr p ∧ wordP B fr p < 64 := wdI_b (B := B) (s := fr + 6 * p) (fun j h0 h1 => by have := hB (fr + 6 * p + j) (by omega) (by omega); omega) 6 (by decide) (by decide)
        have hmb := mqI_b B fr hp.1 (show (0 : Int) ≤ 6 by decide)
        have hhb := hl_b B fr u hp.1 (show (0 : Int) ≤ 6 by decide)
        have hbb := brP_b B fr u p
        refine gi_aload_n C dX7_first_26 3 rfl ?_
        refine gi_get (v := .ref o) C in_X7 dX7_first_27 3 q1226 0 rfl rfl (by decide) (fun _ h => h) rfl ?_
        refine gi_aload_n C dX7_first_30 0 rfl ?_
        refine gi_runVN (wr := [cO rd 7 [.ref ow, vi fr, vi (if u < 0 then 0 else 1), .ref o], wO ow fw rw o, cZ g (rw 2) 192 B, cO it 8 [vi (fr + 6 * (p + 1)), vi (if sbI B fr u (p + 1) < 0 then 0 else 1), vi (levI B fr u (6 * (p + 1))), vi (runI (shB B fr) (6 * (p + 1))), .ref rd]]) (rest := []) C (mX0_breaches C.ok o fx rx n pc1 (wordP B fr p) (if sbI B fr u p < 0 then 0 else 1) (if sbI B fr u (p + 1) < 0 then 0 else 1) (mqI B fr p 6) (hiI B fr u p 6) (loI B fr u p 6) So l0 l1 (show 0 ≤ (wordP B fr p) ∧ (wordP B fr p) < 64 from (hwb)) (show (if sbI B fr u p < 0 then 0 else 1) = 0 ∨ (if sbI B fr u p < 0 then 0 else 1) = 1 from (by split <;> simp)) (show Rg (mqI B fr p 6) from (by omega)) (show Rg (hiI B fr u p 6) from (by omega)) (show Rg (loI B fr u p 6) from (by omega)) (show So 0 = some l0 from (hs0)) (show So 1 = some l1 from (hs1)) (show So 2 = some (lA g 266 56 lmZ2) from (hs2)) (show So 3 = some (lA g 274 59 lmZ3) from (hs3))) dX7_first_31 q1296 q1269 qs15 q53 q1270 hdX0_breaches ⟨Nat.le_of_ble_eq_true rfl, Nat.le_of_ble_eq_true rfl⟩ 3 rfl rfl [3, 4, 5, 6, 7, 8, 10] [0, 1, 2, 9] rfl rfl rfl rfl (by decide) rfl (Nat.le_of_ble_eq_true rfl) ⟨by dsimp only; omega, by dsimp only; omega⟩ (kI fun r_31 w1 hv31 => ?_)
        obtain ⟨hr_31, rfl⟩ := hv31
        refine gi_pick [0, 1, 2, 4, 5, 6, 7, 8, 9, 3, 10] (w' := [cO rd 7 [.ref ow, vi fr, vi (if u < 0 then 0 else 1), .ref o], wO ow fw rw o, cZ g (rw 2) 192 B, xO o fx rx n, cI g (rx 0) 34 fA, cI g (rx 1) 64 meanT, cR g 4 (rx 9) 4 So, cL g 249 51 lmZ0 l0 o, cL g 258 55 lmZ1 l1 o, cO it 8 [vi (fr + 6 * (p + 1)), vi (if sbI B fr u (p + 1) < 0 then 0 else 1), vi (levI B fr u (6 * (p + 1))), vi (runI (shB B fr) (6 * (p + 1))), .ref rd], cO pc1 6 [vi (wordP B fr p), vi (if sbI B fr u p < 0 then 0 else 1), vi (if sbI B fr u (p + 1) < 0 then 0 else 1), vi (mqI B fr p 6), vi (hiI B fr u p 6), vi (loI B fr u p 6)]]) rfl rfl ?_
        refine gi_top (b := (brC (meanT (wordP B fr p) = -9) (meanT (wordP B fr p) ≠ -9 ∧ fm (meanT (wordP B fr p)) (if sbI B fr u p < 0 then 0 else 1) ≠ (wordP B fr p)) (6 < (mqI B fr p 6)) (3 < (hiI B fr u p 6) ∨ (loI B fr u p 6) < -3))) hr_31 ?_
        refine gi_top (b := (brP B fr u p)) (by exact (br_eq hu rfl hwb rfl rfl rfl rfl).1) ?_
        refine gi_if_eq (tgt := 39) C dX7_first_34 (by decide) (by omega) (fun h34 => ?_) (fun h34 => ?_)
        · skip
          refine gi_iinc (lv' := [(1, vi (p + 1)), (3, .ref pc1), (2, .ref it), (0, .ref rd)]) C dX7_first_39 1 rfl (by decide) rfl ?_
          refine gi_goto (tgt := 7) C dX7_first_42 (by decide) ?_
          refine gi_wide (k' := (1 + Int.toNat (p + 1))) (n' := (5 + 6 * Int.toNat (p + 1))) (by first | omega | (dsimp only; omega)) (by first | omega | (dsimp only; omega)) ?_
          exact gi_to [0, 2, 3] [0, 1, 2, 3, 4, 5, 6, 7, 8, 9] rfl rfl rfl (ih7 (p + 1) (by omega) (fun q h0 h1 => by by_cases e : q = p; exact e ▸ h34; exact hz q h0 (by omega)) (by omega))
        · skip
          refine gi_iload_n C dX7_first_37 1 rfl ?_
          refine gi_pick [0, 1, 2, 3, 4, 5, 6, 7, 8] (w' := [cO rd 7 [.ref ow, vi fr, vi (if u < 0 then 0 else 1), .ref o], wO ow fw rw o, cZ g (rw 2) 192 B, xO o fx rx n, cI g (rx 0) 34 fA, cI g (rx 1) 64 meanT, cR g 4 (rx 9) 4 So, cL g 249 51 lmZ0 l0 o, cL g 258 55 lmZ1 l1 o]) rfl rfl ?_
          exact gi_ireturn C dX7_first_38 (by dsimp only; omega) (by dsimp only; omega) ⟨_, rfl, (by exact (fstI_at hp.1 (hiff.mpr h13) hz h34).symm), rfl⟩
  refine gi_wide (k' := (1 + Int.toNat 0)) (n' := (5 + 6 * Int.toNat 0)) (by first | omega | (dsimp only; omega)) (by first | omega | (dsimp only; omega)) ?_
  exact gi_to [1, 0, 2] [0, 1, 2, 3, 4, 5, 6, 7, 8, 9] rfl rfl rfl (L7 _ 0 (by omega) (fun q h0 h1 => by omega) (Nat.lt_succ_self _))
theorem hdX7_breached : yX7_breached.cls ≠ "java/lang/invoke/MethodHandle" ∧ yX7_breached.cls ≠ "java/lang/invoke/VarHandle" ∧ (parseMethodDescriptor yX7_breached.desc).map (fun d => d.parameters.length) = some 0 := by decide +kernel
abbrev rmX7_breached : Room := { frames := 6, cells := 33, slots := 197, locals := 126 }
set_option maxHeartbeats 4000000 in
set_option maxRecDepth 100000 in
/-- EvenWords$Read.breached()I -/
theorem mX7_breached {g : GG} (hg : OKG g) (rd : Nat) (ow : Nat) (fr : Int) (fw : Nat → Int) (rw : Nat → Nat) (o : Nat) (fx : Nat → Int) (rx : Nat → Nat) (n : Nat) (B : Int → Int) (u : Int) (So : Int → Option Nat) (l0 : Nat) (l1 : Nat) (hn : 0 ≤ fw 0 ∧ fw 0 ≤ 32) (hB : ∀ z9 : Int, 0 ≤ z9 → z9 < 192 → (B z9 = 0 ∨ B z9 = 1)) (hfr : 0 ≤ fr ∧ fr ≤ 5) (hu : u = 1 ∨ u = -1) (hs0 : So 0 = some l0) (hs1 : So 1 = some l1) (hs2 : So 2 = some (lA g 266 56 lmZ2)) (hs3 : So 3 = some (lA g 274 59 lmZ3)) : Con g yX7_breached cX7_breached 4 (some .int) rmX7_breached [.ref rd] [cO rd 7 [.ref ow, vi fr, vi (if u < 0 then 0 else 1), .ref o], wO ow fw rw o, cZ g (rw 2) 192 B, xO o fx rx n, cI g (rx 0) 34 fA, cI g (rx 1) 64 meanT, cR g 4 (rx 9) 4 So, cL g 249 51 lmZ0 l0 o, cL g 258 55 lmZ1 l1 o] (pI fun r_ w => r_ = (sumI (fun p => bI (brP B fr u p ≠ 0)) (npc (6 * fw 0) fr)) ∧ w = [cO rd 7 [.ref ow, vi fr, vi (if u < 0 then 0 else 1), .ref o], wO ow fw rw o, cZ g (rw 2) 192 B, xO o fx rx n, cI g (rx 0) 34 fA, cI g (rx 1) 64 meanT, cR g 4 (rx 9) 4 So, cL g 249 51 lmZ0 l0 o, cL g 258 55 lmZ1 l1 o]) := by
  refine con_of_go hg (by decide +kernel) (Nat.le_of_ble_eq_true rfl) ?_
  intro x C
  have hpn0 := npc_b (nb := 6 * fw 0) (fr := fr) (by omega) hfr.1
  refine gi_lv (lv' := [(0, .ref rd)]) [0] rfl ?_
  refine gi_iconst C dX7_breached_0 ?_
  refine gi_istore_n (lv' := [(1, vi 0), (0, .ref rd)]) C dX7_breached_1 (by decide) rfl ?_
  refine gi_aload_n C dX7_breached_2 1 rfl ?_
  refine gi_runV (wr := [wO ow fw rw o, cZ g (rw 2) 192 B, xO o fx rx n, cI g (rx 0) 34 fA, cI g (rx 1) 64 meanT, cR g 4 (rx 9) 4 So, cL g 249 51 lmZ0 l0 o, cL g 258 55 lmZ1 l1 o]) (rest := []) C (mX7_iterator C.ok rd ow fr o B u (by omega)) dX7_breached_3 q1290 q1237 q1238 q85 q1239 hdX7_iterator ⟨Nat.le_of_ble_eq_true rfl, Nat.le_of_ble_eq_true rfl⟩ 0 rfl rfl [0] [1, 2, 3, 4, 5, 6, 7, 8] rfl rfl rfl rfl (by decide) rfl (Nat.le_of_ble_eq_true rfl) ⟨Nat.le_of_ble_eq_true rfl, Nat.le_of_ble_eq_true rfl⟩ (kR fun it w1 hv3 => ?_)
  obtain rfl := hv3
  refine gi_pick [8, 0, 1, 2, 3, 4, 5, 6, 7, 9] (w' := [cO rd 7 [.ref ow, vi fr, vi (if u < 0 then 0 else 1), .ref o], wO ow fw rw o, cZ g (rw 2) 192 B, xO o fx rx n, cI g (rx 0) 34 fA, cI g (rx 1) 64 meanT, cR g 4 (rx 9) 4 So, cL g 249 51 lmZ0 l0 o, cL g 258 55 lmZ1 l1 o, cO it 8 [vi (fr + 6 * 0), vi (if sbI B fr u 0 < 0 then 0 else 1), vi (levI B fr u (6 * 0)), vi (runI (shB B fr) (6 * 0)), .ref rd]]) rfl rfl ?_
  refine gi_wide (k' := 1) (n' := 5) (Nat.le_of_eq (by first | rfl | (dsimp only; omega))) (Nat.le_of_eq (by first | rfl | (dsimp only; omega))) ?_
  refine gi_astore_n (lv' := [(2, .ref it), (1, vi 0), (0, .ref rd)]) C dX7_breached_6 (by decide) rfl ?_
  have L7 : ∀ (q_ : Nat) (p : Int) (m : Int) (hp : 0 ≤ p ∧ p ≤ (npc (6 * fw 0) fr)) (hm : m = sumI (fun p => bI (brP B fr u p ≠ 0)) p) (hmm : 0 ≤ m ∧ m ≤ p) (hq_ : ((npc (6 * fw 0) fr) - p).toNat < q_), Go g x 4 rmX7_breached (1 + Int.toNat p) (5 + 6 * Int.toNat p) 7 [(1, vi m), (2, .ref it), (0, .ref rd)] [] [cO rd 7 [.ref ow, vi fr, vi (if u < 0 then 0 else 1), .ref o], wO ow fw rw o, cZ g (rw 2) 192 B, xO o fx rx n, cI g (rx 0) 34 fA, cI g (rx 1) 64 meanT, cR g 4 (rx 9) 4 So, cL g 249 51 lmZ0 l0 o, cL g 258 55 lmZ1 l1 o, cO it 8 [vi (fr + 6 * p), vi (if sbI B fr u p < 0 then 0 else 1), vi (levI B fr u (6 * p)), vi (runI (shB B fr) (6 * p)), .ref rd]] := by
    intro q_
    induction q_ with
    | zero => intro p m hp hm hmm hq_; exact absurd hq_ (Nat.not_lt_zero _)
    | succ q_ ih7 =>
      intro p m hp hm hmm hq_
      have hiff := npc_iff (nb := 6 * fw 0) (fr := fr) (p := p) hfr.1 hp.1
      have hpn := npc_b (nb := 6 * fw 0) (fr := fr) (by omega) hfr.1
      have hlvp := levI_b B fr u (i := 6 * p) (by omega)
      refine gi_aload_n C dX7_breached_7 1 rfl ?_
      refine gi_runF (f := ⟨"java/util/Iterator", "hasNext", "()Z"⟩) (y := yX8_hasNext) (K := "EvenWords$Read$1") (wr := [cZ g (rw 2) 192 B, xO o fx rx n, cI g (rx 0) 34 fA, cI g (rx 1) 64 meanT, cR g 4 (rx 9) 4 So, cL g 249 51 lmZ0 l0 o, cL g 258 55 lmZ1 l1 o]) (rest := []) C (mX8_hasNext C.ok it rd ow fr fw rw o B u p (fr + 6 * p) (if sbI B fr u p < 0 then 0 else 1) (levI B fr u (6 * p)) (runI (shB B fr) (6 * p)) (if u < 0 then 0 else 1) (show 0 ≤ fw 0 ∧ fw 0 ≤ 32 from (hn)) (show 0 ≤ (fr + 6 * p) ∧ (fr + 6 * p) < 1000 from (by omega))) dX7_breached_8 q1292 q1121 q1120 q1123 q1125 q1126 q1124 q1122 q86 q1127 ⟨by decide, by decide, by decide +kernel⟩ ⟨Nat.le_of_ble_eq_true rfl, Nat.le_of_ble_eq_true rfl⟩ 9 rfl rfl [9, 0, 1] [2, 3, 4, 5, 6, 7, 8] rfl rfl rfl rfl (by decide) rfl (Nat.le_of_ble_eq_true rfl) ⟨by dsimp only; omega, by dsimp only; omega⟩ (kI fun r_8 w1 hv8 => ?_)
      obtain ⟨hr_8, rfl⟩ := hv8
      refine gi_pick [8, 9, 0, 1, 2, 3, 4, 5, 6, 7] (w' := [cO rd 7 [.ref ow, vi fr, vi (if u < 0 then 0 else 1), .ref o], wO ow fw rw o, cZ g (rw 2) 192 B, xO o fx rx n, cI g (rx 0) 34 fA, cI g (rx 1) 64 meanT, cR g 4 (rx 9) 4 So, cL g 249 51 lmZ0 l0 o, cL g 258 55 lmZ1 l1 o, cO it 8 [vi (fr + 6 * p), vi (if sbI B fr u p < 0 then 0 else 1), vi (levI B fr u (6 * p)), vi (runI (shB B fr) (6 * p)), .ref rd]]) rfl rfl ?_
      refine gi_top (b := (bI ((fr + 6 * p) + 6 ≤ 6 * fw 0))) hr_8 ?_
      refine gi_if_eq (tgt := 48) C dX7_breached_13 (by decide) (bI_rg _) (fun h13 => ?_) (fun h13 => ?_)
      · skip
        replace h13 := bI_eq0.mp h13
        refine gi_iload_n C dX7_breached_48 0 rfl ?_
        refine gi_pick [0, 1, 2, 3, 4, 5, 6, 7, 8] (w' := [cO rd 7 [.ref ow, vi fr, vi (if u < 0 then 0 else 1), .ref o], wO ow fw rw o, cZ g (rw 2) 192 B, xO o fx rx n, cI g (rx 0) 34 fA, cI g (rx 1) 64 meanT, cR g 4 (rx 9) 4 So, cL g 249 51 lmZ0 l0 o, cL g 258 55 lmZ1 l1 o]) rfl rfl ?_
        exact gi_ireturn C dX7_breached_49 (by dsimp only; omega) (by dsimp only; omega) ⟨_, rfl, (by rw [show (npc (6 * fw 0) fr) = p by omega]; exact hm), rfl⟩
      · skip
        replace h13 := bI_ne0.mp h13
        refine gi_aload_n C dX7_breached_16 1 rfl ?_
        refine gi_runF (f := ⟨"java/util/Iterator", "next", "()Ljava/lang/Object;"⟩) (y := yX8_next) (K := "EvenWords$Read$1") (wr := [xO o fx rx n, cI g (rx 0) 34 fA, cI g (rx 1) 64 meanT, cR g 4 (rx 9) 4 So, cL g 249 51 lmZ0 l0 o, cL g 258 55 lmZ1 l1 o]) (rest := []) C (mX8_next C.ok it rd ow fr fw rw o B u p (show 0 ≤ fw 0 ∧ fw 0 ≤ 32 from (hn)) (show ∀ z9 : Int, 0 ≤ z9 → z9 < 192 → (B z9 = 0 ∨ B z9 = 1) from (hB)) (show 0 ≤ fr ∧ fr ≤ 5 from (by omega)) (show u = 1 ∨ u = -1 from (by omega)) (show 0 ≤ p ∧ fr + 6 * p + 6 ≤ 6 * fw 0 from (⟨hp.1, h13⟩))) dX7_breached_17 q1294 q1138 q1137 q1139 q1141 q1142 q1140 q1122 q86 q1143 ⟨by decide, by decide, by decide +kernel⟩ ⟨Nat.le_of_ble_eq_true rfl, Nat.le_of_ble_eq_true rfl⟩ 9 rfl rfl [9, 0, 1, 2] [3, 4, 5, 6, 7, 8] rfl rfl rfl rfl (by decide) rfl (Nat.le_of_ble_eq_true rfl) ⟨by dsimp only; omega, by dsimp only; omega⟩ (kR fun pc1 w1 hv17 => ?_)
        obtain rfl := hv17
        refine gi_pick [7, 8, 9, 0, 1, 2, 3, 4, 5, 6, 10] (w' := [cO rd 7 [.ref ow, vi fr, vi (if u < 0 then 0 else 1), .ref o], wO ow fw rw o, cZ g (rw 2) 192 B, xO o fx rx n, cI g (rx 0) 34 fA, cI g (rx 1) 64 meanT, cR g 4 (rx 9) 4 So, cL g 249 51 lmZ0 l0 o, cL g 258 55 lmZ1 l1 o, cO it 8 [vi (fr + 6 * (p + 1)), vi (if sbI B fr u (p + 1) < 0 then 0 else 1), vi (levI B fr u (6 * (p + 1))), vi (runI (shB B fr) (6 * (p + 1))), .ref rd], cO pc1 6 [vi (wordP B fr p), vi (if sbI B fr u p < 0 then 0 else 1), vi (if sbI B fr u (p + 1) < 0 then 0 else 1), vi (mqI B fr p 6), vi (hiI B fr u p 6), vi (loI B fr u p 6)]]) rfl rfl ?_
        refine gi_wide (k' := ((1 + Int.toNat p) + 1)) (n' := ((5 + 6 * Int.toNat p) + 6)) (Nat.le_of_eq (by first | rfl | (dsimp only; omega))) (Nat.le_of_eq (by first | rfl | (dsimp only; omega))) ?_
        refine gi_castS (r := (RX6, TX6, 6)) C dX7_breached_22 q1295 10 rfl rfl ?_
        refine gi_astore_n (lv' := [(3, .ref pc1), (1, vi m), (2, .ref it), (0, .ref rd)]) C dX7_breached_25 (by decide) rfl ?_
        refine gi_iload_n C dX7_breached_26 1 rfl ?_
        have hwb : 0 ≤ wordP B fr p ∧ wordP B fr p < 64 := wdI_b (B := B) (s := fr + 6 * p) (fun j h0 h1 => by have := hB (fr + 6 * p + j) (by omega) (by omega); omega) 6 (by decide) (by decide)
        have hmb := mqI_b B fr hp.1 (show (0 : Int) ≤ 6 by decide)
        have hhb := hl_b B fr u hp.1 (show (0 : Int) ≤ 6 by decide)
        have hbb := brP_b B fr u p
        refine gi_aload_n C dX7_breached_27 3 rfl ?_
        refine gi_get (v := .ref o) C in_X7 dX7_breached_28 3 q1226 0 rfl rfl (by decide) (fun _ h => h) rfl ?_
        refine gi_aload_n C dX7_breached_31 0 rfl ?_
        refine gi_runVN (wr := [cO rd 7 [.ref ow, vi fr, vi (if u < 0 then 0 else 1), .ref o], wO ow fw rw o, cZ g (rw 2) 192 B, cO it 8 [vi (fr + 6 * (p + 1)), vi (if sbI B fr u (p + 1) < 0 then 0 else 1), vi (levI B fr u (6 * (p + 1))), vi (runI (shB B fr) (6 * (p + 1))), .ref rd]]) (rest := [vi m]) C (mX0_breaches C.ok o fx rx n pc1 (wordP B fr p) (if sbI B fr u p < 0 then 0 else 1) (if sbI B fr u (p + 1) < 0 then 0 else 1) (mqI B fr p 6) (hiI B fr u p 6) (loI B fr u p 6) So l0 l1 (show 0 ≤ (wordP B fr p) ∧ (wordP B fr p) < 64 from (hwb)) (show (if sbI B fr u p < 0 then 0 else 1) = 0 ∨ (if sbI B fr u p < 0 then 0 else 1) = 1 from (by split <;> simp)) (show Rg (mqI B fr p 6) from (by omega)) (show Rg (hiI B fr u p 6) from (by omega)) (show Rg (loI B fr u p 6) from (by omega)) (show So 0 = some l0 from (hs0)) (show So 1 = some l1 from (hs1)) (show So 2 = some (lA g 266 56 lmZ2) from (hs2)) (show So 3 = some (lA g 274 59 lmZ3) from (hs3))) dX7_breached_32 q1296 q1269 qs15 q53 q1270 hdX0_breaches ⟨Nat.le_of_ble_eq_true rfl, Nat.le_of_ble_eq_true rfl⟩ 3 rfl rfl [3, 4, 5, 6, 7, 8, 10] [0, 1, 2, 9] rfl rfl rfl rfl (by decide) rfl (Nat.le_of_ble_eq_true rfl) ⟨by dsimp only; omega, by dsimp only; omega⟩ (kI fun r_32 w1 hv32 => ?_)
        obtain ⟨hr_32, rfl⟩ := hv32
        refine gi_pick [0, 1, 2, 4, 5, 6, 7, 8, 9, 3, 10] (w' := [cO rd 7 [.ref ow, vi fr, vi (if u < 0 then 0 else 1), .ref o], wO ow fw rw o, cZ g (rw 2) 192 B, xO o fx rx n, cI g (rx 0) 34 fA, cI g (rx 1) 64 meanT, cR g 4 (rx 9) 4 So, cL g 249 51 lmZ0 l0 o, cL g 258 55 lmZ1 l1 o, cO it 8 [vi (fr + 6 * (p + 1)), vi (if sbI B fr u (p + 1) < 0 then 0 else 1), vi (levI B fr u (6 * (p + 1))), vi (runI (shB B fr) (6 * (p + 1))), .ref rd], cO pc1 6 [vi (wordP B fr p), vi (if sbI B fr u p < 0 then 0 else 1), vi (if sbI B fr u (p + 1) < 0 then 0 else 1), vi (mqI B fr p 6), vi (hiI B fr u p 6), vi (loI B fr u p 6)]]) rfl rfl ?_
        refine gi_top (b := (brC (meanT (wordP B fr p) = -9) (meanT (wordP B fr p) ≠ -9 ∧ fm (meanT (wordP B fr p)) (if sbI B fr u p < 0 then 0 else 1) ≠ (wordP B fr p)) (6 < (mqI B fr p 6)) (3 < (hiI B fr u p 6) ∨ (loI B fr u p 6) < -3))) hr_32 ?_
        refine gi_top (b := (brP B fr u p)) (by exact (br_eq hu rfl hwb rfl rfl rfl rfl).1) ?_
        have L43 : ∀ (v : Int) (hv : v = bI (brP B fr u p ≠ 0)) (hv2 : v = 0 ∨ v = 1), Go g x 4 rmX7_breached ((1 + Int.toNat p) + 1) ((5 + 6 * Int.toNat p) + 6) 43 [(3, .ref pc1), (1, vi m), (2, .ref it), (0, .ref rd)] [vi v, vi m] [cO rd 7 [.ref ow, vi fr, vi (if u < 0 then 0 else 1), .ref o], wO ow fw rw o, cZ g (rw 2) 192 B, xO o fx rx n, cI g (rx 0) 34 fA, cI g (rx 1) 64 meanT, cR g 4 (rx 9) 4 So, cL g 249 51 lmZ0 l0 o, cL g 258 55 lmZ1 l1 o, cO it 8 [vi (fr + 6 * (p + 1)), vi (if sbI B fr u (p + 1) < 0 then 0 else 1), vi (levI B fr u (6 * (p + 1))), vi (runI (shB B fr) (6 * (p + 1))), .ref rd], cO pc1 6 [vi (wordP B fr p), vi (if sbI B fr u p < 0 then 0 else 1), vi (if sbI B fr u (p + 1) < 0 then 0 else 1), vi (mqI B fr p 6), vi (hiI B fr u p 6), vi (loI B fr u p 6)]] := by
          intro v hv hv2
          refine gi_iadd C dX7_breached_43 ?_
          refine gi_istore_n (lv' := [(1, vi (m + v)), (3, .ref pc1), (2, .ref it), (0, .ref rd)]) C dX7_breached_44 (by decide) rfl ?_
          refine gi_goto (tgt := 7) C dX7_breached_45 (by decide) ?_
          refine gi_wide (k' := (1 + Int.toNat (p + 1))) (n' := (5 + 6 * Int.toNat (p + 1))) (by first | omega | (dsimp only; omega)) (by first | omega | (dsimp only; omega)) ?_
          exact gi_to [0, 2, 3] [0, 1, 2, 3, 4, 5, 6, 7, 8, 9] rfl rfl rfl (ih7 (p + 1) (m + v) (by omega) (by rw [sumI_s _ hp.1, hm, hv]) (by omega) (by omega))
        refine gi_if_eq (tgt := 42) C dX7_breached_35 (by decide) (by omega) (fun h35 => ?_) (fun h35 => ?_)
        · skip
          refine gi_iconst C dX7_breached_42 ?_
          exact gi_to [0, 1, 2, 3] [0, 1, 2, 3, 4, 5, 6, 7, 8, 9, 10] rfl rfl rfl (L43 0 (by first | exact (bI_t h35).symm | exact (bI_f (fun z => z h35)).symm) (by omega))
        · skip
          refine gi_iconst C dX7_breached_38 ?_
          refine gi_goto (tgt := 43) C dX7_breached_39 (by decide) ?_
          exact gi_to [0, 1, 2, 3] [0, 1, 2, 3, 4, 5, 6, 7, 8, 9, 10] rfl rfl rfl (L43 1 (by first | exact (bI_t h35).symm | exact (bI_f (fun z => z h35)).symm) (by omega))
  refine gi_wide (k' := (1 + Int.toNat 0)) (n' := (5 + 6 * Int.toNat 0)) (by first | omega | (dsimp only; omega)) (by first | omega | (dsimp only; omega)) ?_
  exact gi_to [1, 0, 2] [0, 1, 2, 3, 4, 5, 6, 7, 8, 9] rfl rfl rfl (L7 _ 0 0 (by omega) (rfl) (by omega) (Nat.lt_succ_self _))
