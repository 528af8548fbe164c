theorem hdX0_longestBy : yX0_longestBy.cls ≠ "java/lang/invoke/MethodHandle" ∧ yX0_longestBy.cls ≠ "java/lang/invoke/VarHandle" ∧ (parseMethodDescriptor yX0_longestBy.desc).map (fun d => d.parameters.length) = some 1 := by decide +kernel
abbrev rmX0_longestBy : Room := { frames := 4, cells := 0, slots := 0, locals := 109 }
set_option maxHeartbeats 4000000 in
set_option maxRecDepth 100000 in
/-- EvenWords.longestBy(I)I -/
theorem mX0_longestBy {g : GG} (hg : OKG g) (o : Nat) (fx : Nat → Int) (rx : Nat → Nat) (n : Nat) (fn : Nat → Int) (rn : Nat → Nat) (S : Int → Int) (Se : Int → Int) (Bi : Int → Int) (Tu : Int → Int) (Ma : Int → Int) (ft : Nat → Int) (rt : Nat → Nat) (Set : Int → Int) (Bit : Int → Int) (Tut : Int → Int) (Mat : Int → Int) (O : Int → Int) (N : Int) (hW : WR S fn Se Bi Tu Ma) (hN : (1 ≤ N ∧ N ≤ 6) ∧ N ≤ S 0) (hO : ∀ i : Int, 0 ≤ i → i < N → 0 ≤ O i ∧ O i < N) (hz : ∀ b : Int, 0 ≤ b → b < 192 → (Bit b = 0 ∨ Bit b = 1) ∧ (Tut b = 0 ∨ Tut b = 1)) : Con g yX0_longestBy cX0_longestBy 5 (some .int) rmX0_longestBy [.ref o, vi N] [xO o fx rx n, cI g (rx 0) 34 fA, wO n fn rn o, cI g (rn 1) 32 Se, wO (rx 3) ft rt o, cI g (rt 1) 32 Set, cZ g (rt 2) 192 Bit, cZ g (rt 3) 192 Tut, cI g (rt 5) 3 Mat, cI g (rx 12) 6 O] (pI fun r_ w => ∃ (ft1 : Nat → Int), ∃ (Se1 : Int → Int), ∃ (Bi1 : Int → Int), ∃ (Tu1 : Int → Int), ∃ (Ma1 : Int → Int), r_ = (mostI (bq (qO S N O)) (6 * S 0)) ∧ w = [xO o fx rx n, cI g (rx 0) 34 fA, wO n fn rn o, cI g (rn 1) 32 Se, wO (rx 3) ft1 rt o, cI g (rt 1) 32 Se1, cZ g (rt 2) 192 Bi1, cZ g (rt 3) 192 Tu1, cI g (rt 5) 3 Ma1, cI g (rx 12) 6 O] ∧ (∀ b : Int, 0 ≤ b → b < 192 → (Bi1 b = 0 ∨ Bi1 b = 1) ∧ (Tu1 b = 0 ∨ Tu1 b = 1))) := by
  refine con_of_go hg (by decide +kernel) (Nat.le_of_ble_eq_true rfl) ?_
  intro x C
  have hn0 := hW.n
  have hlt : 0 ≤ N ∧ N ≤ 6 := by omega
  refine gi_lv (lv' := [(0, .ref o), (1, vi N)]) [0, 1] rfl ?_
  refine gi_aload_n C dX0_longestBy_0 0 rfl ?_
  refine gi_get (v := .ref (rx 3)) C in_X0 dX0_longestBy_1 3 q170 0 rfl rfl (by decide) (fun _ h => h) rfl ?_
  refine gi_iconst C dX0_longestBy_4 ?_
  refine gi_putN (w' := [xO o fx rx n, cI g (rx 0) 34 fA, wO n fn rn o, cI g (rn 1) 32 Se, wO (rx 3) (fu ft 0 0) rt o, cI g (rt 1) 32 Set, cZ g (rt 2) 192 Bit, cZ g (rt 3) 192 Tut, cI g (rt 5) 3 Mat, cI g (rx 12) 6 O]) C in_X1 tyX1 tyX1_ok nmX1 dX0_longestBy_5 0 q119 4 rfl rfl (by decide) (fun _ h => h) rfl rfl ⟨rfl, rfl⟩ (Nat.le_of_ble_eq_true rfl) rfl ?_
  refine gi_aload_n C dX0_longestBy_8 0 rfl ?_
  refine gi_get (v := .ref (rx 3)) C in_X0 dX0_longestBy_9 3 q170 0 rfl rfl (by decide) (fun _ h => h) rfl ?_
  refine gi_iconst C dX0_longestBy_12 ?_
  refine gi_putN (w' := [xO o fx rx n, cI g (rx 0) 34 fA, wO n fn rn o, cI g (rn 1) 32 Se, wO (rx 3) (fu (fu ft 0 0) 4 0) rt o, cI g (rt 1) 32 Set, cZ g (rt 2) 192 Bit, cZ g (rt 3) 192 Tut, cI g (rt 5) 3 Mat, cI g (rx 12) 6 O]) C in_X1 tyX1 tyX1_ok nmX1 dX0_longestBy_13 4 q128 4 rfl rfl (by decide) (fun _ h => h) rfl rfl (fz (by omega)) (Nat.le_of_ble_eq_true rfl) rfl ?_
  refine gi_aload_n C dX0_longestBy_16 0 rfl ?_
  refine gi_get (v := .ref (rx 3)) C in_X0 dX0_longestBy_17 3 q170 0 rfl rfl (by decide) (fun _ h => h) rfl ?_
  refine gi_iconst C dX0_longestBy_20 ?_
  refine gi_putN (w' := [xO o fx rx n, cI g (rx 0) 34 fA, wO n fn rn o, cI g (rn 1) 32 Se, wO (rx 3) (fu (fu (fu ft 0 0) 4 0) 6 0) rt o, cI g (rt 1) 32 Set, cZ g (rt 2) 192 Bit, cZ g (rt 3) 192 Tut, cI g (rt 5) 3 Mat, cI g (rx 12) 6 O]) C in_X1 tyX1 tyX1_ok nmX1 dX0_longestBy_21 6 q132 4 rfl rfl (by decide) (fun _ h => h) rfl rfl ⟨rfl, rfl⟩ (Nat.le_of_ble_eq_true rfl) rfl ?_
  refine gi_aload_n C dX0_longestBy_24 0 rfl ?_
  refine gi_get (v := .ref n) C in_X0 dX0_longestBy_25 2 q168 0 rfl rfl (by decide) (fun _ h => h) rfl ?_
  refine gi_getN (v := vi (fn 0)) C in_X1 dX0_longestBy_28 0 q119 2 rfl rfl (by decide) (fun _ h => h) rfl ?_
  refine gi_iload_n C dX0_longestBy_31 1 rfl ?_
  refine gi_isub C dX0_longestBy_32 ?_
  refine gi_istore_n (lv' := [(2, vi ((fn 0) - N)), (0, .ref o), (1, vi N)]) C dX0_longestBy_33 (by decide) rfl ?_
  refine gi_iconst C dX0_longestBy_34 ?_
  refine gi_istore_n (lv' := [(3, vi 0), (2, vi ((fn 0) - N)), (0, .ref o), (1, vi N)]) C dX0_longestBy_35 (by decide) rfl ?_
  have L36 : ∀ (q_ : Nat) (w : Int) (ft1 : Nat → Int) (Se1 : Int → Int) (Bi1 : Int → Int) (Tu1 : Int → Int) (Ma1 : Int → Int) (hw : 0 ≤ w ∧ w ≤ S 0) (hWt : WR (salI bareS (qO S N O) w) ft1 Se1 Bi1 Tu1 Ma1) (hq_ : (S 0 - w).toNat < q_), Go g x 5 rmX0_longestBy 0 0 36 [(3, vi w), (2, vi ((fn 0) - N)), (0, .ref o), (1, vi N)] [] [xO o fx rx n, cI g (rx 0) 34 fA, wO n fn rn o, cI g (rn 1) 32 Se, wO (rx 3) ft1 rt o, cI g (rt 1) 32 Se1, cZ g (rt 2) 192 Bi1, cZ g (rt 3) 192 Tu1, cI g (rt 5) 3 Ma1, cI g (rx 12) 6 O] := by
    intro q_
    induction q_ with
    | zero => intro w ft1 Se1 Bi1 Tu1 Ma1 hw hWt hq_; exact absurd hq_ (Nat.not_lt_zero _)
    | succ q_ ih36 =>
      intro w ft1 Se1 Bi1 Tu1 Ma1 hw hWt hq_
      have hsB := salB (q := (qO S N O)) (m := w) (by omega)
      refine gi_iload_n C dX0_longestBy_36 0 rfl ?_
      refine gi_aload_n C dX0_longestBy_37 2 rfl ?_
      refine gi_get (v := .ref n) C in_X0 dX0_longestBy_38 2 q168 0 rfl rfl (by decide) (fun _ h => h) rfl ?_
      refine gi_getN (v := vi (fn 0)) C in_X1 dX0_longestBy_41 0 q119 2 rfl rfl (by decide) (fun _ h => h) rfl ?_
      refine gi_icmp_ge (tgt := 89) C dX0_longestBy_44 (by decide) (by omega) (by omega) (fun h44 => ?_) (fun h44 => ?_)
      · skip
        obtain rfl : w = S 0 := by omega
        have hwn := hWt.n
        refine gi_aload_n C dX0_longestBy_89 2 rfl ?_
        refine gi_get (v := .ref (rx 3)) C in_X0 dX0_longestBy_90 3 q170 0 rfl rfl (by decide) (fun _ h => h) rfl ?_
        refine gi_runV (wr := [xO o fx rx n, cI g (rx 0) 34 fA, wO n fn rn o, cI g (rn 1) 32 Se, cI g (rt 1) 32 Se1, cZ g (rt 3) 192 Tu1, cI g (rt 5) 3 Ma1, cI g (rx 12) 6 O]) (rest := []) C (mX1_longest C.ok (rx 3) ft1 rt o Bi1 (show 0 ≤ ft1 0 ∧ ft1 0 ≤ 32 from (by have := hWt.n; omega)) (show ∀ b : Int, 0 ≤ b → b < 192 → (Bi1 b = 0 ∨ Bi1 b = 1) from (fun b h0 h1 => (hWt.z h0 h1).1))) dX0_longestBy_93 q1498 q1499 q1500 q56 q1501 hdX1_longest ⟨Nat.le_of_ble_eq_true rfl, Nat.le_of_ble_eq_true rfl⟩ 4 rfl rfl [4, 6] [0, 1, 2, 3, 5, 7, 8, 9] rfl rfl rfl rfl (by decide) rfl (Nat.le_of_ble_eq_true rfl) ⟨Nat.le_of_ble_eq_true rfl, Nat.le_of_ble_eq_true rfl⟩ (kI fun r_93 w1 hv93 => ?_)
        obtain ⟨hr_93, rfl⟩ := hv93
        refine gi_pick [0, 1, 2, 3, 8, 4, 9, 5, 6, 7] (w' := [xO o fx rx n, cI g (rx 0) 34 fA, wO n fn rn o, cI g (rn 1) 32 Se, wO (rx 3) ft1 rt o, cI g (rt 1) 32 Se1, cZ g (rt 2) 192 Bi1, cZ g (rt 3) 192 Tu1, cI g (rt 5) 3 Ma1, cI g (rx 12) 6 O]) rfl rfl ?_
        refine gi_top (b := (mostI Bi1 (6 * ft1 0))) hr_93 ?_
        refine gi_pick [0, 1, 2, 3, 4, 5, 6, 7, 8, 9] (w' := [xO o fx rx n, cI g (rx 0) 34 fA, wO n fn rn o, cI g (rn 1) 32 Se, wO (rx 3) ft1 rt o, cI g (rt 1) 32 Se1, cZ g (rt 2) 192 Bi1, cZ g (rt 3) 192 Tu1, cI g (rt 5) 3 Ma1, cI g (rx 12) 6 O]) rfl rfl ?_
        exact gi_ireturn C dX0_longestBy_96 (Nat.le_of_ble_eq_true rfl) (Nat.le_of_ble_eq_true rfl) ⟨_, rfl, ft1, Se1, Bi1, Tu1, Ma1, (by rw [hwn.1, hsB.1]; exact mostI_congr fun b h0 h1 => by rw [hWt.b h0 (by rw [hsB.1]; exact h1)]; exact hsB.2.2 b h0 h1), rfl, (fun b h0 h1 => hWt.z h0 h1)⟩
      · skip
        refine gi_aload_n C dX0_longestBy_47 2 rfl ?_
        refine gi_get (v := .ref (rx 3)) C in_X0 dX0_longestBy_48 3 q170 0 rfl rfl (by decide) (fun _ h => h) rfl ?_
        refine gi_aload_n C dX0_longestBy_51 2 rfl ?_
        refine gi_get (v := .ref n) C in_X0 dX0_longestBy_52 2 q168 0 rfl rfl (by decide) (fun _ h => h) rfl ?_
        refine gi_getN (v := .ref (rn 1)) C in_X1 dX0_longestBy_55 1 q121 2 rfl rfl (by decide) (fun _ h => h) rfl ?_
        have L77 : ∀ (j : Int) (hj : (0 ≤ j ∧ j < S 0) ∧ S (4 + j) = qO S N O w), Go g x 5 rmX0_longestBy 0 0 77 [(3, vi w), (2, vi ((fn 0) - N)), (0, .ref o), (1, vi N)] [vi j, .ref (rn 1), .ref (rx 3)] [xO o fx rx n, cI g (rx 0) 34 fA, wO n fn rn o, cI g (rn 1) 32 Se, wO (rx 3) ft1 rt o, cI g (rt 1) 32 Se1, cZ g (rt 2) 192 Bi1, cZ g (rt 3) 192 Tu1, cI g (rt 5) 3 Ma1, cI g (rx 12) 6 O] := by
          intro j hj
          have hjw := hW.w hj.1.1 hj.1.2
          have hqw : 0 ≤ qO S N O w ∧ qO S N O w < 34 := by rw [← hj.2]; exact hjw.2
          refine gi_iald C dX0_longestBy_77 3 rfl (by decide) (by omega) ?_
          refine gi_top (b := (qO S N O w)) (by rw [← hj.2]; exact hjw.1) ?_
          refine gi_runV (wr := [wO n fn rn o, cI g (rn 1) 32 Se, cI g (rx 12) 6 O]) (rest := []) C (mX1_sends C.ok (rx 3) ft1 rt o fx rx n (salI bareS (qO S N O) w) Se1 Bi1 Tu1 Ma1 (qO S N O w) (show WR (salI bareS (qO S N O) w) ft1 Se1 Bi1 Tu1 Ma1 from (hWt)) (show 0 ≤ (qO S N O w) ∧ (qO S N O w) < 34 from (by omega)) (show (salI bareS (qO S N O) w) 0 < 32 from (by rw [hsB.1]; omega))) dX0_longestBy_78 q391 q392 q393 q56 q394 hdX1_sends ⟨Nat.le_of_ble_eq_true rfl, Nat.le_of_ble_eq_true rfl⟩ 4 rfl rfl [4, 5, 6, 7, 8, 0, 1] [2, 3, 9] rfl rfl rfl rfl (by decide) rfl (Nat.le_of_ble_eq_true rfl) ⟨Nat.le_of_ble_eq_true rfl, Nat.le_of_ble_eq_true rfl⟩ (kI fun r_78 w1 hv78 => ?_)
          obtain ⟨f1_78, Se1_78, Bi1_78, Tu1_78, Ma1_78, hr_78, rfl, hW1_78⟩ := hv78
          replace hW1_78 : WR (sendS (salI bareS (qO S N O) w) (qO S N O w)) f1_78 Se1_78 Bi1_78 Tu1_78 Ma1_78 := hW1_78
          refine gi_pick [8, 9, 0, 1, 3, 4, 5, 6, 7, 2] (w' := [xO o fx rx n, cI g (rx 0) 34 fA, wO n fn rn o, cI g (rn 1) 32 Se, wO (rx 3) f1_78 rt o, cI g (rt 1) 32 Se1_78, cZ g (rt 2) 192 Bi1_78, cZ g (rt 3) 192 Tu1_78, cI g (rt 5) 3 Ma1_78, cI g (rx 12) 6 O]) rfl rfl ?_
          refine gi_top (b := (fm (qO S N O w) (dueB (salI bareS (qO S N O) w)))) hr_78 ?_
          refine gi_istore (lv' := [(4, vi (fm (qO S N O w) (dueB (salI bareS (qO S N O) w)))), (3, vi w), (2, vi ((fn 0) - N)), (0, .ref o), (1, vi N)]) C dX0_longestBy_81 (by decide) rfl ?_
          refine gi_iinc (lv' := [(3, vi (w + 1)), (4, vi (fm (qO S N O w) (dueB (salI bareS (qO S N O) w)))), (2, vi ((fn 0) - N)), (0, .ref o), (1, vi N)]) C dX0_longestBy_83 1 rfl (by decide) rfl ?_
          refine gi_goto (tgt := 36) C dX0_longestBy_86 (by decide) ?_
          exact gi_to [0, 2, 3, 4] [0, 1, 2, 3, 4, 5, 6, 7, 8, 9] rfl rfl rfl (ih36 (w + 1) f1_78 Se1_78 Bi1_78 Tu1_78 Ma1_78 (by omega) (by rw [salI_s _ _ hw.1]; exact hW1_78) (by omega))
        refine gi_iload_n C dX0_longestBy_58 0 rfl ?_
        refine gi_iload_n C dX0_longestBy_59 1 rfl ?_
        refine gi_icmp_ge (tgt := 67) C dX0_longestBy_60 (by decide) (by omega) (by omega) (fun h60 => ?_) (fun h60 => ?_)
        · skip
          refine gi_iload_n C dX0_longestBy_67 1 rfl ?_
          refine gi_aload_n C dX0_longestBy_68 2 rfl ?_
          refine gi_get (v := .ref (rx 12)) C in_X0 dX0_longestBy_69 12 q181 0 rfl rfl (by decide) (fun _ h => h) rfl ?_
          refine gi_iload_n C dX0_longestBy_72 0 rfl ?_
          refine gi_iload_n C dX0_longestBy_73 1 rfl ?_
          refine gi_isub C dX0_longestBy_74 ?_
          have hoo := hO (w - (fn 0 - N)) (by omega) (by omega)
          refine gi_iald C dX0_longestBy_75 9 rfl (by decide) (by omega) ?_
          refine gi_iadd C dX0_longestBy_76 ?_
          exact gi_to [0, 1, 2, 3] [0, 1, 2, 3, 4, 5, 6, 7, 8, 9] rfl rfl rfl (L77 (((fn 0) - N) + (O (w - ((fn 0) - N)))) (⟨by have := hO (w - (S 0 - N)) (by omega) (by omega); rw [← hn0.1] at this; omega, by unfold qO; rw [if_neg (by omega), hn0.1]⟩))
        · skip
          refine gi_iload_n C dX0_longestBy_63 0 rfl ?_
          refine gi_goto (tgt := 77) C dX0_longestBy_64 (by decide) ?_
          exact gi_to [0, 1, 2, 3] [0, 1, 2, 3, 4, 5, 6, 7, 8, 9] rfl rfl rfl (L77 w (⟨by omega, by unfold qO; rw [if_pos (by omega)]⟩))
  exact gi_to [0, 1, 2, 3] [0, 1, 2, 3, 4, 5, 6, 7, 8, 9] rfl rfl rfl (L36 _ 0 (fu (fu (fu ft 0 0) 4 0) 6 0) Set Bit Tut Mat (by omega) (WR_bare rfl rfl rfl hz) (Nat.lt_succ_self _))
theorem hdX0_tries : yX0_tries.cls ≠ "java/lang/invoke/MethodHandle" ∧ yX0_tries.cls ≠ "java/lang/invoke/VarHandle" ∧ (parseMethodDescriptor yX0_tries.desc).map (fun d => d.parameters.length) = some 3 := by decide +kernel
abbrev rmX0_tries0 : Room := { frames := 5, cells := 0, slots := 0, locals := 133 }
set_option maxHeartbeats 4000000 in
set_option maxRecDepth 100000 in
/-- EvenWords.tries(III)V -/
theorem mX0_tries0 {g : GG} (hg : OKG g) (o : Nat) (fx : Nat → Int) (rx : Nat → Nat) (n : Nat) (fn : Nat → Int) (rn : Nat → Nat) (S : Int → Int) (Se : Int → Int) (Bi : Int → Int) (Tu : Int → Int) (Ma : Int → Int) (ft : Nat → Int) (rt : Nat → Nat) (Set : Int → Int) (Bit : Int → Int) (Tut : Int → Int) (Mat : Int → Int) (O : Int → Int) (Be : Int → Int) (N : Int) (P : Int) (U : Int) (hW : WR S fn Se Bi Tu Ma) (hN : (1 ≤ N ∧ N ≤ 6) ∧ N ≤ S 0) (hP : 0 ≤ P ∧ P + 0 = N) (hPF : PF N O P) (hU : UM N O P U) (hL : LB S N (fx 14) Be ((cdI N O (Int.toNat P)) * N ^ 0)) (hz : ∀ b : Int, 0 ≤ b → b < 192 → (Bit b = 0 ∨ Bit b = 1) ∧ (Tut b = 0 ∨ Tut b = 1)) : Con g yX0_tries cX0_tries 5 none rmX0_tries0 [.ref o, vi N, vi P, vi U] [xO o fx rx n, cI g (rx 0) 34 fA, wO n fn rn o, cI g (rn 1) 32 Se, wO (rx 3) ft rt o, cI g (rt 1) 32 Set, cZ g (rt 2) 192 Bit, cZ g (rt 3) 192 Tut, cI g (rt 5) 3 Mat, cI g (rx 12) 6 O, cI g (rx 13) 6 Be] (pV fun w => ∃ (L : Int), ∃ (ft1 : Nat → Int), ∃ (Se1 : Int → Int), ∃ (Bi1 : Int → Int), ∃ (Tu1 : Int → Int), ∃ (Ma1 : Int → Int), ∃ (O1 : Int → Int), ∃ (Be1 : Int → Int), w = [xO o (fu fx 14 L) rx n, cI g (rx 0) 34 fA, wO n fn rn o, cI g (rn 1) 32 Se, wO (rx 3) ft1 rt o, cI g (rt 1) 32 Se1, cZ g (rt 2) 192 Bi1, cZ g (rt 3) 192 Tu1, cI g (rt 5) 3 Ma1, cI g (rx 12) 6 O1, cI g (rx 13) 6 Be1] ∧ (LB S N L Be1 (((cdI N O (Int.toNat P)) + 1) * N ^ 0)) ∧ (∀ i : Int, 0 ≤ i → i < P → O1 i = O i) ∧ (∀ b : Int, 0 ≤ b → b < 192 → (Bi1 b = 0 ∨ Bi1 b = 1) ∧ (Tu1 b = 0 ∨ Tu1 b = 1))) := by
  refine con_of_go hg (by decide +kernel) (Nat.le_of_ble_eq_true rfl) ?_
  intro x C
  have hn0 := hW.n
  have hPN : P = N := by omega
  have hPFN : PF N O N := by have q := hPF; rw [hPN] at q; exact q
  have hw := whole hN.1 hPFN
  have ec : cdI N O (Int.toNat P) = cdI N O N.toNat := by rw [hPN]
  have hb := LB_b hW.ws hL
  have hL0 := hL
  rw [ec, Int.pow_zero, Int.mul_one] at hL0
  have hh := LB_hit hW.ws hw.2.1 hw.1 hL0
  have hl := lenO_b hW.ws N (cdI N O N.toNat)
  have hO : ∀ i : Int, 0 ≤ i → i < N → 0 ≤ O i ∧ O i < N := fun i h0 h1 => (hPFN i h0 h1).1
  refine gi_lv (lv' := [(0, .ref o), (1, vi N), (2, vi P), (3, vi U)]) [0, 1, 2, 3] rfl ?_
  refine gi_iload_n C dX0_tries_0 2 rfl ?_
  refine gi_iload_n C dX0_tries_1 1 rfl ?_
  refine gi_icmp_ne (tgt := 42) C dX0_tries_2 (by decide) (by omega) (by omega) (fun h2 => ?_) (fun h2 => ?_)
  · skip
    exact absurd hPN h2
  · skip
    refine gi_aload_n C dX0_tries_5 0 rfl ?_
    refine gi_iload_n C dX0_tries_6 1 rfl ?_
    refine gi_runV (wr := [cI g (rx 13) 6 Be]) (rest := []) C (mX0_longestBy C.ok o fx rx n fn rn S Se Bi Tu Ma ft rt Set Bit Tut Mat O N (show WR S fn Se Bi Tu Ma from (hW)) (show (1 ≤ N ∧ N ≤ 6) ∧ N ≤ S 0 from (hN)) (show ∀ i : Int, 0 ≤ i → i < N → 0 ≤ O i ∧ O i < N from (hO)) (show ∀ b : Int, 0 ≤ b → b < 192 → (Bit b = 0 ∨ Bit b = 1) ∧ (Tut b = 0 ∨ Tut b = 1) from (hz))) dX0_tries_7 q1494 q1496 qs26 q53 q1497 hdX0_longestBy ⟨Nat.le_of_ble_eq_true rfl, Nat.le_of_ble_eq_true rfl⟩ 0 rfl rfl [0, 1, 2, 3, 4, 5, 6, 7, 8, 9] [10] rfl rfl rfl rfl (by decide) rfl (Nat.le_of_ble_eq_true rfl) ⟨Nat.le_of_ble_eq_true rfl, Nat.le_of_ble_eq_true rfl⟩ (kI fun r_7 w1 hv7 => ?_)
    obtain ⟨ft1_7, Se1_7, Bi1_7, Tu1_7, Ma1_7, hr_7, rfl, hz1_7⟩ := hv7
    replace hz1_7 : ∀ b : Int, 0 ≤ b → b < 192 → (Bi1_7 b = 0 ∨ Bi1_7 b = 1) ∧ (Tu1_7 b = 0 ∨ Tu1_7 b = 1) := hz1_7
    refine gi_pick [1, 2, 3, 4, 5, 6, 7, 8, 9, 10, 0] (w' := [xO o fx rx n, cI g (rx 0) 34 fA, wO n fn rn o, cI g (rn 1) 32 Se, wO (rx 3) ft1_7 rt o, cI g (rt 1) 32 Se1_7, cZ g (rt 2) 192 Bi1_7, cZ g (rt 3) 192 Tu1_7, cI g (rt 5) 3 Ma1_7, cI g (rx 12) 6 O, cI g (rx 13) 6 Be]) rfl rfl ?_
    refine gi_top (b := (mostI (bq (qO S N O)) (6 * S 0))) hr_7 ?_
    refine gi_top (b := (lenO S N (cdI N O N.toNat))) (by exact qO_len hW.ws ⟨hN.1.1, hN.2⟩ hw.2.2) ?_
    refine gi_istore (lv' := [(4, vi (lenO S N (cdI N O N.toNat))), (0, .ref o), (1, vi N), (2, vi P), (3, vi U)]) C dX0_tries_10 (by decide) rfl ?_
    refine gi_iload C dX0_tries_12 0 rfl ?_
    refine gi_aload_n C dX0_tries_14 1 rfl ?_
    refine gi_get (v := vi (fx 14)) C in_X0 dX0_tries_15 14 q183 0 rfl rfl (by decide) (fun _ h => h) rfl ?_
    refine gi_icmp_ge (tgt := 41) C dX0_tries_18 (by decide) (by omega) (by omega) (fun h18 => ?_) (fun h18 => ?_)
    · skip
      have hLE : LB S N (fx 14) Be (((cdI N O (Int.toNat P)) + 1) * N ^ 0) := by rw [ec, Int.pow_zero, Int.mul_one]; exact hh.2 (by omega)
      refine gi_pick [0, 1, 2, 3, 4, 5, 6, 7, 8, 9, 10] (w' := [xO o fx rx n, cI g (rx 0) 34 fA, wO n fn rn o, cI g (rn 1) 32 Se, wO (rx 3) ft1_7 rt o, cI g (rt 1) 32 Se1_7, cZ g (rt 2) 192 Bi1_7, cZ g (rt 3) 192 Tu1_7, cI g (rt 5) 3 Ma1_7, cI g (rx 12) 6 O, cI g (rx 13) 6 Be]) rfl rfl ?_
      exact gi_return C dX0_tries_41 (Nat.le_of_ble_eq_true rfl) (Nat.le_of_ble_eq_true rfl) ⟨rfl, (fx 14), ft1_7, Se1_7, Bi1_7, Tu1_7, Ma1_7, O, Be, rfl, (hLE), (fun _ _ _ => rfl), (hz1_7)⟩
    · skip
      have hLE : LB S N (lenO S N (cdI N O N.toNat)) (cpF O Be 0 0 N) (((cdI N O (Int.toNat P)) + 1) * N ^ 0) := by rw [ec, Int.pow_zero, Int.mul_one]; exact hh.1 (by omega) _ (fun i h0 h1 => by unfold cpF; rw [if_pos (by omega), hw.2.2 i h0 h1]; congr 1; omega)
      refine gi_aload_n C dX0_tries_21 1 rfl ?_
      refine gi_iload C dX0_tries_22 0 rfl ?_
      refine gi_put (w' := [xO o (fu fx 14 (lenO S N (cdI N O N.toNat))) rx n, cI g (rx 0) 34 fA, wO n fn rn o, cI g (rn 1) 32 Se, wO (rx 3) ft1_7 rt o, cI g (rt 1) 32 Se1_7, cZ g (rt 2) 192 Bi1_7, cZ g (rt 3) 192 Tu1_7, cI g (rt 5) 3 Ma1_7, cI g (rx 12) 6 O, cI g (rx 13) 6 Be]) C in_X0 tyX0 tyX0_ok nmX0 dX0_tries_24 14 q183 0 rfl rfl (by decide) (fun _ h => h) rfl rfl ⟨rfl, rfl⟩ (Nat.le_of_ble_eq_true rfl) rfl ?_
      refine gi_aload_n C dX0_tries_27 1 rfl ?_
      refine gi_get (v := .ref (rx 12)) C in_X0 dX0_tries_28 12 q181 0 rfl rfl (by decide) (fun _ h => h) rfl ?_
      refine gi_iconst C dX0_tries_31 ?_
      refine gi_aload_n C dX0_tries_32 1 rfl ?_
      refine gi_get (v := .ref (rx 13)) C in_X0 dX0_tries_33 13 q182 0 rfl rfl (by decide) (fun _ h => h) rfl ?_
      refine gi_iconst C dX0_tries_36 ?_
      refine gi_iload_n C dX0_tries_37 2 rfl ?_
      refine gi_copy (t := 0) (w' := [xO o (fu fx 14 (lenO S N (cdI N O N.toNat))) rx n, cI g (rx 0) 34 fA, wO n fn rn o, cI g (rn 1) 32 Se, wO (rx 3) ft1_7 rt o, cI g (rt 1) 32 Se1_7, cZ g (rt 2) 192 Bi1_7, cZ g (rt 3) 192 Tu1_7, cI g (rt 5) 3 Ma1_7, cI g (rx 12) 6 O, cI g (rx 13) 6 (cpF O Be 0 0 N)]) C dX0_tries_38 q383 q385 q384 q64 9 10 rfl rfl rfl rfl ⟨by decide, by decide⟩ (by omega) (fun _ _ _ => rfl) (Nat.le_of_ble_eq_true rfl) (Nat.le_of_ble_eq_true rfl) rfl ?_
      refine gi_pick [0, 1, 2, 3, 4, 5, 6, 7, 8, 9, 10] (w' := [xO o (fu fx 14 (lenO S N (cdI N O N.toNat))) rx n, cI g (rx 0) 34 fA, wO n fn rn o, cI g (rn 1) 32 Se, wO (rx 3) ft1_7 rt o, cI g (rt 1) 32 Se1_7, cZ g (rt 2) 192 Bi1_7, cZ g (rt 3) 192 Tu1_7, cI g (rt 5) 3 Ma1_7, cI g (rx 12) 6 O, cI g (rx 13) 6 (cpF O Be 0 0 N)]) rfl rfl ?_
      exact gi_return C dX0_tries_41 (Nat.le_of_ble_eq_true rfl) (Nat.le_of_ble_eq_true rfl) ⟨rfl, (lenO S N (cdI N O N.toNat)), ft1_7, Se1_7, Bi1_7, Tu1_7, Ma1_7, O, (cpF O Be 0 0 N), rfl, (hLE), (fun _ _ _ => rfl), (hz1_7)⟩
abbrev rmX0_tries1 : Room := { frames := 6, cells := 0, slots := 0, locals := 157 }
set_option maxHeartbeats 4000000 in
set_option maxRecDepth 100000 in
/-- EvenWords.tries(III)V -/
theorem mX0_tries1 {g : GG} (hg : OKG g) (o : Nat) (fx : Nat → Int) (rx : Nat → Nat) (n : Nat) (fn : Nat → Int) (rn : Nat → Nat) (S : Int → Int) (Se : Int → Int) (Bi : Int → Int) (Tu : Int → Int) (Ma : Int → Int) (ft : Nat → Int) (rt : Nat → Nat) (Set : Int → Int) (Bit : Int → Int) (Tut : Int → Int) (Mat : Int → Int) (O : Int → Int) (Be : Int → Int) (N : Int) (P : Int) (U : Int) (hW : WR S fn Se Bi Tu Ma) (hN : (1 ≤ N ∧ N ≤ 6) ∧ N ≤ S 0) (hP : 0 ≤ P ∧ P + 1 = N) (hPF : PF N O P) (hU : UM N O P U) (hL : LB S N (fx 14) Be ((cdI N O (Int.toNat P)) * N ^ 1)) (hz : ∀ b : Int, 0 ≤ b → b < 192 → (Bit b = 0 ∨ Bit b = 1) ∧ (Tut b = 0 ∨ Tut b = 1)) : Con g yX0_tries cX0_tries 5 none rmX0_tries1 [.ref o, vi N, vi P, vi U] [xO o fx rx n, cI g (rx 0) 34 fA, wO n fn rn o, cI g (rn 1) 32 Se, wO (rx 3) ft rt o, cI g (rt 1) 32 Set, cZ g (rt 2) 192 Bit, cZ g (rt 3) 192 Tut, cI g (rt 5) 3 Mat, cI g (rx 12) 6 O, cI g (rx 13) 6 Be] (pV fun w => ∃ (L : Int), ∃ (ft1 : Nat → Int), ∃ (Se1 : Int → Int), ∃ (Bi1 : Int → Int), ∃ (Tu1 : Int → Int), ∃ (Ma1 : Int → Int), ∃ (O1 : Int → Int), ∃ (Be1 : Int → Int), w = [xO o (fu fx 14 L) rx n, cI g (rx 0) 34 fA, wO n fn rn o, cI g (rn 1) 32 Se, wO (rx 3) ft1 rt o, cI g (rt 1) 32 Se1, cZ g (rt 2) 192 Bi1, cZ g (rt 3) 192 Tu1, cI g (rt 5) 3 Ma1, cI g (rx 12) 6 O1, cI g (rx 13) 6 Be1] ∧ (LB S N L Be1 (((cdI N O (Int.toNat P)) + 1) * N ^ 1)) ∧ (∀ i : Int, 0 ≤ i → i < P → O1 i = O i) ∧ (∀ b : Int, 0 ≤ b → b < 192 → (Bi1 b = 0 ∨ Bi1 b = 1) ∧ (Tu1 b = 0 ∨ Tu1 b = 1))) := by
  refine con_of_go hg (by decide +kernel) (Nat.le_of_ble_eq_true rfl) ?_
  intro x C
  have hn0 := hW.n
  refine gi_lv (lv' := [(0, .ref o), (1, vi N), (2, vi P), (3, vi U)]) [0, 1, 2, 3] rfl ?_
  refine gi_iload_n C dX0_tries_0 2 rfl ?_
  refine gi_iload_n C dX0_tries_1 1 rfl ?_
  refine gi_icmp_ne (tgt := 42) C dX0_tries_2 (by decide) (by omega) (by omega) (fun h2 => ?_) (fun h2 => ?_)
  · skip
    refine gi_iconst C dX0_tries_42 ?_
    refine gi_istore (lv' := [(4, vi 0), (0, .ref o), (1, vi N), (2, vi P), (3, vi U)]) C dX0_tries_43 (by decide) rfl ?_
    have L45 : ∀ (q_ : Nat) (k : Int) (L : Int) (ft1 : Nat → Int) (Se1 : Int → Int) (Bi1 : Int → Int) (Tu1 : Int → Int) (Ma1 : Int → Int) (O1 : Int → Int) (Be1 : Int → Int) (hk : 0 ≤ k ∧ k ≤ N) (hL2 : LB S N L Be1 (((cdI N O (Int.toNat P)) * N + k) * N ^ 0)) (hO2 : ∀ i : Int, 0 ≤ i → i < P → O1 i = O i) (hz2 : ∀ b : Int, 0 ≤ b → b < 192 → (Bi1 b = 0 ∨ Bi1 b = 1) ∧ (Tu1 b = 0 ∨ Tu1 b = 1)) (hq_ : (N - k).toNat < q_), Go g x 5 rmX0_tries1 0 0 45 [(4, vi k), (0, .ref o), (1, vi N), (2, vi P), (3, vi U)] [] [xO o (fu fx 14 L) rx n, cI g (rx 0) 34 fA, wO n fn rn o, cI g (rn 1) 32 Se, wO (rx 3) ft1 rt o, cI g (rt 1) 32 Se1, cZ g (rt 2) 192 Bi1, cZ g (rt 3) 192 Tu1, cI g (rt 5) 3 Ma1, cI g (rx 12) 6 O1, cI g (rx 13) 6 Be1] := by
      intro q_
      induction q_ with
      | zero => intro k L ft1 Se1 Bi1 Tu1 Ma1 O1 Be1 hk hL2 hO2 hz2 hq_; exact absurd hq_ (Nat.not_lt_zero _)
      | succ q_ ih45 =>
        intro k L ft1 Se1 Bi1 Tu1 Ma1 O1 Be1 hk hL2 hO2 hz2 hq_
        refine gi_iload C dX0_tries_45 0 rfl ?_
        refine gi_iload_n C dX0_tries_47 2 rfl ?_
        refine gi_icmp_ge (tgt := 88) C dX0_tries_48 (by decide) (by omega) (by omega) (fun h48 => ?_) (fun h48 => ?_)
        · skip
          have hkN : k = N := by omega
          have hLE : LB S N L Be1 (((cdI N O (Int.toNat P)) + 1) * N ^ 1) := by rw [hkN, fin_c] at hL2; exact hL2
          refine gi_pick [0, 1, 2, 3, 4, 5, 6, 7, 8, 9, 10] (w' := [xO o (fu fx 14 L) rx n, cI g (rx 0) 34 fA, wO n fn rn o, cI g (rn 1) 32 Se, wO (rx 3) ft1 rt o, cI g (rt 1) 32 Se1, cZ g (rt 2) 192 Bi1, cZ g (rt 3) 192 Tu1, cI g (rt 5) 3 Ma1, cI g (rx 12) 6 O1, cI g (rx 13) 6 Be1]) rfl rfl ?_
          exact gi_return C dX0_tries_88 (Nat.le_of_ble_eq_true rfl) (Nat.le_of_ble_eq_true rfl) ⟨rfl, L, ft1, Se1, Bi1, Tu1, Ma1, O1, Be1, rfl, (hLE), (hO2), (hz2)⟩
        · skip
          refine gi_iload_n C dX0_tries_51 4 rfl ?_
          refine gi_iload C dX0_tries_52 0 rfl ?_
          have hdv := div_rg (v := U) (by have := hU.1; omega) k.toNat
          refine gi_ishr C dX0_tries_54 (by have := hU.1; omega) (by omega) ?_
          refine gi_iconst C dX0_tries_55 ?_
          refine gi_mask (v := (U / 2 ^ (k).toNat) % 2) C dX0_tries_56 (by omega) 1 (by decide) (by decide) (by rfl) ?_
          have hU6 := hU.1
          have hPF1 := PF_congr hPF hO2
          have hU1 := UM_congr hU hO2
          have hec := cdI_s (n := N) (k := k) hP.1 hO2
          refine gi_if_ne (tgt := 82) C dX0_tries_57 (by decide) (by omega) (fun h57 => ?_) (fun h57 => ?_)
          · skip
            have hL3 : LB S N L Be1 (((cdI N O (Int.toNat P)) * N + (k + 1)) * N ^ 0) := LB_used 0 hN.1 ⟨hP.1, by omega⟩ hPF hU ⟨hk.1, by omega⟩ h57 hL2
            have hO3 := hO2
            have hz3 := hz2
            refine gi_iinc (lv' := [(4, vi (k + 1)), (0, .ref o), (1, vi N), (2, vi P), (3, vi U)]) C dX0_tries_82 0 rfl (by decide) rfl ?_
            refine gi_goto (tgt := 45) C dX0_tries_85 (by decide) ?_
            exact gi_to [0, 1, 2, 3, 4] [0, 1, 2, 3, 4, 5, 6, 7, 8, 9, 10] rfl rfl rfl (ih45 (k + 1) L ft1 Se1 Bi1 Tu1 Ma1 O1 Be1 (by omega) (hL3) (hO3) (hz3) (by omega))
          · skip
            refine gi_aload_n C dX0_tries_60 1 rfl ?_
            refine gi_get (v := .ref (rx 12)) C in_X0 dX0_tries_61 12 q181 0 rfl rfl (by decide) (fun _ h => h) rfl ?_
            refine gi_iload_n C dX0_tries_64 3 rfl ?_
            refine gi_iload C dX0_tries_65 0 rfl ?_
            refine gi_iast (w' := [xO o (fu fx 14 L) rx n, cI g (rx 0) 34 fA, wO n fn rn o, cI g (rn 1) 32 Se, wO (rx 3) ft1 rt o, cI g (rt 1) 32 Se1, cZ g (rt 2) 192 Bi1, cZ g (rt 3) 192 Tu1, cI g (rt 5) 3 Ma1, cI g (rx 12) 6 (uF O1 P k), cI g (rx 13) 6 Be1]) C dX0_tries_67 9 rfl (by decide) (by omega) rfl ?_
            refine gi_aload_n C dX0_tries_68 1 rfl ?_
            refine gi_iload_n C dX0_tries_69 2 rfl ?_
            refine gi_iload_n C dX0_tries_70 3 rfl ?_
            refine gi_iconst C dX0_tries_71 ?_
            refine gi_iadd C dX0_tries_72 ?_
            refine gi_iload_n C dX0_tries_73 4 rfl ?_
            refine gi_iconst C dX0_tries_74 ?_
            refine gi_iload C dX0_tries_75 0 rfl ?_
            refine gi_shl1 C dX0_tries_77 (by omega) ?_
            refine gi_ior C dX0_tries_78 (hU.1.1) (pow2_nn _) ?_
            refine gi_runV (wr := []) (rest := []) C (mX0_tries0 C.ok o (fu fx 14 L) rx n fn rn S Se Bi Tu Ma ft1 rt Se1 Bi1 Tu1 Ma1 (uF O1 P k) Be1 N (P + 1) (ior U (2 ^ (k).toNat)) (show WR S fn Se Bi Tu Ma from (hW)) (show (1 ≤ N ∧ N ≤ 6) ∧ N ≤ S 0 from (hN)) (show 0 ≤ (P + 1) ∧ (P + 1) + 0 = N from (⟨by omega, by omega⟩)) (show PF N (uF O1 P k) (P + 1) from (PF_s hPF1 hU1 hP.1 ⟨hk.1, by omega⟩ (by omega))) (show UM N (uF O1 P k) (P + 1) (ior U (2 ^ (k).toNat)) from (UM_s hU1 hN.1.2 hP.1 ⟨hk.1, by omega⟩)) (show LB S N (L) Be1 ((cdI N (uF O1 P k) (Int.toNat (P + 1))) * N ^ 0) from (by rw [hec]; exact hL2)) (show ∀ b : Int, 0 ≤ b → b < 192 → (Bi1 b = 0 ∨ Bi1 b = 1) ∧ (Tu1 b = 0 ∨ Tu1 b = 1) from (hz2))) dX0_tries_79 q1490 q1492 qs25 q53 q1493 hdX0_tries ⟨Nat.le_of_ble_eq_true rfl, Nat.le_of_ble_eq_true rfl⟩ 0 rfl rfl [0, 1, 2, 3, 4, 5, 6, 7, 8, 9, 10] [] rfl rfl rfl rfl (by decide) rfl (Nat.le_of_ble_eq_true rfl) ⟨Nat.le_of_ble_eq_true rfl, Nat.le_of_ble_eq_true rfl⟩ (kV fun w1 hv79 => ?_)
            obtain ⟨L_79, ft1_79, Se1_79, Bi1_79, Tu1_79, Ma1_79, O1_79, Be1_79, rfl, hL1_79, hO1_79, hz1_79⟩ := hv79
            replace hL1_79 : LB S N L_79 Be1_79 (((cdI N (uF O1 P k) (Int.toNat (P + 1))) + 1) * N ^ 0) := hL1_79
            replace hO1_79 : ∀ i : Int, 0 ≤ i → i < (P + 1) → O1_79 i = (uF O1 P k) i := hO1_79
            replace hz1_79 : ∀ b : Int, 0 ≤ b → b < 192 → (Bi1_79 b = 0 ∨ Bi1_79 b = 1) ∧ (Tu1_79 b = 0 ∨ Tu1_79 b = 1) := hz1_79
            refine gi_pick [0, 1, 2, 3, 4, 5, 6, 7, 8, 9, 10] (w' := [xO o (fu fx 14 L_79) rx n, cI g (rx 0) 34 fA, wO n fn rn o, cI g (rn 1) 32 Se, wO (rx 3) ft1_79 rt o, cI g (rt 1) 32 Se1_79, cZ g (rt 2) 192 Bi1_79, cZ g (rt 3) 192 Tu1_79, cI g (rt 5) 3 Ma1_79, cI g (rx 12) 6 O1_79, cI g (rx 13) 6 Be1_79]) rfl rfl ?_
            rw [hec] at hL1_79
            have hL3 : LB S N L_79 Be1_79 (((cdI N O (Int.toNat P)) * N + (k + 1)) * N ^ 0) := by rw [Int.add_assoc] at hL1_79; exact hL1_79
            have hO3 : ∀ i : Int, 0 ≤ i → i < P → O1_79 i = O i := fun i h0 h1 => by rw [hO1_79 i h0 (by omega), uF_ne _ _ (by omega)]; exact hO2 i h0 h1
            have hz3 := hz1_79
            refine gi_iinc (lv' := [(4, vi (k + 1)), (0, .ref o), (1, vi N), (2, vi P), (3, vi U)]) C dX0_tries_82 0 rfl (by decide) rfl ?_
            refine gi_goto (tgt := 45) C dX0_tries_85 (by decide) ?_
            exact gi_to [0, 1, 2, 3, 4] [0, 1, 2, 3, 4, 5, 6, 7, 8, 9, 10] rfl rfl rfl (ih45 (k + 1) L_79 ft1_79 Se1_79 Bi1_79 Tu1_79 Ma1_79 O1_79 Be1_79 (by omega) (hL3) (hO3) (hz3) (by omega))
    exact gi_to [0, 1, 2, 3, 4] [0, 1, 2, 3, 4, 5, 6, 7, 8, 9, 10] rfl rfl rfl (L45 _ 0 (fx 14) ft Set Bit Tut Mat O Be (by omega) (by rw [sta_c]; exact hL) (fun _ _ _ => rfl) (hz) (Nat.lt_succ_self _))
  · skip
    exact absurd h2 (by omega)
abbrev rmX0_tries2 : Room := { frames := 7, cells := 0, slots := 0, locals := 181 }
set_option maxHeartbeats 4000000 in
set_option maxRecDepth 100000 in
/-- EvenWords.tries(III)V -/
theorem mX0_tries2 {g : GG} (hg : OKG g) (o : Nat) (fx : Nat → Int) (rx : Nat → Nat) (n : Nat) (fn : Nat → Int) (rn : Nat → Nat) (S : Int → Int) (Se : Int → Int) (Bi : Int → Int) (Tu : Int → Int) (Ma : Int → Int) (ft : Nat → Int) (rt : Nat → Nat) (Set : Int → Int) (Bit : Int → Int) (Tut : Int → Int) (Mat : Int → Int) (O : Int → Int) (Be : Int → Int) (N : Int) (P : Int) (U : Int) (hW : WR S fn Se Bi Tu Ma) (hN : (1 ≤ N ∧ N ≤ 6) ∧ N ≤ S 0) (hP : 0 ≤ P ∧ P + 2 = N) (hPF : PF N O P) (hU : UM N O P U) (hL : LB S N (fx 14) Be ((cdI N O (Int.toNat P)) * N ^ 2)) (hz : ∀ b : Int, 0 ≤ b → b < 192 → (Bit b = 0 ∨ Bit b = 1) ∧ (Tut b = 0 ∨ Tut b = 1)) : Con g yX0_tries cX0_tries 5 none rmX0_tries2 [.ref o, vi N, vi P, vi U] [xO o fx rx n, cI g (rx 0) 34 fA, wO n fn rn o, cI g (rn 1) 32 Se, wO (rx 3) ft rt o, cI g (rt 1) 32 Set, cZ g (rt 2) 192 Bit, cZ g (rt 3) 192 Tut, cI g (rt 5) 3 Mat, cI g (rx 12) 6 O, cI g (rx 13) 6 Be] (pV fun w => ∃ (L : Int), ∃ (ft1 : Nat → Int), ∃ (Se1 : Int → Int), ∃ (Bi1 : Int → Int), ∃ (Tu1 : Int → Int), ∃ (Ma1 : Int → Int), ∃ (O1 : Int → Int), ∃ (Be1 : Int → Int), w = [xO o (fu fx 14 L) rx n, cI g (rx 0) 34 fA, wO n fn rn o, cI g (rn 1) 32 Se, wO (rx 3) ft1 rt o, cI g (rt 1) 32 Se1, cZ g (rt 2) 192 Bi1, cZ g (rt 3) 192 Tu1, cI g (rt 5) 3 Ma1, cI g (rx 12) 6 O1, cI g (rx 13) 6 Be1] ∧ (LB S N L Be1 (((cdI N O (Int.toNat P)) + 1) * N ^ 2)) ∧ (∀ i : Int, 0 ≤ i → i < P → O1 i = O i) ∧ (∀ b : Int, 0 ≤ b → b < 192 → (Bi1 b = 0 ∨ Bi1 b = 1) ∧ (Tu1 b = 0 ∨ Tu1 b = 1))) := by
  refine con_of_go hg (by decide +kernel) (Nat.le_of_ble_eq_true rfl) ?_
  intro x C
  have hn0 := hW.n
  refine gi_lv (lv' := [(0, .ref o), (1, vi N), (2, vi P), (3, vi U)]) [0, 1, 2, 3] rfl ?_
  refine gi_iload_n C dX0_tries_0 2 rfl ?_
  refine gi_iload_n C dX0_tries_1 1 rfl ?_
  refine gi_icmp_ne (tgt := 42) C dX0_tries_2 (by decide) (by omega) (by omega) (fun h2 => ?_) (fun h2 => ?_)
  · skip
    refine gi_iconst C dX0_tries_42 ?_
    refine gi_istore (lv' := [(4, vi 0), (0, .ref o), (1, vi N), (2, vi P), (3, vi U)]) C dX0_tries_43 (by decide) rfl ?_
    have L45 : ∀ (q_ : Nat) (k : Int) (L : Int) (ft1 : Nat → Int) (Se1 : Int → Int) (Bi1 : Int → Int) (Tu1 : Int → Int) (Ma1 : Int → Int) (O1 : Int → Int) (Be1 : Int → Int) (hk : 0 ≤ k ∧ k ≤ N) (hL2 : LB S N L Be1 (((cdI N O (Int.toNat P)) * N + k) * N ^ 1)) (hO2 : ∀ i : Int, 0 ≤ i → i < P → O1 i = O i) (hz2 : ∀ b : Int, 0 ≤ b → b < 192 → (Bi1 b = 0 ∨ Bi1 b = 1) ∧ (Tu1 b = 0 ∨ Tu1 b = 1)) (hq_ : (N - k).toNat < q_), Go g x 5 rmX0_tries2 0 0 45 [(4, vi k), (0, .ref o), (1, vi N), (2, vi P), (3, vi U)] [] [xO o (fu fx 14 L) rx n, cI g (rx 0) 34 fA, wO n fn rn o, cI g (rn 1) 32 Se, wO (rx 3) ft1 rt o, cI g (rt 1) 32 Se1, cZ g (rt 2) 192 Bi1, cZ g (rt 3) 192 Tu1, cI g (rt 5) 3 Ma1, cI g (rx 12) 6 O1, cI g (rx 13) 6 Be1] := by
      intro q_
      induction q_ with
      | zero => intro k L ft1 Se1 Bi1 Tu1 Ma1 O1 Be1 hk hL2 hO2 hz2 hq_; exact absurd hq_ (Nat.not_lt_zero _)
      | succ q_ ih45 =>
        intro k L ft1 Se1 Bi1 Tu1 Ma1 O1 Be1 hk hL2 hO2 hz2 hq_
        refine gi_iload C dX0_tries_45 0 rfl ?_
        refine gi_iload_n C dX0_tries_47 2 rfl ?_
        refine gi_icmp_ge (tgt := 88) C dX0_tries_48 (by decide) (by omega) (by omega) (fun h48 => ?_) (fun h48 => ?_)
        · skip
          have hkN : k = N := by omega
          have hLE : LB S N L Be1 (((cdI N O (Int.toNat P)) + 1) * N ^ 2) := by rw [hkN, fin_c] at hL2; exact hL2
          refine gi_pick [0, 1, 2, 3, 4, 5, 6, 7, 8, 9, 10] (w' := [xO o (fu fx 14 L) rx n, cI g (rx 0) 34 fA, wO n fn rn o, cI g (rn 1) 32 Se, wO (rx 3) ft1 rt o, cI g (rt 1) 32 Se1, cZ g (rt 2) 192 Bi1, cZ g (rt 3) 192 Tu1, cI g (rt 5) 3 Ma1, cI g (rx 12) 6 O1, cI g (rx 13) 6 Be1]) rfl rfl ?_
          exact gi_return C dX0_tries_88 (Nat.le_of_ble_eq_true rfl) (Nat.le_of_ble_eq_true rfl) ⟨rfl, L, ft1, Se1, Bi1, Tu1, Ma1, O1, Be1, rfl, (hLE), (hO2), (hz2)⟩
        · skip
          refine gi_iload_n C dX0_tries_51 4 rfl ?_
          refine gi_iload C dX0_tries_52 0 rfl ?_
          have hdv := div_rg (v := U) (by have := hU.1; omega) k.toNat
          refine gi_ishr C dX0_tries_54 (by have := hU.1; omega) (by omega) ?_
          refine gi_iconst C dX0_tries_55 ?_
          refine gi_mask (v := (U / 2 ^ (k).toNat) % 2) C dX0_tries_56 (by omega) 1 (by decide) (by decide) (by rfl) ?_
          have hU6 := hU.1
          have hPF1 := PF_congr hPF hO2
          have hU1 := UM_congr hU hO2
          have hec := cdI_s (n := N) (k := k) hP.1 hO2
          refine gi_if_ne (tgt := 82) C dX0_tries_57 (by decide) (by omega) (fun h57 => ?_) (fun h57 => ?_)
          · skip
            have hL3 : LB S N L Be1 (((cdI N O (Int.toNat P)) * N + (k + 1)) * N ^ 1) := LB_used 1 hN.1 ⟨hP.1, by omega⟩ hPF hU ⟨hk.1, by omega⟩ h57 hL2
            have hO3 := hO2
            have hz3 := hz2
            refine gi_iinc (lv' := [(4, vi (k + 1)), (0, .ref o), (1, vi N), (2, vi P), (3, vi U)]) C dX0_tries_82 0 rfl (by decide) rfl ?_
            refine gi_goto (tgt := 45) C dX0_tries_85 (by decide) ?_
            exact gi_to [0, 1, 2, 3, 4] [0, 1, 2, 3, 4, 5, 6, 7, 8, 9, 10] rfl rfl rfl (ih45 (k + 1) L ft1 Se1 Bi1 Tu1 Ma1 O1 Be1 (by omega) (hL3) (hO3) (hz3) (by omega))
          · skip
            refine gi_aload_n C dX0_tries_60 1 rfl ?_
            refine gi_get (v := .ref (rx 12)) C in_X0 dX0_tries_61 12 q181 0 rfl rfl (by decide) (fun _ h => h) rfl ?_
            refine gi_iload_n C dX0_tries_64 3 rfl ?_
            refine gi_iload C dX0_tries_65 0 rfl ?_
            refine gi_iast (w' := [xO o (fu fx 14 L) rx n, cI g (rx 0) 34 fA, wO n fn rn o, cI g (rn 1) 32 Se, wO (rx 3) ft1 rt o, cI g (rt 1) 32 Se1, cZ g (rt 2) 192 Bi1, cZ g (rt 3) 192 Tu1, cI g (rt 5) 3 Ma1, cI g (rx 12) 6 (uF O1 P k), cI g (rx 13) 6 Be1]) C dX0_tries_67 9 rfl (by decide) (by omega) rfl ?_
            refine gi_aload_n C dX0_tries_68 1 rfl ?_
            refine gi_iload_n C dX0_tries_69 2 rfl ?_
            refine gi_iload_n C dX0_tries_70 3 rfl ?_
            refine gi_iconst C dX0_tries_71 ?_
            refine gi_iadd C dX0_tries_72 ?_
            refine gi_iload_n C dX0_tries_73 4 rfl ?_
            refine gi_iconst C dX0_tries_74 ?_
            refine gi_iload C dX0_tries_75 0 rfl ?_
            refine gi_shl1 C dX0_tries_77 (by omega) ?_
            refine gi_ior C dX0_tries_78 (hU.1.1) (pow2_nn _) ?_
            refine gi_runV (wr := []) (rest := []) C (mX0_tries1 C.ok o (fu fx 14 L) rx n fn rn S Se Bi Tu Ma ft1 rt Se1 Bi1 Tu1 Ma1 (uF O1 P k) Be1 N (P + 1) (ior U (2 ^ (k).toNat)) (show WR S fn Se Bi Tu Ma from (hW)) (show (1 ≤ N ∧ N ≤ 6) ∧ N ≤ S 0 from (hN)) (show 0 ≤ (P + 1) ∧ (P + 1) + 1 = N from (⟨by omega, by omega⟩)) (show PF N (uF O1 P k) (P + 1) from (PF_s hPF1 hU1 hP.1 ⟨hk.1, by omega⟩ (by omega))) (show UM N (uF O1 P k) (P + 1) (ior U (2 ^ (k).toNat)) from (UM_s hU1 hN.1.2 hP.1 ⟨hk.1, by omega⟩)) (show LB S N (L) Be1 ((cdI N (uF O1 P k) (Int.toNat (P + 1))) * N ^ 1) from (by rw [hec]; exact hL2)) (show ∀ b : Int, 0 ≤ b → b < 192 → (Bi1 b = 0 ∨ Bi1 b = 1) ∧ (Tu1 b = 0 ∨ Tu1 b = 1) from (hz2))) dX0_tries_79 q1490 q1492 qs25 q53 q1493 hdX0_tries ⟨Nat.le_of_ble_eq_true rfl, Nat.le_of_ble_eq_true rfl⟩ 0 rfl rfl [0, 1, 2, 3, 4, 5, 6, 7, 8, 9, 10] [] rfl rfl rfl rfl (by decide) rfl (Nat.le_of_ble_eq_true rfl) ⟨Nat.le_of_ble_eq_true rfl, Nat.le_of_ble_eq_true rfl⟩ (kV fun w1 hv79 => ?_)
            obtain ⟨L_79, ft1_79, Se1_79, Bi1_79, Tu1_79, Ma1_79, O1_79, Be1_79, rfl, hL1_79, hO1_79, hz1_79⟩ := hv79
            replace hL1_79 : LB S N L_79 Be1_79 (((cdI N (uF O1 P k) (Int.toNat (P + 1))) + 1) * N ^ 1) := hL1_79
            replace hO1_79 : ∀ i : Int, 0 ≤ i → i < (P + 1) → O1_79 i = (uF O1 P k) i := hO1_79
            replace hz1_79 : ∀ b : Int, 0 ≤ b → b < 192 → (Bi1_79 b = 0 ∨ Bi1_79 b = 1) ∧ (Tu1_79 b = 0 ∨ Tu1_79 b = 1) := hz1_79
            refine gi_pick [0, 1, 2, 3, 4, 5, 6, 7, 8, 9, 10] (w' := [xO o (fu fx 14 L_79) rx n, cI g (rx 0) 34 fA, wO n fn rn o, cI g (rn 1) 32 Se, wO (rx 3) ft1_79 rt o, cI g (rt 1) 32 Se1_79, cZ g (rt 2) 192 Bi1_79, cZ g (rt 3) 192 Tu1_79, cI g (rt 5) 3 Ma1_79, cI g (rx 12) 6 O1_79, cI g (rx 13) 6 Be1_79]) rfl rfl ?_
            rw [hec] at hL1_79
            have hL3 : LB S N L_79 Be1_79 (((cdI N O (Int.toNat P)) * N + (k + 1)) * N ^ 1) := by rw [Int.add_assoc] at hL1_79; exact hL1_79
            have hO3 : ∀ i : Int, 0 ≤ i → i < P → O1_79 i = O i := fun i h0 h1 => by rw [hO1_79 i h0 (by omega), uF_ne _ _ (by omega)]; exact hO2 i h0 h1
            have hz3 := hz1_79
            refine gi_iinc (lv' := [(4, vi (k + 1)), (0, .ref o), (1, vi N), (2, vi P), (3, vi U)]) C dX0_tries_82 0 rfl (by decide) rfl ?_
            refine gi_goto (tgt := 45) C dX0_tries_85 (by decide) ?_
            exact gi_to [0, 1, 2, 3, 4] [0, 1, 2, 3, 4, 5, 6, 7, 8, 9, 10] rfl rfl rfl (ih45 (k + 1) L_79 ft1_79 Se1_79 Bi1_79 Tu1_79 Ma1_79 O1_79 Be1_79 (by omega) (hL3) (hO3) (hz3) (by omega))
    exact gi_to [0, 1, 2, 3, 4] [0, 1, 2, 3, 4, 5, 6, 7, 8, 9, 10] rfl rfl rfl (L45 _ 0 (fx 14) ft Set Bit Tut Mat O Be (by omega) (by rw [sta_c]; exact hL) (fun _ _ _ => rfl) (hz) (Nat.lt_succ_self _))
  · skip
    exact absurd h2 (by omega)
abbrev rmX0_tries3 : Room := { frames := 8, cells := 0, slots := 0, locals := 205 }
set_option maxHeartbeats 4000000 in
set_option maxRecDepth 100000 in
/-- EvenWords.tries(III)V -/
theorem mX0_tries3 {g : GG} (hg : OKG g) (o : Nat) (fx : Nat → Int) (rx : Nat → Nat) (n : Nat) (fn : Nat → Int) (rn : Nat → Nat) (S : Int → Int) (Se : Int → Int) (Bi : Int → Int) (Tu : Int → Int) (Ma : Int → Int) (ft : Nat → Int) (rt : Nat → Nat) (Set : Int → Int) (Bit : Int → Int) (Tut : Int → Int) (Mat : Int → Int) (O : Int → Int) (Be : Int → Int) (N : Int) (P : Int) (U : Int) (hW : WR S fn Se Bi Tu Ma) (hN : (1 ≤ N ∧ N ≤ 6) ∧ N ≤ S 0) (hP : 0 ≤ P ∧ P + 3 = N) (hPF : PF N O P) (hU : UM N O P U) (hL : LB S N (fx 14) Be ((cdI N O (Int.toNat P)) * N ^ 3)) (hz : ∀ b : Int, 0 ≤ b → b < 192 → (Bit b = 0 ∨ Bit b = 1) ∧ (Tut b = 0 ∨ Tut b = 1)) : Con g yX0_tries cX0_tries 5 none rmX0_tries3 [.ref o, vi N, vi P, vi U] [xO o fx rx n, cI g (rx 0) 34 fA, wO n fn rn o, cI g (rn 1) 32 Se, wO (rx 3) ft rt o, cI g (rt 1) 32 Set, cZ g (rt 2) 192 Bit, cZ g (rt 3) 192 Tut, cI g (rt 5) 3 Mat, cI g (rx 12) 6 O, cI g (rx 13) 6 Be] (pV fun w => ∃ (L : Int), ∃ (ft1 : Nat → Int), ∃ (Se1 : Int → Int), ∃ (Bi1 : Int → Int), ∃ (Tu1 : Int → Int), ∃ (Ma1 : Int → Int), ∃ (O1 : Int → Int), ∃ (Be1 : Int → Int), w = [xO o (fu fx 14 L) rx n, cI g (rx 0) 34 fA, wO n fn rn o, cI g (rn 1) 32 Se, wO (rx 3) ft1 rt o, cI g (rt 1) 32 Se1, cZ g (rt 2) 192 Bi1, cZ g (rt 3) 192 Tu1, cI g (rt 5) 3 Ma1, cI g (rx 12) 6 O1, cI g (rx 13) 6 Be1] ∧ (LB S N L Be1 (((cdI N O (Int.toNat P)) + 1) * N ^ 3)) ∧ (∀ i : Int, 0 ≤ i → i < P → O1 i = O i) ∧ (∀ b : Int, 0 ≤ b → b < 192 → (Bi1 b = 0 ∨ Bi1 b = 1) ∧ (Tu1 b = 0 ∨ Tu1 b = 1))) := by
  refine con_of_go hg (by decide +kernel) (Nat.le_of_ble_eq_true rfl) ?_
  intro x C
  have hn0 := hW.n
  refine gi_lv (lv' := [(0, .ref o), (1, vi N), (2, vi P), (3, vi U)]) [0, 1, 2, 3] rfl ?_
  refine gi_iload_n C dX0_tries_0 2 rfl ?_
  refine gi_iload_n C dX0_tries_1 1 rfl ?_
  refine gi_icmp_ne (tgt := 42) C dX0_tries_2 (by decide) (by omega) (by omega) (fun h2 => ?_) (fun h2 => ?_)
  · skip
    refine gi_iconst C dX0_tries_42 ?_
    refine gi_istore (lv' := [(4, vi 0), (0, .ref o), (1, vi N), (2, vi P), (3, vi U)]) C dX0_tries_43 (by decide) rfl ?_
    have L45 : ∀ (q_ : Nat) (k : Int) (L : Int) (ft1 : Nat → Int) (Se1 : Int → Int) (Bi1 : Int → Int) (Tu1 : Int → Int) (Ma1 : Int → Int) (O1 : Int → Int) (Be1 : Int → Int) (hk : 0 ≤ k ∧ k ≤ N) (hL2 : LB S N L Be1 (((cdI N O (Int.toNat P)) * N + k) * N ^ 2)) (hO2 : ∀ i : Int, 0 ≤ i → i < P → O1 i = O i) (hz2 : ∀ b : Int, 0 ≤ b → b < 192 → (Bi1 b = 0 ∨ Bi1 b = 1) ∧ (Tu1 b = 0 ∨ Tu1 b = 1)) (hq_ : (N - k).toNat < q_), Go g x 5 rmX0_tries3 0 0 45 [(4, vi k), (0, .ref o), (1, vi N), (2, vi P), (3, vi U)] [] [xO o (fu fx 14 L) rx n, cI g (rx 0) 34 fA, wO n fn rn o, cI g (rn 1) 32 Se, wO (rx 3) ft1 rt o, cI g (rt 1) 32 Se1, cZ g (rt 2) 192 Bi1, cZ g (rt 3) 192 Tu1, cI g (rt 5) 3 Ma1, cI g (rx 12) 6 O1, cI g (rx 13) 6 Be1] := by
      intro q_
      induction q_ with
      | zero => intro k L ft1 Se1 Bi1 Tu1 Ma1 O1 Be1 hk hL2 hO2 hz2 hq_; exact absurd hq_ (Nat.not_lt_zero _)
      | succ q_ ih45 =>
        intro k L ft1 Se1 Bi1 Tu1 Ma1 O1 Be1 hk hL2 hO2 hz2 hq_
        refine gi_iload C dX0_tries_45 0 rfl ?_
        refine gi_iload_n C dX0_tries_47 2 rfl ?_
        refine gi_icmp_ge (tgt := 88) C dX0_tries_48 (by decide) (by omega) (by omega) (fun h48 => ?_) (fun h48 => ?_)
        · skip
          have hkN : k = N := by omega
          have hLE : LB S N L Be1 (((cdI N O (Int.toNat P)) + 1) * N ^ 3) := by rw [hkN, fin_c] at hL2; exact hL2
          refine gi_pick [0, 1, 2, 3, 4, 5, 6, 7, 8, 9, 10] (w' := [xO o (fu fx 14 L) rx n, cI g (rx 0) 34 fA, wO n fn rn o, cI g (rn 1) 32 Se, wO (rx 3) ft1 rt o, cI g (rt 1) 32 Se1, cZ g (rt 2) 192 Bi1, cZ g (rt 3) 192 Tu1, cI g (rt 5) 3 Ma1, cI g (rx 12) 6 O1, cI g (rx 13) 6 Be1]) rfl rfl ?_
          exact gi_return C dX0_tries_88 (Nat.le_of_ble_eq_true rfl) (Nat.le_of_ble_eq_true rfl) ⟨rfl, L, ft1, Se1, Bi1, Tu1, Ma1, O1, Be1, rfl, (hLE), (hO2), (hz2)⟩
        · skip
          refine gi_iload_n C dX0_tries_51 4 rfl ?_
          refine gi_iload C dX0_tries_52 0 rfl ?_
          have hdv := div_rg (v := U) (by have := hU.1; omega) k.toNat
          refine gi_ishr C dX0_tries_54 (by have := hU.1; omega) (by omega) ?_
          refine gi_iconst C dX0_tries_55 ?_
          refine gi_mask (v := (U / 2 ^ (k).toNat) % 2) C dX0_tries_56 (by omega) 1 (by decide) (by decide) (by rfl) ?_
          have hU6 := hU.1
          have hPF1 := PF_congr hPF hO2
          have hU1 := UM_congr hU hO2
          have hec := cdI_s (n := N) (k := k) hP.1 hO2
          refine gi_if_ne (tgt := 82) C dX0_tries_57 (by decide) (by omega) (fun h57 => ?_) (fun h57 => ?_)
          · skip
            have hL3 : LB S N L Be1 (((cdI N O (Int.toNat P)) * N + (k + 1)) * N ^ 2) := LB_used 2 hN.1 ⟨hP.1, by omega⟩ hPF hU ⟨hk.1, by omega⟩ h57 hL2
            have hO3 := hO2
            have hz3 := hz2
            refine gi_iinc (lv' := [(4, vi (k + 1)), (0, .ref o), (1, vi N), (2, vi P), (3, vi U)]) C dX0_tries_82 0 rfl (by decide) rfl ?_
            refine gi_goto (tgt := 45) C dX0_tries_85 (by decide) ?_
            exact gi_to [0, 1, 2, 3, 4] [0, 1, 2, 3, 4, 5, 6, 7, 8, 9, 10] rfl rfl rfl (ih45 (k + 1) L ft1 Se1 Bi1 Tu1 Ma1 O1 Be1 (by omega) (hL3) (hO3) (hz3) (by omega))
          · skip
            refine gi_aload_n C dX0_tries_60 1 rfl ?_
            refine gi_get (v := .ref (rx 12)) C in_X0 dX0_tries_61 12 q181 0 rfl rfl (by decide) (fun _ h => h) rfl ?_
            refine gi_iload_n C dX0_tries_64 3 rfl ?_
            refine gi_iload C dX0_tries_65 0 rfl ?_
            refine gi_iast (w' := [xO o (fu fx 14 L) rx n, cI g (rx 0) 34 fA, wO n fn rn o, cI g (rn 1) 32 Se, wO (rx 3) ft1 rt o, cI g (rt 1) 32 Se1, cZ g (rt 2) 192 Bi1, cZ g (rt 3) 192 Tu1, cI g (rt 5) 3 Ma1, cI g (rx 12) 6 (uF O1 P k), cI g (rx 13) 6 Be1]) C dX0_tries_67 9 rfl (by decide) (by omega) rfl ?_
            refine gi_aload_n C dX0_tries_68 1 rfl ?_
            refine gi_iload_n C dX0_tries_69 2 rfl ?_
            refine gi_iload_n C dX0_tries_70 3 rfl ?_
            refine gi_iconst C dX0_tries_71 ?_
            refine gi_iadd C dX0_tries_72 ?_
            refine gi_iload_n C dX0_tries_73 4 rfl ?_
            refine gi_iconst C dX0_tries_74 ?_
            refine gi_iload C dX0_tries_75 0 rfl ?_
            refine gi_shl1 C dX0_tries_77 (by omega) ?_
            refine gi_ior C dX0_tries_78 (hU.1.1) (pow2_nn _) ?_
            refine gi_runV (wr := []) (rest := []) C (mX0_tries2 C.ok o (fu fx 14 L) rx n fn rn S Se Bi Tu Ma ft1 rt Se1 Bi1 Tu1 Ma1 (uF O1 P k) Be1 N (P + 1) (ior U (2 ^ (k).toNat)) (show WR S fn Se Bi Tu Ma from (hW)) (show (1 ≤ N ∧ N ≤ 6) ∧ N ≤ S 0 from (hN)) (show 0 ≤ (P + 1) ∧ (P + 1) + 2 = N from (⟨by omega, by omega⟩)) (show PF N (uF O1 P k) (P + 1) from (PF_s hPF1 hU1 hP.1 ⟨hk.1, by omega⟩ (by omega))) (show UM N (uF O1 P k) (P + 1) (ior U (2 ^ (k).toNat)) from (UM_s hU1 hN.1.2 hP.1 ⟨hk.1, by omega⟩)) (show LB S N (L) Be1 ((cdI N (uF O1 P k) (Int.toNat (P + 1))) * N ^ 2) from (by rw [hec]; exact hL2)) (show ∀ b : Int, 0 ≤ b → b < 192 → (Bi1 b = 0 ∨ Bi1 b = 1) ∧ (Tu1 b = 0 ∨ Tu1 b = 1) from (hz2))) dX0_tries_79 q1490 q1492 qs25 q53 q1493 hdX0_tries ⟨Nat.le_of_ble_eq_true rfl, Nat.le_of_ble_eq_true rfl⟩ 0 rfl rfl [0, 1, 2, 3, 4, 5, 6, 7, 8, 9, 10] [] rfl rfl rfl rfl (by decide) rfl (Nat.le_of_ble_eq_true rfl) ⟨Nat.le_of_ble_eq_true rfl, Nat.le_of_ble_eq_true rfl⟩ (kV fun w1 hv79 => ?_)
            obtain ⟨L_79, ft1_79, Se1_79, Bi1_79, Tu1_79, Ma1_79, O1_79, Be1_79, rfl, hL1_79, hO1_79, hz1_79⟩ := hv79
            replace hL1_79 : LB S N L_79 Be1_79 (((cdI N (uF O1 P k) (Int.toNat (P + 1))) + 1) * N ^ 2) := hL1_79
            replace hO1_79 : ∀ i : Int, 0 ≤ i → i < (P + 1) → O1_79 i = (uF O1 P k) i := hO1_79
            replace hz1_79 : ∀ b : Int, 0 ≤ b → b < 192 → (Bi1_79 b = 0 ∨ Bi1_79 b = 1) ∧ (Tu1_79 b = 0 ∨ Tu1_79 b = 1) := hz1_79
            refine gi_pick [0, 1, 2, 3, 4, 5, 6, 7, 8, 9, 10] (w' := [xO o (fu fx 14 L_79) rx n, cI g (rx 0) 34 fA, wO n fn rn o, cI g (rn 1) 32 Se, wO (rx 3) ft1_79 rt o, cI g (rt 1) 32 Se1_79, cZ g (rt 2) 192 Bi1_79, cZ g (rt 3) 192 Tu1_79, cI g (rt 5) 3 Ma1_79, cI g (rx 12) 6 O1_79, cI g (rx 13) 6 Be1_79]) rfl rfl ?_
            rw [hec] at hL1_79
            have hL3 : LB S N L_79 Be1_79 (((cdI N O (Int.toNat P)) * N + (k + 1)) * N ^ 2) := by rw [Int.add_assoc] at hL1_79; exact hL1_79
            have hO3 : ∀ i : Int, 0 ≤ i → i < P → O1_79 i = O i := fun i h0 h1 => by rw [hO1_79 i h0 (by omega), uF_ne _ _ (by omega)]; exact hO2 i h0 h1
            have hz3 := hz1_79
            refine gi_iinc (lv' := [(4, vi (k + 1)), (0, .ref o), (1, vi N), (2, vi P), (3, vi U)]) C dX0_tries_82 0 rfl (by decide) rfl ?_
            refine gi_goto (tgt := 45) C dX0_tries_85 (by decide) ?_
            exact gi_to [0, 1, 2, 3, 4] [0, 1, 2, 3, 4, 5, 6, 7, 8, 9, 10] rfl rfl rfl (ih45 (k + 1) L_79 ft1_79 Se1_79 Bi1_79 Tu1_79 Ma1_79 O1_79 Be1_79 (by omega) (hL3) (hO3) (hz3) (by omega))
    exact gi_to [0, 1, 2, 3, 4] [0, 1, 2, 3, 4, 5, 6, 7, 8, 9, 10] rfl rfl rfl (L45 _ 0 (fx 14) ft Set Bit Tut Mat O Be (by omega) (by rw [sta_c]; exact hL) (fun _ _ _ => rfl) (hz) (Nat.lt_succ_self _))
  · skip
    exact absurd h2 (by omega)
abbrev rmX0_tries4 : Room := { frames := 9, cells := 0, slots := 0, locals := 229 }
set_option maxHeartbeats 4000000 in
set_option maxRecDepth 100000 in
/-- EvenWords.tries(III)V -/
theorem mX0_tries4 {g : GG} (hg : OKG g) (o : Nat) (fx : Nat → Int) (rx : Nat → Nat) (n : Nat) (fn : Nat → Int) (rn : Nat → Nat) (S : Int → Int) (Se : Int → Int) (Bi : Int → Int) (Tu : Int → Int) (Ma : Int → Int) (ft : Nat → Int) (rt : Nat → Nat) (Set : Int → Int) (Bit : Int → Int) (Tut : Int → Int) (Mat : Int → Int) (O : Int → Int) (Be : Int → Int) (N : Int) (P : Int) (U : Int) (hW : WR S fn Se Bi Tu Ma) (hN : (1 ≤ N ∧ N ≤ 6) ∧ N ≤ S 0) (hP : 0 ≤ P ∧ P + 4 = N) (hPF : PF N O P) (hU : UM N O P U) (hL : LB S N (fx 14) Be ((cdI N O (Int.toNat P)) * N ^ 4)) (hz : ∀ b : Int, 0 ≤ b → b < 192 → (Bit b = 0 ∨ Bit b = 1) ∧ (Tut b = 0 ∨ Tut b = 1)) : Con g yX0_tries cX0_tries 5 none rmX0_tries4 [.ref o, vi N, vi P, vi U] [xO o fx rx n, cI g (rx 0) 34 fA, wO n fn rn o, cI g (rn 1) 32 Se, wO (rx 3) ft rt o, cI g (rt 1) 32 Set, cZ g (rt 2) 192 Bit, cZ g (rt 3) 192 Tut, cI g (rt 5) 3 Mat, cI g (rx 12) 6 O, cI g (rx 13) 6 Be] (pV fun w => ∃ (L : Int), ∃ (ft1 : Nat → Int), ∃ (Se1 : Int → Int), ∃ (Bi1 : Int → Int), ∃ (Tu1 : Int → Int), ∃ (Ma1 : Int → Int), ∃ (O1 : Int → Int), ∃ (Be1 : Int → Int), w = [xO o (fu fx 14 L) rx n, cI g (rx 0) 34 fA, wO n fn rn o, cI g (rn 1) 32 Se, wO (rx 3) ft1 rt o, cI g (rt 1) 32 Se1, cZ g (rt 2) 192 Bi1, cZ g (rt 3) 192 Tu1, cI g (rt 5) 3 Ma1, cI g (rx 12) 6 O1, cI g (rx 13) 6 Be1] ∧ (LB S N L Be1 (((cdI N O (Int.toNat P)) + 1) * N ^ 4)) ∧ (∀ i : Int, 0 ≤ i → i < P → O1 i = O i) ∧ (∀ b : Int, 0 ≤ b → b < 192 → (Bi1 b = 0 ∨ Bi1 b = 1) ∧ (Tu1 b = 0 ∨ Tu1 b = 1))) := by
  refine con_of_go hg (by decide +kernel) (Nat.le_of_ble_eq_true rfl) ?_
  intro x C
  have hn0 := hW.n
  refine gi_lv (lv' := [(0, .ref o), (1, vi N), (2, vi P), (3, vi U)]) [0, 1, 2, 3] rfl ?_
  refine gi_iload_n C dX0_tries_0 2 rfl ?_
  refine gi_iload_n C dX0_tries_1 1 rfl ?_
  refine gi_icmp_ne (tgt := 42) C dX0_tries_2 (by decide) (by omega) (by omega) (fun h2 => ?_) (fun h2 => ?_)
  · skip
    refine gi_iconst C dX0_tries_42 ?_
    refine gi_istore (lv' := [(4, vi 0), (0, .ref o), (1, vi N), (2, vi P), (3, vi U)]) C dX0_tries_43 (by decide) rfl ?_
    have L45 : ∀ (q_ : Nat) (k : Int) (L : Int) (ft1 : Nat → Int) (Se1 : Int → Int) (Bi1 : Int → Int) (Tu1 : Int → Int) (Ma1 : Int → Int) (O1 : Int → Int) (Be1 : Int → Int) (hk : 0 ≤ k ∧ k ≤ N) (hL2 : LB S N L Be1 (((cdI N O (Int.toNat P)) * N + k) * N ^ 3)) (hO2 : ∀ i : Int, 0 ≤ i → i < P → O1 i = O i) (hz2 : ∀ b : Int, 0 ≤ b → b < 192 → (Bi1 b = 0 ∨ Bi1 b = 1) ∧ (Tu1 b = 0 ∨ Tu1 b = 1)) (hq_ : (N - k).toNat < q_), Go g x 5 rmX0_tries4 0 0 45 [(4, vi k), (0, .ref o), (1, vi N), (2, vi P), (3, vi U)] [] [xO o (fu fx 14 L) rx n, cI g (rx 0) 34 fA, wO n fn rn o, cI g (rn 1) 32 Se, wO (rx 3) ft1 rt o, cI g (rt 1) 32 Se1, cZ g (rt 2) 192 Bi1, cZ g (rt 3) 192 Tu1, cI g (rt 5) 3 Ma1, cI g (rx 12) 6 O1, cI g (rx 13) 6 Be1] := by
      intro q_
      induction q_ with
      | zero => intro k L ft1 Se1 Bi1 Tu1 Ma1 O1 Be1 hk hL2 hO2 hz2 hq_; exact absurd hq_ (Nat.not_lt_zero _)
      | succ q_ ih45 =>
        intro k L ft1 Se1 Bi1 Tu1 Ma1 O1 Be1 hk hL2 hO2 hz2 hq_
        refine gi_iload C dX0_tries_45 0 rfl ?_
        refine gi_iload_n C dX0_tries_47 2 rfl ?_
        refine gi_icmp_ge (tgt := 88) C dX0_tries_48 (by decide) (by omega) (by omega) (fun h48 => ?_) (fun h48 => ?_)
        · skip
          have hkN : k = N := by omega
          have hLE : LB S N L Be1 (((cdI N O (Int.toNat P)) + 1) * N ^ 4) := by rw [hkN, fin_c] at hL2; exact hL2
          refine gi_pick [0, 1, 2, 3, 4, 5, 6, 7, 8, 9, 10] (w' := [xO o (fu fx 14 L) rx n, cI g (rx 0) 34 fA, wO n fn rn o, cI g (rn 1) 32 Se, wO (rx 3) ft1 rt o, cI g (rt 1) 32 Se1, cZ g (rt 2) 192 Bi1, cZ g (rt 3) 192 Tu1, cI g (rt 5) 3 Ma1, cI g (rx 12) 6 O1, cI g (rx 13) 6 Be1]) rfl rfl ?_
          exact gi_return C dX0_tries_88 (Nat.le_of_ble_eq_true rfl) (Nat.le_of_ble_eq_true rfl) ⟨rfl, L, ft1, Se1, Bi1, Tu1, Ma1, O1, Be1, rfl, (hLE), (hO2), (hz2)⟩
        · skip
          refine gi_iload_n C dX0_tries_51 4 rfl ?_
          refine gi_iload C dX0_tries_52 0 rfl ?_
          have hdv := div_rg (v := U) (by have := hU.1; omega) k.toNat
          refine gi_ishr C dX0_tries_54 (by have := hU.1; omega) (by omega) ?_
          refine gi_iconst C dX0_tries_55 ?_
          refine gi_mask (v := (U / 2 ^ (k).toNat) % 2) C dX0_tries_56 (by omega) 1 (by decide) (by decide) (by rfl) ?_
          have hU6 := hU.1
          have hPF1 := PF_congr hPF hO2
          have hU1 := UM_congr hU hO2
          have hec := cdI_s (n := N) (k := k) hP.1 hO2
          refine gi_if_ne (tgt := 82) C dX0_tries_57 (by decide) (by omega) (fun h57 => ?_) (fun h57 => ?_)
          · skip
            have hL3 : LB S N L Be1 (((cdI N O (Int.toNat P)) * N + (k + 1)) * N ^ 3) := LB_used 3 hN.1 ⟨hP.1, by omega⟩ hPF hU ⟨hk.1, by omega⟩ h57 hL2
            have hO3 := hO2
            have hz3 := hz2
            refine gi_iinc (lv' := [(4, vi (k + 1)), (0, .ref o), (1, vi N), (2, vi P), (3, vi U)]) C dX0_tries_82 0 rfl (by decide) rfl ?_
            refine gi_goto (tgt := 45) C dX0_tries_85 (by decide) ?_
            exact gi_to [0, 1, 2, 3, 4] [0, 1, 2, 3, 4, 5, 6, 7, 8, 9, 10] rfl rfl rfl (ih45 (k + 1) L ft1 Se1 Bi1 Tu1 Ma1 O1 Be1 (by omega) (hL3) (hO3) (hz3) (by omega))
          · skip
            refine gi_aload_n C dX0_tries_60 1 rfl ?_
            refine gi_get (v := .ref (rx 12)) C in_X0 dX0_tries_61 12 q181 0 rfl rfl (by decide) (fun _ h => h) rfl ?_
            refine gi_iload_n C dX0_tries_64 3 rfl ?_
            refine gi_iload C dX0_tries_65 0 rfl ?_
            refine gi_iast (w' := [xO o (fu fx 14 L) rx n, cI g (rx 0) 34 fA, wO n fn rn o, cI g (rn 1) 32 Se, wO (rx 3) ft1 rt o, cI g (rt 1) 32 Se1, cZ g (rt 2) 192 Bi1, cZ g (rt 3) 192 Tu1, cI g (rt 5) 3 Ma1, cI g (rx 12) 6 (uF O1 P k), cI g (rx 13) 6 Be1]) C dX0_tries_67 9 rfl (by decide) (by omega) rfl ?_
            refine gi_aload_n C dX0_tries_68 1 rfl ?_
            refine gi_iload_n C dX0_tries_69 2 rfl ?_
            refine gi_iload_n C dX0_tries_70 3 rfl ?_
            refine gi_iconst C dX0_tries_71 ?_
            refine gi_iadd C dX0_tries_72 ?_
            refine gi_iload_n C dX0_tries_73 4 rfl ?_
            refine gi_iconst C dX0_tries_74 ?_
            refine gi_iload C dX0_tries_75 0 rfl ?_
            refine gi_shl1 C dX0_tries_77 (by omega) ?_
            refine gi_ior C dX0_tries_78 (hU.1.1) (pow2_nn _) ?_
            refine gi_runV (wr := []) (rest := []) C (mX0_tries3 C.ok o (fu fx 14 L) rx n fn rn S Se Bi Tu Ma ft1 rt Se1 Bi1 Tu1 Ma1 (uF O1 P k) Be1 N (P + 1) (ior U (2 ^ (k).toNat)) (show WR S fn Se Bi Tu Ma from (hW)) (show (1 ≤ N ∧ N ≤ 6) ∧ N ≤ S 0 from (hN)) (show 0 ≤ (P + 1) ∧ (P + 1) + 3 = N from (⟨by omega, by omega⟩)) (show PF N (uF O1 P k) (P + 1) from (PF_s hPF1 hU1 hP.1 ⟨hk.1, by omega⟩ (by omega))) (show UM N (uF O1 P k) (P + 1) (ior U (2 ^ (k).toNat)) from (UM_s hU1 hN.1.2 hP.1 ⟨hk.1, by omega⟩)) (show LB S N (L) Be1 ((cdI N (uF O1 P k) (Int.toNat (P + 1))) * N ^ 3) from (by rw [hec]; exact hL2)) (show ∀ b : Int, 0 ≤ b → b < 192 → (Bi1 b = 0 ∨ Bi1 b = 1) ∧ (Tu1 b = 0 ∨ Tu1 b = 1) from (hz2))) dX0_tries_79 q1490 q1492 qs25 q53 q1493 hdX0_tries ⟨Nat.le_of_ble_eq_true rfl, Nat.le_of_ble_eq_true rfl⟩ 0 rfl rfl [0, 1, 2, 3, 4, 5, 6, 7, 8, 9, 10] [] rfl rfl rfl rfl (by decide) rfl (Nat.le_of_ble_eq_true rfl) ⟨Nat.le_of_ble_eq_true rfl, Nat.le_of_ble_eq_true rfl⟩ (kV fun w1 hv79 => ?_)
            obtain ⟨L_79, ft1_79, Se1_79, Bi1_79, Tu1_79, Ma1_79, O1_79, Be1_79, rfl, hL1_79, hO1_79, hz1_79⟩ := hv79
            replace hL1_79 : LB S N L_79 Be1_79 (((cdI N (uF O1 P k) (Int.toNat (P + 1))) + 1) * N ^ 3) := hL1_79
            replace hO1_79 : ∀ i : Int, 0 ≤ i → i < (P + 1) → O1_79 i = (uF O1 P k) i := hO1_79
            replace hz1_79 : ∀ b : Int, 0 ≤ b → b < 192 → (Bi1_79 b = 0 ∨ Bi1_79 b = 1) ∧ (Tu1_79 b = 0 ∨ Tu1_79 b = 1) := hz1_79
            refine gi_pick [0, 1, 2, 3, 4, 5, 6, 7, 8, 9, 10] (w' := [xO o (fu fx 14 L_79) rx n, cI g (rx 0) 34 fA, wO n fn rn o, cI g (rn 1) 32 Se, wO (rx 3) ft1_79 rt o, cI g (rt 1) 32 Se1_79, cZ g (rt 2) 192 Bi1_79, cZ g (rt 3) 192 Tu1_79, cI g (rt 5) 3 Ma1_79, cI g (rx 12) 6 O1_79, cI g (rx 13) 6 Be1_79]) rfl rfl ?_
            rw [hec] at hL1_79
            have hL3 : LB S N L_79 Be1_79 (((cdI N O (Int.toNat P)) * N + (k + 1)) * N ^ 3) := by rw [Int.add_assoc] at hL1_79; exact hL1_79
            have hO3 : ∀ i : Int, 0 ≤ i → i < P → O1_79 i = O i := fun i h0 h1 => by rw [hO1_79 i h0 (by omega), uF_ne _ _ (by omega)]; exact hO2 i h0 h1
            have hz3 := hz1_79
            refine gi_iinc (lv' := [(4, vi (k + 1)), (0, .ref o), (1, vi N), (2, vi P), (3, vi U)]) C dX0_tries_82 0 rfl (by decide) rfl ?_
            refine gi_goto (tgt := 45) C dX0_tries_85 (by decide) ?_
            exact gi_to [0, 1, 2, 3, 4] [0, 1, 2, 3, 4, 5, 6, 7, 8, 9, 10] rfl rfl rfl (ih45 (k + 1) L_79 ft1_79 Se1_79 Bi1_79 Tu1_79 Ma1_79 O1_79 Be1_79 (by omega) (hL3) (hO3) (hz3) (by omega))
    exact gi_to [0, 1, 2, 3, 4] [0, 1, 2, 3, 4, 5, 6, 7, 8, 9, 10] rfl rfl rfl (L45 _ 0 (fx 14) ft Set Bit Tut Mat O Be (by omega) (by rw [sta_c]; exact hL) (fun _ _ _ => rfl) (hz) (Nat.lt_succ_self _))
  · skip
    exact absurd h2 (by omega)
abbrev rmX0_tries5 : Room := { frames := 10, cells := 0, slots := 0, locals := 253 }
set_option maxHeartbeats 4000000 in
set_option maxRecDepth 100000 in
/-- EvenWords.tries(III)V -/
theorem mX0_tries5 {g : GG} (hg : OKG g) (o : Nat) (fx : Nat → Int) (rx : Nat → Nat) (n : Nat) (fn : Nat → Int) (rn : Nat → Nat) (S : Int → Int) (Se : Int → Int) (Bi : Int → Int) (Tu : Int → Int) (Ma : Int → Int) (ft : Nat → Int) (rt : Nat → Nat) (Set : Int → Int) (Bit : Int → Int) (Tut : Int → Int) (Mat : Int → Int) (O : Int → Int) (Be : Int → Int) (N : Int) (P : Int) (U : Int) (hW : WR S fn Se Bi Tu Ma) (hN : (1 ≤ N ∧ N ≤ 6) ∧ N ≤ S 0) (hP : 0 ≤ P ∧ P + 5 = N) (hPF : PF N O P) (hU : UM N O P U) (hL : LB S N (fx 14) Be ((cdI N O (Int.toNat P)) * N ^ 5)) (hz : ∀ b : Int, 0 ≤ b → b < 192 → (Bit b = 0 ∨ Bit b = 1) ∧ (Tut b = 0 ∨ Tut b = 1)) : Con g yX0_tries cX0_tries 5 none rmX0_tries5 [.ref o, vi N, vi P, vi U] [xO o fx rx n, cI g (rx 0) 34 fA, wO n fn rn o, cI g (rn 1) 32 Se, wO (rx 3) ft rt o, cI g (rt 1) 32 Set, cZ g (rt 2) 192 Bit, cZ g (rt 3) 192 Tut, cI g (rt 5) 3 Mat, cI g (rx 12) 6 O, cI g (rx 13) 6 Be] (pV fun w => ∃ (L : Int), ∃ (ft1 : Nat → Int), ∃ (Se1 : Int → Int), ∃ (Bi1 : Int → Int), ∃ (Tu1 : Int → Int), ∃ (Ma1 : Int → Int), ∃ (O1 : Int → Int), ∃ (Be1 : Int → Int), w = [xO o (fu fx 14 L) rx n, cI g (rx 0) 34 fA, wO n fn rn o, cI g (rn 1) 32 Se, wO (rx 3) ft1 rt o, cI g (rt 1) 32 Se1, cZ g (rt 2) 192 Bi1, cZ g (rt 3) 192 Tu1, cI g (rt 5) 3 Ma1, cI g (rx 12) 6 O1, cI g (rx 13) 6 Be1] ∧ (LB S N L Be1 (((cdI N O (Int.toNat P)) + 1) * N ^ 5)) ∧ (∀ i : Int, 0 ≤ i → i < P → O1 i = O i) ∧ (∀ b : Int, 0 ≤ b → b < 192 → (Bi1 b = 0 ∨ Bi1 b = 1) ∧ (Tu1 b = 0 ∨ Tu1 b = 1))) := by
  refine con_of_go hg (by decide +kernel) (Nat.le_of_ble_eq_true rfl) ?_
  intro x C
  have hn0 := hW.n
  refine gi_lv (lv' := [(0, .ref o), (1, vi N), (2, vi P), (3, vi U)]) [0, 1, 2, 3] rfl ?_
  refine gi_iload_n C dX0_tries_0 2 rfl ?_
  refine gi_iload_n C dX0_tries_1 1 rfl ?_
  refine gi_icmp_ne (tgt := 42) C dX0_tries_2 (by decide) (by omega) (by omega) (fun h2 => ?_) (fun h2 => ?_)
  · skip
    refine gi_iconst C dX0_tries_42 ?_
    refine gi_istore (lv' := [(4, vi 0), (0, .ref o), (1, vi N), (2, vi P), (3, vi U)]) C dX0_tries_43 (by decide) rfl ?_
    have L45 : ∀ (q_ : Nat) (k : Int) (L : Int) (ft1 : Nat → Int) (Se1 : Int → Int) (Bi1 : Int → Int) (Tu1 : Int → Int) (Ma1 : Int → Int) (O1 : Int → Int) (Be1 : Int → Int) (hk : 0 ≤ k ∧ k ≤ N) (hL2 : LB S N L Be1 (((cdI N O (Int.toNat P)) * N + k) * N ^ 4)) (hO2 : ∀ i : Int, 0 ≤ i → i < P → O1 i = O i) (hz2 : ∀ b : Int, 0 ≤ b → b < 192 → (Bi1 b = 0 ∨ Bi1 b = 1) ∧ (Tu1 b = 0 ∨ Tu1 b = 1)) (hq_ : (N - k).toNat < q_), Go g x 5 rmX0_tries5 0 0 45 [(4, vi k), (0, .ref o), (1, vi N), (2, vi P), (3, vi U)] [] [xO o (fu fx 14 L) rx n, cI g (rx 0) 34 fA, wO n fn rn o, cI g (rn 1) 32 Se, wO (rx 3) ft1 rt o, cI g (rt 1) 32 Se1, cZ g (rt 2) 192 Bi1, cZ g (rt 3) 192 Tu1, cI g (rt 5) 3 Ma1, cI g (rx 12) 6 O1, cI g (rx 13) 6 Be1] := by
      intro q_
      induction q_ with
      | zero => intro k L ft1 Se1 Bi1 Tu1 Ma1 O1 Be1 hk hL2 hO2 hz2 hq_; exact absurd hq_ (Nat.not_lt_zero _)
      | succ q_ ih45 =>
        intro k L ft1 Se1 Bi1 Tu1 Ma1 O1 Be1 hk hL2 hO2 hz2 hq_
        refine gi_iload C dX0_tries_45 0 rfl ?_
        refine gi_iload_n C dX0_tries_47 2 rfl ?_
        refine gi_icmp_ge (tgt := 88) C dX0_tries_48 (by decide) (by omega) (by omega) (fun h48 => ?_) (fun h48 => ?_)
        · skip
          have hkN : k = N := by omega
          have hLE : LB S N L Be1 (((cdI N O (Int.toNat P)) + 1) * N ^ 5) := by rw [hkN, fin_c] at hL2; exact hL2
          refine gi_pick [0, 1, 2, 3, 4, 5, 6, 7, 8, 9, 10] (w' := [xO o (fu fx 14 L) rx n, cI g (rx 0) 34 fA, wO n fn rn o, cI g (rn 1) 32 Se, wO (rx 3) ft1 rt o, cI g (rt 1) 32 Se1, cZ g (rt 2) 192 Bi1, cZ g (rt 3) 192 Tu1, cI g (rt 5) 3 Ma1, cI g (rx 12) 6 O1, cI g (rx 13) 6 Be1]) rfl rfl ?_
          exact gi_return C dX0_tries_88 (Nat.le_of_ble_eq_true rfl) (Nat.le_of_ble_eq_true rfl) ⟨rfl, L, ft1, Se1, Bi1, Tu1, Ma1, O1, Be1, rfl, (hLE), (hO2), (hz2)⟩
        · skip
          refine gi_iload_n C dX0_tries_51 4 rfl ?_
          refine gi_iload C dX0_tries_52 0 rfl ?_
          have hdv := div_rg (v := U) (by have := hU.1; omega) k.toNat
          refine gi_ishr C dX0_tries_54 (by have := hU.1; omega) (by omega) ?_
          refine gi_iconst C dX0_tries_55 ?_
          refine gi_mask (v := (U / 2 ^ (k).toNat) % 2) C dX0_tries_56 (by omega) 1 (by decide) (by decide) (by rfl) ?_
          have hU6 := hU.1
          have hPF1 := PF_congr hPF hO2
          have hU1 := UM_congr hU hO2
          have hec := cdI_s (n := N) (k := k) hP.1 hO2
          refine gi_if_ne (tgt := 82) C dX0_tries_57 (by decide) (by omega) (fun h57 => ?_) (fun h57 => ?_)
          · skip
            have hL3 : LB S N L Be1 (((cdI N O (Int.toNat P)) * N + (k + 1)) * N ^ 4) := LB_used 4 hN.1 ⟨hP.1, by omega⟩ hPF hU ⟨hk.1, by omega⟩ h57 hL2
            have hO3 := hO2
            have hz3 := hz2
            refine gi_iinc (lv' := [(4, vi (k + 1)), (0, .ref o), (1, vi N), (2, vi P), (3, vi U)]) C dX0_tries_82 0 rfl (by decide) rfl ?_
            refine gi_goto (tgt := 45) C dX0_tries_85 (by decide) ?_
            exact gi_to [0, 1, 2, 3, 4] [0, 1, 2, 3, 4, 5, 6, 7, 8, 9, 10] rfl rfl rfl (ih45 (k + 1) L ft1 Se1 Bi1 Tu1 Ma1 O1 Be1 (by omega) (hL3) (hO3) (hz3) (by omega))
          · skip
            refine gi_aload_n C dX0_tries_60 1 rfl ?_
            refine gi_get (v := .ref (rx 12)) C in_X0 dX0_tries_61 12 q181 0 rfl rfl (by decide) (fun _ h => h) rfl ?_
            refine gi_iload_n C dX0_tries_64 3 rfl ?_
            refine gi_iload C dX0_tries_65 0 rfl ?_
            refine gi_iast (w' := [xO o (fu fx 14 L) rx n, cI g (rx 0) 34 fA, wO n fn rn o, cI g (rn 1) 32 Se, wO (rx 3) ft1 rt o, cI g (rt 1) 32 Se1, cZ g (rt 2) 192 Bi1, cZ g (rt 3) 192 Tu1, cI g (rt 5) 3 Ma1, cI g (rx 12) 6 (uF O1 P k), cI g (rx 13) 6 Be1]) C dX0_tries_67 9 rfl (by decide) (by omega) rfl ?_
            refine gi_aload_n C dX0_tries_68 1 rfl ?_
            refine gi_iload_n C dX0_tries_69 2 rfl ?_
            refine gi_iload_n C dX0_tries_70 3 rfl ?_
            refine gi_iconst C dX0_tries_71 ?_
            refine gi_iadd C dX0_tries_72 ?_
            refine gi_iload_n C dX0_tries_73 4 rfl ?_
            refine gi_iconst C dX0_tries_74 ?_
            refine gi_iload C dX0_tries_75 0 rfl ?_
            refine gi_shl1 C dX0_tries_77 (by omega) ?_
            refine gi_ior C dX0_tries_78 (hU.1.1) (pow2_nn _) ?_
            refine gi_runV (wr := []) (rest := []) C (mX0_tries4 C.ok o (fu fx 14 L) rx n fn rn S Se Bi Tu Ma ft1 rt Se1 Bi1 Tu1 Ma1 (uF O1 P k) Be1 N (P + 1) (ior U (2 ^ (k).toNat)) (show WR S fn Se Bi Tu Ma from (hW)) (show (1 ≤ N ∧ N ≤ 6) ∧ N ≤ S 0 from (hN)) (show 0 ≤ (P + 1) ∧ (P + 1) + 4 = N from (⟨by omega, by omega⟩)) (show PF N (uF O1 P k) (P + 1) from (PF_s hPF1 hU1 hP.1 ⟨hk.1, by omega⟩ (by omega))) (show UM N (uF O1 P k) (P + 1) (ior U (2 ^ (k).toNat)) from (UM_s hU1 hN.1.2 hP.1 ⟨hk.1, by omega⟩)) (show LB S N (L) Be1 ((cdI N (uF O1 P k) (Int.toNat (P + 1))) * N ^ 4) from (by rw [hec]; exact hL2)) (show ∀ b : Int, 0 ≤ b → b < 192 → (Bi1 b = 0 ∨ Bi1 b = 1) ∧ (Tu1 b = 0 ∨ Tu1 b = 1) from (hz2))) dX0_tries_79 q1490 q1492 qs25 q53 q1493 hdX0_tries ⟨Nat.le_of_ble_eq_true rfl, Nat.le_of_ble_eq_true rfl⟩ 0 rfl rfl [0, 1, 2, 3, 4, 5, 6, 7, 8, 9, 10] [] rfl rfl rfl rfl (by decide) rfl (Nat.le_of_ble_eq_true rfl) ⟨Nat.le_of_ble_eq_true rfl, Nat.le_of_ble_eq_true rfl⟩ (kV fun w1 hv79 => ?_)
            obtain ⟨L_79, ft1_79, Se1_79, Bi1_79, Tu1_79, Ma1_79, O1_79, Be1_79, rfl, hL1_79, hO1_79, hz1_79⟩ := hv79
            replace hL1_79 : LB S N L_79 Be1_79 (((cdI N (uF O1 P k) (Int.toNat (P + 1))) + 1) * N ^ 4) := hL1_79
            replace hO1_79 : ∀ i : Int, 0 ≤ i → i < (P + 1) → O1_79 i = (uF O1 P k) i := hO1_79
            replace hz1_79 : ∀ b : Int, 0 ≤ b → b < 192 → (Bi1_79 b = 0 ∨ Bi1_79 b = 1) ∧ (Tu1_79 b = 0 ∨ Tu1_79 b = 1) := hz1_79
            refine gi_pick [0, 1, 2, 3, 4, 5, 6, 7, 8, 9, 10] (w' := [xO o (fu fx 14 L_79) rx n, cI g (rx 0) 34 fA, wO n fn rn o, cI g (rn 1) 32 Se, wO (rx 3) ft1_79 rt o, cI g (rt 1) 32 Se1_79, cZ g (rt 2) 192 Bi1_79, cZ g (rt 3) 192 Tu1_79, cI g (rt 5) 3 Ma1_79, cI g (rx 12) 6 O1_79, cI g (rx 13) 6 Be1_79]) rfl rfl ?_
            rw [hec] at hL1_79
            have hL3 : LB S N L_79 Be1_79 (((cdI N O (Int.toNat P)) * N + (k + 1)) * N ^ 4) := by rw [Int.add_assoc] at hL1_79; exact hL1_79
            have hO3 : ∀ i : Int, 0 ≤ i → i < P → O1_79 i = O i := fun i h0 h1 => by rw [hO1_79 i h0 (by omega), uF_ne _ _ (by omega)]; exact hO2 i h0 h1
            have hz3 := hz1_79
            refine gi_iinc (lv' := [(4, vi (k + 1)), (0, .ref o), (1, vi N), (2, vi P), (3, vi U)]) C dX0_tries_82 0 rfl (by decide) rfl ?_
            refine gi_goto (tgt := 45) C dX0_tries_85 (by decide) ?_
            exact gi_to [0, 1, 2, 3, 4] [0, 1, 2, 3, 4, 5, 6, 7, 8, 9, 10] rfl rfl rfl (ih45 (k + 1) L_79 ft1_79 Se1_79 Bi1_79 Tu1_79 Ma1_79 O1_79 Be1_79 (by omega) (hL3) (hO3) (hz3) (by omega))
    exact gi_to [0, 1, 2, 3, 4] [0, 1, 2, 3, 4, 5, 6, 7, 8, 9, 10] rfl rfl rfl (L45 _ 0 (fx 14) ft Set Bit Tut Mat O Be (by omega) (by rw [sta_c]; exact hL) (fun _ _ _ => rfl) (hz) (Nat.lt_succ_self _))
  · skip
    exact absurd h2 (by omega)
abbrev rmX0_tries6 : Room := { frames := 11, cells := 0, slots := 0, locals := 277 }
set_option maxHeartbeats 4000000 in
set_option maxRecDepth 100000 in
/-- EvenWords.tries(III)V -/
theorem mX0_tries6 {g : GG} (hg : OKG g) (o : Nat) (fx : Nat → Int) (rx : Nat → Nat) (n : Nat) (fn : Nat → Int) (rn : Nat → Nat) (S : Int → Int) (Se : Int → Int) (Bi : Int → Int) (Tu : Int → Int) (Ma : Int → Int) (ft : Nat → Int) (rt : Nat → Nat) (Set : Int → Int) (Bit : Int → Int) (Tut : Int → Int) (Mat : Int → Int) (O : Int → Int) (Be : Int → Int) (N : Int) (P : Int) (U : Int) (hW : WR S fn Se Bi Tu Ma) (hN : (1 ≤ N ∧ N ≤ 6) ∧ N ≤ S 0) (hP : 0 ≤ P ∧ P + 6 = N) (hPF : PF N O P) (hU : UM N O P U) (hL : LB S N (fx 14) Be ((cdI N O (Int.toNat P)) * N ^ 6)) (hz : ∀ b : Int, 0 ≤ b → b < 192 → (Bit b = 0 ∨ Bit b = 1) ∧ (Tut b = 0 ∨ Tut b = 1)) : Con g yX0_tries cX0_tries 5 none rmX0_tries6 [.ref o, vi N, vi P, vi U] [xO o fx rx n, cI g (rx 0) 34 fA, wO n fn rn o, cI g (rn 1) 32 Se, wO (rx 3) ft rt o, cI g (rt 1) 32 Set, cZ g (rt 2) 192 Bit, cZ g (rt 3) 192 Tut, cI g (rt 5) 3 Mat, cI g (rx 12) 6 O, cI g (rx 13) 6 Be] (pV fun w => ∃ (L : Int), ∃ (ft1 : Nat → Int), ∃ (Se1 : Int → Int), ∃ (Bi1 : Int → Int), ∃ (Tu1 : Int → Int), ∃ (Ma1 : Int → Int), ∃ (O1 : Int → Int), ∃ (Be1 : Int → Int), w = [xO o (fu fx 14 L) rx n, cI g (rx 0) 34 fA, wO n fn rn o, cI g (rn 1) 32 Se, wO (rx 3) ft1 rt o, cI g (rt 1) 32 Se1, cZ g (rt 2) 192 Bi1, cZ g (rt 3) 192 Tu1, cI g (rt 5) 3 Ma1, cI g (rx 12) 6 O1, cI g (rx 13) 6 Be1] ∧ (LB S N L Be1 (((cdI N O (Int.toNat P)) + 1) * N ^ 6)) ∧ (∀ i : Int, 0 ≤ i → i < P → O1 i = O i) ∧ (∀ b : Int, 0 ≤ b → b < 192 → (Bi1 b = 0 ∨ Bi1 b = 1) ∧ (Tu1 b = 0 ∨ Tu1 b = 1))) := by
  refine con_of_go hg (by decide +kernel) (Nat.le_of_ble_eq_true rfl) ?_
  intro x C
  have hn0 := hW.n
  refine gi_lv (lv' := [(0, .ref o), (1, vi N), (2, vi P), (3, vi U)]) [0, 1, 2, 3] rfl ?_
  refine gi_iload_n C dX0_tries_0 2 rfl ?_
  refine gi_iload_n C dX0_tries_1 1 rfl ?_
  refine gi_icmp_ne (tgt := 42) C dX0_tries_2 (by decide) (by omega) (by omega) (fun h2 => ?_) (fun h2 => ?_)
  · skip
    refine gi_iconst C dX0_tries_42 ?_
    refine gi_istore (lv' := [(4, vi 0), (0, .ref o), (1, vi N), (2, vi P), (3, vi U)]) C dX0_tries_43 (by decide) rfl ?_
    have L45 : ∀ (q_ : Nat) (k : Int) (L : Int) (ft1 : Nat → Int) (Se1 : Int → Int) (Bi1 : Int → Int) (Tu1 : Int → Int) (Ma1 : Int → Int) (O1 : Int → Int) (Be1 : Int → Int) (hk : 0 ≤ k ∧ k ≤ N) (hL2 : LB S N L Be1 (((cdI N O (Int.toNat P)) * N + k) * N ^ 5)) (hO2 : ∀ i : Int, 0 ≤ i → i < P → O1 i = O i) (hz2 : ∀ b : Int, 0 ≤ b → b < 192 → (Bi1 b = 0 ∨ Bi1 b = 1) ∧ (Tu1 b = 0 ∨ Tu1 b = 1)) (hq_ : (N - k).toNat < q_), Go g x 5 rmX0_tries6 0 0 45 [(4, vi k), (0, .ref o), (1, vi N), (2, vi P), (3, vi U)] [] [xO o (fu fx 14 L) rx n, cI g (rx 0) 34 fA, wO n fn rn o, cI g (rn 1) 32 Se, wO (rx 3) ft1 rt o, cI g (rt 1) 32 Se1, cZ g (rt 2) 192 Bi1, cZ g (rt 3) 192 Tu1, cI g (rt 5) 3 Ma1, cI g (rx 12) 6 O1, cI g (rx 13) 6 Be1] := by
      intro q_
      induction q_ with
      | zero => intro k L ft1 Se1 Bi1 Tu1 Ma1 O1 Be1 hk hL2 hO2 hz2 hq_; exact absurd hq_ (Nat.not_lt_zero _)
      | succ q_ ih45 =>
        intro k L ft1 Se1 Bi1 Tu1 Ma1 O1 Be1 hk hL2 hO2 hz2 hq_
        refine gi_iload C dX0_tries_45 0 rfl ?_
        refine gi_iload_n C dX0_tries_47 2 rfl ?_
        refine gi_icmp_ge (tgt := 88) C dX0_tries_48 (by decide) (by omega) (by omega) (fun h48 => ?_) (fun h48 => ?_)
        · skip
          have hkN : k = N := by omega
          have hLE : LB S N L Be1 (((cdI N O (Int.toNat P)) + 1) * N ^ 6) := by rw [hkN, fin_c] at hL2; exact hL2
          refine gi_pick [0, 1, 2, 3, 4, 5, 6, 7, 8, 9, 10] (w' := [xO o (fu fx 14 L) rx n, cI g (rx 0) 34 fA, wO n fn rn o, cI g (rn 1) 32 Se, wO (rx 3) ft1 rt o, cI g (rt 1) 32 Se1, cZ g (rt 2) 192 Bi1, cZ g (rt 3) 192 Tu1, cI g (rt 5) 3 Ma1, cI g (rx 12) 6 O1, cI g (rx 13) 6 Be1]) rfl rfl ?_
          exact gi_return C dX0_tries_88 (Nat.le_of_ble_eq_true rfl) (Nat.le_of_ble_eq_true rfl) ⟨rfl, L, ft1, Se1, Bi1, Tu1, Ma1, O1, Be1, rfl, (hLE), (hO2), (hz2)⟩
        · skip
          refine gi_iload_n C dX0_tries_51 4 rfl ?_
          refine gi_iload C dX0_tries_52 0 rfl ?_
          have hdv := div_rg (v := U) (by have := hU.1; omega) k.toNat
          refine gi_ishr C dX0_tries_54 (by have := hU.1; omega) (by omega) ?_
          refine gi_iconst C dX0_tries_55 ?_
          refine gi_mask (v := (U / 2 ^ (k).toNat) % 2) C dX0_tries_56 (by omega) 1 (by decide) (by decide) (by rfl) ?_
          have hU6 := hU.1
          have hPF1 := PF_congr hPF hO2
          have hU1 := UM_congr hU hO2
          have hec := cdI_s (n := N) (k := k) hP.1 hO2
          refine gi_if_ne (tgt := 82) C dX0_tries_57 (by decide) (by omega) (fun h57 => ?_) (fun h57 => ?_)
          · skip
            have hL3 : LB S N L Be1 (((cdI N O (Int.toNat P)) * N + (k + 1)) * N ^ 5) := LB_used 5 hN.1 ⟨hP.1, by omega⟩ hPF hU ⟨hk.1, by omega⟩ h57 hL2
            have hO3 := hO2
            have hz3 := hz2
            refine gi_iinc (lv' := [(4, vi (k + 1)), (0, .ref o), (1, vi N), (2, vi P), (3, vi U)]) C dX0_tries_82 0 rfl (by decide) rfl ?_
            refine gi_goto (tgt := 45) C dX0_tries_85 (by decide) ?_
            exact gi_to [0, 1, 2, 3, 4] [0, 1, 2, 3, 4, 5, 6, 7, 8, 9, 10] rfl rfl rfl (ih45 (k + 1) L ft1 Se1 Bi1 Tu1 Ma1 O1 Be1 (by omega) (hL3) (hO3) (hz3) (by omega))
          · skip
            refine gi_aload_n C dX0_tries_60 1 rfl ?_
            refine gi_get (v := .ref (rx 12)) C in_X0 dX0_tries_61 12 q181 0 rfl rfl (by decide) (fun _ h => h) rfl ?_
            refine gi_iload_n C dX0_tries_64 3 rfl ?_
            refine gi_iload C dX0_tries_65 0 rfl ?_
            refine gi_iast (w' := [xO o (fu fx 14 L) rx n, cI g (rx 0) 34 fA, wO n fn rn o, cI g (rn 1) 32 Se, wO (rx 3) ft1 rt o, cI g (rt 1) 32 Se1, cZ g (rt 2) 192 Bi1, cZ g (rt 3) 192 Tu1, cI g (rt 5) 3 Ma1, cI g (rx 12) 6 (uF O1 P k), cI g (rx 13) 6 Be1]) C dX0_tries_67 9 rfl (by decide) (by omega) rfl ?_
            refine gi_aload_n C dX0_tries_68 1 rfl ?_
            refine gi_iload_n C dX0_tries_69 2 rfl ?_
            refine gi_iload_n C dX0_tries_70 3 rfl ?_
            refine gi_iconst C dX0_tries_71 ?_
            refine gi_iadd C dX0_tries_72 ?_
            refine gi_iload_n C dX0_tries_73 4 rfl ?_
            refine gi_iconst C dX0_tries_74 ?_
            refine gi_iload C dX0_tries_75 0 rfl ?_
            refine gi_shl1 C dX0_tries_77 (by omega) ?_
            refine gi_ior C dX0_tries_78 (hU.1.1) (pow2_nn _) ?_
            refine gi_runV (wr := []) (rest := []) C (mX0_tries5 C.ok o (fu fx 14 L) rx n fn rn S Se Bi Tu Ma ft1 rt Se1 Bi1 Tu1 Ma1 (uF O1 P k) Be1 N (P + 1) (ior U (2 ^ (k).toNat)) (show WR S fn Se Bi Tu Ma from (hW)) (show (1 ≤ N ∧ N ≤ 6) ∧ N ≤ S 0 from (hN)) (show 0 ≤ (P + 1) ∧ (P + 1) + 5 = N from (⟨by omega, by omega⟩)) (show PF N (uF O1 P k) (P + 1) from (PF_s hPF1 hU1 hP.1 ⟨hk.1, by omega⟩ (by omega))) (show UM N (uF O1 P k) (P + 1) (ior U (2 ^ (k).toNat)) from (UM_s hU1 hN.1.2 hP.1 ⟨hk.1, by omega⟩)) (show LB S N (L) Be1 ((cdI N (uF O1 P k) (Int.toNat (P + 1))) * N ^ 5) from (by rw [hec]; exact hL2)) (show ∀ b : Int, 0 ≤ b → b < 192 → (Bi1 b = 0 ∨ Bi1 b = 1) ∧ (Tu1 b = 0 ∨ Tu1 b = 1) from (hz2))) dX0_tries_79 q1490 q1492 qs25 q53 q1493 hdX0_tries ⟨Nat.le_of_ble_eq_true rfl, Nat.le_of_ble_eq_true rfl⟩ 0 rfl rfl [0, 1, 2, 3, 4, 5, 6, 7, 8, 9, 10] [] rfl rfl rfl rfl (by decide) rfl (Nat.le_of_ble_eq_true rfl) ⟨Nat.le_of_ble_eq_true rfl, Nat.le_of_ble_eq_true rfl⟩ (kV fun w1 hv79 => ?_)
            obtain ⟨L_79, ft1_79, Se1_79, Bi1_79, Tu1_79, Ma1_79, O1_79, Be1_79, rfl, hL1_79, hO1_79, hz1_79⟩ := hv79
            replace hL1_79 : LB S N L_79 Be1_79 (((cdI N (uF O1 P k) (Int.toNat (P + 1))) + 1) * N ^ 5) := hL1_79
            replace hO1_79 : ∀ i : Int, 0 ≤ i → i < (P + 1) → O1_79 i = (uF O1 P k) i := hO1_79
            replace hz1_79 : ∀ b : Int, 0 ≤ b → b < 192 → (Bi1_79 b = 0 ∨ Bi1_79 b = 1) ∧ (Tu1_79 b = 0 ∨ Tu1_79 b = 1) := hz1_79
            refine gi_pick [0, 1, 2, 3, 4, 5, 6, 7, 8, 9, 10] (w' := [xO o (fu fx 14 L_79) rx n, cI g (rx 0) 34 fA, wO n fn rn o, cI g (rn 1) 32 Se, wO (rx 3) ft1_79 rt o, cI g (rt 1) 32 Se1_79, cZ g (rt 2) 192 Bi1_79, cZ g (rt 3) 192 Tu1_79, cI g (rt 5) 3 Ma1_79, cI g (rx 12) 6 O1_79, cI g (rx 13) 6 Be1_79]) rfl rfl ?_
            rw [hec] at hL1_79
            have hL3 : LB S N L_79 Be1_79 (((cdI N O (Int.toNat P)) * N + (k + 1)) * N ^ 5) := by rw [Int.add_assoc] at hL1_79; exact hL1_79
            have hO3 : ∀ i : Int, 0 ≤ i → i < P → O1_79 i = O i := fun i h0 h1 => by rw [hO1_79 i h0 (by omega), uF_ne _ _ (by omega)]; exact hO2 i h0 h1
            have hz3 := hz1_79
            refine gi_iinc (lv' := [(4, vi (k + 1)), (0, .ref o), (1, vi N), (2, vi P), (3, vi U)]) C dX0_tries_82 0 rfl (by decide) rfl ?_
            refine gi_goto (tgt := 45) C dX0_tries_85 (by decide) ?_
            exact gi_to [0, 1, 2, 3, 4] [0, 1, 2, 3, 4, 5, 6, 7, 8, 9, 10] rfl rfl rfl (ih45 (k + 1) L_79 ft1_79 Se1_79 Bi1_79 Tu1_79 Ma1_79 O1_79 Be1_79 (by omega) (hL3) (hO3) (hz3) (by omega))
    exact gi_to [0, 1, 2, 3, 4] [0, 1, 2, 3, 4, 5, 6, 7, 8, 9, 10] rfl rfl rfl (L45 _ 0 (fx 14) ft Set Bit Tut Mat O Be (by omega) (by rw [sta_c]; exact hL) (fun _ _ _ => rfl) (hz) (Nat.lt_succ_self _))
  · skip
    exact absurd h2 (by omega)
theorem hdX0_evenest : yX0_evenest.cls ≠ "java/lang/invoke/MethodHandle" ∧ yX0_evenest.cls ≠ "java/lang/invoke/VarHandle" ∧ (parseMethodDescriptor yX0_evenest.desc).map (fun d => d.parameters.length) = some 2 := by decide +kernel
abbrev rmX0_evenestF : Room := { frames := 2, cells := 0, slots := 0, locals := 35 }
set_option maxHeartbeats 4000000 in
set_option maxRecDepth 100000 in
/-- EvenWords.evenest(II)I -/
theorem mX0_evenestF {g : GG} (hg : OKG g) (o : Nat) (fx : Nat → Int) (rx : Nat → Nat) (n : Nat) (fn : Nat → Int) (rn : Nat → Nat) (S : Int → Int) (Se : Int → Int) (Bi : Int → Int) (Tu : Int → Int) (Ma : Int → Int) (N : Int) (i : Int) (hW : WR S fn Se Bi Tu Ma) (hN : Rg N) (hi : Rg i) (hF : ¬ (evenB N i ∧ N ≤ S 0)) : Con g yX0_evenest cX0_evenest 3 (some .int) rmX0_evenestF [.ref o, vi N, vi i] [xO o fx rx n, wO n fn rn o, cI g (rn 1) 32 Se] (pI fun r_ w => r_ = (evenR S N i) ∧ w = [xO o fx rx n, wO n fn rn o, cI g (rn 1) 32 Se]) := by
  refine con_of_go hg (by decide +kernel) (Nat.le_of_ble_eq_true rfl) ?_
  intro x C
  have hn0 := hW.n
  refine gi_lv (lv' := [(0, .ref o), (1, vi N), (2, vi i)]) [0, 1, 2] rfl ?_
  refine gi_iload_n C dX0_evenest_0 1 rfl ?_
  refine gi_iconst C dX0_evenest_1 ?_
  refine gi_bipush C dX0_evenest_2 (by decide +kernel) ?_
  refine gi_runS (wr := [xO o fx rx n, wO n fn rn o, cI g (rn 1) 32 Se]) (rest := []) C (mX0_in C.ok N 1 6 (by omega) (by omega) (by omega)) dX0_evenest_4 q220 q221 q53 q222 hdX0_in ⟨Nat.le_of_ble_eq_true rfl, Nat.le_of_ble_eq_true rfl⟩ [] [0, 1, 2] rfl rfl rfl rfl (by decide) rfl (Nat.le_of_ble_eq_true rfl) ⟨Nat.le_of_ble_eq_true rfl, Nat.le_of_ble_eq_true rfl⟩ (kI fun r_4 w1 hv4 => ?_)
  obtain ⟨rfl, hr_4⟩ := hv4
  refine gi_pick [0, 1, 2] (w' := [xO o fx rx n, wO n fn rn o, cI g (rn 1) 32 Se]) rfl rfl ?_
  refine gi_top (b := (bI (1 ≤ N ∧ N ≤ 6))) hr_4 ?_
  refine gi_if_eq (tgt := 15) C dX0_evenest_7 (by decide) (bI_rg _) (fun h7 => ?_) (fun h7 => ?_)
  · skip
    replace h7 := bI_eq0.mp h7
    refine gi_iconst C dX0_evenest_15 ?_
    refine gi_pick [0, 1, 2] (w' := [xO o fx rx n, wO n fn rn o, cI g (rn 1) 32 Se]) rfl rfl ?_
    exact gi_ireturn C dX0_evenest_16 (Nat.le_of_ble_eq_true rfl) (Nat.le_of_ble_eq_true rfl) ⟨_, rfl, (by unfold evenR; rw [if_neg (fun z => by omega)]), rfl⟩
  · skip
    replace h7 := bI_ne0.mp h7
    refine gi_iload_n C dX0_evenest_10 2 rfl ?_
    refine gi_iconst C dX0_evenest_11 ?_
    refine gi_icmp_ge (tgt := 17) C dX0_evenest_12 (by decide) (by omega) (by omega) (fun h12 => ?_) (fun h12 => ?_)
    · skip
      refine gi_aload_n C dX0_evenest_17 0 rfl ?_
      refine gi_get (v := .ref n) C in_X0 dX0_evenest_18 2 q168 0 rfl rfl (by decide) (fun _ h => h) rfl ?_
      refine gi_getN (v := vi (fn 0)) C in_X1 dX0_evenest_21 0 q119 1 rfl rfl (by decide) (fun _ h => h) rfl ?_
      refine gi_iload_n C dX0_evenest_24 1 rfl ?_
      refine gi_icmp_ge (tgt := 31) C dX0_evenest_25 (by decide) (by omega) (by omega) (fun h25 => ?_) (fun h25 => ?_)
      · skip
        exact absurd ⟨⟨⟨by omega, by omega⟩, by omega⟩, by omega⟩ hF
      · skip
        refine gi_bipush C dX0_evenest_28 (by decide +kernel) ?_
        refine gi_pick [0, 1, 2] (w' := [xO o fx rx n, wO n fn rn o, cI g (rn 1) 32 Se]) rfl rfl ?_
        exact gi_ireturn C dX0_evenest_30 (Nat.le_of_ble_eq_true rfl) (Nat.le_of_ble_eq_true rfl) ⟨_, rfl, (by unfold evenR; rw [if_pos ⟨by omega, by omega⟩, if_pos (by omega)]), rfl⟩
    · skip
      refine gi_iconst C dX0_evenest_15 ?_
      refine gi_pick [0, 1, 2] (w' := [xO o fx rx n, wO n fn rn o, cI g (rn 1) 32 Se]) rfl rfl ?_
      exact gi_ireturn C dX0_evenest_16 (Nat.le_of_ble_eq_true rfl) (Nat.le_of_ble_eq_true rfl) ⟨_, rfl, (by unfold evenR; rw [if_neg (fun z => by omega)]), rfl⟩
abbrev rmX0_evenest1 : Room := { frames := 7, cells := 0, slots := 0, locals := 181 }
set_option maxHeartbeats 4000000 in
set_option maxRecDepth 100000 in
/-- EvenWords.evenest(II)I -/
theorem mX0_evenest1 {g : GG} (hg : OKG g) (o : Nat) (fx : Nat → Int) (rx : Nat → Nat) (n : Nat) (fn : Nat → Int) (rn : Nat → Nat) (S : Int → Int) (Se : Int → Int) (Bi : Int → Int) (Tu : Int → Int) (Ma : Int → Int) (ft : Nat → Int) (rt : Nat → Nat) (Set : Int → Int) (Bit : Int → Int) (Tut : Int → Int) (Mat : Int → Int) (O : Int → Int) (Be : Int → Int) (i : Int) (hW : WR S fn Se Bi Tu Ma) (hi : -1 ≤ i ∧ i < 2147483648) (hN : 1 ≤ S 0) (hz : ∀ b : Int, 0 ≤ b → b < 192 → (Bit b = 0 ∨ Bit b = 1) ∧ (Tut b = 0 ∨ Tut b = 1)) : Con g yX0_evenest cX0_evenest 3 (some .int) rmX0_evenest1 [.ref o, vi 1, vi i] [xO o fx rx n, cI g (rx 0) 34 fA, wO n fn rn o, cI g (rn 1) 32 Se, wO (rx 3) ft rt o, cI g (rt 1) 32 Set, cZ g (rt 2) 192 Bit, cZ g (rt 3) 192 Tut, cI g (rt 5) 3 Mat, cI g (rx 12) 6 O, cI g (rx 13) 6 Be] (pI fun r_ w => ∃ (L : Int), ∃ (ft1 : Nat → Int), ∃ (Se1 : Int → Int), ∃ (Bi1 : Int → Int), ∃ (Tu1 : Int → Int), ∃ (Ma1 : Int → Int), ∃ (O1 : Int → Int), ∃ (Be1 : Int → Int), r_ = (evenQ S 1 i) ∧ w = [xO o (fu fx 14 L) rx n, cI g (rx 0) 34 fA, wO n fn rn o, cI g (rn 1) 32 Se, wO (rx 3) ft1 rt o, cI g (rt 1) 32 Se1, cZ g (rt 2) 192 Bi1, cZ g (rt 3) 192 Tu1, cI g (rt 5) 3 Ma1, cI g (rx 12) 6 O1, cI g (rx 13) 6 Be1] ∧ (∀ b : Int, 0 ≤ b → b < 192 → (Bi1 b = 0 ∨ Bi1 b = 1) ∧ (Tu1 b = 0 ∨ Tu1 b = 1))) := by
  refine con_of_go hg (by decide +kernel) (Nat.le_of_ble_eq_true rfl) ?_
  intro x C
  have hn0 := hW.n
  have hfin := evL_fin hW.ws (n := 1) (by decide)
  refine gi_lv (lv' := [(0, .ref o), (1, vi 1), (2, vi i)]) [0, 1, 2] rfl ?_
  refine gi_iload_n C dX0_evenest_0 1 rfl ?_
  refine gi_iconst C dX0_evenest_1 ?_
  refine gi_bipush C dX0_evenest_2 (by decide +kernel) ?_
  refine gi_runS (wr := [xO o fx rx n, cI g (rx 0) 34 fA, wO n fn rn o, cI g (rn 1) 32 Se, wO (rx 3) ft rt o, cI g (rt 1) 32 Set, cZ g (rt 2) 192 Bit, cZ g (rt 3) 192 Tut, cI g (rt 5) 3 Mat, cI g (rx 12) 6 O, cI g (rx 13) 6 Be]) (rest := []) C (mX0_in C.ok 1 1 6 (by omega) (by omega) (by omega)) dX0_evenest_4 q220 q221 q53 q222 hdX0_in ⟨Nat.le_of_ble_eq_true rfl, Nat.le_of_ble_eq_true rfl⟩ [] [0, 1, 2, 3, 4, 5, 6, 7, 8, 9, 10] rfl rfl rfl rfl (by decide) rfl (Nat.le_of_ble_eq_true rfl) ⟨Nat.le_of_ble_eq_true rfl, Nat.le_of_ble_eq_true rfl⟩ (kI fun r_4 w1 hv4 => ?_)
  obtain ⟨rfl, hr_4⟩ := hv4
  refine gi_pick [0, 1, 2, 3, 4, 5, 6, 7, 8, 9, 10] (w' := [xO o fx rx n, cI g (rx 0) 34 fA, wO n fn rn o, cI g (rn 1) 32 Se, wO (rx 3) ft rt o, cI g (rt 1) 32 Set, cZ g (rt 2) 192 Bit, cZ g (rt 3) 192 Tut, cI g (rt 5) 3 Mat, cI g (rx 12) 6 O, cI g (rx 13) 6 Be]) rfl rfl ?_
  refine gi_top (b := (bI (1 ≤ 1 ∧ 1 ≤ 6))) hr_4 ?_
  refine gi_if_eq (tgt := 15) C dX0_evenest_7 (by decide) (bI_rg _) (fun h7 => ?_) (fun h7 => ?_)
  · skip
    replace h7 := bI_eq0.mp h7
    exact absurd (by decide) h7
  · skip
    replace h7 := bI_ne0.mp h7
    refine gi_iload_n C dX0_evenest_10 2 rfl ?_
    refine gi_iconst C dX0_evenest_11 ?_
    refine gi_icmp_ge (tgt := 17) C dX0_evenest_12 (by decide) (by omega) (by omega) (fun h12 => ?_) (fun h12 => ?_)
    · skip
      refine gi_aload_n C dX0_evenest_17 0 rfl ?_
      refine gi_get (v := .ref n) C in_X0 dX0_evenest_18 2 q168 0 rfl rfl (by decide) (fun _ h => h) rfl ?_
      refine gi_getN (v := vi (fn 0)) C in_X1 dX0_evenest_21 0 q119 2 rfl rfl (by decide) (fun _ h => h) rfl ?_
      refine gi_iload_n C dX0_evenest_24 1 rfl ?_
      refine gi_icmp_ge (tgt := 31) C dX0_evenest_25 (by decide) (by omega) (by omega) (fun h25 => ?_) (fun h25 => ?_)
      · skip
        refine gi_aload_n C dX0_evenest_31 0 rfl ?_
        refine gi_ldcw (z := 2147483647) C dX0_evenest_32 q1489 (by decide +kernel) ?_
        refine gi_put (w' := [xO o (fu fx 14 2147483647) rx n, cI g (rx 0) 34 fA, wO n fn rn o, cI g (rn 1) 32 Se, wO (rx 3) ft rt o, cI g (rt 1) 32 Set, cZ g (rt 2) 192 Bit, cZ g (rt 3) 192 Tut, cI g (rt 5) 3 Mat, cI g (rx 12) 6 O, cI g (rx 13) 6 Be]) C in_X0 tyX0 tyX0_ok nmX0 dX0_evenest_35 14 q183 0 rfl rfl (by decide) (fun _ h => h) rfl rfl ⟨rfl, rfl⟩ (Nat.le_of_ble_eq_true rfl) rfl ?_
        refine gi_aload_n C dX0_evenest_38 0 rfl ?_
        refine gi_iload_n C dX0_evenest_39 1 rfl ?_
        refine gi_iconst C dX0_evenest_40 ?_
        refine gi_iconst C dX0_evenest_41 ?_
        refine gi_runV (wr := []) (rest := []) C (mX0_tries1 C.ok o (fu fx 14 2147483647) rx n fn rn S Se Bi Tu Ma ft rt Set Bit Tut Mat O Be 1 0 0 (show WR S fn Se Bi Tu Ma from (hW)) (show (1 ≤ 1 ∧ 1 ≤ 6) ∧ 1 ≤ S 0 from (⟨by decide, hN⟩)) (show 0 ≤ 0 ∧ 0 + 1 = 1 from (by decide)) (show PF 1 O 0 from (fun i h0 h1 => by omega)) (show UM 1 O 0 0 from (⟨by decide, fun k h0 h1 => ⟨fun z => by rw [Int.zero_ediv] at z; exact absurd z (by decide), fun ⟨i, g0, g1, _⟩ => by omega⟩⟩)) (show LB S 1 (2147483647) Be ((cdI 1 O (Int.toNat 0)) * 1 ^ 1) from (by show LB S 1 2147483647 Be (0 * _); rw [Int.zero_mul]; exact LB_0 S _ _)) (show ∀ b : Int, 0 ≤ b → b < 192 → (Bit b = 0 ∨ Bit b = 1) ∧ (Tut b = 0 ∨ Tut b = 1) from (hz))) dX0_evenest_42 q1490 q1492 qs25 q53 q1493 hdX0_tries ⟨Nat.le_of_ble_eq_true rfl, Nat.le_of_ble_eq_true rfl⟩ 0 rfl rfl [0, 1, 2, 3, 4, 5, 6, 7, 8, 9, 10] [] rfl rfl rfl rfl (by decide) rfl (Nat.le_of_ble_eq_true rfl) ⟨Nat.le_of_ble_eq_true rfl, Nat.le_of_ble_eq_true rfl⟩ (kV fun w1 hv42 => ?_)
        obtain ⟨L_42, ft1_42, Se1_42, Bi1_42, Tu1_42, Ma1_42, O1_42, Be1_42, rfl, hL1_42, hO1_42, hz1_42⟩ := hv42
        replace hL1_42 : LB S 1 L_42 Be1_42 (((cdI 1 O (Int.toNat 0)) + 1) * 1 ^ 1) := hL1_42
        replace hO1_42 : ∀ i : Int, 0 ≤ i → i < 0 → O1_42 i = O i := hO1_42
        replace hz1_42 : ∀ b : Int, 0 ≤ b → b < 192 → (Bi1_42 b = 0 ∨ Bi1_42 b = 1) ∧ (Tu1_42 b = 0 ∨ Tu1_42 b = 1) := hz1_42
        refine gi_pick [0, 1, 2, 3, 4, 5, 6, 7, 8, 9, 10] (w' := [xO o (fu fx 14 L_42) rx n, cI g (rx 0) 34 fA, wO n fn rn o, cI g (rn 1) 32 Se, wO (rx 3) ft1_42 rt o, cI g (rt 1) 32 Se1_42, cZ g (rt 2) 192 Bi1_42, cZ g (rt 3) 192 Tu1_42, cI g (rt 5) 3 Ma1_42, cI g (rx 12) 6 O1_42, cI g (rx 13) 6 Be1_42]) rfl rfl ?_
        have hLF : LB S 1 L_42 Be1_42 ((1 : Int) ^ (1 : Int).toNat) := hL1_42
        have hb := LB_b hW.ws hLF
        have hLL : L_42 = evL S 1 ((1 : Int) ^ (1 : Int).toNat).toNat := by have := hLF.1; rw [if_neg (by omega)] at this; exact this
        have hBB := hLF.2 (by omega)
        refine gi_iload_n C dX0_evenest_45 2 rfl ?_
        refine gi_iconst C dX0_evenest_46 ?_
        refine gi_icmp_ne (tgt := 57) C dX0_evenest_47 (by decide) (by omega) (by omega) (fun h47 => ?_) (fun h47 => ?_)
        · skip
          refine gi_iload_n C dX0_evenest_57 2 rfl ?_
          refine gi_iload_n C dX0_evenest_58 1 rfl ?_
          refine gi_icmp_ge (tgt := 71) C dX0_evenest_59 (by decide) (by omega) (by omega) (fun h59 => ?_) (fun h59 => ?_)
          · skip
            refine gi_bipush C dX0_evenest_71 (by decide +kernel) ?_
            refine gi_pick [0, 1, 2, 3, 4, 5, 6, 7, 8, 9, 10] (w' := [xO o (fu fx 14 L_42) rx n, cI g (rx 0) 34 fA, wO n fn rn o, cI g (rn 1) 32 Se, wO (rx 3) ft1_42 rt o, cI g (rt 1) 32 Se1_42, cZ g (rt 2) 192 Bi1_42, cZ g (rt 3) 192 Tu1_42, cI g (rt 5) 3 Ma1_42, cI g (rx 12) 6 O1_42, cI g (rx 13) 6 Be1_42]) rfl rfl ?_
            exact gi_ireturn C dX0_evenest_73 (Nat.le_of_ble_eq_true rfl) (Nat.le_of_ble_eq_true rfl) ⟨_, rfl, L_42, ft1_42, Se1_42, Bi1_42, Tu1_42, Ma1_42, O1_42, Be1_42, (by unfold evenQ; first | (rw [if_pos (by omega)]; exact hLL) | (rw [if_neg (by omega), if_pos (by omega)]; exact hBi) | rw [if_neg (by omega), if_neg (by omega)]), rfl, (hz1_42)⟩
          · skip
            refine gi_aload_n C dX0_evenest_62 0 rfl ?_
            refine gi_get (v := .ref (rx 13)) C in_X0 dX0_evenest_63 13 q182 0 rfl rfl (by decide) (fun _ h => h) rfl ?_
            refine gi_iload_n C dX0_evenest_66 2 rfl ?_
            have hBi := hBB i (by omega) (by omega)
            have hBr := evB_b S (n := 1) (by decide) ((1 : Int) ^ (1 : Int).toNat).toNat i
            refine gi_iald C dX0_evenest_67 10 rfl (by decide) (by omega) ?_
            refine gi_goto (tgt := 73) C dX0_evenest_68 (by decide) ?_
            refine gi_pick [0, 1, 2, 3, 4, 5, 6, 7, 8, 9, 10] (w' := [xO o (fu fx 14 L_42) rx n, cI g (rx 0) 34 fA, wO n fn rn o, cI g (rn 1) 32 Se, wO (rx 3) ft1_42 rt o, cI g (rt 1) 32 Se1_42, cZ g (rt 2) 192 Bi1_42, cZ g (rt 3) 192 Tu1_42, cI g (rt 5) 3 Ma1_42, cI g (rx 12) 6 O1_42, cI g (rx 13) 6 Be1_42]) rfl rfl ?_
            exact gi_ireturn C dX0_evenest_73 (Nat.le_of_ble_eq_true rfl) (Nat.le_of_ble_eq_true rfl) ⟨_, rfl, L_42, ft1_42, Se1_42, Bi1_42, Tu1_42, Ma1_42, O1_42, Be1_42, (by unfold evenQ; first | (rw [if_pos (by omega)]; exact hLL) | (rw [if_neg (by omega), if_pos (by omega)]; exact hBi) | rw [if_neg (by omega), if_neg (by omega)]), rfl, (hz1_42)⟩
        · skip
          refine gi_aload_n C dX0_evenest_50 0 rfl ?_
          refine gi_get (v := vi L_42) C in_X0 dX0_evenest_51 14 q183 0 rfl rfl (by decide) (fun _ h => h) rfl ?_
          refine gi_goto (tgt := 73) C dX0_evenest_54 (by decide) ?_
          refine gi_pick [0, 1, 2, 3, 4, 5, 6, 7, 8, 9, 10] (w' := [xO o (fu fx 14 L_42) rx n, cI g (rx 0) 34 fA, wO n fn rn o, cI g (rn 1) 32 Se, wO (rx 3) ft1_42 rt o, cI g (rt 1) 32 Se1_42, cZ g (rt 2) 192 Bi1_42, cZ g (rt 3) 192 Tu1_42, cI g (rt 5) 3 Ma1_42, cI g (rx 12) 6 O1_42, cI g (rx 13) 6 Be1_42]) rfl rfl ?_
          exact gi_ireturn C dX0_evenest_73 (Nat.le_of_ble_eq_true rfl) (Nat.le_of_ble_eq_true rfl) ⟨_, rfl, L_42, ft1_42, Se1_42, Bi1_42, Tu1_42, Ma1_42, O1_42, Be1_42, (by unfold evenQ; first | (rw [if_pos (by omega)]; exact hLL) | (rw [if_neg (by omega), if_pos (by omega)]; exact hBi) | rw [if_neg (by omega), if_neg (by omega)]), rfl, (hz1_42)⟩
      · skip
        exact absurd h25 (by omega)
    · skip
      exact absurd h12 (by omega)
abbrev rmX0_evenest2 : Room := { frames := 8, cells := 0, slots := 0, locals := 205 }
set_option maxHeartbeats 4000000 in
set_option maxRecDepth 100000 in
/-- EvenWords.evenest(II)I -/
theorem mX0_evenest2 {g : GG} (hg : OKG g) (o : Nat) (fx : Nat → Int) (rx : Nat → Nat) (n : Nat) (fn : Nat → Int) (rn : Nat → Nat) (S : Int → Int) (Se : Int → Int) (Bi : Int → Int) (Tu : Int → Int) (Ma : Int → Int) (ft : Nat → Int) (rt : Nat → Nat) (Set : Int → Int) (Bit : Int → Int) (Tut : Int → Int) (Mat : Int → Int) (O : Int → Int) (Be : Int → Int) (i : Int) (hW : WR S fn Se Bi Tu Ma) (hi : -1 ≤ i ∧ i < 2147483648) (hN : 2 ≤ S 0) (hz : ∀ b : Int, 0 ≤ b → b < 192 → (Bit b = 0 ∨ Bit b = 1) ∧ (Tut b = 0 ∨ Tut b = 1)) : Con g yX0_evenest cX0_evenest 3 (some .int) rmX0_evenest2 [.ref o, vi 2, vi i] [xO o fx rx n, cI g (rx 0) 34 fA, wO n fn rn o, cI g (rn 1) 32 Se, wO (rx 3) ft rt o, cI g (rt 1) 32 Set, cZ g (rt 2) 192 Bit, cZ g (rt 3) 192 Tut, cI g (rt 5) 3 Mat, cI g (rx 12) 6 O, cI g (rx 13) 6 Be] (pI fun r_ w => ∃ (L : Int), ∃ (ft1 : Nat → Int), ∃ (Se1 : Int → Int), ∃ (Bi1 : Int → Int), ∃ (Tu1 : Int → Int), ∃ (Ma1 : Int → Int), ∃ (O1 : Int → Int), ∃ (Be1 : Int → Int), r_ = (evenQ S 2 i) ∧ w = [xO o (fu fx 14 L) rx n, cI g (rx 0) 34 fA, wO n fn rn o, cI g (rn 1) 32 Se, wO (rx 3) ft1 rt o, cI g (rt 1) 32 Se1, cZ g (rt 2) 192 Bi1, cZ g (rt 3) 192 Tu1, cI g (rt 5) 3 Ma1, cI g (rx 12) 6 O1, cI g (rx 13) 6 Be1] ∧ (∀ b : Int, 0 ≤ b → b < 192 → (Bi1 b = 0 ∨ Bi1 b = 1) ∧ (Tu1 b = 0 ∨ Tu1 b = 1))) := by
  refine con_of_go hg (by decide +kernel) (Nat.le_of_ble_eq_true rfl) ?_
  intro x C
  have hn0 := hW.n
  have hfin := evL_fin hW.ws (n := 2) (by decide)
  refine gi_lv (lv' := [(0, .ref o), (1, vi 2), (2, vi i)]) [0, 1, 2] rfl ?_
  refine gi_iload_n C dX0_evenest_0 1 rfl ?_
  refine gi_iconst C dX0_evenest_1 ?_
  refine gi_bipush C dX0_evenest_2 (by decide +kernel) ?_
  refine gi_runS (wr := [xO o fx rx n, cI g (rx 0) 34 fA, wO n fn rn o, cI g (rn 1) 32 Se, wO (rx 3) ft rt o, cI g (rt 1) 32 Set, cZ g (rt 2) 192 Bit, cZ g (rt 3) 192 Tut, cI g (rt 5) 3 Mat, cI g (rx 12) 6 O, cI g (rx 13) 6 Be]) (rest := []) C (mX0_in C.ok 2 1 6 (by omega) (by omega) (by omega)) dX0_evenest_4 q220 q221 q53 q222 hdX0_in ⟨Nat.le_of_ble_eq_true rfl, Nat.le_of_ble_eq_true rfl⟩ [] [0, 1, 2, 3, 4, 5, 6, 7, 8, 9, 10] rfl rfl rfl rfl (by decide) rfl (Nat.le_of_ble_eq_true rfl) ⟨Nat.le_of_ble_eq_true rfl, Nat.le_of_ble_eq_true rfl⟩ (kI fun r_4 w1 hv4 => ?_)
  obtain ⟨rfl, hr_4⟩ := hv4
  refine gi_pick [0, 1, 2, 3, 4, 5, 6, 7, 8, 9, 10] (w' := [xO o fx rx n, cI g (rx 0) 34 fA, wO n fn rn o, cI g (rn 1) 32 Se, wO (rx 3) ft rt o, cI g (rt 1) 32 Set, cZ g (rt 2) 192 Bit, cZ g (rt 3) 192 Tut, cI g (rt 5) 3 Mat, cI g (rx 12) 6 O, cI g (rx 13) 6 Be]) rfl rfl ?_
  refine gi_top (b := (bI (1 ≤ 2 ∧ 2 ≤ 6))) hr_4 ?_
  refine gi_if_eq (tgt := 15) C dX0_evenest_7 (by decide) (bI_rg _) (fun h7 => ?_) (fun h7 => ?_)
  · skip
    replace h7 := bI_eq0.mp h7
    exact absurd (by decide) h7
  · skip
    replace h7 := bI_ne0.mp h7
    refine gi_iload_n C dX0_evenest_10 2 rfl ?_
    refine gi_iconst C dX0_evenest_11 ?_
    refine gi_icmp_ge (tgt := 17) C dX0_evenest_12 (by decide) (by omega) (by omega) (fun h12 => ?_) (fun h12 => ?_)
    · skip
      refine gi_aload_n C dX0_evenest_17 0 rfl ?_
      refine gi_get (v := .ref n) C in_X0 dX0_evenest_18 2 q168 0 rfl rfl (by decide) (fun _ h => h) rfl ?_
      refine gi_getN (v := vi (fn 0)) C in_X1 dX0_evenest_21 0 q119 2 rfl rfl (by decide) (fun _ h => h) rfl ?_
      refine gi_iload_n C dX0_evenest_24 1 rfl ?_
      refine gi_icmp_ge (tgt := 31) C dX0_evenest_25 (by decide) (by omega) (by omega) (fun h25 => ?_) (fun h25 => ?_)
      · skip
        refine gi_aload_n C dX0_evenest_31 0 rfl ?_
        refine gi_ldcw (z := 2147483647) C dX0_evenest_32 q1489 (by decide +kernel) ?_
        refine gi_put (w' := [xO o (fu fx 14 2147483647) rx n, cI g (rx 0) 34 fA, wO n fn rn o, cI g (rn 1) 32 Se, wO (rx 3) ft rt o, cI g (rt 1) 32 Set, cZ g (rt 2) 192 Bit, cZ g (rt 3) 192 Tut, cI g (rt 5) 3 Mat, cI g (rx 12) 6 O, cI g (rx 13) 6 Be]) C in_X0 tyX0 tyX0_ok nmX0 dX0_evenest_35 14 q183 0 rfl rfl (by decide) (fun _ h => h) rfl rfl ⟨rfl, rfl⟩ (Nat.le_of_ble_eq_true rfl) rfl ?_
        refine gi_aload_n C dX0_evenest_38 0 rfl ?_
        refine gi_iload_n C dX0_evenest_39 1 rfl ?_
        refine gi_iconst C dX0_evenest_40 ?_
        refine gi_iconst C dX0_evenest_41 ?_
        refine gi_runV (wr := []) (rest := []) C (mX0_tries2 C.ok o (fu fx 14 2147483647) rx n fn rn S Se Bi Tu Ma ft rt Set Bit Tut Mat O Be 2 0 0 (show WR S fn Se Bi Tu Ma from (hW)) (show (1 ≤ 2 ∧ 2 ≤ 6) ∧ 2 ≤ S 0 from (⟨by decide, hN⟩)) (show 0 ≤ 0 ∧ 0 + 2 = 2 from (by decide)) (show PF 2 O 0 from (fun i h0 h1 => by omega)) (show UM 2 O 0 0 from (⟨by decide, fun k h0 h1 => ⟨fun z => by rw [Int.zero_ediv] at z; exact absurd z (by decide), fun ⟨i, g0, g1, _⟩ => by omega⟩⟩)) (show LB S 2 (2147483647) Be ((cdI 2 O (Int.toNat 0)) * 2 ^ 2) from (by show LB S 2 2147483647 Be (0 * _); rw [Int.zero_mul]; exact LB_0 S _ _)) (show ∀ b : Int, 0 ≤ b → b < 192 → (Bit b = 0 ∨ Bit b = 1) ∧ (Tut b = 0 ∨ Tut b = 1) from (hz))) dX0_evenest_42 q1490 q1492 qs25 q53 q1493 hdX0_tries ⟨Nat.le_of_ble_eq_true rfl, Nat.le_of_ble_eq_true rfl⟩ 0 rfl rfl [0, 1, 2, 3, 4, 5, 6, 7, 8, 9, 10] [] rfl rfl rfl rfl (by decide) rfl (Nat.le_of_ble_eq_true rfl) ⟨Nat.le_of_ble_eq_true rfl, Nat.le_of_ble_eq_true rfl⟩ (kV fun w1 hv42 => ?_)
        obtain ⟨L_42, ft1_42, Se1_42, Bi1_42, Tu1_42, Ma1_42, O1_42, Be1_42, rfl, hL1_42, hO1_42, hz1_42⟩ := hv42
        replace hL1_42 : LB S 2 L_42 Be1_42 (((cdI 2 O (Int.toNat 0)) + 1) * 2 ^ 2) := hL1_42
        replace hO1_42 : ∀ i : Int, 0 ≤ i → i < 0 → O1_42 i = O i := hO1_42
        replace hz1_42 : ∀ b : Int, 0 ≤ b → b < 192 → (Bi1_42 b = 0 ∨ Bi1_42 b = 1) ∧ (Tu1_42 b = 0 ∨ Tu1_42 b = 1) := hz1_42
        refine gi_pick [0, 1, 2, 3, 4, 5, 6, 7, 8, 9, 10] (w' := [xO o (fu fx 14 L_42) rx n, cI g (rx 0) 34 fA, wO n fn rn o, cI g (rn 1) 32 Se, wO (rx 3) ft1_42 rt o, cI g (rt 1) 32 Se1_42, cZ g (rt 2) 192 Bi1_42, cZ g (rt 3) 192 Tu1_42, cI g (rt 5) 3 Ma1_42, cI g (rx 12) 6 O1_42, cI g (rx 13) 6 Be1_42]) rfl rfl ?_
        have hLF : LB S 2 L_42 Be1_42 ((2 : Int) ^ (2 : Int).toNat) := hL1_42
        have hb := LB_b hW.ws hLF
        have hLL : L_42 = evL S 2 ((2 : Int) ^ (2 : Int).toNat).toNat := by have := hLF.1; rw [if_neg (by omega)] at this; exact this
        have hBB := hLF.2 (by omega)
        refine gi_iload_n C dX0_evenest_45 2 rfl ?_
        refine gi_iconst C dX0_evenest_46 ?_
        refine gi_icmp_ne (tgt := 57) C dX0_evenest_47 (by decide) (by omega) (by omega) (fun h47 => ?_) (fun h47 => ?_)
        · skip
          refine gi_iload_n C dX0_evenest_57 2 rfl ?_
          refine gi_iload_n C dX0_evenest_58 1 rfl ?_
          refine gi_icmp_ge (tgt := 71) C dX0_evenest_59 (by decide) (by omega) (by omega) (fun h59 => ?_) (fun h59 => ?_)
          · skip
            refine gi_bipush C dX0_evenest_71 (by decide +kernel) ?_
            refine gi_pick [0, 1, 2, 3, 4, 5, 6, 7, 8, 9, 10] (w' := [xO o (fu fx 14 L_42) rx n, cI g (rx 0) 34 fA, wO n fn rn o, cI g (rn 1) 32 Se, wO (rx 3) ft1_42 rt o, cI g (rt 1) 32 Se1_42, cZ g (rt 2) 192 Bi1_42, cZ g (rt 3) 192 Tu1_42, cI g (rt 5) 3 Ma1_42, cI g (rx 12) 6 O1_42, cI g (rx 13) 6 Be1_42]) rfl rfl ?_
            exact gi_ireturn C dX0_evenest_73 (Nat.le_of_ble_eq_true rfl) (Nat.le_of_ble_eq_true rfl) ⟨_, rfl, L_42, ft1_42, Se1_42, Bi1_42, Tu1_42, Ma1_42, O1_42, Be1_42, (by unfold evenQ; first | (rw [if_pos (by omega)]; exact hLL) | (rw [if_neg (by omega), if_pos (by omega)]; exact hBi) | rw [if_neg (by omega), if_neg (by omega)]), rfl, (hz1_42)⟩
          · skip
            refine gi_aload_n C dX0_evenest_62 0 rfl ?_
            refine gi_get (v := .ref (rx 13)) C in_X0 dX0_evenest_63 13 q182 0 rfl rfl (by decide) (fun _ h => h) rfl ?_
            refine gi_iload_n C dX0_evenest_66 2 rfl ?_
            have hBi := hBB i (by omega) (by omega)
            have hBr := evB_b S (n := 2) (by decide) ((2 : Int) ^ (2 : Int).toNat).toNat i
            refine gi_iald C dX0_evenest_67 10 rfl (by decide) (by omega) ?_
            refine gi_goto (tgt := 73) C dX0_evenest_68 (by decide) ?_
            refine gi_pick [0, 1, 2, 3, 4, 5, 6, 7, 8, 9, 10] (w' := [xO o (fu fx 14 L_42) rx n, cI g (rx 0) 34 fA, wO n fn rn o, cI g (rn 1) 32 Se, wO (rx 3) ft1_42 rt o, cI g (rt 1) 32 Se1_42, cZ g (rt 2) 192 Bi1_42, cZ g (rt 3) 192 Tu1_42, cI g (rt 5) 3 Ma1_42, cI g (rx 12) 6 O1_42, cI g (rx 13) 6 Be1_42]) rfl rfl ?_
            exact gi_ireturn C dX0_evenest_73 (Nat.le_of_ble_eq_true rfl) (Nat.le_of_ble_eq_true rfl) ⟨_, rfl, L_42, ft1_42, Se1_42, Bi1_42, Tu1_42, Ma1_42, O1_42, Be1_42, (by unfold evenQ; first | (rw [if_pos (by omega)]; exact hLL) | (rw [if_neg (by omega), if_pos (by omega)]; exact hBi) | rw [if_neg (by omega), if_neg (by omega)]), rfl, (hz1_42)⟩
        · skip
          refine gi_aload_n C dX0_evenest_50 0 rfl ?_
          refine gi_get (v := vi L_42) C in_X0 dX0_evenest_51 14 q183 0 rfl rfl (by decide) (fun _ h => h) rfl ?_
          refine gi_goto (tgt := 73) C dX0_evenest_54 (by decide) ?_
          refine gi_pick [0, 1, 2, 3, 4, 5, 6, 7, 8, 9, 10] (w' := [xO o (fu fx 14 L_42) rx n, cI g (rx 0) 34 fA, wO n fn rn o, cI g (rn 1) 32 Se, wO (rx 3) ft1_42 rt o, cI g (rt 1) 32 Se1_42, cZ g (rt 2) 192 Bi1_42, cZ g (rt 3) 192 Tu1_42, cI g (rt 5) 3 Ma1_42, cI g (rx 12) 6 O1_42, cI g (rx 13) 6 Be1_42]) rfl rfl ?_
          exact gi_ireturn C dX0_evenest_73 (Nat.le_of_ble_eq_true rfl) (Nat.le_of_ble_eq_true rfl) ⟨_, rfl, L_42, ft1_42, Se1_42, Bi1_42, Tu1_42, Ma1_42, O1_42, Be1_42, (by unfold evenQ; first | (rw [if_pos (by omega)]; exact hLL) | (rw [if_neg (by omega), if_pos (by omega)]; exact hBi) | rw [if_neg (by omega), if_neg (by omega)]), rfl, (hz1_42)⟩
      · skip
        exact absurd h25 (by omega)
    · skip
      exact absurd h12 (by omega)
abbrev rmX0_evenest3 : Room := { frames := 9, cells := 0, slots := 0, locals := 229 }
set_option maxHeartbeats 4000000 in
set_option maxRecDepth 100000 in
/-- EvenWords.evenest(II)I -/
theorem mX0_evenest3 {g : GG} (hg : OKG g) (o : Nat) (fx : Nat → Int) (rx : Nat → Nat) (n : Nat) (fn : Nat → Int) (rn : Nat → Nat) (S : Int → Int) (Se : Int → Int) (Bi : Int → Int) (Tu : Int → Int) (Ma : Int → Int) (ft : Nat → Int) (rt : Nat → Nat) (Set : Int → Int) (Bit : Int → Int) (Tut : Int → Int) (Mat : Int → Int) (O : Int → Int) (Be : Int → Int) (i : Int) (hW : WR S fn Se Bi Tu Ma) (hi : -1 ≤ i ∧ i < 2147483648) (hN : 3 ≤ S 0) (hz : ∀ b : Int, 0 ≤ b → b < 192 → (Bit b = 0 ∨ Bit b = 1) ∧ (Tut b = 0 ∨ Tut b = 1)) : Con g yX0_evenest cX0_evenest 3 (some .int) rmX0_evenest3 [.ref o, vi 3, vi i] [xO o fx rx n, cI g (rx 0) 34 fA, wO n fn rn o, cI g (rn 1) 32 Se, wO (rx 3) ft rt o, cI g (rt 1) 32 Set, cZ g (rt 2) 192 Bit, cZ g (rt 3) 192 Tut, cI g (rt 5) 3 Mat, cI g (rx 12) 6 O, cI g (rx 13) 6 Be] (pI fun r_ w => ∃ (L : Int), ∃ (ft1 : Nat → Int), ∃ (Se1 : Int → Int), ∃ (Bi1 : Int → Int), ∃ (Tu1 : Int → Int), ∃ (Ma1 : Int → Int), ∃ (O1 : Int → Int), ∃ (Be1 : Int → Int), r_ = (evenQ S 3 i) ∧ w = [xO o (fu fx 14 L) rx n, cI g (rx 0) 34 fA, wO n fn rn o, cI g (rn 1) 32 Se, wO (rx 3) ft1 rt o, cI g (rt 1) 32 Se1, cZ g (rt 2) 192 Bi1, cZ g (rt 3) 192 Tu1, cI g (rt 5) 3 Ma1, cI g (rx 12) 6 O1, cI g (rx 13) 6 Be1] ∧ (∀ b : Int, 0 ≤ b → b < 192 → (Bi1 b = 0 ∨ Bi1 b = 1) ∧ (Tu1 b = 0 ∨ Tu1 b = 1))) := by
  refine con_of_go hg (by decide +kernel) (Nat.le_of_ble_eq_true rfl) ?_
  intro x C
  have hn0 := hW.n
  have hfin := evL_fin hW.ws (n := 3) (by decide)
  refine gi_lv (lv' := [(0, .ref o), (1, vi 3), (2, vi i)]) [0, 1, 2] rfl ?_
  refine gi_iload_n C dX0_evenest_0 1 rfl ?_
  refine gi_iconst C dX0_evenest_1 ?_
  refine gi_bipush C dX0_evenest_2 (by decide +kernel) ?_
  refine gi_runS (wr := [xO o fx rx n, cI g (rx 0) 34 fA, wO n fn rn o, cI g (rn 1) 32 Se, wO (rx 3) ft rt o, cI g (rt 1) 32 Set, cZ g (rt 2) 192 Bit, cZ g (rt 3) 192 Tut, cI g (rt 5) 3 Mat, cI g (rx 12) 6 O, cI g (rx 13) 6 Be]) (rest := []) C (mX0_in C.ok 3 1 6 (by omega) (by omega) (by omega)) dX0_evenest_4 q220 q221 q53 q222 hdX0_in ⟨Nat.le_of_ble_eq_true rfl, Nat.le_of_ble_eq_true rfl⟩ [] [0, 1, 2, 3, 4, 5, 6, 7, 8, 9, 10] rfl rfl rfl rfl (by decide) rfl (Nat.le_of_ble_eq_true rfl) ⟨Nat.le_of_ble_eq_true rfl, Nat.le_of_ble_eq_true rfl⟩ (kI fun r_4 w1 hv4 => ?_)
  obtain ⟨rfl, hr_4⟩ := hv4
  refine gi_pick [0, 1, 2, 3, 4, 5, 6, 7, 8, 9, 10] (w' := [xO o fx rx n, cI g (rx 0) 34 fA, wO n fn rn o, cI g (rn 1) 32 Se, wO (rx 3) ft rt o, cI g (rt 1) 32 Set, cZ g (rt 2) 192 Bit, cZ g (rt 3) 192 Tut, cI g (rt 5) 3 Mat, cI g (rx 12) 6 O, cI g (rx 13) 6 Be]) rfl rfl ?_
  refine gi_top (b := (bI (1 ≤ 3 ∧ 3 ≤ 6))) hr_4 ?_
  refine gi_if_eq (tgt := 15) C dX0_evenest_7 (by decide) (bI_rg _) (fun h7 => ?_) (fun h7 => ?_)
  · skip
    replace h7 := bI_eq0.mp h7
    exact absurd (by decide) h7
  · skip
    replace h7 := bI_ne0.mp h7
    refine gi_iload_n C dX0_evenest_10 2 rfl ?_
    refine gi_iconst C dX0_evenest_11 ?_
    refine gi_icmp_ge (tgt := 17) C dX0_evenest_12 (by decide) (by omega) (by omega) (fun h12 => ?_) (fun h12 => ?_)
    · skip
      refine gi_aload_n C dX0_evenest_17 0 rfl ?_
      refine gi_get (v := .ref n) C in_X0 dX0_evenest_18 2 q168 0 rfl rfl (by decide) (fun _ h => h) rfl ?_
      refine gi_getN (v := vi (fn 0)) C in_X1 dX0_evenest_21 0 q119 2 rfl rfl (by decide) (fun _ h => h) rfl ?_
      refine gi_iload_n C dX0_evenest_24 1 rfl ?_
      refine gi_icmp_ge (tgt := 31) C dX0_evenest_25 (by decide) (by omega) (by omega) (fun h25 => ?_) (fun h25 => ?_)
      · skip
        refine gi_aload_n C dX0_evenest_31 0 rfl ?_
        refine gi_ldcw (z := 2147483647) C dX0_evenest_32 q1489 (by decide +kernel) ?_
        refine gi_put (w' := [xO o (fu fx 14 2147483647) rx n, cI g (rx 0) 34 fA, wO n fn rn o, cI g (rn 1) 32 Se, wO (rx 3) ft rt o, cI g (rt 1) 32 Set, cZ g (rt 2) 192 Bit, cZ g (rt 3) 192 Tut, cI g (rt 5) 3 Mat, cI g (rx 12) 6 O, cI g (rx 13) 6 Be]) C in_X0 tyX0 tyX0_ok nmX0 dX0_evenest_35 14 q183 0 rfl rfl (by decide) (fun _ h => h) rfl rfl ⟨rfl, rfl⟩ (Nat.le_of_ble_eq_true rfl) rfl ?_
        refine gi_aload_n C dX0_evenest_38 0 rfl ?_
        refine gi_iload_n C dX0_evenest_39 1 rfl ?_
        refine gi_iconst C dX0_evenest_40 ?_
        refine gi_iconst C dX0_evenest_41 ?_
        refine gi_runV (wr := []) (rest := []) C (mX0_tries3 C.ok o (fu fx 14 2147483647) rx n fn rn S Se Bi Tu Ma ft rt Set Bit Tut Mat O Be 3 0 0 (show WR S fn Se Bi Tu Ma from (hW)) (show (1 ≤ 3 ∧ 3 ≤ 6) ∧ 3 ≤ S 0 from (⟨by decide, hN⟩)) (show 0 ≤ 0 ∧ 0 + 3 = 3 from (by decide)) (show PF 3 O 0 from (fun i h0 h1 => by omega)) (show UM 3 O 0 0 from (⟨by decide, fun k h0 h1 => ⟨fun z => by rw [Int.zero_ediv] at z; exact absurd z (by decide), fun ⟨i, g0, g1, _⟩ => by omega⟩⟩)) (show LB S 3 (2147483647) Be ((cdI 3 O (Int.toNat 0)) * 3 ^ 3) from (by show LB S 3 2147483647 Be (0 * _); rw [Int.zero_mul]; exact LB_0 S _ _)) (show ∀ b : Int, 0 ≤ b → b < 192 → (Bit b = 0 ∨ Bit b = 1) ∧ (Tut b = 0 ∨ Tut b = 1) from (hz))) dX0_evenest_42 q1490 q1492 qs25 q53 q1493 hdX0_tries ⟨Nat.le_of_ble_eq_true rfl, Nat.le_of_ble_eq_true rfl⟩ 0 rfl rfl [0, 1, 2, 3, 4, 5, 6, 7, 8, 9, 10] [] rfl rfl rfl rfl (by decide) rfl (Nat.le_of_ble_eq_true rfl) ⟨Nat.le_of_ble_eq_true rfl, Nat.le_of_ble_eq_true rfl⟩ (kV fun w1 hv42 => ?_)
        obtain ⟨L_42, ft1_42, Se1_42, Bi1_42, Tu1_42, Ma1_42, O1_42, Be1_42, rfl, hL1_42, hO1_42, hz1_42⟩ := hv42
        replace hL1_42 : LB S 3 L_42 Be1_42 (((cdI 3 O (Int.toNat 0)) + 1) * 3 ^ 3) := hL1_42
        replace hO1_42 : ∀ i : Int, 0 ≤ i → i < 0 → O1_42 i = O i := hO1_42
        replace hz1_42 : ∀ b : Int, 0 ≤ b → b < 192 → (Bi1_42 b = 0 ∨ Bi1_42 b = 1) ∧ (Tu1_42 b = 0 ∨ Tu1_42 b = 1) := hz1_42
        refine gi_pick [0, 1, 2, 3, 4, 5, 6, 7, 8, 9, 10] (w' := [xO o (fu fx 14 L_42) rx n, cI g (rx 0) 34 fA, wO n fn rn o, cI g (rn 1) 32 Se, wO (rx 3) ft1_42 rt o, cI g (rt 1) 32 Se1_42, cZ g (rt 2) 192 Bi1_42, cZ g (rt 3) 192 Tu1_42, cI g (rt 5) 3 Ma1_42, cI g (rx 12) 6 O1_42, cI g (rx 13) 6 Be1_42]) rfl rfl ?_
        have hLF : LB S 3 L_42 Be1_42 ((3 : Int) ^ (3 : Int).toNat) := hL1_42
        have hb := LB_b hW.ws hLF
        have hLL : L_42 = evL S 3 ((3 : Int) ^ (3 : Int).toNat).toNat := by have := hLF.1; rw [if_neg (by omega)] at this; exact this
        have hBB := hLF.2 (by omega)
        refine gi_iload_n C dX0_evenest_45 2 rfl ?_
        refine gi_iconst C dX0_evenest_46 ?_
        refine gi_icmp_ne (tgt := 57) C dX0_evenest_47 (by decide) (by omega) (by omega) (fun h47 => ?_) (fun h47 => ?_)
        · skip
          refine gi_iload_n C dX0_evenest_57 2 rfl ?_
          refine gi_iload_n C dX0_evenest_58 1 rfl ?_
          refine gi_icmp_ge (tgt := 71) C dX0_evenest_59 (by decide) (by omega) (by omega) (fun h59 => ?_) (fun h59 => ?_)
          · skip
            refine gi_bipush C dX0_evenest_71 (by decide +kernel) ?_
            refine gi_pick [0, 1, 2, 3, 4, 5, 6, 7, 8, 9, 10] (w' := [xO o (fu fx 14 L_42) rx n, cI g (rx 0) 34 fA, wO n fn rn o, cI g (rn 1) 32 Se, wO (rx 3) ft1_42 rt o, cI g (rt 1) 32 Se1_42, cZ g (rt 2) 192 Bi1_42, cZ g (rt 3) 192 Tu1_42, cI g (rt 5) 3 Ma1_42, cI g (rx 12) 6 O1_42, cI g (rx 13) 6 Be1_42]) rfl rfl ?_
            exact gi_ireturn C dX0_evenest_73 (Nat.le_of_ble_eq_true rfl) (Nat.le_of_ble_eq_true rfl) ⟨_, rfl, L_42, ft1_42, Se1_42, Bi1_42, Tu1_42, Ma1_42, O1_42, Be1_42, (by unfold evenQ; first | (rw [if_pos (by omega)]; exact hLL) | (rw [if_neg (by omega), if_pos (by omega)]; exact hBi) | rw [if_neg (by omega), if_neg (by omega)]), rfl, (hz1_42)⟩
          · skip
            refine gi_aload_n C dX0_evenest_62 0 rfl ?_
            refine gi_get (v := .ref (rx 13)) C in_X0 dX0_evenest_63 13 q182 0 rfl rfl (by decide) (fun _ h => h) rfl ?_
            refine gi_iload_n C dX0_evenest_66 2 rfl ?_
            have hBi := hBB i (by omega) (by omega)
            have hBr := evB_b S (n := 3) (by decide) ((3 : Int) ^ (3 : Int).toNat).toNat i
            refine gi_iald C dX0_evenest_67 10 rfl (by decide) (by omega) ?_
            refine gi_goto (tgt := 73) C dX0_evenest_68 (by decide) ?_
            refine gi_pick [0, 1, 2, 3, 4, 5, 6, 7, 8, 9, 10] (w' := [xO o (fu fx 14 L_42) rx n, cI g (rx 0) 34 fA, wO n fn rn o, cI g (rn 1) 32 Se, wO (rx 3) ft1_42 rt o, cI g (rt 1) 32 Se1_42, cZ g (rt 2) 192 Bi1_42, cZ g (rt 3) 192 Tu1_42, cI g (rt 5) 3 Ma1_42, cI g (rx 12) 6 O1_42, cI g (rx 13) 6 Be1_42]) rfl rfl ?_
            exact gi_ireturn C dX0_evenest_73 (Nat.le_of_ble_eq_true rfl) (Nat.le_of_ble_eq_true rfl) ⟨_, rfl, L_42, ft1_42, Se1_42, Bi1_42, Tu1_42, Ma1_42, O1_42, Be1_42, (by unfold evenQ; first | (rw [if_pos (by omega)]; exact hLL) | (rw [if_neg (by omega), if_pos (by omega)]; exact hBi) | rw [if_neg (by omega), if_neg (by omega)]), rfl, (hz1_42)⟩
        · skip
          refine gi_aload_n C dX0_evenest_50 0 rfl ?_
          refine gi_get (v := vi L_42) C in_X0 dX0_evenest_51 14 q183 0 rfl rfl (by decide) (fun _ h => h) rfl ?_
          refine gi_goto (tgt := 73) C dX0_evenest_54 (by decide) ?_
          refine gi_pick [0, 1, 2, 3, 4, 5, 6, 7, 8, 9, 10] (w' := [xO o (fu fx 14 L_42) rx n, cI g (rx 0) 34 fA, wO n fn rn o, cI g (rn 1) 32 Se, wO (rx 3) ft1_42 rt o, cI g (rt 1) 32 Se1_42, cZ g (rt 2) 192 Bi1_42, cZ g (rt 3) 192 Tu1_42, cI g (rt 5) 3 Ma1_42, cI g (rx 12) 6 O1_42, cI g (rx 13) 6 Be1_42]) rfl rfl ?_
          exact gi_ireturn C dX0_evenest_73 (Nat.le_of_ble_eq_true rfl) (Nat.le_of_ble_eq_true rfl) ⟨_, rfl, L_42, ft1_42, Se1_42, Bi1_42, Tu1_42, Ma1_42, O1_42, Be1_42, (by unfold evenQ; first | (rw [if_pos (by omega)]; exact hLL) | (rw [if_neg (by omega), if_pos (by omega)]; exact hBi) | rw [if_neg (by omega), if_neg (by omega)]), rfl, (hz1_42)⟩
      · skip
        exact absurd h25 (by omega)
    · skip
      exact absurd h12 (by omega)
abbrev rmX0_evenest4 : Room := { frames := 10, cells := 0, slots := 0, locals := 253 }
set_option maxHeartbeats 4000000 in
set_option maxRecDepth 100000 in
/-- EvenWords.evenest(II)I -/
theorem mX0_evenest4 {g : GG} (hg : OKG g) (o : Nat) (fx : Nat → Int) (rx : Nat → Nat) (n : Nat) (fn : Nat → Int) (rn : Nat → Nat) (S : Int → Int) (Se : Int → Int) (Bi : Int → Int) (Tu : Int → Int) (Ma : Int → Int) (ft : Nat → Int) (rt : Nat → Nat) (Set : Int → Int) (Bit : Int → Int) (Tut : Int → Int) (Mat : Int → Int) (O : Int → Int) (Be : Int → Int) (i : Int) (hW : WR S fn Se Bi Tu Ma) (hi : -1 ≤ i ∧ i < 2147483648) (hN : 4 ≤ S 0) (hz : ∀ b : Int, 0 ≤ b → b < 192 → (Bit b = 0 ∨ Bit b = 1) ∧ (Tut b = 0 ∨ Tut b = 1)) : Con g yX0_evenest cX0_evenest 3 (some .int) rmX0_evenest4 [.ref o, vi 4, vi i] [xO o fx rx n, cI g (rx 0) 34 fA, wO n fn rn o, cI g (rn 1) 32 Se, wO (rx 3) ft rt o, cI g (rt 1) 32 Set, cZ g (rt 2) 192 Bit, cZ g (rt 3) 192 Tut, cI g (rt 5) 3 Mat, cI g (rx 12) 6 O, cI g (rx 13) 6 Be] (pI fun r_ w => ∃ (L : Int), ∃ (ft1 : Nat → Int), ∃ (Se1 : Int → Int), ∃ (Bi1 : Int → Int), ∃ (Tu1 : Int → Int), ∃ (Ma1 : Int → Int), ∃ (O1 : Int → Int), ∃ (Be1 : Int → Int), r_ = (evenQ S 4 i) ∧ w = [xO o (fu fx 14 L) rx n, cI g (rx 0) 34 fA, wO n fn rn o, cI g (rn 1) 32 Se, wO (rx 3) ft1 rt o, cI g (rt 1) 32 Se1, cZ g (rt 2) 192 Bi1, cZ g (rt 3) 192 Tu1, cI g (rt 5) 3 Ma1, cI g (rx 12) 6 O1, cI g (rx 13) 6 Be1] ∧ (∀ b : Int, 0 ≤ b → b < 192 → (Bi1 b = 0 ∨ Bi1 b = 1) ∧ (Tu1 b = 0 ∨ Tu1 b = 1))) := by
  refine con_of_go hg (by decide +kernel) (Nat.le_of_ble_eq_true rfl) ?_
  intro x C
  have hn0 := hW.n
  have hfin := evL_fin hW.ws (n := 4) (by decide)
  refine gi_lv (lv' := [(0, .ref o), (1, vi 4), (2, vi i)]) [0, 1, 2] rfl ?_
  refine gi_iload_n C dX0_evenest_0 1 rfl ?_
  refine gi_iconst C dX0_evenest_1 ?_
  refine gi_bipush C dX0_evenest_2 (by decide +kernel) ?_
  refine gi_runS (wr := [xO o fx rx n, cI g (rx 0) 34 fA, wO n fn rn o, cI g (rn 1) 32 Se, wO (rx 3) ft rt o, cI g (rt 1) 32 Set, cZ g (rt 2) 192 Bit, cZ g (rt 3) 192 Tut, cI g (rt 5) 3 Mat, cI g (rx 12) 6 O, cI g (rx 13) 6 Be]) (rest := []) C (mX0_in C.ok 4 1 6 (by omega) (by omega) (by omega)) dX0_evenest_4 q220 q221 q53 q222 hdX0_in ⟨Nat.le_of_ble_eq_true rfl, Nat.le_of_ble_eq_true rfl⟩ [] [0, 1, 2, 3, 4, 5, 6, 7, 8, 9, 10] rfl rfl rfl rfl (by decide) rfl (Nat.le_of_ble_eq_true rfl) ⟨Nat.le_of_ble_eq_true rfl, Nat.le_of_ble_eq_true rfl⟩ (kI fun r_4 w1 hv4 => ?_)
  obtain ⟨rfl, hr_4⟩ := hv4
  refine gi_pick [0, 1, 2, 3, 4, 5, 6, 7, 8, 9, 10] (w' := [xO o fx rx n, cI g (rx 0) 34 fA, wO n fn rn o, cI g (rn 1) 32 Se, wO (rx 3) ft rt o, cI g (rt 1) 32 Set, cZ g (rt 2) 192 Bit, cZ g (rt 3) 192 Tut, cI g (rt 5) 3 Mat, cI g (rx 12) 6 O, cI g (rx 13) 6 Be]) rfl rfl ?_
  refine gi_top (b := (bI (1 ≤ 4 ∧ 4 ≤ 6))) hr_4 ?_
  refine gi_if_eq (tgt := 15) C dX0_evenest_7 (by decide) (bI_rg _) (fun h7 => ?_) (fun h7 => ?_)
  · skip
    replace h7 := bI_eq0.mp h7
    exact absurd (by decide) h7
  · skip
    replace h7 := bI_ne0.mp h7
    refine gi_iload_n C dX0_evenest_10 2 rfl ?_
    refine gi_iconst C dX0_evenest_11 ?_
    refine gi_icmp_ge (tgt := 17) C dX0_evenest_12 (by decide) (by omega) (by omega) (fun h12 => ?_) (fun h12 => ?_)
    · skip
      refine gi_aload_n C dX0_evenest_17 0 rfl ?_
      refine gi_get (v := .ref n) C in_X0 dX0_evenest_18 2 q168 0 rfl rfl (by decide) (fun _ h => h) rfl ?_
      refine gi_getN (v := vi (fn 0)) C in_X1 dX0_evenest_21 0 q119 2 rfl rfl (by decide) (fun _ h => h) rfl ?_
      refine gi_iload_n C dX0_evenest_24 1 rfl ?_
      refine gi_icmp_ge (tgt := 31) C dX0_evenest_25 (by decide) (by omega) (by omega) (fun h25 => ?_) (fun h25 => ?_)
      · skip
        refine gi_aload_n C dX0_evenest_31 0 rfl ?_
        refine gi_ldcw (z := 2147483647) C dX0_evenest_32 q1489 (by decide +kernel) ?_
        refine gi_put (w' := [xO o (fu fx 14 2147483647) rx n, cI g (rx 0) 34 fA, wO n fn rn o, cI g (rn 1) 32 Se, wO (rx 3) ft rt o, cI g (rt 1) 32 Set, cZ g (rt 2) 192 Bit, cZ g (rt 3) 192 Tut, cI g (rt 5) 3 Mat, cI g (rx 12) 6 O, cI g (rx 13) 6 Be]) C in_X0 tyX0 tyX0_ok nmX0 dX0_evenest_35 14 q183 0 rfl rfl (by decide) (fun _ h => h) rfl rfl ⟨rfl, rfl⟩ (Nat.le_of_ble_eq_true rfl) rfl ?_
        refine gi_aload_n C dX0_evenest_38 0 rfl ?_
        refine gi_iload_n C dX0_evenest_39 1 rfl ?_
        refine gi_iconst C dX0_evenest_40 ?_
        refine gi_iconst C dX0_evenest_41 ?_
        refine gi_runV (wr := []) (rest := []) C (mX0_tries4 C.ok o (fu fx 14 2147483647) rx n fn rn S Se Bi Tu Ma ft rt Set Bit Tut Mat O Be 4 0 0 (show WR S fn Se Bi Tu Ma from (hW)) (show (1 ≤ 4 ∧ 4 ≤ 6) ∧ 4 ≤ S 0 from (⟨by decide, hN⟩)) (show 0 ≤ 0 ∧ 0 + 4 = 4 from (by decide)) (show PF 4 O 0 from (fun i h0 h1 => by omega)) (show UM 4 O 0 0 from (⟨by decide, fun k h0 h1 => ⟨fun z => by rw [Int.zero_ediv] at z; exact absurd z (by decide), fun ⟨i, g0, g1, _⟩ => by omega⟩⟩)) (show LB S 4 (2147483647) Be ((cdI 4 O (Int.toNat 0)) * 4 ^ 4) from (by show LB S 4 2147483647 Be (0 * _); rw [Int.zero_mul]; exact LB_0 S _ _)) (show ∀ b : Int, 0 ≤ b → b < 192 → (Bit b = 0 ∨ Bit b = 1) ∧ (Tut b = 0 ∨ Tut b = 1) from (hz))) dX0_evenest_42 q1490 q1492 qs25 q53 q1493 hdX0_tries ⟨Nat.le_of_ble_eq_true rfl, Nat.le_of_ble_eq_true rfl⟩ 0 rfl rfl [0, 1, 2, 3, 4, 5, 6, 7, 8, 9, 10] [] rfl rfl rfl rfl (by decide) rfl (Nat.le_of_ble_eq_true rfl) ⟨Nat.le_of_ble_eq_true rfl, Nat.le_of_ble_eq_true rfl⟩ (kV fun w1 hv42 => ?_)
        obtain ⟨L_42, ft1_42, Se1_42, Bi1_42, Tu1_42, Ma1_42, O1_42, Be1_42, rfl, hL1_42, hO1_42, hz1_42⟩ := hv42
        replace hL1_42 : LB S 4 L_42 Be1_42 (((cdI 4 O (Int.toNat 0)) + 1) * 4 ^ 4) := hL1_42
        replace hO1_42 : ∀ i : Int, 0 ≤ i → i < 0 → O1_42 i = O i := hO1_42
        replace hz1_42 : ∀ b : Int, 0 ≤ b → b < 192 → (Bi1_42 b = 0 ∨ Bi1_42 b = 1) ∧ (Tu1_42 b = 0 ∨ Tu1_42 b = 1) := hz1_42
        refine gi_pick [0, 1, 2, 3, 4, 5, 6, 7, 8, 9, 10] (w' := [xO o (fu fx 14 L_42) rx n, cI g (rx 0) 34 fA, wO n fn rn o, cI g (rn 1) 32 Se, wO (rx 3) ft1_42 rt o, cI g (rt 1) 32 Se1_42, cZ g (rt 2) 192 Bi1_42, cZ g (rt 3) 192 Tu1_42, cI g (rt 5) 3 Ma1_42, cI g (rx 12) 6 O1_42, cI g (rx 13) 6 Be1_42]) rfl rfl ?_
        have hLF : LB S 4 L_42 Be1_42 ((4 : Int) ^ (4 : Int).toNat) := hL1_42
        have hb := LB_b hW.ws hLF
        have hLL : L_42 = evL S 4 ((4 : Int) ^ (4 : Int).toNat).toNat := by have := hLF.1; rw [if_neg (by omega)] at this; exact this
        have hBB := hLF.2 (by omega)
        refine gi_iload_n C dX0_evenest_45 2 rfl ?_
        refine gi_iconst C dX0_evenest_46 ?_
        refine gi_icmp_ne (tgt := 57) C dX0_evenest_47 (by decide) (by omega) (by omega) (fun h47 => ?_) (fun h47 => ?_)
        · skip
          refine gi_iload_n C dX0_evenest_57 2 rfl ?_
          refine gi_iload_n C dX0_evenest_58 1 rfl ?_
          refine gi_icmp_ge (tgt := 71) C dX0_evenest_59 (by decide) (by omega) (by omega) (fun h59 => ?_) (fun h59 => ?_)
          · skip
            refine gi_bipush C dX0_evenest_71 (by decide +kernel) ?_
            refine gi_pick [0, 1, 2, 3, 4, 5, 6, 7, 8, 9, 10] (w' := [xO o (fu fx 14 L_42) rx n, cI g (rx 0) 34 fA, wO n fn rn o, cI g (rn 1) 32 Se, wO (rx 3) ft1_42 rt o, cI g (rt 1) 32 Se1_42, cZ g (rt 2) 192 Bi1_42, cZ g (rt 3) 192 Tu1_42, cI g (rt 5) 3 Ma1_42, cI g (rx 12) 6 O1_42, cI g (rx 13) 6 Be1_42]) rfl rfl ?_
            exact gi_ireturn C dX0_evenest_73 (Nat.le_of_ble_eq_true rfl) (Nat.le_of_ble_eq_true rfl) ⟨_, rfl, L_42, ft1_42, Se1_42, Bi1_42, Tu1_42, Ma1_42, O1_42, Be1_42, (by unfold evenQ; first | (rw [if_pos (by omega)]; exact hLL) | (rw [if_neg (by omega), if_pos (by omega)]; exact hBi) | rw [if_neg (by omega), if_neg (by omega)]), rfl, (hz1_42)⟩
          · skip
            refine gi_aload_n C dX0_evenest_62 0 rfl ?_
            refine gi_get (v := .ref (rx 13)) C in_X0 dX0_evenest_63 13 q182 0 rfl rfl (by decide) (fun _ h => h) rfl ?_
            refine gi_iload_n C dX0_evenest_66 2 rfl ?_
            have hBi := hBB i (by omega) (by omega)
            have hBr := evB_b S (n := 4) (by decide) ((4 : Int) ^ (4 : Int).toNat).toNat i
            refine gi_iald C dX0_evenest_67 10 rfl (by decide) (by omega) ?_
            refine gi_goto (tgt := 73) C dX0_evenest_68 (by decide) ?_
            refine gi_pick [0, 1, 2, 3, 4, 5, 6, 7, 8, 9, 10] (w' := [xO o (fu fx 14 L_42) rx n, cI g (rx 0) 34 fA, wO n fn rn o, cI g (rn 1) 32 Se, wO (rx 3) ft1_42 rt o, cI g (rt 1) 32 Se1_42, cZ g (rt 2) 192 Bi1_42, cZ g (rt 3) 192 Tu1_42, cI g (rt 5) 3 Ma1_42, cI g (rx 12) 6 O1_42, cI g (rx 13) 6 Be1_42]) rfl rfl ?_
            exact gi_ireturn C dX0_evenest_73 (Nat.le_of_ble_eq_true rfl) (Nat.le_of_ble_eq_true rfl) ⟨_, rfl, L_42, ft1_42, Se1_42, Bi1_42, Tu1_42, Ma1_42, O1_42, Be1_42, (by unfold evenQ; first | (rw [if_pos (by omega)]; exact hLL) | (rw [if_neg (by omega), if_pos (by omega)]; exact hBi) | rw [if_neg (by omega), if_neg (by omega)]), rfl, (hz1_42)⟩
        · skip
          refine gi_aload_n C dX0_evenest_50 0 rfl ?_
          refine gi_get (v := vi L_42) C in_X0 dX0_evenest_51 14 q183 0 rfl rfl (by decide) (fun _ h => h) rfl ?_
          refine gi_goto (tgt := 73) C dX0_evenest_54 (by decide) ?_
          refine gi_pick [0, 1, 2, 3, 4, 5, 6, 7, 8, 9, 10] (w' := [xO o (fu fx 14 L_42) rx n, cI g (rx 0) 34 fA, wO n fn rn o, cI g (rn 1) 32 Se, wO (rx 3) ft1_42 rt o, cI g (rt 1) 32 Se1_42, cZ g (rt 2) 192 Bi1_42, cZ g (rt 3) 192 Tu1_42, cI g (rt 5) 3 Ma1_42, cI g (rx 12) 6 O1_42, cI g (rx 13) 6 Be1_42]) rfl rfl ?_
          exact gi_ireturn C dX0_evenest_73 (Nat.le_of_ble_eq_true rfl) (Nat.le_of_ble_eq_true rfl) ⟨_, rfl, L_42, ft1_42, Se1_42, Bi1_42, Tu1_42, Ma1_42, O1_42, Be1_42, (by unfold evenQ; first | (rw [if_pos (by omega)]; exact hLL) | (rw [if_neg (by omega), if_pos (by omega)]; exact hBi) | rw [if_neg (by omega), if_neg (by omega)]), rfl, (hz1_42)⟩
      · skip
        exact absurd h25 (by omega)
    · skip
      exact absurd h12 (by omega)
abbrev rmX0_evenest5 : Room := { frames := 11, cells := 0, slots := 0, locals := 277 }
set_option maxHeartbeats 4000000 in
set_option maxRecDepth 100000 in
/-- EvenWords.evenest(II)I -/
theorem mX0_evenest5 {g : GG} (hg : OKG g) (o : Nat) (fx : Nat → Int) (rx : Nat → Nat) (n : Nat) (fn : Nat → Int) (rn : Nat → Nat) (S : Int → Int) (Se : Int → Int) (Bi : Int → Int) (Tu : Int → Int) (Ma : Int → Int) (ft : Nat → Int) (rt : Nat → Nat) (Set : Int → Int) (Bit : Int → Int) (Tut : Int → Int) (Mat : Int → Int) (O : Int → Int) (Be : Int → Int) (i : Int) (hW : WR S fn Se Bi Tu Ma) (hi : -1 ≤ i ∧ i < 2147483648) (hN : 5 ≤ S 0) (hz : ∀ b : Int, 0 ≤ b → b < 192 → (Bit b = 0 ∨ Bit b = 1) ∧ (Tut b = 0 ∨ Tut b = 1)) : Con g yX0_evenest cX0_evenest 3 (some .int) rmX0_evenest5 [.ref o, vi 5, vi i] [xO o fx rx n, cI g (rx 0) 34 fA, wO n fn rn o, cI g (rn 1) 32 Se, wO (rx 3) ft rt o, cI g (rt 1) 32 Set, cZ g (rt 2) 192 Bit, cZ g (rt 3) 192 Tut, cI g (rt 5) 3 Mat, cI g (rx 12) 6 O, cI g (rx 13) 6 Be] (pI fun r_ w => ∃ (L : Int), ∃ (ft1 : Nat → Int), ∃ (Se1 : Int → Int), ∃ (Bi1 : Int → Int), ∃ (Tu1 : Int → Int), ∃ (Ma1 : Int → Int), ∃ (O1 : Int → Int), ∃ (Be1 : Int → Int), r_ = (evenQ S 5 i) ∧ w = [xO o (fu fx 14 L) rx n, cI g (rx 0) 34 fA, wO n fn rn o, cI g (rn 1) 32 Se, wO (rx 3) ft1 rt o, cI g (rt 1) 32 Se1, cZ g (rt 2) 192 Bi1, cZ g (rt 3) 192 Tu1, cI g (rt 5) 3 Ma1, cI g (rx 12) 6 O1, cI g (rx 13) 6 Be1] ∧ (∀ b : Int, 0 ≤ b → b < 192 → (Bi1 b = 0 ∨ Bi1 b = 1) ∧ (Tu1 b = 0 ∨ Tu1 b = 1))) := by
  refine con_of_go hg (by decide +kernel) (Nat.le_of_ble_eq_true rfl) ?_
  intro x C
  have hn0 := hW.n
  have hfin := evL_fin hW.ws (n := 5) (by decide)
  refine gi_lv (lv' := [(0, .ref o), (1, vi 5), (2, vi i)]) [0, 1, 2] rfl ?_
  refine gi_iload_n C dX0_evenest_0 1 rfl ?_
  refine gi_iconst C dX0_evenest_1 ?_
  refine gi_bipush C dX0_evenest_2 (by decide +kernel) ?_
  refine gi_runS (wr := [xO o fx rx n, cI g (rx 0) 34 fA, wO n fn rn o, cI g (rn 1) 32 Se, wO (rx 3) ft rt o, cI g (rt 1) 32 Set, cZ g (rt 2) 192 Bit, cZ g (rt 3) 192 Tut, cI g (rt 5) 3 Mat, cI g (rx 12) 6 O, cI g (rx 13) 6 Be]) (rest := []) C (mX0_in C.ok 5 1 6 (by omega) (by omega) (by omega)) dX0_evenest_4 q220 q221 q53 q222 hdX0_in ⟨Nat.le_of_ble_eq_true rfl, Nat.le_of_ble_eq_true rfl⟩ [] [0, 1, 2, 3, 4, 5, 6, 7, 8, 9, 10] rfl rfl rfl rfl (by decide) rfl (Nat.le_of_ble_eq_true rfl) ⟨Nat.le_of_ble_eq_true rfl, Nat.le_of_ble_eq_true rfl⟩ (kI fun r_4 w1 hv4 => ?_)
  obtain ⟨rfl, hr_4⟩ := hv4
  refine gi_pick [0, 1, 2, 3, 4, 5, 6, 7, 8, 9, 10] (w' := [xO o fx rx n, cI g (rx 0) 34 fA, wO n fn rn o, cI g (rn 1) 32 Se, wO (rx 3) ft rt o, cI g (rt 1) 32 Set, cZ g (rt 2) 192 Bit, cZ g (rt 3) 192 Tut, cI g (rt 5) 3 Mat, cI g (rx 12) 6 O, cI g (rx 13) 6 Be]) rfl rfl ?_
  refine gi_top (b := (bI (1 ≤ 5 ∧ 5 ≤ 6))) hr_4 ?_
  refine gi_if_eq (tgt := 15) C dX0_evenest_7 (by decide) (bI_rg _) (fun h7 => ?_) (fun h7 => ?_)
  · skip
    replace h7 := bI_eq0.mp h7
    exact absurd (by decide) h7
  · skip
    replace h7 := bI_ne0.mp h7
    refine gi_iload_n C dX0_evenest_10 2 rfl ?_
    refine gi_iconst C dX0_evenest_11 ?_
    refine gi_icmp_ge (tgt := 17) C dX0_evenest_12 (by decide) (by omega) (by omega) (fun h12 => ?_) (fun h12 => ?_)
    · skip
      refine gi_aload_n C dX0_evenest_17 0 rfl ?_
      refine gi_get (v := .ref n) C in_X0 dX0_evenest_18 2 q168 0 rfl rfl (by decide) (fun _ h => h) rfl ?_
      refine gi_getN (v := vi (fn 0)) C in_X1 dX0_evenest_21 0 q119 2 rfl rfl (by decide) (fun _ h => h) rfl ?_
      refine gi_iload_n C dX0_evenest_24 1 rfl ?_
      refine gi_icmp_ge (tgt := 31) C dX0_evenest_25 (by decide) (by omega) (by omega) (fun h25 => ?_) (fun h25 => ?_)
      · skip
        refine gi_aload_n C dX0_evenest_31 0 rfl ?_
        refine gi_ldcw (z := 2147483647) C dX0_evenest_32 q1489 (by decide +kernel) ?_
        refine gi_put (w' := [xO o (fu fx 14 2147483647) rx n, cI g (rx 0) 34 fA, wO n fn rn o, cI g (rn 1) 32 Se, wO (rx 3) ft rt o, cI g (rt 1) 32 Set, cZ g (rt 2) 192 Bit, cZ g (rt 3) 192 Tut, cI g (rt 5) 3 Mat, cI g (rx 12) 6 O, cI g (rx 13) 6 Be]) C in_X0 tyX0 tyX0_ok nmX0 dX0_evenest_35 14 q183 0 rfl rfl (by decide) (fun _ h => h) rfl rfl ⟨rfl, rfl⟩ (Nat.le_of_ble_eq_true rfl) rfl ?_
        refine gi_aload_n C dX0_evenest_38 0 rfl ?_
        refine gi_iload_n C dX0_evenest_39 1 rfl ?_
        refine gi_iconst C dX0_evenest_40 ?_
        refine gi_iconst C dX0_evenest_41 ?_
        refine gi_runV (wr := []) (rest := []) C (mX0_tries5 C.ok o (fu fx 14 2147483647) rx n fn rn S Se Bi Tu Ma ft rt Set Bit Tut Mat O Be 5 0 0 (show WR S fn Se Bi Tu Ma from (hW)) (show (1 ≤ 5 ∧ 5 ≤ 6) ∧ 5 ≤ S 0 from (⟨by decide, hN⟩)) (show 0 ≤ 0 ∧ 0 + 5 = 5 from (by decide)) (show PF 5 O 0 from (fun i h0 h1 => by omega)) (show UM 5 O 0 0 from (⟨by decide, fun k h0 h1 => ⟨fun z => by rw [Int.zero_ediv] at z; exact absurd z (by decide), fun ⟨i, g0, g1, _⟩ => by omega⟩⟩)) (show LB S 5 (2147483647) Be ((cdI 5 O (Int.toNat 0)) * 5 ^ 5) from (by show LB S 5 2147483647 Be (0 * _); rw [Int.zero_mul]; exact LB_0 S _ _)) (show ∀ b : Int, 0 ≤ b → b < 192 → (Bit b = 0 ∨ Bit b = 1) ∧ (Tut b = 0 ∨ Tut b = 1) from (hz))) dX0_evenest_42 q1490 q1492 qs25 q53 q1493 hdX0_tries ⟨Nat.le_of_ble_eq_true rfl, Nat.le_of_ble_eq_true rfl⟩ 0 rfl rfl [0, 1, 2, 3, 4, 5, 6, 7, 8, 9, 10] [] rfl rfl rfl rfl (by decide) rfl (Nat.le_of_ble_eq_true rfl) ⟨Nat.le_of_ble_eq_true rfl, Nat.le_of_ble_eq_true rfl⟩ (kV fun w1 hv42 => ?_)
        obtain ⟨L_42, ft1_42, Se1_42, Bi1_42, Tu1_42, Ma1_42, O1_42, Be1_42, rfl, hL1_42, hO1_42, hz1_42⟩ := hv42
        replace hL1_42 : LB S 5 L_42 Be1_42 (((cdI 5 O (Int.toNat 0)) + 1) * 5 ^ 5) := hL1_42
        replace hO1_42 : ∀ i : Int, 0 ≤ i → i < 0 → O1_42 i = O i := hO1_42
        replace hz1_42 : ∀ b : Int, 0 ≤ b → b < 192 → (Bi1_42 b = 0 ∨ Bi1_42 b = 1) ∧ (Tu1_42 b = 0 ∨ Tu1_42 b = 1) := hz1_42
        refine gi_pick [0, 1, 2, 3, 4, 5, 6, 7, 8, 9, 10] (w' := [xO o (fu fx 14 L_42) rx n, cI g (rx 0) 34 fA, wO n fn rn o, cI g (rn 1) 32 Se, wO (rx 3) ft1_42 rt o, cI g (rt 1) 32 Se1_42, cZ g (rt 2) 192 Bi1_42, cZ g (rt 3) 192 Tu1_42, cI g (rt 5) 3 Ma1_42, cI g (rx 12) 6 O1_42, cI g (rx 13) 6 Be1_42]) rfl rfl ?_
        have hLF : LB S 5 L_42 Be1_42 ((5 : Int) ^ (5 : Int).toNat) := hL1_42
        have hb := LB_b hW.ws hLF
        have hLL : L_42 = evL S 5 ((5 : Int) ^ (5 : Int).toNat).toNat := by have := hLF.1; rw [if_neg (by omega)] at this; exact this
        have hBB := hLF.2 (by omega)
        refine gi_iload_n C dX0_evenest_45 2 rfl ?_
        refine gi_iconst C dX0_evenest_46 ?_
        refine gi_icmp_ne (tgt := 57) C dX0_evenest_47 (by decide) (by omega) (by omega) (fun h47 => ?_) (fun h47 => ?_)
        · skip
          refine gi_iload_n C dX0_evenest_57 2 rfl ?_
          refine gi_iload_n C dX0_evenest_58 1 rfl ?_
          refine gi_icmp_ge (tgt := 71) C dX0_evenest_59 (by decide) (by omega) (by omega) (fun h59 => ?_) (fun h59 => ?_)
          · skip
            refine gi_bipush C dX0_evenest_71 (by decide +kernel) ?_
            refine gi_pick [0, 1, 2, 3, 4, 5, 6, 7, 8, 9, 10] (w' := [xO o (fu fx 14 L_42) rx n, cI g (rx 0) 34 fA, wO n fn rn o, cI g (rn 1) 32 Se, wO (rx 3) ft1_42 rt o, cI g (rt 1) 32 Se1_42, cZ g (rt 2) 192 Bi1_42, cZ g (rt 3) 192 Tu1_42, cI g (rt 5) 3 Ma1_42, cI g (rx 12) 6 O1_42, cI g (rx 13) 6 Be1_42]) rfl rfl ?_
            exact gi_ireturn C dX0_evenest_73 (Nat.le_of_ble_eq_true rfl) (Nat.le_of_ble_eq_true rfl) ⟨_, rfl, L_42, ft1_42, Se1_42, Bi1_42, Tu1_42, Ma1_42, O1_42, Be1_42, (by unfold evenQ; first | (rw [if_pos (by omega)]; exact hLL) | (rw [if_neg (by omega), if_pos (by omega)]; exact hBi) | rw [if_neg (by omega), if_neg (by omega)]), rfl, (hz1_42)⟩
          · skip
            refine gi_aload_n C dX0_evenest_62 0 rfl ?_
            refine gi_get (v := .ref (rx 13)) C in_X0 dX0_evenest_63 13 q182 0 rfl rfl (by decide) (fun _ h => h) rfl ?_
            refine gi_iload_n C dX0_evenest_66 2 rfl ?_
            have hBi := hBB i (by omega) (by omega)
            have hBr := evB_b S (n := 5) (by decide) ((5 : Int) ^ (5 : Int).toNat).toNat i
            refine gi_iald C dX0_evenest_67 10 rfl (by decide) (by omega) ?_
            refine gi_goto (tgt := 73) C dX0_evenest_68 (by decide) ?_
            refine gi_pick [0, 1, 2, 3, 4, 5, 6, 7, 8, 9, 10] (w' := [xO o (fu fx 14 L_42) rx n, cI g (rx 0) 34 fA, wO n fn rn o, cI g (rn 1) 32 Se, wO (rx 3) ft1_42 rt o, cI g (rt 1) 32 Se1_42, cZ g (rt 2) 192 Bi1_42, cZ g (rt 3) 192 Tu1_42, cI g (rt 5) 3 Ma1_42, cI g (rx 12) 6 O1_42, cI g (rx 13) 6 Be1_42]) rfl rfl ?_
            exact gi_ireturn C dX0_evenest_73 (Nat.le_of_ble_eq_true rfl) (Nat.le_of_ble_eq_true rfl) ⟨_, rfl, L_42, ft1_42, Se1_42, Bi1_42, Tu1_42, Ma1_42, O1_42, Be1_42, (by unfold evenQ; first | (rw [if_pos (by omega)]; exact hLL) | (rw [if_neg (by omega), if_pos (by omega)]; exact hBi) | rw [if_neg (by omega), if_neg (by omega)]), rfl, (hz1_42)⟩
        · skip
          refine gi_aload_n C dX0_evenest_50 0 rfl ?_
          refine gi_get (v := vi L_42) C in_X0 dX0_evenest_51 14 q183 0 rfl rfl (by decide) (fun _ h => h) rfl ?_
          refine gi_goto (tgt := 73) C dX0_evenest_54 (by decide) ?_
          refine gi_pick [0, 1, 2, 3, 4, 5, 6, 7, 8, 9, 10] (w' := [xO o (fu fx 14 L_42) rx n, cI g (rx 0) 34 fA, wO n fn rn o, cI g (rn 1) 32 Se, wO (rx 3) ft1_42 rt o, cI g (rt 1) 32 Se1_42, cZ g (rt 2) 192 Bi1_42, cZ g (rt 3) 192 Tu1_42, cI g (rt 5) 3 Ma1_42, cI g (rx 12) 6 O1_42, cI g (rx 13) 6 Be1_42]) rfl rfl ?_
          exact gi_ireturn C dX0_evenest_73 (Nat.le_of_ble_eq_true rfl) (Nat.le_of_ble_eq_true rfl) ⟨_, rfl, L_42, ft1_42, Se1_42, Bi1_42, Tu1_42, Ma1_42, O1_42, Be1_42, (by unfold evenQ; first | (rw [if_pos (by omega)]; exact hLL) | (rw [if_neg (by omega), if_pos (by omega)]; exact hBi) | rw [if_neg (by omega), if_neg (by omega)]), rfl, (hz1_42)⟩
      · skip
        exact absurd h25 (by omega)
    · skip
      exact absurd h12 (by omega)
abbrev rmX0_evenest6 : Room := { frames := 12, cells := 0, slots := 0, locals := 301 }
set_option maxHeartbeats 4000000 in
set_option maxRecDepth 100000 in
/-- EvenWords.evenest(II)I -/
theorem mX0_evenest6 {g : GG} (hg : OKG g) (o : Nat) (fx : Nat → Int) (rx : Nat → Nat) (n : Nat) (fn : Nat → Int) (rn : Nat → Nat) (S : Int → Int) (Se : Int → Int) (Bi : Int → Int) (Tu : Int → Int) (Ma : Int → Int) (ft : Nat → Int) (rt : Nat → Nat) (Set : Int → Int) (Bit : Int → Int) (Tut : Int → Int) (Mat : Int → Int) (O : Int → Int) (Be : Int → Int) (i : Int) (hW : WR S fn Se Bi Tu Ma) (hi : -1 ≤ i ∧ i < 2147483648) (hN : 6 ≤ S 0) (hz : ∀ b : Int, 0 ≤ b → b < 192 → (Bit b = 0 ∨ Bit b = 1) ∧ (Tut b = 0 ∨ Tut b = 1)) : Con g yX0_evenest cX0_evenest 3 (some .int) rmX0_evenest6 [.ref o, vi 6, vi i] [xO o fx rx n, cI g (rx 0) 34 fA, wO n fn rn o, cI g (rn 1) 32 Se, wO (rx 3) ft rt o, cI g (rt 1) 32 Set, cZ g (rt 2) 192 Bit, cZ g (rt 3) 192 Tut, cI g (rt 5) 3 Mat, cI g (rx 12) 6 O, cI g (rx 13) 6 Be] (pI fun r_ w => ∃ (L : Int), ∃ (ft1 : Nat → Int), ∃ (Se1 : Int → Int), ∃ (Bi1 : Int → Int), ∃ (Tu1 : Int → Int), ∃ (Ma1 : Int → Int), ∃ (O1 : Int → Int), ∃ (Be1 : Int → Int), r_ = (evenQ S 6 i) ∧ w = [xO o (fu fx 14 L) rx n, cI g (rx 0) 34 fA, wO n fn rn o, cI g (rn 1) 32 Se, wO (rx 3) ft1 rt o, cI g (rt 1) 32 Se1, cZ g (rt 2) 192 Bi1, cZ g (rt 3) 192 Tu1, cI g (rt 5) 3 Ma1, cI g (rx 12) 6 O1, cI g (rx 13) 6 Be1] ∧ (∀ b : Int, 0 ≤ b → b < 192 → (Bi1 b = 0 ∨ Bi1 b = 1) ∧ (Tu1 b = 0 ∨ Tu1 b = 1))) := by
  refine con_of_go hg (by decide +kernel) (Nat.le_of_ble_eq_true rfl) ?_
  intro x C
  have hn0 := hW.n
  have hfin := evL_fin hW.ws (n := 6) (by decide)
  refine gi_lv (lv' := [(0, .ref o), (1, vi 6), (2, vi i)]) [0, 1, 2] rfl ?_
  refine gi_iload_n C dX0_evenest_0 1 rfl ?_
  refine gi_iconst C dX0_evenest_1 ?_
  refine gi_bipush C dX0_evenest_2 (by decide +kernel) ?_
  refine gi_runS (wr := [xO o fx rx n, cI g (rx 0) 34 fA, wO n fn rn o, cI g (rn 1) 32 Se, wO (rx 3) ft rt o, cI g (rt 1) 32 Set, cZ g (rt 2) 192 Bit, cZ g (rt 3) 192 Tut, cI g (rt 5) 3 Mat, cI g (rx 12) 6 O, cI g (rx 13) 6 Be]) (rest := []) C (mX0_in C.ok 6 1 6 (by omega) (by omega) (by omega)) dX0_evenest_4 q220 q221 q53 q222 hdX0_in ⟨Nat.le_of_ble_eq_true rfl, Nat.le_of_ble_eq_true rfl⟩ [] [0, 1, 2, 3, 4, 5, 6, 7, 8, 9, 10] rfl rfl rfl rfl (by decide) rfl (Nat.le_of_ble_eq_true rfl) ⟨Nat.le_of_ble_eq_true rfl, Nat.le_of_ble_eq_true rfl⟩ (kI fun r_4 w1 hv4 => ?_)
  obtain ⟨rfl, hr_4⟩ := hv4
  refine gi_pick [0, 1, 2, 3, 4, 5, 6, 7, 8, 9, 10] (w' := [xO o fx rx n, cI g (rx 0) 34 fA, wO n fn rn o, cI g (rn 1) 32 Se, wO (rx 3) ft rt o, cI g (rt 1) 32 Set, cZ g (rt 2) 192 Bit, cZ g (rt 3) 192 Tut, cI g (rt 5) 3 Mat, cI g (rx 12) 6 O, cI g (rx 13) 6 Be]) rfl rfl ?_
  refine gi_top (b := (bI (1 ≤ 6 ∧ 6 ≤ 6))) hr_4 ?_
  refine gi_if_eq (tgt := 15) C dX0_evenest_7 (by decide) (bI_rg _) (fun h7 => ?_) (fun h7 => ?_)
  · skip
    replace h7 := bI_eq0.mp h7
    exact absurd (by decide) h7
  · skip
    replace h7 := bI_ne0.mp h7
    refine gi_iload_n C dX0_evenest_10 2 rfl ?_
    refine gi_iconst C dX0_evenest_11 ?_
    refine gi_icmp_ge (tgt := 17) C dX0_evenest_12 (by decide) (by omega) (by omega) (fun h12 => ?_) (fun h12 => ?_)
    · skip
      refine gi_aload_n C dX0_evenest_17 0 rfl ?_
      refine gi_get (v := .ref n) C in_X0 dX0_evenest_18 2 q168 0 rfl rfl (by decide) (fun _ h => h) rfl ?_
      refine gi_getN (v := vi (fn 0)) C in_X1 dX0_evenest_21 0 q119 2 rfl rfl (by decide) (fun _ h => h) rfl ?_
      refine gi_iload_n C dX0_evenest_24 1 rfl ?_
      refine gi_icmp_ge (tgt := 31) C dX0_evenest_25 (by decide) (by omega) (by omega) (fun h25 => ?_) (fun h25 => ?_)
      · skip
        refine gi_aload_n C dX0_evenest_31 0 rfl ?_
        refine gi_ldcw (z := 2147483647) C dX0_evenest_32 q1489 (by decide +kernel) ?_
        refine gi_put (w' := [xO o (fu fx 14 2147483647) rx n, cI g (rx 0) 34 fA, wO n fn rn o, cI g (rn 1) 32 Se, wO (rx 3) ft rt o, cI g (rt 1) 32 Set, cZ g (rt 2) 192 Bit, cZ g (rt 3) 192 Tut, cI g (rt 5) 3 Mat, cI g (rx 12) 6 O, cI g (rx 13) 6 Be]) C in_X0 tyX0 tyX0_ok nmX0 dX0_evenest_35 14 q183 0 rfl rfl (by decide) (fun _ h => h) rfl rfl ⟨rfl, rfl⟩ (Nat.le_of_ble_eq_true rfl) rfl ?_
        refine gi_aload_n C dX0_evenest_38 0 rfl ?_
        refine gi_iload_n C dX0_evenest_39 1 rfl ?_
        refine gi_iconst C dX0_evenest_40 ?_
        refine gi_iconst C dX0_evenest_41 ?_
        refine gi_runV (wr := []) (rest := []) C (mX0_tries6 C.ok o (fu fx 14 2147483647) rx n fn rn S Se Bi Tu Ma ft rt Set Bit Tut Mat O Be 6 0 0 (show WR S fn Se Bi Tu Ma from (hW)) (show (1 ≤ 6 ∧ 6 ≤ 6) ∧ 6 ≤ S 0 from (⟨by decide, hN⟩)) (show 0 ≤ 0 ∧ 0 + 6 = 6 from (by decide)) (show PF 6 O 0 from (fun i h0 h1 => by omega)) (show UM 6 O 0 0 from (⟨by decide, fun k h0 h1 => ⟨fun z => by rw [Int.zero_ediv] at z; exact absurd z (by decide), fun ⟨i, g0, g1, _⟩ => by omega⟩⟩)) (show LB S 6 (2147483647) Be ((cdI 6 O (Int.toNat 0)) * 6 ^ 6) from (by show LB S 6 2147483647 Be (0 * _); rw [Int.zero_mul]; exact LB_0 S _ _)) (show ∀ b : Int, 0 ≤ b → b < 192 → (Bit b = 0 ∨ Bit b = 1) ∧ (Tut b = 0 ∨ Tut b = 1) from (hz))) dX0_evenest_42 q1490 q1492 qs25 q53 q1493 hdX0_tries ⟨Nat.le_of_ble_eq_true rfl, Nat.le_of_ble_eq_true rfl⟩ 0 rfl rfl [0, 1, 2, 3, 4, 5, 6, 7, 8, 9, 10] [] rfl rfl rfl rfl (by decide) rfl (Nat.le_of_ble_eq_true rfl) ⟨Nat.le_of_ble_eq_true rfl, Nat.le_of_ble_eq_true rfl⟩ (kV fun w1 hv42 => ?_)
        obtain ⟨L_42, ft1_42, Se1_42, Bi1_42, Tu1_42, Ma1_42, O1_42, Be1_42, rfl, hL1_42, hO1_42, hz1_42⟩ := hv42
        replace hL1_42 : LB S 6 L_42 Be1_42 (((cdI 6 O (Int.toNat 0)) + 1) * 6 ^ 6) := hL1_42
        replace hO1_42 : ∀ i : Int, 0 ≤ i → i < 0 → O1_42 i = O i := hO1_42
        replace hz1_42 : ∀ b : Int, 0 ≤ b → b < 192 → (Bi1_42 b = 0 ∨ Bi1_42 b = 1) ∧ (Tu1_42 b = 0 ∨ Tu1_42 b = 1) := hz1_42
        refine gi_pick [0, 1, 2, 3, 4, 5, 6, 7, 8, 9, 10] (w' := [xO o (fu fx 14 L_42) rx n, cI g (rx 0) 34 fA, wO n fn rn o, cI g (rn 1) 32 Se, wO (rx 3) ft1_42 rt o, cI g (rt 1) 32 Se1_42, cZ g (rt 2) 192 Bi1_42, cZ g (rt 3) 192 Tu1_42, cI g (rt 5) 3 Ma1_42, cI g (rx 12) 6 O1_42, cI g (rx 13) 6 Be1_42]) rfl rfl ?_
        have hLF : LB S 6 L_42 Be1_42 ((6 : Int) ^ (6 : Int).toNat) := hL1_42
        have hb := LB_b hW.ws hLF
        have hLL : L_42 = evL S 6 ((6 : Int) ^ (6 : Int).toNat).toNat := by have := hLF.1; rw [if_neg (by omega)] at this; exact this
        have hBB := hLF.2 (by omega)
        refine gi_iload_n C dX0_evenest_45 2 rfl ?_
        refine gi_iconst C dX0_evenest_46 ?_
        refine gi_icmp_ne (tgt := 57) C dX0_evenest_47 (by decide) (by omega) (by omega) (fun h47 => ?_) (fun h47 => ?_)
        · skip
          refine gi_iload_n C dX0_evenest_57 2 rfl ?_
          refine gi_iload_n C dX0_evenest_58 1 rfl ?_
          refine gi_icmp_ge (tgt := 71) C dX0_evenest_59 (by decide) (by omega) (by omega) (fun h59 => ?_) (fun h59 => ?_)
          · skip
            refine gi_bipush C dX0_evenest_71 (by decide +kernel) ?_
            refine gi_pick [0, 1, 2, 3, 4, 5, 6, 7, 8, 9, 10] (w' := [xO o (fu fx 14 L_42) rx n, cI g (rx 0) 34 fA, wO n fn rn o, cI g (rn 1) 32 Se, wO (rx 3) ft1_42 rt o, cI g (rt 1) 32 Se1_42, cZ g (rt 2) 192 Bi1_42, cZ g (rt 3) 192 Tu1_42, cI g (rt 5) 3 Ma1_42, cI g (rx 12) 6 O1_42, cI g (rx 13) 6 Be1_42]) rfl rfl ?_
            exact gi_ireturn C dX0_evenest_73 (Nat.le_of_ble_eq_true rfl) (Nat.le_of_ble_eq_true rfl) ⟨_, rfl, L_42, ft1_42, Se1_42, Bi1_42, Tu1_42, Ma1_42, O1_42, Be1_42, (by unfold evenQ; first | (rw [if_pos (by omega)]; exact hLL) | (rw [if_neg (by omega), if_pos (by omega)]; exact hBi) | rw [if_neg (by omega), if_neg (by omega)]), rfl, (hz1_42)⟩
          · skip
            refine gi_aload_n C dX0_evenest_62 0 rfl ?_
            refine gi_get (v := .ref (rx 13)) C in_X0 dX0_evenest_63 13 q182 0 rfl rfl (by decide) (fun _ h => h) rfl ?_
            refine gi_iload_n C dX0_evenest_66 2 rfl ?_
            have hBi := hBB i (by omega) (by omega)
            have hBr := evB_b S (n := 6) (by decide) ((6 : Int) ^ (6 : Int).toNat).toNat i
            refine gi_iald C dX0_evenest_67 10 rfl (by decide) (by omega) ?_
            refine gi_goto (tgt := 73) C dX0_evenest_68 (by decide) ?_
            refine gi_pick [0, 1, 2, 3, 4, 5, 6, 7, 8, 9, 10] (w' := [xO o (fu fx 14 L_42) rx n, cI g (rx 0) 34 fA, wO n fn rn o, cI g (rn 1) 32 Se, wO (rx 3) ft1_42 rt o, cI g (rt 1) 32 Se1_42, cZ g (rt 2) 192 Bi1_42, cZ g (rt 3) 192 Tu1_42, cI g (rt 5) 3 Ma1_42, cI g (rx 12) 6 O1_42, cI g (rx 13) 6 Be1_42]) rfl rfl ?_
            exact gi_ireturn C dX0_evenest_73 (Nat.le_of_ble_eq_true rfl) (Nat.le_of_ble_eq_true rfl) ⟨_, rfl, L_42, ft1_42, Se1_42, Bi1_42, Tu1_42, Ma1_42, O1_42, Be1_42, (by unfold evenQ; first | (rw [if_pos (by omega)]; exact hLL) | (rw [if_neg (by omega), if_pos (by omega)]; exact hBi) | rw [if_neg (by omega), if_neg (by omega)]), rfl, (hz1_42)⟩
        · skip
          refine gi_aload_n C dX0_evenest_50 0 rfl ?_
          refine gi_get (v := vi L_42) C in_X0 dX0_evenest_51 14 q183 0 rfl rfl (by decide) (fun _ h => h) rfl ?_
          refine gi_goto (tgt := 73) C dX0_evenest_54 (by decide) ?_
          refine gi_pick [0, 1, 2, 3, 4, 5, 6, 7, 8, 9, 10] (w' := [xO o (fu fx 14 L_42) rx n, cI g (rx 0) 34 fA, wO n fn rn o, cI g (rn 1) 32 Se, wO (rx 3) ft1_42 rt o, cI g (rt 1) 32 Se1_42, cZ g (rt 2) 192 Bi1_42, cZ g (rt 3) 192 Tu1_42, cI g (rt 5) 3 Ma1_42, cI g (rx 12) 6 O1_42, cI g (rx 13) 6 Be1_42]) rfl rfl ?_
          exact gi_ireturn C dX0_evenest_73 (Nat.le_of_ble_eq_true rfl) (Nat.le_of_ble_eq_true rfl) ⟨_, rfl, L_42, ft1_42, Se1_42, Bi1_42, Tu1_42, Ma1_42, O1_42, Be1_42, (by unfold evenQ; first | (rw [if_pos (by omega)]; exact hLL) | (rw [if_neg (by omega), if_pos (by omega)]; exact hBi) | rw [if_neg (by omega), if_neg (by omega)]), rfl, (hz1_42)⟩
      · skip
        exact absurd h25 (by omega)
    · skip
      exact absurd h12 (by omega)
