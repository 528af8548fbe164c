theorem hdX0_blames : yX0_blames.cls ≠ "java/lang/invoke/MethodHandle" ∧ yX0_blames.cls ≠ "java/lang/invoke/VarHandle" ∧ (parseMethodDescriptor yX0_blames.desc).map (fun d => d.parameters.length) = some 1 := by decide +kernel
abbrev rmX0_blames : Room := { frames := 7, cells := 6337, slots := 37828, locals := 149 }
set_option maxHeartbeats 4000000 in
set_option maxRecDepth 100000 in
/-- EvenWords.blames(LEvenWords$Read;)V -/
theorem mX0_blames {g : GG} (hg : OKG g) (o : Nat) (fx : Nat → Int) (rx : Nat → Nat) (n : Nat) (fn : Nat → Int) (rn : Nat → Nat) (S : Int → Int) (Se : Int → Int) (Bi : Int → Int) (Tu : Int → Int) (Ma : Int → Int) (So : Int → Option Nat) (l0 : Nat) (l1 : Nat) (ft : Nat → Int) (rt : Nat → Nat) (Set : Int → Int) (Bit : Int → Int) (Tut : Int → Int) (Mat : Int → Int) (rd : Nat) (fr : Int) (u : Int) (hW : WR S fn Se Bi Tu Ma) (hfr : 0 ≤ fr ∧ fr ≤ 5) (hu : u = 1 ∨ u = -1) (hz : ∀ b : Int, 0 ≤ b → b < 192 → (Bit b = 0 ∨ Bit b = 1) ∧ (Tut b = 0 ∨ Tut b = 1)) (hs0 : So 0 = some l0) (hs1 : So 1 = some l1) (hs2 : So 2 = some (lA g 266 56 lmZ2)) (hs3 : So 3 = some (lA g 274 59 lmZ3)) : Con g yX0_blames cX0_blames 4 none rmX0_blames [.ref o, .ref rd] [xO o fx rx n, cI g (rx 0) 34 fA, cI g (rx 1) 64 meanT, cR g 4 (rx 9) 4 So, cL g 249 51 lmZ0 l0 o, cL g 258 55 lmZ1 l1 o, wO n fn rn o, cI g (rn 1) 32 Se, cZ g (rn 2) 192 Bi, cZ g (rn 3) 192 Tu, cI g (rn 5) 3 Ma, wO (rx 3) ft rt o, cI g (rt 1) 32 Set, cZ g (rt 2) 192 Bit, cZ g (rt 3) 192 Tut, cI g (rt 5) 3 Mat, cO rd 7 [.ref n, vi fr, vi (if u < 0 then 0 else 1), .ref o]] (pV fun w => w = [xO o (fu (fu fx 10 (blmN S fr u)) 11 (lowR S fr u)) rx n, cI g (rx 0) 34 fA, cI g (rx 1) 64 meanT, cR g 4 (rx 9) 4 So, cL g 249 51 lmZ0 l0 o, cL g 258 55 lmZ1 l1 o, wO n fn rn o, cI g (rn 1) 32 Se, cZ g (rn 2) 192 Bi, cZ g (rn 3) 192 Tu, cI g (rn 5) 3 Ma, wO (rx 3) fn rt o, cI g (rt 1) 32 Se, cZ g (rt 2) 192 Bi, cZ g (rt 3) 192 Tu, cI g (rt 5) 3 Ma, cO rd 7 [.ref n, vi fr, vi (if u < 0 then 0 else 1), .ref o]]) := by
  refine con_of_go hg (by decide +kernel) (Nat.le_of_ble_eq_true rfl) ?_
  intro x C
  have hn0 := hW.n
  have ha4 := hW.a2
  have hpn := npc_b (nb := 6 * S 0) (fr := fr) (by omega) hfr.1
  refine gi_lv (lv' := [(0, .ref o), (1, .ref rd)]) [0, 1] rfl ?_
  refine gi_aload_n C dX0_blames_0 0 rfl ?_
  refine gi_iconst C dX0_blames_1 ?_
  refine gi_put (w' := [xO o (fu fx 10 0) rx n, cI g (rx 0) 34 fA, cI g (rx 1) 64 meanT, cR g 4 (rx 9) 4 So, cL g 249 51 lmZ0 l0 o, cL g 258 55 lmZ1 l1 o, wO n fn rn o, cI g (rn 1) 32 Se, cZ g (rn 2) 192 Bi, cZ g (rn 3) 192 Tu, cI g (rn 5) 3 Ma, wO (rx 3) ft rt o, cI g (rt 1) 32 Set, cZ g (rt 2) 192 Bit, cZ g (rt 3) 192 Tut, cI g (rt 5) 3 Mat, cO rd 7 [.ref n, vi fr, vi (if u < 0 then 0 else 1), .ref o]]) C in_X0 tyX0 tyX0_ok nmX0 dX0_blames_2 10 q179 0 rfl rfl (by decide) (fun _ h => h) rfl rfl ⟨rfl, rfl⟩ (Nat.le_of_ble_eq_true rfl) rfl ?_
  refine gi_aload_n C dX0_blames_5 0 rfl ?_
  refine gi_bipush C dX0_blames_6 (by decide +kernel) ?_
  refine gi_put (w' := [xO o (fu (fu fx 10 0) 11 (-9)) rx n, cI g (rx 0) 34 fA, cI g (rx 1) 64 meanT, cR g 4 (rx 9) 4 So, cL g 249 51 lmZ0 l0 o, cL g 258 55 lmZ1 l1 o, wO n fn rn o, cI g (rn 1) 32 Se, cZ g (rn 2) 192 Bi, cZ g (rn 3) 192 Tu, cI g (rn 5) 3 Ma, wO (rx 3) ft rt o, cI g (rt 1) 32 Set, cZ g (rt 2) 192 Bit, cZ g (rt 3) 192 Tut, cI g (rt 5) 3 Mat, cO rd 7 [.ref n, vi fr, vi (if u < 0 then 0 else 1), .ref o]]) C in_X0 tyX0 tyX0_ok nmX0 dX0_blames_8 11 q180 0 rfl rfl (by decide) (fun _ h => h) rfl rfl ⟨rfl, rfl⟩ (Nat.le_of_ble_eq_true rfl) rfl ?_
  refine gi_aload_n C dX0_blames_11 0 rfl ?_
  refine gi_get (v := .ref (rx 3)) C in_X0 dX0_blames_12 3 q170 0 rfl rfl (by decide) (fun _ h => h) rfl ?_
  refine gi_aload_n C dX0_blames_15 0 rfl ?_
  refine gi_get (v := .ref n) C in_X0 dX0_blames_16 2 q168 0 rfl rfl (by decide) (fun _ h => h) rfl ?_
  refine gi_runV (wr := [xO o (fu (fu fx 10 0) 11 (-9)) rx n, cI g (rx 0) 34 fA, cI g (rx 1) 64 meanT, cR g 4 (rx 9) 4 So, cL g 249 51 lmZ0 l0 o, cL g 258 55 lmZ1 l1 o, cO rd 7 [.ref n, vi fr, vi (if u < 0 then 0 else 1), .ref o]]) (rest := []) C (mX1_as C.ok (rx 3) ft rt o n fn rn o Set Bit Tut Mat Se Bi Tu Ma (show ∀ b : Int, 0 ≤ b → b < 192 → (Bi b = 0 ∨ Bi b = 1) ∧ (Tu b = 0 ∨ Tu b = 1) from (fun b h0 h1 => hW.z h0 h1)) (show fn 4 = 0 ∨ fn 4 = 1 from (by omega))) dX0_blames_19 q386 q387 q388 q56 q389 hdX1_as ⟨Nat.le_of_ble_eq_true rfl, Nat.le_of_ble_eq_true rfl⟩ 11 rfl rfl [11, 12, 13, 14, 15, 6, 7, 8, 9, 10] [0, 1, 2, 3, 4, 5, 16] rfl rfl rfl rfl (by decide) rfl (Nat.le_of_ble_eq_true rfl) ⟨Nat.le_of_ble_eq_true rfl, Nat.le_of_ble_eq_true rfl⟩ (kR fun r_19 w1 hv19 => ?_)
  obtain ⟨hr_19, rfl⟩ := hv19
  replace hr_19 := hr_19.symm
  subst hr_19
  refine gi_pick [0, 1, 2, 3, 4, 5, 12, 13, 14, 15, 16, 7, 8, 9, 10, 11, 6] (w' := [xO o (fu (fu fx 10 0) 11 (-9)) rx n, cI g (rx 0) 34 fA, cI g (rx 1) 64 meanT, cR g 4 (rx 9) 4 So, cL g 249 51 lmZ0 l0 o, cL g 258 55 lmZ1 l1 o, wO n fn rn o, cI g (rn 1) 32 Se, cZ g (rn 2) 192 Bi, cZ g (rn 3) 192 Tu, cI g (rn 5) 3 Ma, wO (rx 3) fn rt o, cI g (rt 1) 32 Se, cZ g (rt 2) 192 Bi, cZ g (rt 3) 192 Tu, cI g (rt 5) 3 Ma, cO rd 7 [.ref n, vi fr, vi (if u < 0 then 0 else 1), .ref o]]) rfl rfl ?_
  refine gi_pop C dX0_blames_22 rfl ?_
  refine gi_new (c := 7) (N := 4) (fs := [.null, vi 0, vi 0, .null]) C in_X7 tyX7 tyX7_ok dX0_blames_23 q1212 q1213 q85 rfl (newfsX7) (Nat.le_of_ble_eq_true rfl) (Nat.le_of_ble_eq_true rfl) (fun q23 => ?_)
  refine gi_ws (w' := [xO o (fu (fu fx 10 0) 11 (-9)) rx n, cI g (rx 0) 34 fA, cI g (rx 1) 64 meanT, cR g 4 (rx 9) 4 So, cL g 249 51 lmZ0 l0 o, cL g 258 55 lmZ1 l1 o, wO n fn rn o, cI g (rn 1) 32 Se, cZ g (rn 2) 192 Bi, cZ g (rn 3) 192 Tu, cI g (rn 5) 3 Ma, wO (rx 3) fn rt o, cI g (rt 1) 32 Se, cZ g (rt 2) 192 Bi, cZ g (rt 3) 192 Tu, cI g (rt 5) 3 Ma, cO rd 7 [.ref n, vi fr, vi (if u < 0 then 0 else 1), .ref o], cO q23 7 [.null, vi 0, vi 0, .null]]) rfl ?_
  refine gi_dup C dX0_blames_26 rfl ?_
  refine gi_aload_n C dX0_blames_27 0 rfl ?_
  refine gi_aload_n C dX0_blames_28 0 rfl ?_
  refine gi_get (v := .ref (rx 3)) C in_X0 dX0_blames_29 3 q170 0 rfl rfl (by decide) (fun _ h => h) rfl ?_
  refine gi_aload_n C dX0_blames_32 1 rfl ?_
  refine gi_getN (v := vi fr) C in_X7 dX0_blames_33 1 q1222 16 rfl rfl (by decide) (fun _ h => h) rfl ?_
  refine gi_aload_n C dX0_blames_36 1 rfl ?_
  refine gi_getN (v := vi (if u < 0 then 0 else 1)) C in_X7 dX0_blames_37 2 q1225 16 rfl rfl (by decide) (fun _ h => h) rfl ?_
  refine gi_runI (wr := [xO o (fu (fu fx 10 0) 11 (-9)) rx n, cI g (rx 0) 34 fA, cI g (rx 1) 64 meanT, cR g 4 (rx 9) 4 So, cL g 249 51 lmZ0 l0 o, cL g 258 55 lmZ1 l1 o, wO n fn rn o, cI g (rn 1) 32 Se, cZ g (rn 2) 192 Bi, cZ g (rn 3) 192 Tu, cI g (rn 5) 3 Ma, wO (rx 3) fn rt o, cI g (rt 1) 32 Se, cZ g (rt 2) 192 Bi, cZ g (rt 3) 192 Tu, cI g (rt 5) 3 Ma, cO rd 7 [.ref n, vi fr, vi (if u < 0 then 0 else 1), .ref o]]) (rest := [.ref q23]) C (mX7_init C.ok q23 o (rx 3) fr (if u < 0 then 0 else 1) (by split <;> simp)) dX0_blames_40 q1214 q1215 q85 q1216 rfl hdX7_init ⟨Nat.le_of_ble_eq_true rfl, Nat.le_of_ble_eq_true rfl⟩ [17] [0, 1, 2, 3, 4, 5, 6, 7, 8, 9, 10, 11, 12, 13, 14, 15, 16] rfl rfl rfl rfl (by decide) rfl (Nat.le_of_ble_eq_true rfl) ⟨Nat.le_of_ble_eq_true rfl, Nat.le_of_ble_eq_true rfl⟩ (kV fun w1 hv40 => ?_)
  obtain rfl := hv40
  refine gi_pick [0, 1, 2, 3, 4, 5, 6, 7, 8, 9, 10, 11, 12, 13, 14, 15, 16, 17] (w' := [xO o (fu (fu fx 10 0) 11 (-9)) rx n, cI g (rx 0) 34 fA, cI g (rx 1) 64 meanT, cR g 4 (rx 9) 4 So, cL g 249 51 lmZ0 l0 o, cL g 258 55 lmZ1 l1 o, wO n fn rn o, cI g (rn 1) 32 Se, cZ g (rn 2) 192 Bi, cZ g (rn 3) 192 Tu, cI g (rn 5) 3 Ma, wO (rx 3) fn rt o, cI g (rt 1) 32 Se, cZ g (rt 2) 192 Bi, cZ g (rt 3) 192 Tu, cI g (rt 5) 3 Ma, cO rd 7 [.ref n, vi fr, vi (if u < 0 then 0 else 1), .ref o], cO q23 7 [.ref (rx 3), vi fr, vi (if u < 0 then 0 else 1), .ref o]]) rfl rfl ?_
  refine gi_astore_n (lv' := [(2, .ref q23), (0, .ref o), (1, .ref rd)]) C dX0_blames_43 (by decide) rfl ?_
  refine gi_aload_n C dX0_blames_44 2 rfl ?_
  refine gi_getN (v := vi fr) C in_X7 dX0_blames_45 1 q1222 16 rfl rfl (by decide) (fun _ h => h) rfl ?_
  refine gi_bipush C dX0_blames_48 (by decide +kernel) ?_
  refine gi_aload_n C dX0_blames_50 2 rfl ?_
  refine gi_runV (wr := [xO o (fu (fu fx 10 0) 11 (-9)) rx n, cI g (rx 0) 34 fA, cI g (rx 1) 64 meanT, cR g 4 (rx 9) 4 So, cL g 249 51 lmZ0 l0 o, cL g 258 55 lmZ1 l1 o, cI g (rn 1) 32 Se, cZ g (rn 2) 192 Bi, cZ g (rn 3) 192 Tu, cI g (rn 5) 3 Ma, wO (rx 3) fn rt o, cI g (rt 1) 32 Se, cZ g (rt 2) 192 Bi, cZ g (rt 3) 192 Tu, cI g (rt 5) 3 Ma, cO q23 7 [.ref (rx 3), vi fr, vi (if u < 0 then 0 else 1), .ref o]]) (rest := [vi 6, vi fr]) C (mX7_pieces C.ok rd n fr fn rn o Bi (if u < 0 then 0 else 1) (show 0 ≤ fn 0 ∧ fn 0 ≤ 32 from (by omega)) (show 0 ≤ fr ∧ fr ≤ 5 from (hfr))) dX0_blames_51 q1280 q1281 q1282 q85 q1283 hdX7_pieces ⟨Nat.le_of_ble_eq_true rfl, Nat.le_of_ble_eq_true rfl⟩ 16 rfl rfl [16, 6] [0, 1, 2, 3, 4, 5, 7, 8, 9, 10, 11, 12, 13, 14, 15, 17] rfl rfl rfl rfl (by decide) rfl (Nat.le_of_ble_eq_true rfl) ⟨Nat.le_of_ble_eq_true rfl, Nat.le_of_ble_eq_true rfl⟩ (kI fun r_51 w1 hv51 => ?_)
  obtain ⟨hr_51, rfl⟩ := hv51
  refine gi_pick [0, 1, 2, 3, 4, 5, 17, 6, 7, 8, 9, 10, 11, 12, 13, 14, 16, 15] (w' := [xO o (fu (fu fx 10 0) 11 (-9)) rx n, cI g (rx 0) 34 fA, cI g (rx 1) 64 meanT, cR g 4 (rx 9) 4 So, cL g 249 51 lmZ0 l0 o, cL g 258 55 lmZ1 l1 o, wO n fn rn o, cI g (rn 1) 32 Se, cZ g (rn 2) 192 Bi, cZ g (rn 3) 192 Tu, cI g (rn 5) 3 Ma, wO (rx 3) fn rt o, cI g (rt 1) 32 Se, cZ g (rt 2) 192 Bi, cZ g (rt 3) 192 Tu, cI g (rt 5) 3 Ma, cO rd 7 [.ref n, vi fr, vi (if u < 0 then 0 else 1), .ref o], cO q23 7 [.ref (rx 3), vi fr, vi (if u < 0 then 0 else 1), .ref o]]) rfl rfl ?_
  refine gi_top (b := (npc (6 * fn 0) fr)) hr_51 ?_
  refine gi_top (b := (npc (6 * S 0) fr)) (by rw [hn0.1]) ?_
  refine gi_imul C dX0_blames_54 ?_
  refine gi_iadd C dX0_blames_55 ?_
  refine gi_iconst C dX0_blames_56 ?_
  refine gi_isub C dX0_blames_57 ?_
  refine gi_top (b := (fr + (6 * npc (6 * S 0) fr) - 1)) (by omega) ?_
  refine gi_istore_n (lv' := [(3, vi (fr + (6 * npc (6 * S 0) fr) - 1)), (2, .ref q23), (0, .ref o), (1, .ref rd)]) C dX0_blames_58 (by decide) rfl ?_
  have L59 : ∀ (q_ : Nat) (b : Int) (bl : Int) (lw : Int) (hb : fr - 1 ≤ b ∧ b < fr + (6 * npc (6 * S 0) fr)) (hd : dlJ (okT S fr u) fr (6 * npc (6 * S 0) fr) (b - fr + 1) bl lw) (hbl : 0 ≤ bl ∧ bl ≤ (6 * npc (6 * S 0) fr) - (b - fr + 1)) (hq_ : (b - fr + 1).toNat < q_), Go g x 4 rmX0_blames (1 + 33 * Int.toNat ((6 * npc (6 * S 0) fr) - (b - fr + 1))) (4 + 197 * Int.toNat ((6 * npc (6 * S 0) fr) - (b - fr + 1))) 59 [(3, vi b), (2, .ref q23), (0, .ref o), (1, .ref rd)] [] [xO o (fu (fu fx 10 bl) 11 lw) rx n, cI g (rx 0) 34 fA, cI g (rx 1) 64 meanT, cR g 4 (rx 9) 4 So, cL g 249 51 lmZ0 l0 o, cL g 258 55 lmZ1 l1 o, wO n fn rn o, cI g (rn 1) 32 Se, cZ g (rn 2) 192 Bi, cZ g (rn 3) 192 Tu, cI g (rn 5) 3 Ma, wO (rx 3) fn rt o, cI g (rt 1) 32 Se, cZ g (rt 2) 192 Bi, cZ g (rt 3) 192 Tu, cI g (rt 5) 3 Ma, cO rd 7 [.ref n, vi fr, vi (if u < 0 then 0 else 1), .ref o], cO q23 7 [.ref (rx 3), vi fr, vi (if u < 0 then 0 else 1), .ref o]] := by
    intro q_
    induction q_ with
    | zero => intro b bl lw hb hd hbl hq_; exact absurd hq_ (Nat.not_lt_zero _)
    | succ q_ ih59 =>
      intro b bl lw hb hd hbl hq_
      refine gi_iload_n C dX0_blames_59 0 rfl ?_
      refine gi_aload_n C dX0_blames_60 3 rfl ?_
      refine gi_getN (v := vi fr) C in_X7 dX0_blames_61 1 q1222 16 rfl rfl (by decide) (fun _ h => h) rfl ?_
      refine gi_icmp_lt (tgt := 149) C dX0_blames_64 (by decide) (by omega) (by omega) (fun h64 => ?_) (fun h64 => ?_)
      · skip
        obtain rfl : b = fr - 1 := by omega
        rw [show fr - 1 - fr + 1 = 0 by omega] at hd
        obtain ⟨e1, e2⟩ := dlJ_end hd
        refine gi_extO (w' := [xO o (fu (fu fx 10 (blmN S fr u)) 11 (lowR S fr u)) rx n, cI g (rx 0) 34 fA, cI g (rx 1) 64 meanT, cR g 4 (rx 9) 4 So, cL g 249 51 lmZ0 l0 o, cL g 258 55 lmZ1 l1 o, wO n fn rn o, cI g (rn 1) 32 Se, cZ g (rn 2) 192 Bi, cZ g (rn 3) 192 Tu, cI g (rn 5) 3 Ma, wO (rx 3) fn rt o, cI g (rt 1) 32 Se, cZ g (rt 2) 192 Bi, cZ g (rt 3) 192 Tu, cI g (rt 5) 3 Ma, cO rd 7 [.ref n, vi fr, vi (if u < 0 then 0 else 1), .ref o], cO q23 7 [.ref (rx 3), vi fr, vi (if u < 0 then 0 else 1), .ref o]]) 0 rfl (by rw [e1, e2]) rfl ?_
        refine gi_pick [0, 1, 2, 3, 4, 5, 6, 7, 8, 9, 10, 11, 12, 13, 14, 15, 16] (w' := [xO o (fu (fu fx 10 (blmN S fr u)) 11 (lowR S fr u)) rx n, cI g (rx 0) 34 fA, cI g (rx 1) 64 meanT, cR g 4 (rx 9) 4 So, cL g 249 51 lmZ0 l0 o, cL g 258 55 lmZ1 l1 o, wO n fn rn o, cI g (rn 1) 32 Se, cZ g (rn 2) 192 Bi, cZ g (rn 3) 192 Tu, cI g (rn 5) 3 Ma, wO (rx 3) fn rt o, cI g (rt 1) 32 Se, cZ g (rt 2) 192 Bi, cZ g (rt 3) 192 Tu, cI g (rt 5) 3 Ma, cO rd 7 [.ref n, vi fr, vi (if u < 0 then 0 else 1), .ref o]]) rfl rfl ?_
        exact gi_return C dX0_blames_149 (by dsimp only; omega) (by dsimp only; omega) ⟨rfl, rfl⟩
      · skip
        have hzb := hW.z (b := b) (by omega) (by omega)
        refine gi_aload_n C dX0_blames_67 2 rfl ?_
        refine gi_get (v := .ref (rx 3)) C in_X0 dX0_blames_68 3 q170 0 rfl rfl (by decide) (fun _ h => h) rfl ?_
        have L92 : ∀ (v : Int) (hv : v = 1 - Bi b), Go g x 4 rmX0_blames (1 + 33 * Int.toNat ((6 * npc (6 * S 0) fr) - (b - fr + 1))) (4 + 197 * Int.toNat ((6 * npc (6 * S 0) fr) - (b - fr + 1))) 92 [(3, vi b), (2, .ref q23), (0, .ref o), (1, .ref rd)] [vi v, vi b, .ref (rt 2)] [xO o (fu (fu fx 10 bl) 11 lw) rx n, cI g (rx 0) 34 fA, cI g (rx 1) 64 meanT, cR g 4 (rx 9) 4 So, cL g 249 51 lmZ0 l0 o, cL g 258 55 lmZ1 l1 o, wO n fn rn o, cI g (rn 1) 32 Se, cZ g (rn 2) 192 Bi, cZ g (rn 3) 192 Tu, cI g (rn 5) 3 Ma, wO (rx 3) fn rt o, cI g (rt 1) 32 Se, cZ g (rt 2) 192 Bi, cZ g (rt 3) 192 Tu, cI g (rt 5) 3 Ma, cO rd 7 [.ref n, vi fr, vi (if u < 0 then 0 else 1), .ref o], cO q23 7 [.ref (rx 3), vi fr, vi (if u < 0 then 0 else 1), .ref o]] := by
          intro v hv
          refine gi_st (st' := [vi (1 - Bi b), vi b, .ref (rt 2)]) (by rw [hv]) ?_
          refine gi_zast (w' := [xO o (fu (fu fx 10 bl) 11 lw) rx n, cI g (rx 0) 34 fA, cI g (rx 1) 64 meanT, cR g 4 (rx 9) 4 So, cL g 249 51 lmZ0 l0 o, cL g 258 55 lmZ1 l1 o, wO n fn rn o, cI g (rn 1) 32 Se, cZ g (rn 2) 192 Bi, cZ g (rn 3) 192 Tu, cI g (rn 5) 3 Ma, wO (rx 3) fn rt o, cI g (rt 1) 32 Se, cZ g (rt 2) 192 (uF Bi b (1 - Bi b)), cZ g (rt 3) 192 Tu, cI g (rt 5) 3 Ma, cO rd 7 [.ref n, vi fr, vi (if u < 0 then 0 else 1), .ref o], cO q23 7 [.ref (rx 3), vi fr, vi (if u < 0 then 0 else 1), .ref o]]) C dX0_blames_92 13 rfl (by decide) (by omega) (by omega) rfl ?_
          refine gi_aload_n C dX0_blames_93 1 rfl ?_
          refine gi_runV (wr := [wO n fn rn o, cI g (rn 1) 32 Se, cZ g (rn 2) 192 Bi, cZ g (rn 3) 192 Tu, cI g (rn 5) 3 Ma, cI g (rt 1) 32 Se, cZ g (rt 3) 192 Tu, cI g (rt 5) 3 Ma, cO rd 7 [.ref n, vi fr, vi (if u < 0 then 0 else 1), .ref o]]) (rest := []) C (mX7_first C.ok q23 (rx 3) fr fn rt o (fu (fu fx 10 bl) 11 lw) rx n (uF Bi b (1 - Bi b)) u So l0 l1 (show 0 ≤ fn 0 ∧ fn 0 ≤ 32 from (by omega)) (show ∀ z9 : Int, 0 ≤ z9 → z9 < 192 → ((uF Bi b (1 - Bi b)) z9 = 0 ∨ (uF Bi b (1 - Bi b)) z9 = 1) from (fun x g0 g1 => by have := hW.z g0 g1; unfold uF; split <;> omega)) (show 0 ≤ fr ∧ fr ≤ 5 from (hfr)) (show u = 1 ∨ u = -1 from (hu)) (show So 0 = some l0 from (hs0)) (show So 1 = some l1 from (hs1)) (show So 2 = some (lA g 266 56 lmZ2) from (hs2)) (show So 3 = some (lA g 274 59 lmZ3) from (hs3))) dX0_blames_94 q1286 q1287 q1288 q85 q1289 hdX7_first ⟨Nat.le_of_ble_eq_true rfl, Nat.le_of_ble_eq_true rfl⟩ 17 rfl rfl [17, 11, 13, 0, 1, 2, 3, 4, 5] [6, 7, 8, 9, 10, 12, 14, 15, 16] rfl rfl rfl rfl (by decide) rfl (Nat.le_of_ble_eq_true rfl) ⟨by dsimp only; omega, by dsimp only; omega⟩ (kI fun r_94 w1 hv94 => ?_)
          obtain ⟨hr_94, rfl⟩ := hv94
          refine gi_pick [12, 13, 14, 15, 16, 17, 0, 1, 2, 3, 4, 10, 5, 11, 6, 7, 8, 9] (w' := [xO o (fu (fu fx 10 bl) 11 lw) rx n, cI g (rx 0) 34 fA, cI g (rx 1) 64 meanT, cR g 4 (rx 9) 4 So, cL g 249 51 lmZ0 l0 o, cL g 258 55 lmZ1 l1 o, wO n fn rn o, cI g (rn 1) 32 Se, cZ g (rn 2) 192 Bi, cZ g (rn 3) 192 Tu, cI g (rn 5) 3 Ma, wO (rx 3) fn rt o, cI g (rt 1) 32 Se, cZ g (rt 2) 192 (uF Bi b (1 - Bi b)), cZ g (rt 3) 192 Tu, cI g (rt 5) 3 Ma, cO rd 7 [.ref n, vi fr, vi (if u < 0 then 0 else 1), .ref o], cO q23 7 [.ref (rx 3), vi fr, vi (if u < 0 then 0 else 1), .ref o]]) rfl rfl ?_
          refine gi_top (b := (fstI (brP (uF Bi b (1 - Bi b)) fr u) (npc (6 * fn 0) fr))) hr_94 ?_
          refine gi_wide (k' := ((1 + 33 * Int.toNat ((6 * npc (6 * S 0) fr) - (b - fr + 1))) + 33)) (n' := ((4 + 197 * Int.toNat ((6 * npc (6 * S 0) fr) - (b - fr + 1))) + 197)) (Nat.le_of_eq (by first | rfl | (dsimp only; omega))) (Nat.le_of_eq (by first | rfl | (dsimp only; omega))) ?_
          refine gi_top (b := (firstR S fr u b)) (by exact first_S hfr hn0.2 (tB_flip (fun x g0 g1 => hW.b g0 g1) (by omega)) (by rw [hn0.1])) ?_
          refine gi_bipush C dX0_blames_97 (by decide +kernel) ?_
          have hfb := firstR_b hW.ws (fr := fr) (u := u) (t := b) hfr.1
          refine gi_icmp_ne (tgt := 117) C dX0_blames_99 (by decide) (by omega) (by omega) (fun h99 => ?_) (fun h99 => ?_)
          · skip
            have hd2 : dlJ (okT S fr u) fr (6 * npc (6 * S 0) fr) (b - 1 - fr + 1) bl lw := by rw [show b - 1 - fr + 1 = b - fr by omega]; exact dlJ_no (by omega) hd (bI_f (by rw [show fr + (b - fr) = b by omega]; exact h99))
            refine gi_aload_n C dX0_blames_117 2 rfl ?_
            refine gi_get (v := .ref (rx 3)) C in_X0 dX0_blames_118 3 q170 0 rfl rfl (by decide) (fun _ h => h) rfl ?_
            have L142 : ∀ (v2 : Int) (hv2 : v2 = Bi b), Go g x 4 rmX0_blames ((1 + 33 * Int.toNat ((6 * npc (6 * S 0) fr) - (b - fr + 1))) + 33) ((4 + 197 * Int.toNat ((6 * npc (6 * S 0) fr) - (b - fr + 1))) + 197) 142 [(3, vi b), (2, .ref q23), (0, .ref o), (1, .ref rd)] [vi v2, vi b, .ref (rt 2)] [xO o (fu (fu fx 10 bl) 11 lw) rx n, cI g (rx 0) 34 fA, cI g (rx 1) 64 meanT, cR g 4 (rx 9) 4 So, cL g 249 51 lmZ0 l0 o, cL g 258 55 lmZ1 l1 o, wO n fn rn o, cI g (rn 1) 32 Se, cZ g (rn 2) 192 Bi, cZ g (rn 3) 192 Tu, cI g (rn 5) 3 Ma, wO (rx 3) fn rt o, cI g (rt 1) 32 Se, cZ g (rt 2) 192 (uF Bi b (1 - Bi b)), cZ g (rt 3) 192 Tu, cI g (rt 5) 3 Ma, cO rd 7 [.ref n, vi fr, vi (if u < 0 then 0 else 1), .ref o], cO q23 7 [.ref (rx 3), vi fr, vi (if u < 0 then 0 else 1), .ref o]] := by
              intro v2 hv2
              refine gi_st (st' := [vi (Bi b), vi b, .ref (rt 2)]) (by rw [hv2]) ?_
              refine gi_zast (w' := [xO o (fu (fu fx 10 bl) 11 lw) rx n, cI g (rx 0) 34 fA, cI g (rx 1) 64 meanT, cR g 4 (rx 9) 4 So, cL g 249 51 lmZ0 l0 o, cL g 258 55 lmZ1 l1 o, wO n fn rn o, cI g (rn 1) 32 Se, cZ g (rn 2) 192 Bi, cZ g (rn 3) 192 Tu, cI g (rn 5) 3 Ma, wO (rx 3) fn rt o, cI g (rt 1) 32 Se, cZ g (rt 2) 192 (uF (uF Bi b (1 - Bi b)) b (Bi b)), cZ g (rt 3) 192 Tu, cI g (rt 5) 3 Ma, cO rd 7 [.ref n, vi fr, vi (if u < 0 then 0 else 1), .ref o], cO q23 7 [.ref (rx 3), vi fr, vi (if u < 0 then 0 else 1), .ref o]]) C dX0_blames_142 13 rfl (by decide) (by omega) (by omega) rfl ?_
              refine gi_extZ (w' := [xO o (fu (fu fx 10 bl) 11 lw) rx n, cI g (rx 0) 34 fA, cI g (rx 1) 64 meanT, cR g 4 (rx 9) 4 So, cL g 249 51 lmZ0 l0 o, cL g 258 55 lmZ1 l1 o, wO n fn rn o, cI g (rn 1) 32 Se, cZ g (rn 2) 192 Bi, cZ g (rn 3) 192 Tu, cI g (rn 5) 3 Ma, wO (rx 3) fn rt o, cI g (rt 1) 32 Se, cZ g (rt 2) 192 Bi, cZ g (rt 3) 192 Tu, cI g (rt 5) 3 Ma, cO rd 7 [.ref n, vi fr, vi (if u < 0 then 0 else 1), .ref o], cO q23 7 [.ref (rx 3), vi fr, vi (if u < 0 then 0 else 1), .ref o]]) 13 rfl (fun j _ _ => by unfold uF; by_cases e : j = b; rw [if_pos e, e]; rw [if_neg e, if_neg e]) rfl ?_
              refine gi_iinc (lv' := [(3, vi (b + (-1))), (2, .ref q23), (0, .ref o), (1, .ref rd)]) C dX0_blames_143 0 rfl (by decide) rfl ?_
              refine gi_goto (tgt := 59) C dX0_blames_146 (by decide) ?_
              refine gi_wide (k' := (1 + 33 * Int.toNat ((6 * npc (6 * S 0) fr) - ((b + (-1)) - fr + 1)))) (n' := (4 + 197 * Int.toNat ((6 * npc (6 * S 0) fr) - ((b + (-1)) - fr + 1)))) (by first | omega | (dsimp only; omega)) (by first | omega | (dsimp only; omega)) ?_
              exact gi_to [0, 1, 2, 3] [0, 1, 2, 3, 4, 5, 6, 7, 8, 9, 10, 11, 12, 13, 14, 15, 16, 17] rfl rfl rfl (ih59 (b + (-1)) bl lw (by omega) (hd2) (by omega) (by omega))
            refine gi_getN (v := .ref (rt 2)) C in_X1 dX0_blames_121 2 q124 11 rfl rfl (by decide) (fun _ h => h) rfl ?_
            refine gi_iload_n C dX0_blames_124 0 rfl ?_
            refine gi_aload_n C dX0_blames_125 2 rfl ?_
            refine gi_get (v := .ref (rx 3)) C in_X0 dX0_blames_126 3 q170 0 rfl rfl (by decide) (fun _ h => h) rfl ?_
            refine gi_getN (v := .ref (rt 2)) C in_X1 dX0_blames_129 2 q124 11 rfl rfl (by decide) (fun _ h => h) rfl ?_
            refine gi_iload_n C dX0_blames_132 0 rfl ?_
            refine gi_zald C dX0_blames_133 13 rfl (by decide) (by omega) ?_
            refine gi_top (b := (1 - Bi b)) (uF_eq _ _ _) ?_
            refine gi_if_ne (tgt := 141) C dX0_blames_134 (by decide) (by omega) (fun h134 => ?_) (fun h134 => ?_)
            · skip
              refine gi_iconst C dX0_blames_141 ?_
              exact gi_to [0, 1, 2, 3] [0, 1, 2, 3, 4, 5, 6, 7, 8, 9, 10, 11, 12, 13, 14, 15, 16, 17] rfl rfl rfl (L142 0 (by omega))
            · skip
              refine gi_iconst C dX0_blames_137 ?_
              refine gi_goto (tgt := 142) C dX0_blames_138 (by decide) ?_
              exact gi_to [0, 1, 2, 3] [0, 1, 2, 3, 4, 5, 6, 7, 8, 9, 10, 11, 12, 13, 14, 15, 16, 17] rfl rfl rfl (L142 1 (by omega))
          · skip
            have hd2 : dlJ (okT S fr u) fr (6 * npc (6 * S 0) fr) (b - 1 - fr + 1) (bl + 1) b := by rw [show b - 1 - fr + 1 = b - fr by omega]; have q := dlJ_yes (J := b - fr) (by omega) (by omega) hd (bI_t (by rw [show fr + (b - fr) = b by omega]; exact h99)); rw [show fr + (b - fr) = b by omega] at q; exact q
            refine gi_aload_n C dX0_blames_102 2 rfl ?_
            refine gi_dup C dX0_blames_103 rfl ?_
            refine gi_get (v := vi bl) C in_X0 dX0_blames_104 10 q179 0 rfl rfl (by decide) (fun _ h => h) rfl ?_
            refine gi_iconst C dX0_blames_107 ?_
            refine gi_iadd C dX0_blames_108 ?_
            refine gi_put (w' := [xO o (fu (fu fx 10 (bl + 1)) 11 lw) rx n, cI g (rx 0) 34 fA, cI g (rx 1) 64 meanT, cR g 4 (rx 9) 4 So, cL g 249 51 lmZ0 l0 o, cL g 258 55 lmZ1 l1 o, wO n fn rn o, cI g (rn 1) 32 Se, cZ g (rn 2) 192 Bi, cZ g (rn 3) 192 Tu, cI g (rn 5) 3 Ma, wO (rx 3) fn rt o, cI g (rt 1) 32 Se, cZ g (rt 2) 192 (uF Bi b (1 - Bi b)), cZ g (rt 3) 192 Tu, cI g (rt 5) 3 Ma, cO rd 7 [.ref n, vi fr, vi (if u < 0 then 0 else 1), .ref o], cO q23 7 [.ref (rx 3), vi fr, vi (if u < 0 then 0 else 1), .ref o]]) C in_X0 tyX0 tyX0_ok nmX0 dX0_blames_109 10 q179 0 rfl rfl (by decide) (fun _ h => h) rfl rfl ⟨rfl, rfl⟩ (Nat.le_of_ble_eq_true rfl) rfl ?_
            refine gi_aload_n C dX0_blames_112 2 rfl ?_
            refine gi_iload_n C dX0_blames_113 0 rfl ?_
            refine gi_put (w' := [xO o (fu (fu fx 10 (bl + 1)) 11 b) rx n, cI g (rx 0) 34 fA, cI g (rx 1) 64 meanT, cR g 4 (rx 9) 4 So, cL g 249 51 lmZ0 l0 o, cL g 258 55 lmZ1 l1 o, wO n fn rn o, cI g (rn 1) 32 Se, cZ g (rn 2) 192 Bi, cZ g (rn 3) 192 Tu, cI g (rn 5) 3 Ma, wO (rx 3) fn rt o, cI g (rt 1) 32 Se, cZ g (rt 2) 192 (uF Bi b (1 - Bi b)), cZ g (rt 3) 192 Tu, cI g (rt 5) 3 Ma, cO rd 7 [.ref n, vi fr, vi (if u < 0 then 0 else 1), .ref o], cO q23 7 [.ref (rx 3), vi fr, vi (if u < 0 then 0 else 1), .ref o]]) C in_X0 tyX0 tyX0_ok nmX0 dX0_blames_114 11 q180 0 rfl rfl (by decide) (fun _ h => h) rfl rfl ⟨rfl, rfl⟩ (Nat.le_of_ble_eq_true rfl) rfl ?_
            refine gi_aload_n C dX0_blames_117 2 rfl ?_
            refine gi_get (v := .ref (rx 3)) C in_X0 dX0_blames_118 3 q170 0 rfl rfl (by decide) (fun _ h => h) rfl ?_
            have L142 : ∀ (v2 : Int) (hv2 : v2 = Bi b), Go g x 4 rmX0_blames ((1 + 33 * Int.toNat ((6 * npc (6 * S 0) fr) - (b - fr + 1))) + 33) ((4 + 197 * Int.toNat ((6 * npc (6 * S 0) fr) - (b - fr + 1))) + 197) 142 [(3, vi b), (2, .ref q23), (0, .ref o), (1, .ref rd)] [vi v2, vi b, .ref (rt 2)] [xO o (fu (fu fx 10 (bl + 1)) 11 b) rx n, cI g (rx 0) 34 fA, cI g (rx 1) 64 meanT, cR g 4 (rx 9) 4 So, cL g 249 51 lmZ0 l0 o, cL g 258 55 lmZ1 l1 o, wO n fn rn o, cI g (rn 1) 32 Se, cZ g (rn 2) 192 Bi, cZ g (rn 3) 192 Tu, cI g (rn 5) 3 Ma, wO (rx 3) fn rt o, cI g (rt 1) 32 Se, cZ g (rt 2) 192 (uF Bi b (1 - Bi b)), cZ g (rt 3) 192 Tu, cI g (rt 5) 3 Ma, cO rd 7 [.ref n, vi fr, vi (if u < 0 then 0 else 1), .ref o], cO q23 7 [.ref (rx 3), vi fr, vi (if u < 0 then 0 else 1), .ref o]] := by
              intro v2 hv2
              refine gi_st (st' := [vi (Bi b), vi b, .ref (rt 2)]) (by rw [hv2]) ?_
              refine gi_zast (w' := [xO o (fu (fu fx 10 (bl + 1)) 11 b) rx n, cI g (rx 0) 34 fA, cI g (rx 1) 64 meanT, cR g 4 (rx 9) 4 So, cL g 249 51 lmZ0 l0 o, cL g 258 55 lmZ1 l1 o, wO n fn rn o, cI g (rn 1) 32 Se, cZ g (rn 2) 192 Bi, cZ g (rn 3) 192 Tu, cI g (rn 5) 3 Ma, wO (rx 3) fn rt o, cI g (rt 1) 32 Se, cZ g (rt 2) 192 (uF (uF Bi b (1 - Bi b)) b (Bi b)), cZ g (rt 3) 192 Tu, cI g (rt 5) 3 Ma, cO rd 7 [.ref n, vi fr, vi (if u < 0 then 0 else 1), .ref o], cO q23 7 [.ref (rx 3), vi fr, vi (if u < 0 then 0 else 1), .ref o]]) C dX0_blames_142 13 rfl (by decide) (by omega) (by omega) rfl ?_
              refine gi_extZ (w' := [xO o (fu (fu fx 10 (bl + 1)) 11 b) rx n, cI g (rx 0) 34 fA, cI g (rx 1) 64 meanT, cR g 4 (rx 9) 4 So, cL g 249 51 lmZ0 l0 o, cL g 258 55 lmZ1 l1 o, wO n fn rn o, cI g (rn 1) 32 Se, cZ g (rn 2) 192 Bi, cZ g (rn 3) 192 Tu, cI g (rn 5) 3 Ma, wO (rx 3) fn rt o, cI g (rt 1) 32 Se, cZ g (rt 2) 192 Bi, cZ g (rt 3) 192 Tu, cI g (rt 5) 3 Ma, cO rd 7 [.ref n, vi fr, vi (if u < 0 then 0 else 1), .ref o], cO q23 7 [.ref (rx 3), vi fr, vi (if u < 0 then 0 else 1), .ref o]]) 13 rfl (fun j _ _ => by unfold uF; by_cases e : j = b; rw [if_pos e, e]; rw [if_neg e, if_neg e]) rfl ?_
              refine gi_iinc (lv' := [(3, vi (b + (-1))), (2, .ref q23), (0, .ref o), (1, .ref rd)]) C dX0_blames_143 0 rfl (by decide) rfl ?_
              refine gi_goto (tgt := 59) C dX0_blames_146 (by decide) ?_
              refine gi_wide (k' := (1 + 33 * Int.toNat ((6 * npc (6 * S 0) fr) - ((b + (-1)) - fr + 1)))) (n' := (4 + 197 * Int.toNat ((6 * npc (6 * S 0) fr) - ((b + (-1)) - fr + 1)))) (by first | omega | (dsimp only; omega)) (by first | omega | (dsimp only; omega)) ?_
              exact gi_to [0, 1, 2, 3] [0, 1, 2, 3, 4, 5, 6, 7, 8, 9, 10, 11, 12, 13, 14, 15, 16, 17] rfl rfl rfl (ih59 (b + (-1)) (bl + 1) b (by omega) (hd2) (by omega) (by omega))
            refine gi_getN (v := .ref (rt 2)) C in_X1 dX0_blames_121 2 q124 11 rfl rfl (by decide) (fun _ h => h) rfl ?_
            refine gi_iload_n C dX0_blames_124 0 rfl ?_
            refine gi_aload_n C dX0_blames_125 2 rfl ?_
            refine gi_get (v := .ref (rx 3)) C in_X0 dX0_blames_126 3 q170 0 rfl rfl (by decide) (fun _ h => h) rfl ?_
            refine gi_getN (v := .ref (rt 2)) C in_X1 dX0_blames_129 2 q124 11 rfl rfl (by decide) (fun _ h => h) rfl ?_
            refine gi_iload_n C dX0_blames_132 0 rfl ?_
            refine gi_zald C dX0_blames_133 13 rfl (by decide) (by omega) ?_
            refine gi_top (b := (1 - Bi b)) (uF_eq _ _ _) ?_
            refine gi_if_ne (tgt := 141) C dX0_blames_134 (by decide) (by omega) (fun h134 => ?_) (fun h134 => ?_)
            · skip
              refine gi_iconst C dX0_blames_141 ?_
              exact gi_to [0, 1, 2, 3] [0, 1, 2, 3, 4, 5, 6, 7, 8, 9, 10, 11, 12, 13, 14, 15, 16, 17] rfl rfl rfl (L142 0 (by omega))
            · skip
              refine gi_iconst C dX0_blames_137 ?_
              refine gi_goto (tgt := 142) C dX0_blames_138 (by decide) ?_
              exact gi_to [0, 1, 2, 3] [0, 1, 2, 3, 4, 5, 6, 7, 8, 9, 10, 11, 12, 13, 14, 15, 16, 17] rfl rfl rfl (L142 1 (by omega))
        refine gi_getN (v := .ref (rt 2)) C in_X1 dX0_blames_71 2 q124 11 rfl rfl (by decide) (fun _ h => h) rfl ?_
        refine gi_iload_n C dX0_blames_74 0 rfl ?_
        refine gi_aload_n C dX0_blames_75 2 rfl ?_
        refine gi_get (v := .ref (rx 3)) C in_X0 dX0_blames_76 3 q170 0 rfl rfl (by decide) (fun _ h => h) rfl ?_
        refine gi_getN (v := .ref (rt 2)) C in_X1 dX0_blames_79 2 q124 11 rfl rfl (by decide) (fun _ h => h) rfl ?_
        refine gi_iload_n C dX0_blames_82 0 rfl ?_
        refine gi_zald C dX0_blames_83 13 rfl (by decide) (by omega) ?_
        refine gi_if_ne (tgt := 91) C dX0_blames_84 (by decide) (by omega) (fun h84 => ?_) (fun h84 => ?_)
        · skip
          refine gi_iconst C dX0_blames_91 ?_
          exact gi_to [0, 1, 2, 3] [0, 1, 2, 3, 4, 5, 6, 7, 8, 9, 10, 11, 12, 13, 14, 15, 16, 17] rfl rfl rfl (L92 0 (by omega))
        · skip
          refine gi_iconst C dX0_blames_87 ?_
          refine gi_goto (tgt := 92) C dX0_blames_88 (by decide) ?_
          exact gi_to [0, 1, 2, 3] [0, 1, 2, 3, 4, 5, 6, 7, 8, 9, 10, 11, 12, 13, 14, 15, 16, 17] rfl rfl rfl (L92 1 (by omega))
  refine gi_wide (k' := (1 + 33 * Int.toNat ((6 * npc (6 * S 0) fr) - ((fr + (6 * npc (6 * S 0) fr) - 1) - fr + 1)))) (n' := (4 + 197 * Int.toNat ((6 * npc (6 * S 0) fr) - ((fr + (6 * npc (6 * S 0) fr) - 1) - fr + 1)))) (by first | omega | (dsimp only; omega)) (by first | omega | (dsimp only; omega)) ?_
  exact gi_to [0, 1, 2, 3] [0, 1, 2, 3, 4, 5, 6, 7, 8, 9, 10, 11, 12, 13, 14, 15, 16, 17] rfl rfl rfl (L59 _ (fr + (6 * npc (6 * S 0) fr) - 1) 0 (-9) (by omega) (by rw [show fr + (6 * npc (6 * S 0) fr) - 1 - fr + 1 = (6 * npc (6 * S 0) fr) by omega]; exact dlJ_0 _ _ _) (by omega) (Nat.lt_succ_self _))
theorem hdX0_late : yX0_late.cls ≠ "java/lang/invoke/MethodHandle" ∧ yX0_late.cls ≠ "java/lang/invoke/VarHandle" ∧ (parseMethodDescriptor yX0_late.desc).map (fun d => d.parameters.length) = some 1 := by decide +kernel
abbrev rmX0_late : Room := { frames := 7, cells := 33, slots := 197, locals := 149 }
set_option maxHeartbeats 4000000 in
set_option maxRecDepth 100000 in
/-- EvenWords.late(LEvenWords$Read;)I -/
theorem mX0_late {g : GG} (hg : OKG g) (o : Nat) (fx : Nat → Int) (rx : Nat → Nat) (n : Nat) (fn : Nat → Int) (rn : Nat → Nat) (S : Int → Int) (Se : Int → Int) (Bi : Int → Int) (Tu : Int → Int) (Ma : Int → Int) (So : Int → Option Nat) (l0 : Nat) (l1 : Nat) (rd : Nat) (fr : Int) (u : Int) (hW : WR S fn Se Bi Tu Ma) (hfr : 0 ≤ fr ∧ fr ≤ 5) (hu : u = 1 ∨ u = -1) (hl : fx 11 = lowR S fr u) (hs0 : So 0 = some l0) (hs1 : So 1 = some l1) (hs2 : So 2 = some (lA g 266 56 lmZ2)) (hs3 : So 3 = some (lA g 274 59 lmZ3)) : Con g yX0_late cX0_late 3 (some .int) rmX0_late [.ref o, .ref rd] [xO o fx rx n, cI g (rx 0) 34 fA, cI g (rx 1) 64 meanT, cR g 4 (rx 9) 4 So, cL g 249 51 lmZ0 l0 o, cL g 258 55 lmZ1 l1 o, wO n fn rn o, cZ g (rn 2) 192 Bi, cO rd 7 [.ref n, vi fr, vi (if u < 0 then 0 else 1), .ref o]] (pI fun r_ w => r_ = (if firstR S fr u (-9) = -9 ∨ lowR S fr u = -9 then -2000000 else firstR S fr u (-9) - (lowR S fr u - fr) / 6) ∧ w = [xO o fx rx n, cI g (rx 0) 34 fA, cI g (rx 1) 64 meanT, cR g 4 (rx 9) 4 So, cL g 249 51 lmZ0 l0 o, cL g 258 55 lmZ1 l1 o, wO n fn rn o, cZ g (rn 2) 192 Bi, cO rd 7 [.ref n, vi fr, vi (if u < 0 then 0 else 1), .ref o]]) := by
  refine con_of_go hg (by decide +kernel) (Nat.le_of_ble_eq_true rfl) ?_
  intro x C
  have hn0 := hW.n
  have hfb := firstR_b hW.ws (fr := fr) (u := u) (t := -9) hfr.1
  have hlb := lowR_b hW.ws (u := u) hfr
  have hpn := npc_b (nb := 6 * S 0) (fr := fr) (by omega) hfr.1
  refine gi_lv (lv' := [(0, .ref o), (1, .ref rd)]) [0, 1] rfl ?_
  refine gi_aload_n C dX0_late_0 1 rfl ?_
  refine gi_runV (wr := []) (rest := []) C (mX7_first C.ok rd n fr fn rn o fx rx n Bi u So l0 l1 (show 0 ≤ fn 0 ∧ fn 0 ≤ 32 from (by omega)) (show ∀ z9 : Int, 0 ≤ z9 → z9 < 192 → (Bi z9 = 0 ∨ Bi z9 = 1) from (fun x g0 g1 => (hW.z g0 g1).1)) (show 0 ≤ fr ∧ fr ≤ 5 from (by omega)) (show u = 1 ∨ u = -1 from (by omega)) (show So 0 = some l0 from (hs0)) (show So 1 = some l1 from (hs1)) (show So 2 = some (lA g 266 56 lmZ2) from (hs2)) (show So 3 = some (lA g 274 59 lmZ3) from (hs3))) dX0_late_1 q1286 q1287 q1288 q85 q1289 hdX7_first ⟨Nat.le_of_ble_eq_true rfl, Nat.le_of_ble_eq_true rfl⟩ 8 rfl rfl [8, 6, 7, 0, 1, 2, 3, 4, 5] [] rfl rfl rfl rfl (by decide) rfl (Nat.le_of_ble_eq_true rfl) ⟨Nat.le_of_ble_eq_true rfl, Nat.le_of_ble_eq_true rfl⟩ (kI fun r_1 w1 hv1 => ?_)
  obtain ⟨hr_1, rfl⟩ := hv1
  refine gi_pick [3, 4, 5, 6, 7, 8, 1, 2, 0] (w' := [xO o fx rx n, cI g (rx 0) 34 fA, cI g (rx 1) 64 meanT, cR g 4 (rx 9) 4 So, cL g 249 51 lmZ0 l0 o, cL g 258 55 lmZ1 l1 o, wO n fn rn o, cZ g (rn 2) 192 Bi, cO rd 7 [.ref n, vi fr, vi (if u < 0 then 0 else 1), .ref o]]) rfl rfl ?_
  refine gi_top (b := (fstI (brP Bi fr u) (npc (6 * fn 0) fr))) hr_1 ?_
  refine gi_wide (k' := 33) (n' := 197) (Nat.le_of_eq (by first | rfl | (dsimp only; omega))) (Nat.le_of_eq (by first | rfl | (dsimp only; omega))) ?_
  refine gi_top (b := (firstR S fr u (-9))) (by exact first_S hfr hn0.2 (tB_bits (fun x g0 g1 => hW.b g0 g1)) (by rw [hn0.1])) ?_
  refine gi_istore_n (lv' := [(2, vi (firstR S fr u (-9))), (0, .ref o), (1, .ref rd)]) C dX0_late_4 (by decide) rfl ?_
  refine gi_iload_n C dX0_late_5 0 rfl ?_
  refine gi_bipush C dX0_late_6 (by decide +kernel) ?_
  refine gi_icmp_eq (tgt := 20) C dX0_late_8 (by decide) (by omega) (by omega) (fun h8 => ?_) (fun h8 => ?_)
  · skip
    refine gi_ldc (z := -2000000) C dX0_late_20 q1309 (by decide +kernel) ?_
    refine gi_goto (tgt := 39) C dX0_late_22 (by decide) ?_
    refine gi_pick [0, 1, 2, 3, 4, 5, 6, 7, 8] (w' := [xO o fx rx n, cI g (rx 0) 34 fA, cI g (rx 1) 64 meanT, cR g 4 (rx 9) 4 So, cL g 249 51 lmZ0 l0 o, cL g 258 55 lmZ1 l1 o, wO n fn rn o, cZ g (rn 2) 192 Bi, cO rd 7 [.ref n, vi fr, vi (if u < 0 then 0 else 1), .ref o]]) rfl rfl ?_
    exact gi_ireturn C dX0_late_39 (Nat.le_of_ble_eq_true rfl) (Nat.le_of_ble_eq_true rfl) ⟨_, rfl, (by first | rw [if_pos (by omega)] | rw [if_neg (by omega)]), rfl⟩
  · skip
    refine gi_aload_n C dX0_late_11 1 rfl ?_
    refine gi_get (v := vi (fx 11)) C in_X0 dX0_late_12 11 q180 0 rfl rfl (by decide) (fun _ h => h) rfl ?_
    refine gi_top (b := (lowR S fr u)) (by omega) ?_
    refine gi_bipush C dX0_late_15 (by decide +kernel) ?_
    refine gi_icmp_ne (tgt := 25) C dX0_late_17 (by decide) (by omega) (by omega) (fun h17 => ?_) (fun h17 => ?_)
    · skip
      refine gi_iload_n C dX0_late_25 0 rfl ?_
      refine gi_aload_n C dX0_late_26 1 rfl ?_
      refine gi_get (v := vi (fx 11)) C in_X0 dX0_late_27 11 q180 0 rfl rfl (by decide) (fun _ h => h) rfl ?_
      refine gi_top (b := (lowR S fr u)) (by omega) ?_
      refine gi_aload_n C dX0_late_30 2 rfl ?_
      refine gi_getN (v := vi fr) C in_X7 dX0_late_31 1 q1222 8 rfl rfl (by decide) (fun _ h => h) rfl ?_
      refine gi_isub C dX0_late_34 ?_
      refine gi_bipush C dX0_late_35 (by decide +kernel) ?_
      refine gi_idiv C dX0_late_37 (by omega) (by omega) ?_
      refine gi_isub C dX0_late_38 ?_
      refine gi_pick [0, 1, 2, 3, 4, 5, 6, 7, 8] (w' := [xO o fx rx n, cI g (rx 0) 34 fA, cI g (rx 1) 64 meanT, cR g 4 (rx 9) 4 So, cL g 249 51 lmZ0 l0 o, cL g 258 55 lmZ1 l1 o, wO n fn rn o, cZ g (rn 2) 192 Bi, cO rd 7 [.ref n, vi fr, vi (if u < 0 then 0 else 1), .ref o]]) rfl rfl ?_
      exact gi_ireturn C dX0_late_39 (Nat.le_of_ble_eq_true rfl) (Nat.le_of_ble_eq_true rfl) ⟨_, rfl, (by first | rw [if_pos (by omega)] | rw [if_neg (by omega)]), rfl⟩
    · skip
      refine gi_ldc (z := -2000000) C dX0_late_20 q1309 (by decide +kernel) ?_
      refine gi_goto (tgt := 39) C dX0_late_22 (by decide) ?_
      refine gi_pick [0, 1, 2, 3, 4, 5, 6, 7, 8] (w' := [xO o fx rx n, cI g (rx 0) 34 fA, cI g (rx 1) 64 meanT, cR g 4 (rx 9) 4 So, cL g 249 51 lmZ0 l0 o, cL g 258 55 lmZ1 l1 o, wO n fn rn o, cZ g (rn 2) 192 Bi, cO rd 7 [.ref n, vi fr, vi (if u < 0 then 0 else 1), .ref o]]) rfl rfl ?_
      exact gi_ireturn C dX0_late_39 (Nat.le_of_ble_eq_true rfl) (Nat.le_of_ble_eq_true rfl) ⟨_, rfl, (by first | rw [if_pos (by omega)] | rw [if_neg (by omega)]), rfl⟩
