theorem hdJ1_bitCount : yJ1_bitCount.cls ≠ "java/lang/invoke/MethodHandle" ∧ yJ1_bitCount.cls ≠ "java/lang/invoke/VarHandle" ∧ (parseMethodDescriptor yJ1_bitCount.desc).map (fun d => d.parameters.length) = some 1 := by decide +kernel
abbrev rmJ1_bitCount : Room := { frames := 1, cells := 0, slots := 0, locals := 13 }
set_option maxHeartbeats 4000000 in
set_option maxRecDepth 100000 in
/-- java/lang/Integer.bitCount(I)I -/
theorem mJ1_bitCount {g : GG} (hg : OKG g) (v : Int) (hv : 0 ≤ v ∧ v < 64) : Con g yJ1_bitCount cJ1_bitCount 1 (some .int) rmJ1_bitCount [vi v] [] (pI fun r_ w => r_ = (ones v) ∧ w = []) := by
  refine con_of_go hg (by decide +kernel) (Nat.le_of_ble_eq_true rfl) ?_
  intro x C
  have hb := bc_i hv
  have i1 := iand_nn (bc1 v) 858993459
  have i2 := iand_nn (bc1 v / 2 ^ (2 : Int).toNat) 858993459
  have hd : ∀ n : Nat, 0 ≤ v / 2 ^ n := fun n => Int.ediv_nonneg hv.1 (pow2_nn n)
  have hd1 : ∀ n : Nat, 0 ≤ bc1 v / 2 ^ n := fun n => Int.ediv_nonneg hb.1.1 (pow2_nn n)
  have hd2 : ∀ n : Nat, 0 ≤ bc2 v / 2 ^ n := fun n => Int.ediv_nonneg hb.2.1.1 (pow2_nn n)
  refine gi_lv (lv' := [(0, vi v)]) [0] rfl ?_
  refine gi_iload_n C dJ1_bitCount_0 0 rfl ?_
  refine gi_iload_n C dJ1_bitCount_1 0 rfl ?_
  refine gi_iconst C dJ1_bitCount_2 ?_
  refine gi_iushr C dJ1_bitCount_3 (by omega) (by omega) ?_
  refine gi_ldcw (z := 1431655765) C dJ1_bitCount_4 q104 (by decide +kernel) ?_
  refine gi_iand C dJ1_bitCount_7 (hd _) (by decide) ?_
  refine gi_isub C dJ1_bitCount_8 ?_
  refine gi_top (b := (bc1 v)) (rfl) ?_
  refine gi_istore_n (lv' := [(0, vi (bc1 v))]) C dJ1_bitCount_9 (by decide) rfl ?_
  refine gi_iload_n C dJ1_bitCount_10 0 rfl ?_
  refine gi_ldcw (z := 858993459) C dJ1_bitCount_11 q105 (by decide +kernel) ?_
  refine gi_iand C dJ1_bitCount_14 (hb.1.1) (by decide) ?_
  refine gi_iload_n C dJ1_bitCount_15 0 rfl ?_
  refine gi_iconst C dJ1_bitCount_16 ?_
  refine gi_iushr C dJ1_bitCount_17 (by omega) (by omega) ?_
  refine gi_ldcw (z := 858993459) C dJ1_bitCount_18 q105 (by decide +kernel) ?_
  refine gi_iand C dJ1_bitCount_21 (hd1 _) (by decide) ?_
  refine gi_iadd C dJ1_bitCount_22 ?_
  refine gi_top (b := (bc2 v)) (rfl) ?_
  refine gi_istore_n (lv' := [(0, vi (bc2 v))]) C dJ1_bitCount_23 (by decide) rfl ?_
  refine gi_iload_n C dJ1_bitCount_24 0 rfl ?_
  refine gi_iload_n C dJ1_bitCount_25 0 rfl ?_
  refine gi_iconst C dJ1_bitCount_26 ?_
  refine gi_iushr C dJ1_bitCount_27 (by omega) (by omega) ?_
  refine gi_iadd C dJ1_bitCount_28 ?_
  refine gi_ldcw (z := 252645135) C dJ1_bitCount_29 q106 (by decide +kernel) ?_
  refine gi_iand C dJ1_bitCount_32 (by have := hd2 (4 : Int).toNat; omega) (by decide) ?_
  refine gi_top (b := (bc3 v)) (rfl) ?_
  refine gi_istore_n (lv' := [(0, vi (bc3 v))]) C dJ1_bitCount_33 (by decide) rfl ?_
  refine gi_iload_n C dJ1_bitCount_34 0 rfl ?_
  refine gi_iload_n C dJ1_bitCount_35 0 rfl ?_
  refine gi_bipush C dJ1_bitCount_36 (by decide +kernel) ?_
  refine gi_iushr C dJ1_bitCount_38 (by omega) (by omega) ?_
  refine gi_iadd C dJ1_bitCount_39 ?_
  refine gi_top (b := (bc4 v)) (rfl) ?_
  refine gi_istore_n (lv' := [(0, vi (bc4 v))]) C dJ1_bitCount_40 (by decide) rfl ?_
  refine gi_iload_n C dJ1_bitCount_41 0 rfl ?_
  refine gi_iload_n C dJ1_bitCount_42 0 rfl ?_
  refine gi_bipush C dJ1_bitCount_43 (by decide +kernel) ?_
  refine gi_iushr C dJ1_bitCount_45 (by omega) (by omega) ?_
  refine gi_iadd C dJ1_bitCount_46 ?_
  refine gi_top (b := (bc5 v)) (rfl) ?_
  refine gi_istore_n (lv' := [(0, vi (bc5 v))]) C dJ1_bitCount_47 (by decide) rfl ?_
  refine gi_iload_n C dJ1_bitCount_48 0 rfl ?_
  refine gi_bipush C dJ1_bitCount_49 (by decide +kernel) ?_
  refine gi_mask (v := (bc5 v) % 64) C dJ1_bitCount_51 (by rw [hb.2.2.2.2]; have := ones_b v; omega) 6 (by decide) (by decide) (by rfl) ?_
  refine gi_top (b := (ones v)) (by rw [hb.2.2.2.2]; have := ones_b v; omega) ?_
  refine gi_pick [] (w' := []) rfl rfl ?_
  exact gi_ireturn C dJ1_bitCount_52 (Nat.le_of_ble_eq_true rfl) (Nat.le_of_ble_eq_true rfl) ⟨_, rfl, (by first | rfl | omega), rfl⟩
theorem hdX0_in : yX0_in.cls ≠ "java/lang/invoke/MethodHandle" ∧ yX0_in.cls ≠ "java/lang/invoke/VarHandle" ∧ (parseMethodDescriptor yX0_in.desc).map (fun d => d.parameters.length) = some 3 := by decide +kernel
abbrev rmX0_in : Room := { frames := 1, cells := 0, slots := 0, locals := 13 }
set_option maxHeartbeats 4000000 in
set_option maxRecDepth 100000 in
/-- EvenWords.in(III)Z -/
theorem mX0_in {g : GG} (hg : OKG g) (v : Int) (a : Int) (b : Int) (hv : Rg v) (ha : Rg a) (hb : Rg b) : Con g yX0_in cX0_in 3 (some .boolean) rmX0_in [vi v, vi a, vi b] [] (pI fun r w => w = [] ∧ (r = bI (a ≤ v ∧ v ≤ b))) := by
  refine con_of_go hg (by decide +kernel) (Nat.le_of_ble_eq_true rfl) ?_
  intro x C
  refine gi_lv (lv' := [(0, vi v), (1, vi a), (2, vi b)]) [0, 1, 2] rfl ?_
  refine gi_iload_n C dX0_in_0 0 rfl ?_
  refine gi_iload_n C dX0_in_1 1 rfl ?_
  refine gi_icmp_lt (tgt := 14) C dX0_in_2 (by decide) (by omega) (by omega) (fun h2 => ?_) (fun h2 => ?_)
  · skip
    refine gi_iconst C dX0_in_14 ?_
    refine gi_pick [] (w' := []) rfl rfl ?_
    exact gi_zreturn C dX0_in_15 (Nat.le_of_ble_eq_true rfl) (Nat.le_of_ble_eq_true rfl) (by omega) ⟨_, rfl, rfl, (by first | exact (bI_t (by omega)).symm | exact (bI_f (by omega)).symm)⟩
  · skip
    refine gi_iload_n C dX0_in_5 0 rfl ?_
    refine gi_iload_n C dX0_in_6 2 rfl ?_
    refine gi_icmp_gt (tgt := 14) C dX0_in_7 (by decide) (by omega) (by omega) (fun h7 => ?_) (fun h7 => ?_)
    · skip
      refine gi_iconst C dX0_in_14 ?_
      refine gi_pick [] (w' := []) rfl rfl ?_
      exact gi_zreturn C dX0_in_15 (Nat.le_of_ble_eq_true rfl) (Nat.le_of_ble_eq_true rfl) (by omega) ⟨_, rfl, rfl, (by first | exact (bI_t (by omega)).symm | exact (bI_f (by omega)).symm)⟩
    · skip
      refine gi_iconst C dX0_in_10 ?_
      refine gi_goto (tgt := 15) C dX0_in_11 (by decide) ?_
      refine gi_pick [] (w' := []) rfl rfl ?_
      exact gi_zreturn C dX0_in_15 (Nat.le_of_ble_eq_true rfl) (Nat.le_of_ble_eq_true rfl) (by omega) ⟨_, rfl, rfl, (by first | exact (bI_t (by omega)).symm | exact (bI_f (by omega)).symm)⟩
theorem hdX0_formOf : yX0_formOf.cls ≠ "java/lang/invoke/MethodHandle" ∧ yX0_formOf.cls ≠ "java/lang/invoke/VarHandle" ∧ (parseMethodDescriptor yX0_formOf.desc).map (fun d => d.parameters.length) = some 2 := by decide +kernel
abbrev rmX0_formOf : Room := { frames := 1, cells := 0, slots := 0, locals := 13 }
set_option maxHeartbeats 4000000 in
set_option maxRecDepth 100000 in
/-- EvenWords.formOf(IZ)I -/
theorem mX0_formOf {g : GG} (hg : OKG g) (o : Nat) (fx : Nat → Int) (rx : Nat → Nat) (n : Nat) (k : Int) (b : Int) (hk : 0 ≤ k ∧ k < 34) (hb : b = 0 ∨ b = 1) : Con g yX0_formOf cX0_formOf 3 (some .int) rmX0_formOf [.ref o, vi k, vi b] [xO o fx rx n, cI g (rx 0) 34 fA] (pI fun r_ w => r_ = (fm k b) ∧ w = [xO o fx rx n, cI g (rx 0) 34 fA]) := by
  refine con_of_go hg (by decide +kernel) (Nat.le_of_ble_eq_true rfl) ?_
  intro x C
  have hA := fA_b hk
  refine gi_lv (lv' := [(0, .ref o), (1, vi k), (2, vi b)]) [0, 1, 2] rfl ?_
  refine gi_iload_n C dX0_formOf_0 2 rfl ?_
  refine gi_if_eq (tgt := 22) C dX0_formOf_1 (by decide) (by omega) (fun h1 => ?_) (fun h1 => ?_)
  · skip
    refine gi_aload_n C dX0_formOf_22 0 rfl ?_
    refine gi_get (v := .ref (rx 0)) C in_X0 dX0_formOf_23 0 q166 0 rfl rfl (by decide) (fun _ h => h) rfl ?_
    refine gi_iload_n C dX0_formOf_26 1 rfl ?_
    refine gi_iald C dX0_formOf_27 1 rfl (by decide) (by omega) ?_
    refine gi_pick [0, 1] (w' := [xO o fx rx n, cI g (rx 0) 34 fA]) rfl rfl ?_
    exact gi_ireturn C dX0_formOf_28 (Nat.le_of_ble_eq_true rfl) (Nat.le_of_ble_eq_true rfl) ⟨_, rfl, (by unfold fm; first | rw [if_pos (by omega)] | rw [if_neg (by omega)]), rfl⟩
  · skip
    refine gi_iload_n C dX0_formOf_4 1 rfl ?_
    refine gi_bipush C dX0_formOf_5 (by decide +kernel) ?_
    refine gi_icmp_le (tgt := 22) C dX0_formOf_7 (by decide) (by omega) (by omega) (fun h7 => ?_) (fun h7 => ?_)
    · skip
      refine gi_aload_n C dX0_formOf_22 0 rfl ?_
      refine gi_get (v := .ref (rx 0)) C in_X0 dX0_formOf_23 0 q166 0 rfl rfl (by decide) (fun _ h => h) rfl ?_
      refine gi_iload_n C dX0_formOf_26 1 rfl ?_
      refine gi_iald C dX0_formOf_27 1 rfl (by decide) (by omega) ?_
      refine gi_pick [0, 1] (w' := [xO o fx rx n, cI g (rx 0) 34 fA]) rfl rfl ?_
      exact gi_ireturn C dX0_formOf_28 (Nat.le_of_ble_eq_true rfl) (Nat.le_of_ble_eq_true rfl) ⟨_, rfl, (by unfold fm; first | rw [if_pos (by omega)] | rw [if_neg (by omega)]), rfl⟩
    · skip
      refine gi_bipush C dX0_formOf_10 (by decide +kernel) ?_
      refine gi_aload_n C dX0_formOf_12 0 rfl ?_
      refine gi_get (v := .ref (rx 0)) C in_X0 dX0_formOf_13 0 q166 0 rfl rfl (by decide) (fun _ h => h) rfl ?_
      refine gi_iload_n C dX0_formOf_16 1 rfl ?_
      refine gi_iald C dX0_formOf_17 1 rfl (by decide) (by omega) ?_
      refine gi_isub C dX0_formOf_18 ?_
      refine gi_goto (tgt := 28) C dX0_formOf_19 (by decide) ?_
      refine gi_pick [0, 1] (w' := [xO o fx rx n, cI g (rx 0) 34 fA]) rfl rfl ?_
      exact gi_ireturn C dX0_formOf_28 (Nat.le_of_ble_eq_true rfl) (Nat.le_of_ble_eq_true rfl) ⟨_, rfl, (by unfold fm; first | rw [if_pos (by omega)] | rw [if_neg (by omega)]), rfl⟩
theorem hdX0_isAbove : yX0_isAbove.cls ≠ "java/lang/invoke/MethodHandle" ∧ yX0_isAbove.cls ≠ "java/lang/invoke/VarHandle" ∧ (parseMethodDescriptor yX0_isAbove.desc).map (fun d => d.parameters.length) = some 2 := by decide +kernel
abbrev rmX0_isAbove : Room := { frames := 2, cells := 0, slots := 0, locals := 33 }
set_option maxHeartbeats 4000000 in
set_option maxRecDepth 100000 in
/-- EvenWords.isAbove(IZ)Z -/
theorem mX0_isAbove {g : GG} (hg : OKG g) (v : Int) (b : Int) (hv : 0 ≤ v ∧ v < 64) (hb : b = 0 ∨ b = 1) : Con g yX0_isAbove cX0_isAbove 3 (some .boolean) rmX0_isAbove [vi v, vi b] [] (pI fun r_ w => r_ = (bI (3 < ones v ∨ (ones v = 3 ∧ b = 1))) ∧ w = []) := by
  refine con_of_go hg (by decide +kernel) (Nat.le_of_ble_eq_true rfl) ?_
  intro x C
  have hob := ones_b v
  refine gi_lv (lv' := [(0, vi v), (1, vi b)]) [0, 1] rfl ?_
  refine gi_iload_n C dX0_isAbove_0 0 rfl ?_
  refine gi_runS (wr := []) (rest := []) C (mJ1_bitCount C.ok v (by omega)) dX0_isAbove_1 q101 q102 q55 q103 hdJ1_bitCount ⟨Nat.le_of_ble_eq_true rfl, Nat.le_of_ble_eq_true rfl⟩ [] [] rfl rfl rfl rfl (by decide) rfl (Nat.le_of_ble_eq_true rfl) ⟨Nat.le_of_ble_eq_true rfl, Nat.le_of_ble_eq_true rfl⟩ (kI fun r_1 w1 hv1 => ?_)
  obtain ⟨hr_1, rfl⟩ := hv1
  refine gi_pick [] (w' := []) rfl rfl ?_
  refine gi_top (b := (ones v)) hr_1 ?_
  refine gi_istore_n (lv' := [(2, vi (ones v)), (0, vi v), (1, vi b)]) C dX0_isAbove_4 (by decide) rfl ?_
  refine gi_iload_n C dX0_isAbove_5 0 rfl ?_
  refine gi_iconst C dX0_isAbove_6 ?_
  refine gi_icmp_gt (tgt := 19) C dX0_isAbove_7 (by decide) (by omega) (by omega) (fun h7 => ?_) (fun h7 => ?_)
  · skip
    refine gi_iconst C dX0_isAbove_19 ?_
    refine gi_goto (tgt := 24) C dX0_isAbove_20 (by decide) ?_
    refine gi_pick [] (w' := []) rfl rfl ?_
    exact gi_zreturn C dX0_isAbove_24 (Nat.le_of_ble_eq_true rfl) (Nat.le_of_ble_eq_true rfl) (by omega) ⟨_, rfl, (by first | exact (bI_t (by omega)).symm | exact (bI_f (by omega)).symm), rfl⟩
  · skip
    refine gi_iload_n C dX0_isAbove_10 0 rfl ?_
    refine gi_iconst C dX0_isAbove_11 ?_
    refine gi_icmp_ne (tgt := 23) C dX0_isAbove_12 (by decide) (by omega) (by omega) (fun h12 => ?_) (fun h12 => ?_)
    · skip
      refine gi_iconst C dX0_isAbove_23 ?_
      refine gi_pick [] (w' := []) rfl rfl ?_
      exact gi_zreturn C dX0_isAbove_24 (Nat.le_of_ble_eq_true rfl) (Nat.le_of_ble_eq_true rfl) (by omega) ⟨_, rfl, (by first | exact (bI_t (by omega)).symm | exact (bI_f (by omega)).symm), rfl⟩
    · skip
      refine gi_iload_n C dX0_isAbove_15 2 rfl ?_
      refine gi_if_eq (tgt := 23) C dX0_isAbove_16 (by decide) (by omega) (fun h16 => ?_) (fun h16 => ?_)
      · skip
        refine gi_iconst C dX0_isAbove_23 ?_
        refine gi_pick [] (w' := []) rfl rfl ?_
        exact gi_zreturn C dX0_isAbove_24 (Nat.le_of_ble_eq_true rfl) (Nat.le_of_ble_eq_true rfl) (by omega) ⟨_, rfl, (by first | exact (bI_t (by omega)).symm | exact (bI_f (by omega)).symm), rfl⟩
      · skip
        refine gi_iconst C dX0_isAbove_19 ?_
        refine gi_goto (tgt := 24) C dX0_isAbove_20 (by decide) ?_
        refine gi_pick [] (w' := []) rfl rfl ?_
        exact gi_zreturn C dX0_isAbove_24 (Nat.le_of_ble_eq_true rfl) (Nat.le_of_ble_eq_true rfl) (by omega) ⟨_, rfl, (by first | exact (bI_t (by omega)).symm | exact (bI_f (by omega)).symm), rfl⟩
theorem hdX1_many : yX1_many.cls ≠ "java/lang/invoke/MethodHandle" ∧ yX1_many.cls ≠ "java/lang/invoke/VarHandle" ∧ (parseMethodDescriptor yX1_many.desc).map (fun d => d.parameters.length) = some 0 := by decide +kernel
abbrev rmX1_many : Room := { frames := 1, cells := 0, slots := 0, locals := 13 }
set_option maxHeartbeats 4000000 in
set_option maxRecDepth 100000 in
/-- EvenWords$Wire.many()I -/
theorem mX1_many {g : GG} (hg : OKG g) (a : Nat) (f : Nat → Int) (r : Nat → Nat) (o : Nat) : Con g yX1_many cX1_many 1 (some .int) rmX1_many [.ref a] [wO a f r o] (pI fun r_ w => r_ = (6 * f 0) ∧ w = [wO a f r o]) := by
  refine con_of_go hg (by decide +kernel) (Nat.le_of_ble_eq_true rfl) ?_
  intro x C
  refine gi_lv (lv' := [(0, .ref a)]) [0] rfl ?_
  refine gi_bipush C dX1_many_0 (by decide +kernel) ?_
  refine gi_aload_n C dX1_many_2 0 rfl ?_
  refine gi_get (v := vi (f 0)) C in_X1 dX1_many_3 0 q117 0 rfl rfl (by decide) (fun _ h => h) rfl ?_
  refine gi_imul C dX1_many_6 ?_
  refine gi_pick [0] (w' := [wO a f r o]) rfl rfl ?_
  exact gi_ireturn C dX1_many_7 (Nat.le_of_ble_eq_true rfl) (Nat.le_of_ble_eq_true rfl) ⟨_, rfl, (by first | rfl | omega), rfl⟩
theorem hdX1_init : yX1_init.cls ≠ "java/lang/invoke/MethodHandle" ∧ yX1_init.cls ≠ "java/lang/invoke/VarHandle" ∧ (parseMethodDescriptor yX1_init.desc).map (fun d => d.parameters.length) = some 1 := by decide +kernel
abbrev rmX1_init : Room := { frames := 1, cells := 4, slots := 419, locals := 13 }
set_option maxHeartbeats 4000000 in
set_option maxRecDepth 100000 in
/-- EvenWords$Wire.<init>(LEvenWords;)V -/
theorem mX1_init {g : GG} (hg : OKG g) (a : Nat) (o : Nat) : Con g yX1_init cX1_init 2 none rmX1_init [.ref a, .ref o] [cO a 1 [vi 0, .null, .null, .null, vi 0, .null, vi 0, .null]] (pV fun w => ∃ (r : Nat → Nat), w = [wO a (fun _ => 0) r o, cI g (r 1) 32 (fun _ => 0), cZ g (r 2) 192 (fun _ => 0), cZ g (r 3) 192 (fun _ => 0), cI g (r 5) 3 (fun _ => 0)]) := by
  refine con_of_goI hg (by decide +kernel) (Nat.le_of_ble_eq_true rfl) ?_
  intro x C hini
  refine gi_lv (lv' := [(0, .ref a), (1, .ref o)]) [0, 1] rfl ?_
  refine gi_aload_n C dX1_init_0 0 rfl ?_
  refine gi_aload_n C dX1_init_1 1 rfl ?_
  refine gi_putF (w' := [cO a 1 [vi 0, .null, .null, .null, vi 0, .null, vi 0, .ref o]]) C in_X1 tyX1 tyX1_ok nmX1 hini dX1_init_2 7 q133 0 rfl rfl (by decide) (fun _ h => h) rfl rfl rfl ⟨rfl, rfl⟩ (Nat.le_of_ble_eq_true rfl) rfl ?_
  refine gi_aload_n C dX1_init_5 0 rfl ?_
  refine gi_objInit C dX1_init_6 q116 q99 q100 (by decide) (by decide) ?_
  refine gi_aload_n C dX1_init_9 0 rfl ?_
  refine gi_bipush C dX1_init_10 (by decide +kernel) ?_
  refine gi_newaI (N := 32) C dX1_init_12 q151 rfl (by decide) (Nat.le_of_ble_eq_true rfl) (Nat.le_of_ble_eq_true rfl) (fun q12 => ?_)
  refine gi_ws (w' := [cO a 1 [vi 0, .null, .null, .null, vi 0, .null, vi 0, .ref o], cI g q12 32 (fun _ => 0)]) rfl ?_
  refine gi_putF (w' := [cO a 1 [vi 0, .ref q12, .null, .null, vi 0, .null, vi 0, .ref o], cI g q12 32 (fun _ => 0)]) C in_X1 tyX1 tyX1_ok nmX1 hini dX1_init_14 1 q120 0 rfl rfl (by decide) (fun _ h => h) rfl rfl rfl ⟨rfl, rfl⟩ (Nat.le_of_ble_eq_true rfl) rfl ?_
  refine gi_aload_n C dX1_init_17 0 rfl ?_
  refine gi_sipush C dX1_init_18 (by decide +kernel) ?_
  refine gi_newaZ (N := 192) C dX1_init_21 q152 rfl (by decide) (Nat.le_of_ble_eq_true rfl) (Nat.le_of_ble_eq_true rfl) (fun q21 => ?_)
  refine gi_ws (w' := [cO a 1 [vi 0, .ref q12, .null, .null, vi 0, .null, vi 0, .ref o], cI g q12 32 (fun _ => 0), cZ g q21 192 (fun _ => 0)]) rfl ?_
  refine gi_putF (w' := [cO a 1 [vi 0, .ref q12, .ref q21, .null, vi 0, .null, vi 0, .ref o], cI g q12 32 (fun _ => 0), cZ g q21 192 (fun _ => 0)]) C in_X1 tyX1 tyX1_ok nmX1 hini dX1_init_23 2 q122 0 rfl rfl (by decide) (fun _ h => h) rfl rfl rfl ⟨rfl, rfl⟩ (Nat.le_of_ble_eq_true rfl) rfl ?_
  refine gi_aload_n C dX1_init_26 0 rfl ?_
  refine gi_sipush C dX1_init_27 (by decide +kernel) ?_
  refine gi_newaZ (N := 192) C dX1_init_30 q152 rfl (by decide) (Nat.le_of_ble_eq_true rfl) (Nat.le_of_ble_eq_true rfl) (fun q30 => ?_)
  refine gi_ws (w' := [cO a 1 [vi 0, .ref q12, .ref q21, .null, vi 0, .null, vi 0, .ref o], cI g q12 32 (fun _ => 0), cZ g q21 192 (fun _ => 0), cZ g q30 192 (fun _ => 0)]) rfl ?_
  refine gi_putF (w' := [cO a 1 [vi 0, .ref q12, .ref q21, .ref q30, vi 0, .null, vi 0, .ref o], cI g q12 32 (fun _ => 0), cZ g q21 192 (fun _ => 0), cZ g q30 192 (fun _ => 0)]) C in_X1 tyX1 tyX1_ok nmX1 hini dX1_init_32 3 q125 0 rfl rfl (by decide) (fun _ h => h) rfl rfl rfl ⟨rfl, rfl⟩ (Nat.le_of_ble_eq_true rfl) rfl ?_
  refine gi_aload_n C dX1_init_35 0 rfl ?_
  refine gi_iconst C dX1_init_36 ?_
  refine gi_newaI (N := 3) C dX1_init_37 q151 rfl (by decide) (Nat.le_of_ble_eq_true rfl) (Nat.le_of_ble_eq_true rfl) (fun q37 => ?_)
  refine gi_ws (w' := [cO a 1 [vi 0, .ref q12, .ref q21, .ref q30, vi 0, .null, vi 0, .ref o], cI g q12 32 (fun _ => 0), cZ g q21 192 (fun _ => 0), cZ g q30 192 (fun _ => 0), cI g q37 3 (fun _ => 0)]) rfl ?_
  refine gi_putF (w' := [cO a 1 [vi 0, .ref q12, .ref q21, .ref q30, vi 0, .ref q37, vi 0, .ref o], cI g q12 32 (fun _ => 0), cZ g q21 192 (fun _ => 0), cZ g q30 192 (fun _ => 0), cI g q37 3 (fun _ => 0)]) C in_X1 tyX1 tyX1_ok nmX1 hini dX1_init_39 5 q129 0 rfl rfl (by decide) (fun _ h => h) rfl rfl rfl ⟨rfl, rfl⟩ (Nat.le_of_ble_eq_true rfl) rfl ?_
  obtain ⟨r, rfl, rfl, rfl, rfl⟩ : ∃ r : Nat → Nat, r 1 = q12 ∧ r 2 = q21 ∧ r 3 = q30 ∧ r 5 = q37 := ⟨fun k => ([0, q12, q21, q30, 0, q37] : List Nat).getD k 0, rfl, rfl, rfl, rfl⟩
  refine gi_ws (w' := [wO a (fun _ => 0) r o, cI g (r 1) 32 (fun _ => 0), cZ g (r 2) 192 (fun _ => 0), cZ g (r 3) 192 (fun _ => 0), cI g (r 5) 3 (fun _ => 0)]) rfl ?_
  refine gi_pick [0, 1, 2, 3, 4] (w' := [wO a (fun _ => 0) r o, cI g (r 1) 32 (fun _ => 0), cZ g (r 2) 192 (fun _ => 0), cZ g (r 3) 192 (fun _ => 0), cI g (r 5) 3 (fun _ => 0)]) rfl rfl ?_
  exact gi_return C dX1_init_42 (Nat.le_of_ble_eq_true rfl) (Nat.le_of_ble_eq_true rfl) ⟨rfl, r, rfl⟩
theorem hdX1_as : yX1_as.cls ≠ "java/lang/invoke/MethodHandle" ∧ yX1_as.cls ≠ "java/lang/invoke/VarHandle" ∧ (parseMethodDescriptor yX1_as.desc).map (fun d => d.parameters.length) = some 1 := by decide +kernel
abbrev rmX1_as : Room := { frames := 1, cells := 0, slots := 0, locals := 64 }
set_option maxHeartbeats 4000000 in
set_option maxRecDepth 100000 in
/-- EvenWords$Wire.as(LEvenWords$Wire;)LEvenWords$Wire; -/
theorem mX1_as {g : GG} (hg : OKG g) (a : Nat) (f : Nat → Int) (r : Nat → Nat) (o : Nat) (a2 : Nat) (f2 : Nat → Int) (r2 : Nat → Nat) (o2 : Nat) (Se : Int → Int) (Bi : Int → Int) (Tu : Int → Int) (Ma : Int → Int) (Se2 : Int → Int) (Bi2 : Int → Int) (Tu2 : Int → Int) (Ma2 : Int → Int) (hz : ∀ b : Int, 0 ≤ b → b < 192 → (Bi2 b = 0 ∨ Bi2 b = 1) ∧ (Tu2 b = 0 ∨ Tu2 b = 1)) (h4 : f2 4 = 0 ∨ f2 4 = 1) : Con g yX1_as cX1_as 2 (some (.object "EvenWords$Wire")) rmX1_as [.ref a, .ref a2] [wO a f r o, cI g (r 1) 32 Se, cZ g (r 2) 192 Bi, cZ g (r 3) 192 Tu, cI g (r 5) 3 Ma, wO a2 f2 r2 o2, cI g (r2 1) 32 Se2, cZ g (r2 2) 192 Bi2, cZ g (r2 3) 192 Tu2, cI g (r2 5) 3 Ma2] (pR fun r_ w => r_ = a ∧ w = [wO a f2 r o, cI g (r 1) 32 Se2, cZ g (r 2) 192 Bi2, cZ g (r 3) 192 Tu2, cI g (r 5) 3 Ma2, wO a2 f2 r2 o2, cI g (r2 1) 32 Se2, cZ g (r2 2) 192 Bi2, cZ g (r2 3) 192 Tu2, cI g (r2 5) 3 Ma2]) := by
  refine con_of_go hg (by decide +kernel) (Nat.le_of_ble_eq_true rfl) ?_
  intro x C
  refine gi_lv (lv' := [(0, .ref a), (1, .ref a2)]) [0, 1] rfl ?_
  refine gi_aload_n C dX1_as_0 0 rfl ?_
  refine gi_aload_n C dX1_as_1 1 rfl ?_
  refine gi_get (v := vi (f2 0)) C in_X1 dX1_as_2 0 q117 5 rfl rfl (by decide) (fun _ h => h) rfl ?_
  refine gi_put (w' := [wO a (fu f 0 (f2 0)) r o, cI g (r 1) 32 Se, cZ g (r 2) 192 Bi, cZ g (r 3) 192 Tu, cI g (r 5) 3 Ma, wO a2 f2 r2 o2, cI g (r2 1) 32 Se2, cZ g (r2 2) 192 Bi2, cZ g (r2 3) 192 Tu2, cI g (r2 5) 3 Ma2]) C in_X1 tyX1 tyX1_ok nmX1 dX1_as_5 0 q117 0 rfl rfl (by decide) (fun _ h => h) rfl rfl ⟨rfl, rfl⟩ (Nat.le_of_ble_eq_true rfl) rfl ?_
  refine gi_aload_n C dX1_as_8 1 rfl ?_
  refine gi_get (v := .ref (r2 1)) C in_X1 dX1_as_9 1 q120 5 rfl rfl (by decide) (fun _ h => h) rfl ?_
  refine gi_iconst C dX1_as_12 ?_
  refine gi_aload_n C dX1_as_13 0 rfl ?_
  refine gi_get (v := .ref (r 1)) C in_X1 dX1_as_14 1 q120 0 rfl rfl (by decide) (fun _ h => h) rfl ?_
  refine gi_iconst C dX1_as_17 ?_
  refine gi_bipush C dX1_as_18 (by decide +kernel) ?_
  refine gi_copy (t := 0) (w' := [wO a (fu f 0 (f2 0)) r o, cI g (r 1) 32 (cpF Se2 Se 0 0 32), cZ g (r 2) 192 Bi, cZ g (r 3) 192 Tu, cI g (r 5) 3 Ma, wO a2 f2 r2 o2, cI g (r2 1) 32 Se2, cZ g (r2 2) 192 Bi2, cZ g (r2 3) 192 Tu2, cI g (r2 5) 3 Ma2]) C dX1_as_20 q390 q385 q384 q64 6 1 rfl rfl rfl rfl ⟨by decide, by decide⟩ (by omega) (fun _ _ _ => rfl) (Nat.le_of_ble_eq_true rfl) (Nat.le_of_ble_eq_true rfl) rfl ?_
  refine gi_aload_n C dX1_as_23 1 rfl ?_
  refine gi_get (v := .ref (r2 2)) C in_X1 dX1_as_24 2 q122 5 rfl rfl (by decide) (fun _ h => h) rfl ?_
  refine gi_iconst C dX1_as_27 ?_
  refine gi_aload_n C dX1_as_28 0 rfl ?_
  refine gi_get (v := .ref (r 2)) C in_X1 dX1_as_29 2 q122 0 rfl rfl (by decide) (fun _ h => h) rfl ?_
  refine gi_iconst C dX1_as_32 ?_
  refine gi_sipush C dX1_as_33 (by decide +kernel) ?_
  refine gi_copy (t := 1) (w' := [wO a (fu f 0 (f2 0)) r o, cI g (r 1) 32 (cpF Se2 Se 0 0 32), cZ g (r 2) 192 (cpF Bi2 Bi 0 0 192), cZ g (r 3) 192 Tu, cI g (r 5) 3 Ma, wO a2 f2 r2 o2, cI g (r2 1) 32 Se2, cZ g (r2 2) 192 Bi2, cZ g (r2 3) 192 Tu2, cI g (r2 5) 3 Ma2]) C dX1_as_36 q390 q385 q384 q64 7 2 rfl rfl rfl rfl ⟨by decide, by decide⟩ (by omega) (fun j h0 h1 => (fz (hz j (by omega) (by omega)).1).2) (Nat.le_of_ble_eq_true rfl) (Nat.le_of_ble_eq_true rfl) rfl ?_
  refine gi_aload_n C dX1_as_39 1 rfl ?_
  refine gi_get (v := .ref (r2 3)) C in_X1 dX1_as_40 3 q125 5 rfl rfl (by decide) (fun _ h => h) rfl ?_
  refine gi_iconst C dX1_as_43 ?_
  refine gi_aload_n C dX1_as_44 0 rfl ?_
  refine gi_get (v := .ref (r 3)) C in_X1 dX1_as_45 3 q125 0 rfl rfl (by decide) (fun _ h => h) rfl ?_
  refine gi_iconst C dX1_as_48 ?_
  refine gi_sipush C dX1_as_49 (by decide +kernel) ?_
  refine gi_copy (t := 1) (w' := [wO a (fu f 0 (f2 0)) r o, cI g (r 1) 32 (cpF Se2 Se 0 0 32), cZ g (r 2) 192 (cpF Bi2 Bi 0 0 192), cZ g (r 3) 192 (cpF Tu2 Tu 0 0 192), cI g (r 5) 3 Ma, wO a2 f2 r2 o2, cI g (r2 1) 32 Se2, cZ g (r2 2) 192 Bi2, cZ g (r2 3) 192 Tu2, cI g (r2 5) 3 Ma2]) C dX1_as_52 q390 q385 q384 q64 8 3 rfl rfl rfl rfl ⟨by decide, by decide⟩ (by omega) (fun j h0 h1 => (fz (hz j (by omega) (by omega)).2).2) (Nat.le_of_ble_eq_true rfl) (Nat.le_of_ble_eq_true rfl) rfl ?_
  refine gi_aload_n C dX1_as_55 0 rfl ?_
  refine gi_aload_n C dX1_as_56 1 rfl ?_
  refine gi_get (v := vi (f2 4)) C in_X1 dX1_as_57 4 q127 5 rfl rfl (by decide) (fun _ h => h) rfl ?_
  refine gi_put (w' := [wO a (fu (fu f 0 (f2 0)) 4 (f2 4)) r o, cI g (r 1) 32 (cpF Se2 Se 0 0 32), cZ g (r 2) 192 (cpF Bi2 Bi 0 0 192), cZ g (r 3) 192 (cpF Tu2 Tu 0 0 192), cI g (r 5) 3 Ma, wO a2 f2 r2 o2, cI g (r2 1) 32 Se2, cZ g (r2 2) 192 Bi2, cZ g (r2 3) 192 Tu2, cI g (r2 5) 3 Ma2]) C in_X1 tyX1 tyX1_ok nmX1 dX1_as_60 4 q127 0 rfl rfl (by decide) (fun _ h => h) rfl rfl (fz (by omega)) (Nat.le_of_ble_eq_true rfl) rfl ?_
  refine gi_aload_n C dX1_as_63 1 rfl ?_
  refine gi_get (v := .ref (r2 5)) C in_X1 dX1_as_64 5 q129 5 rfl rfl (by decide) (fun _ h => h) rfl ?_
  refine gi_iconst C dX1_as_67 ?_
  refine gi_aload_n C dX1_as_68 0 rfl ?_
  refine gi_get (v := .ref (r 5)) C in_X1 dX1_as_69 5 q129 0 rfl rfl (by decide) (fun _ h => h) rfl ?_
  refine gi_iconst C dX1_as_72 ?_
  refine gi_iconst C dX1_as_73 ?_
  refine gi_copy (t := 0) (w' := [wO a (fu (fu f 0 (f2 0)) 4 (f2 4)) r o, cI g (r 1) 32 (cpF Se2 Se 0 0 32), cZ g (r 2) 192 (cpF Bi2 Bi 0 0 192), cZ g (r 3) 192 (cpF Tu2 Tu 0 0 192), cI g (r 5) 3 (cpF Ma2 Ma 0 0 3), wO a2 f2 r2 o2, cI g (r2 1) 32 Se2, cZ g (r2 2) 192 Bi2, cZ g (r2 3) 192 Tu2, cI g (r2 5) 3 Ma2]) C dX1_as_74 q390 q385 q384 q64 9 4 rfl rfl rfl rfl ⟨by decide, by decide⟩ (by omega) (fun _ _ _ => rfl) (Nat.le_of_ble_eq_true rfl) (Nat.le_of_ble_eq_true rfl) rfl ?_
  refine gi_aload_n C dX1_as_77 0 rfl ?_
  refine gi_aload_n C dX1_as_78 1 rfl ?_
  refine gi_get (v := vi (f2 6)) C in_X1 dX1_as_79 6 q131 5 rfl rfl (by decide) (fun _ h => h) rfl ?_
  refine gi_put (w' := [wO a (fu (fu (fu f 0 (f2 0)) 4 (f2 4)) 6 (f2 6)) r o, cI g (r 1) 32 (cpF Se2 Se 0 0 32), cZ g (r 2) 192 (cpF Bi2 Bi 0 0 192), cZ g (r 3) 192 (cpF Tu2 Tu 0 0 192), cI g (r 5) 3 (cpF Ma2 Ma 0 0 3), wO a2 f2 r2 o2, cI g (r2 1) 32 Se2, cZ g (r2 2) 192 Bi2, cZ g (r2 3) 192 Tu2, cI g (r2 5) 3 Ma2]) C in_X1 tyX1 tyX1_ok nmX1 dX1_as_82 6 q131 0 rfl rfl (by decide) (fun _ h => h) rfl rfl ⟨rfl, rfl⟩ (Nat.le_of_ble_eq_true rfl) rfl ?_
  refine gi_extI (w' := [wO a (fu (fu (fu f 0 (f2 0)) 4 (f2 4)) 6 (f2 6)) r o, cI g (r 1) 32 Se2, cZ g (r 2) 192 (cpF Bi2 Bi 0 0 192), cZ g (r 3) 192 (cpF Tu2 Tu 0 0 192), cI g (r 5) 3 (cpF Ma2 Ma 0 0 3), wO a2 f2 r2 o2, cI g (r2 1) 32 Se2, cZ g (r2 2) 192 Bi2, cZ g (r2 3) 192 Tu2, cI g (r2 5) 3 Ma2]) 1 rfl (fun j h0 h1 => by unfold cpF; rw [if_pos (by omega)]; congr 1; omega) rfl ?_
  refine gi_extZ (w' := [wO a (fu (fu (fu f 0 (f2 0)) 4 (f2 4)) 6 (f2 6)) r o, cI g (r 1) 32 Se2, cZ g (r 2) 192 Bi2, cZ g (r 3) 192 (cpF Tu2 Tu 0 0 192), cI g (r 5) 3 (cpF Ma2 Ma 0 0 3), wO a2 f2 r2 o2, cI g (r2 1) 32 Se2, cZ g (r2 2) 192 Bi2, cZ g (r2 3) 192 Tu2, cI g (r2 5) 3 Ma2]) 2 rfl (fun j h0 h1 => by unfold cpF; rw [if_pos (by omega)]; congr 1; omega) rfl ?_
  refine gi_extZ (w' := [wO a (fu (fu (fu f 0 (f2 0)) 4 (f2 4)) 6 (f2 6)) r o, cI g (r 1) 32 Se2, cZ g (r 2) 192 Bi2, cZ g (r 3) 192 Tu2, cI g (r 5) 3 (cpF Ma2 Ma 0 0 3), wO a2 f2 r2 o2, cI g (r2 1) 32 Se2, cZ g (r2 2) 192 Bi2, cZ g (r2 3) 192 Tu2, cI g (r2 5) 3 Ma2]) 3 rfl (fun j h0 h1 => by unfold cpF; rw [if_pos (by omega)]; congr 1; omega) rfl ?_
  refine gi_extI (w' := [wO a (fu (fu (fu f 0 (f2 0)) 4 (f2 4)) 6 (f2 6)) r o, cI g (r 1) 32 Se2, cZ g (r 2) 192 Bi2, cZ g (r 3) 192 Tu2, cI g (r 5) 3 Ma2, wO a2 f2 r2 o2, cI g (r2 1) 32 Se2, cZ g (r2 2) 192 Bi2, cZ g (r2 3) 192 Tu2, cI g (r2 5) 3 Ma2]) 4 rfl (fun j h0 h1 => by unfold cpF; rw [if_pos (by omega)]; congr 1; omega) rfl ?_
  refine gi_ws (w' := [wO a f2 r o, cI g (r 1) 32 Se2, cZ g (r 2) 192 Bi2, cZ g (r 3) 192 Tu2, cI g (r 5) 3 Ma2, wO a2 f2 r2 o2, cI g (r2 1) 32 Se2, cZ g (r2 2) 192 Bi2, cZ g (r2 3) 192 Tu2, cI g (r2 5) 3 Ma2]) rfl ?_
  refine gi_aload_n C dX1_as_85 0 rfl ?_
  refine gi_pick [0, 1, 2, 3, 4, 5, 6, 7, 8, 9] (w' := [wO a f2 r o, cI g (r 1) 32 Se2, cZ g (r 2) 192 Bi2, cZ g (r 3) 192 Tu2, cI g (r 5) 3 Ma2, wO a2 f2 r2 o2, cI g (r2 1) 32 Se2, cZ g (r2 2) 192 Bi2, cZ g (r2 3) 192 Tu2, cI g (r2 5) 3 Ma2]) rfl rfl ?_
  exact gi_areturn C (Or.inl ⟨_, rfl⟩) dX1_as_86 (Nat.le_of_ble_eq_true rfl) (Nat.le_of_ble_eq_true rfl) (Or.inr ⟨_, rfl⟩) ⟨_, rfl, (by first | rfl | omega), rfl⟩
theorem hdX1_remembers : yX1_remembers.cls ≠ "java/lang/invoke/MethodHandle" ∧ yX1_remembers.cls ≠ "java/lang/invoke/VarHandle" ∧ (parseMethodDescriptor yX1_remembers.desc).map (fun d => d.parameters.length) = some 1 := by decide +kernel
abbrev rmX1_remembers : Room := { frames := 1, cells := 0, slots := 0, locals := 64 }
set_option maxHeartbeats 4000000 in
set_option maxRecDepth 100000 in
/-- EvenWords$Wire.remembers(I)V -/
theorem mX1_remembers {g : GG} (hg : OKG g) (a : Nat) (f : Nat → Int) (r : Nat → Nat) (o : Nat) (S : Int → Int) (Ma : Int → Int) (m : Int) (hM : MR S (f 6) Ma) (h2 : S 2 = -9 ∨ (0 ≤ S 2 ∧ S 2 ≤ 2 ∧ S 3 ≠ -9 ∧ S 2 ≠ S 3)) (h3 : S 3 = -9 ∨ (0 ≤ S 3 ∧ S 3 ≤ 2)) (hm : 0 ≤ m ∧ m ≤ 2) (hc : 0 ≤ f 6 ∧ f 6 ≤ 2) (hr : ∀ i : Int, 0 ≤ i → i < f 6 → Rg (Ma i)) : Con g yX1_remembers cX1_remembers 3 none rmX1_remembers [.ref a, vi m] [wO a f r o, cI g (r 5) 3 Ma] (pV fun w => ∃ (c : Int), ∃ (Ma1 : Int → Int), w = [wO a (fu f 6 c) r o, cI g (r 5) 3 Ma1] ∧ (MR (remS S m) c Ma1)) := by
  refine con_of_go hg (by decide +kernel) (Nat.le_of_ble_eq_true rfl) ?_
  intro x C
  refine gi_lv (lv' := [(0, .ref a), (1, vi m)]) [0, 1] rfl ?_
  refine gi_iconst C dX1_remembers_0 ?_
  refine gi_istore_n (lv' := [(2, vi 0), (0, .ref a), (1, vi m)]) C dX1_remembers_1 (by decide) rfl ?_
  have L2 : ∀ (q_ : Nat) (p : Int) (hp : 0 ≤ p ∧ p ≤ f 6) (hne : ∀ i : Int, 0 ≤ i → i < p → Ma i ≠ m) (hq_ : (f 6 - p).toNat < q_), Go g x 3 rmX1_remembers 0 0 2 [(2, vi p), (0, .ref a), (1, vi m)] [] [wO a f r o, cI g (r 5) 3 Ma] := by
    intro q_
    induction q_ with
    | zero => intro p hp hne hq_; exact absurd hq_ (Nat.not_lt_zero _)
    | succ q_ ih2 =>
      intro p hp hne hq_
      have L26 : ∀ (he : p = f 6 ∨ Ma p = m), Go g x 3 rmX1_remembers 0 0 26 [(2, vi p), (0, .ref a), (1, vi m)] [] [wO a f r o, cI g (r 5) 3 Ma] := by
        intro he
        refine gi_aload_n C dX1_remembers_26 1 rfl ?_
        refine gi_dup C dX1_remembers_27 rfl ?_
        refine gi_get (v := vi (f 6)) C in_X1 dX1_remembers_28 6 q131 0 rfl rfl (by decide) (fun _ h => h) rfl ?_
        refine gi_iload_n C dX1_remembers_31 0 rfl ?_
        refine gi_aload_n C dX1_remembers_32 1 rfl ?_
        refine gi_get (v := vi (f 6)) C in_X1 dX1_remembers_33 6 q131 0 rfl rfl (by decide) (fun _ h => h) rfl ?_
        refine gi_icmp_ne (tgt := 43) C dX1_remembers_36 (by decide) (by omega) (by omega) (fun h36 => ?_) (fun h36 => ?_)
        · skip
          refine gi_iconst C dX1_remembers_43 ?_
          have L44 : ∀ (d : Int) (hd : d = if p = f 6 then 1 else 0), Go g x 3 rmX1_remembers 0 0 44 [(2, vi p), (0, .ref a), (1, vi m)] [vi d, vi (f 6), .ref a] [wO a f r o, cI g (r 5) 3 Ma] := by
            intro d hd
            have hd1 : d = 0 ∨ d = 1 := by rw [hd]; split <;> simp
            have hst := MR.step hM h2 h3 hm hp hne he
            rw [← hd] at hst
            have hcd : d = 1 → p = f 6 := fun z => by apply Classical.byContradiction; intro q; rw [if_neg q] at hd; omega
            have hc0 : 0 < f 6 + d := by apply Classical.byContradiction; intro q; have : p = f 6 := (by omega); rw [if_pos this] at hd; omega
            refine gi_iadd C dX1_remembers_44 ?_
            refine gi_put (w' := [wO a (fu f 6 ((f 6) + d)) r o, cI g (r 5) 3 Ma]) C in_X1 tyX1 tyX1_ok nmX1 dX1_remembers_45 6 q131 0 rfl rfl (by decide) (fun _ h => h) rfl rfl ⟨rfl, rfl⟩ (Nat.le_of_ble_eq_true rfl) rfl ?_
            refine gi_aload_n C dX1_remembers_48 1 rfl ?_
            refine gi_get (v := .ref (r 5)) C in_X1 dX1_remembers_49 5 q129 0 rfl rfl (by decide) (fun _ h => h) rfl ?_
            refine gi_iload_n C dX1_remembers_52 0 rfl ?_
            refine gi_iconst C dX1_remembers_53 ?_
            refine gi_iadd C dX1_remembers_54 ?_
            refine gi_aload_n C dX1_remembers_55 1 rfl ?_
            refine gi_get (v := .ref (r 5)) C in_X1 dX1_remembers_56 5 q129 0 rfl rfl (by decide) (fun _ h => h) rfl ?_
            refine gi_iload_n C dX1_remembers_59 0 rfl ?_
            refine gi_iconst C dX1_remembers_60 ?_
            refine gi_iload_n C dX1_remembers_61 0 rfl ?_
            refine gi_isub C dX1_remembers_62 ?_
            refine gi_copy (t := 0) (w' := [wO a (fu f 6 ((f 6) + d)) r o, cI g (r 5) 3 (cpF Ma Ma (p + 1) p (2 - p))]) C dX1_remembers_63 q390 q385 q384 q64 1 1 rfl rfl rfl rfl ⟨by decide, by decide⟩ (by omega) (fun _ _ _ => rfl) (Nat.le_of_ble_eq_true rfl) (Nat.le_of_ble_eq_true rfl) rfl ?_
            refine gi_aload_n C dX1_remembers_66 1 rfl ?_
            refine gi_get (v := .ref (r 5)) C in_X1 dX1_remembers_67 5 q129 0 rfl rfl (by decide) (fun _ h => h) rfl ?_
            refine gi_aload_n C dX1_remembers_70 1 rfl ?_
            refine gi_get (v := vi ((f 6) + d)) C in_X1 dX1_remembers_71 6 q131 0 rfl rfl (by decide) (fun _ h => h) rfl ?_
            refine gi_iconst C dX1_remembers_74 ?_
            refine gi_isub C dX1_remembers_75 ?_
            refine gi_iload_n C dX1_remembers_76 2 rfl ?_
            refine gi_iast (w' := [wO a (fu f 6 ((f 6) + d)) r o, cI g (r 5) 3 (uF (cpF Ma Ma (p + 1) p (2 - p)) (((f 6) + d) - 1) m)]) C dX1_remembers_77 1 rfl (by decide) (by omega) rfl ?_
            refine gi_aload_n C dX1_remembers_78 1 rfl ?_
            refine gi_get (v := vi ((f 6) + d)) C in_X1 dX1_remembers_79 6 q131 0 rfl rfl (by decide) (fun _ h => h) rfl ?_
            refine gi_iconst C dX1_remembers_82 ?_
            refine gi_icmp_le (tgt := 110) C dX1_remembers_83 (by decide) (by omega) (by omega) (fun h83 => ?_) (fun h83 => ?_)
            · skip
              have hM1 := hst.1 (by omega)
              refine gi_pick [0, 1] (w' := [wO a (fu f 6 ((f 6) + d)) r o, cI g (r 5) 3 (uF (cpF Ma Ma (p + 1) p (2 - p)) (((f 6) + d) - 1) m)]) rfl rfl ?_
              exact gi_return C dX1_remembers_110 (Nat.le_of_ble_eq_true rfl) (Nat.le_of_ble_eq_true rfl) ⟨rfl, ((f 6) + d), (uF (cpF Ma Ma (p + 1) p (2 - p)) (((f 6) + d) - 1) m), rfl, (by first | exact hM1 | exact hM2)⟩
            · skip
              have hM2 := hst.2 (by omega)
              refine gi_aload_n C dX1_remembers_86 1 rfl ?_
              refine gi_get (v := .ref (r 5)) C in_X1 dX1_remembers_87 5 q129 0 rfl rfl (by decide) (fun _ h => h) rfl ?_
              refine gi_iconst C dX1_remembers_90 ?_
              refine gi_aload_n C dX1_remembers_91 1 rfl ?_
              refine gi_get (v := .ref (r 5)) C in_X1 dX1_remembers_92 5 q129 0 rfl rfl (by decide) (fun _ h => h) rfl ?_
              refine gi_iconst C dX1_remembers_95 ?_
              refine gi_iconst C dX1_remembers_96 ?_
              refine gi_copy (t := 0) (w' := [wO a (fu f 6 ((f 6) + d)) r o, cI g (r 5) 3 (cpF (uF (cpF Ma Ma (p + 1) p (2 - p)) (((f 6) + d) - 1) m) (uF (cpF Ma Ma (p + 1) p (2 - p)) (((f 6) + d) - 1) m) 1 0 2)]) C dX1_remembers_97 q390 q385 q384 q64 1 1 rfl rfl rfl rfl ⟨by decide, by decide⟩ (by omega) (fun _ _ _ => rfl) (Nat.le_of_ble_eq_true rfl) (Nat.le_of_ble_eq_true rfl) rfl ?_
              refine gi_aload_n C dX1_remembers_100 1 rfl ?_
              refine gi_dup C dX1_remembers_101 rfl ?_
              refine gi_get (v := vi ((f 6) + d)) C in_X1 dX1_remembers_102 6 q131 0 rfl rfl (by decide) (fun _ h => h) rfl ?_
              refine gi_iconst C dX1_remembers_105 ?_
              refine gi_isub C dX1_remembers_106 ?_
              refine gi_put (w' := [wO a (fu f 6 (((f 6) + d) - 1)) r o, cI g (r 5) 3 (cpF (uF (cpF Ma Ma (p + 1) p (2 - p)) (((f 6) + d) - 1) m) (uF (cpF Ma Ma (p + 1) p (2 - p)) (((f 6) + d) - 1) m) 1 0 2)]) C in_X1 tyX1 tyX1_ok nmX1 dX1_remembers_107 6 q131 0 rfl rfl (by decide) (fun _ h => h) rfl rfl ⟨rfl, rfl⟩ (Nat.le_of_ble_eq_true rfl) rfl ?_
              refine gi_pick [0, 1] (w' := [wO a (fu f 6 (((f 6) + d) - 1)) r o, cI g (r 5) 3 (cpF (uF (cpF Ma Ma (p + 1) p (2 - p)) (((f 6) + d) - 1) m) (uF (cpF Ma Ma (p + 1) p (2 - p)) (((f 6) + d) - 1) m) 1 0 2)]) rfl rfl ?_
              exact gi_return C dX1_remembers_110 (Nat.le_of_ble_eq_true rfl) (Nat.le_of_ble_eq_true rfl) ⟨rfl, (((f 6) + d) - 1), (cpF (uF (cpF Ma Ma (p + 1) p (2 - p)) (((f 6) + d) - 1) m) (uF (cpF Ma Ma (p + 1) p (2 - p)) (((f 6) + d) - 1) m) 1 0 2), rfl, (by first | exact hM1 | exact hM2)⟩
          exact gi_to [0, 1, 2] [0, 1] rfl rfl rfl (L44 0 (by first | rw [if_pos (by assumption)] | rw [if_neg (by assumption)]))
        · skip
          refine gi_iconst C dX1_remembers_39 ?_
          refine gi_goto (tgt := 44) C dX1_remembers_40 (by decide) ?_
          have L44 : ∀ (d : Int) (hd : d = if p = f 6 then 1 else 0), Go g x 3 rmX1_remembers 0 0 44 [(2, vi p), (0, .ref a), (1, vi m)] [vi d, vi (f 6), .ref a] [wO a f r o, cI g (r 5) 3 Ma] := by
            intro d hd
            have hd1 : d = 0 ∨ d = 1 := by rw [hd]; split <;> simp
            have hst := MR.step hM h2 h3 hm hp hne he
            rw [← hd] at hst
            have hcd : d = 1 → p = f 6 := fun z => by apply Classical.byContradiction; intro q; rw [if_neg q] at hd; omega
            have hc0 : 0 < f 6 + d := by apply Classical.byContradiction; intro q; have : p = f 6 := (by omega); rw [if_pos this] at hd; omega
            refine gi_iadd C dX1_remembers_44 ?_
            refine gi_put (w' := [wO a (fu f 6 ((f 6) + d)) r o, cI g (r 5) 3 Ma]) C in_X1 tyX1 tyX1_ok nmX1 dX1_remembers_45 6 q131 0 rfl rfl (by decide) (fun _ h => h) rfl rfl ⟨rfl, rfl⟩ (Nat.le_of_ble_eq_true rfl) rfl ?_
            refine gi_aload_n C dX1_remembers_48 1 rfl ?_
            refine gi_get (v := .ref (r 5)) C in_X1 dX1_remembers_49 5 q129 0 rfl rfl (by decide) (fun _ h => h) rfl ?_
            refine gi_iload_n C dX1_remembers_52 0 rfl ?_
            refine gi_iconst C dX1_remembers_53 ?_
            refine gi_iadd C dX1_remembers_54 ?_
            refine gi_aload_n C dX1_remembers_55 1 rfl ?_
            refine gi_get (v := .ref (r 5)) C in_X1 dX1_remembers_56 5 q129 0 rfl rfl (by decide) (fun _ h => h) rfl ?_
            refine gi_iload_n C dX1_remembers_59 0 rfl ?_
            refine gi_iconst C dX1_remembers_60 ?_
            refine gi_iload_n C dX1_remembers_61 0 rfl ?_
            refine gi_isub C dX1_remembers_62 ?_
            refine gi_copy (t := 0) (w' := [wO a (fu f 6 ((f 6) + d)) r o, cI g (r 5) 3 (cpF Ma Ma (p + 1) p (2 - p))]) C dX1_remembers_63 q390 q385 q384 q64 1 1 rfl rfl rfl rfl ⟨by decide, by decide⟩ (by omega) (fun _ _ _ => rfl) (Nat.le_of_ble_eq_true rfl) (Nat.le_of_ble_eq_true rfl) rfl ?_
            refine gi_aload_n C dX1_remembers_66 1 rfl ?_
            refine gi_get (v := .ref (r 5)) C in_X1 dX1_remembers_67 5 q129 0 rfl rfl (by decide) (fun _ h => h) rfl ?_
            refine gi_aload_n C dX1_remembers_70 1 rfl ?_
            refine gi_get (v := vi ((f 6) + d)) C in_X1 dX1_remembers_71 6 q131 0 rfl rfl (by decide) (fun _ h => h) rfl ?_
            refine gi_iconst C dX1_remembers_74 ?_
            refine gi_isub C dX1_remembers_75 ?_
            refine gi_iload_n C dX1_remembers_76 2 rfl ?_
            refine gi_iast (w' := [wO a (fu f 6 ((f 6) + d)) r o, cI g (r 5) 3 (uF (cpF Ma Ma (p + 1) p (2 - p)) (((f 6) + d) - 1) m)]) C dX1_remembers_77 1 rfl (by decide) (by omega) rfl ?_
            refine gi_aload_n C dX1_remembers_78 1 rfl ?_
            refine gi_get (v := vi ((f 6) + d)) C in_X1 dX1_remembers_79 6 q131 0 rfl rfl (by decide) (fun _ h => h) rfl ?_
            refine gi_iconst C dX1_remembers_82 ?_
            refine gi_icmp_le (tgt := 110) C dX1_remembers_83 (by decide) (by omega) (by omega) (fun h83 => ?_) (fun h83 => ?_)
            · skip
              have hM1 := hst.1 (by omega)
              refine gi_pick [0, 1] (w' := [wO a (fu f 6 ((f 6) + d)) r o, cI g (r 5) 3 (uF (cpF Ma Ma (p + 1) p (2 - p)) (((f 6) + d) - 1) m)]) rfl rfl ?_
              exact gi_return C dX1_remembers_110 (Nat.le_of_ble_eq_true rfl) (Nat.le_of_ble_eq_true rfl) ⟨rfl, ((f 6) + d), (uF (cpF Ma Ma (p + 1) p (2 - p)) (((f 6) + d) - 1) m), rfl, (by first | exact hM1 | exact hM2)⟩
            · skip
              have hM2 := hst.2 (by omega)
              refine gi_aload_n C dX1_remembers_86 1 rfl ?_
              refine gi_get (v := .ref (r 5)) C in_X1 dX1_remembers_87 5 q129 0 rfl rfl (by decide) (fun _ h => h) rfl ?_
              refine gi_iconst C dX1_remembers_90 ?_
              refine gi_aload_n C dX1_remembers_91 1 rfl ?_
              refine gi_get (v := .ref (r 5)) C in_X1 dX1_remembers_92 5 q129 0 rfl rfl (by decide) (fun _ h => h) rfl ?_
              refine gi_iconst C dX1_remembers_95 ?_
              refine gi_iconst C dX1_remembers_96 ?_
              refine gi_copy (t := 0) (w' := [wO a (fu f 6 ((f 6) + d)) r o, cI g (r 5) 3 (cpF (uF (cpF Ma Ma (p + 1) p (2 - p)) (((f 6) + d) - 1) m) (uF (cpF Ma Ma (p + 1) p (2 - p)) (((f 6) + d) - 1) m) 1 0 2)]) C dX1_remembers_97 q390 q385 q384 q64 1 1 rfl rfl rfl rfl ⟨by decide, by decide⟩ (by omega) (fun _ _ _ => rfl) (Nat.le_of_ble_eq_true rfl) (Nat.le_of_ble_eq_true rfl) rfl ?_
              refine gi_aload_n C dX1_remembers_100 1 rfl ?_
              refine gi_dup C dX1_remembers_101 rfl ?_
              refine gi_get (v := vi ((f 6) + d)) C in_X1 dX1_remembers_102 6 q131 0 rfl rfl (by decide) (fun _ h => h) rfl ?_
              refine gi_iconst C dX1_remembers_105 ?_
              refine gi_isub C dX1_remembers_106 ?_
              refine gi_put (w' := [wO a (fu f 6 (((f 6) + d) - 1)) r o, cI g (r 5) 3 (cpF (uF (cpF Ma Ma (p + 1) p (2 - p)) (((f 6) + d) - 1) m) (uF (cpF Ma Ma (p + 1) p (2 - p)) (((f 6) + d) - 1) m) 1 0 2)]) C in_X1 tyX1 tyX1_ok nmX1 dX1_remembers_107 6 q131 0 rfl rfl (by decide) (fun _ h => h) rfl rfl ⟨rfl, rfl⟩ (Nat.le_of_ble_eq_true rfl) rfl ?_
              refine gi_pick [0, 1] (w' := [wO a (fu f 6 (((f 6) + d) - 1)) r o, cI g (r 5) 3 (cpF (uF (cpF Ma Ma (p + 1) p (2 - p)) (((f 6) + d) - 1) m) (uF (cpF Ma Ma (p + 1) p (2 - p)) (((f 6) + d) - 1) m) 1 0 2)]) rfl rfl ?_
              exact gi_return C dX1_remembers_110 (Nat.le_of_ble_eq_true rfl) (Nat.le_of_ble_eq_true rfl) ⟨rfl, (((f 6) + d) - 1), (cpF (uF (cpF Ma Ma (p + 1) p (2 - p)) (((f 6) + d) - 1) m) (uF (cpF Ma Ma (p + 1) p (2 - p)) (((f 6) + d) - 1) m) 1 0 2), rfl, (by first | exact hM1 | exact hM2)⟩
          exact gi_to [0, 1, 2] [0, 1] rfl rfl rfl (L44 1 (by first | rw [if_pos (by assumption)] | rw [if_neg (by assumption)]))
      refine gi_iload_n C dX1_remembers_2 0 rfl ?_
      refine gi_aload_n C dX1_remembers_3 1 rfl ?_
      refine gi_get (v := vi (f 6)) C in_X1 dX1_remembers_4 6 q131 0 rfl rfl (by decide) (fun _ h => h) rfl ?_
      refine gi_icmp_ge (tgt := 26) C dX1_remembers_7 (by decide) (by omega) (by omega) (fun h7 => ?_) (fun h7 => ?_)
      · skip
        exact gi_to [0, 1, 2] [0, 1] rfl rfl rfl (L26 (Or.inl (by omega)))
      · skip
        have hri := hr p hp.1 (by omega)
        refine gi_aload_n C dX1_remembers_10 1 rfl ?_
        refine gi_get (v := .ref (r 5)) C in_X1 dX1_remembers_11 5 q129 0 rfl rfl (by decide) (fun _ h => h) rfl ?_
        refine gi_iload_n C dX1_remembers_14 0 rfl ?_
        refine gi_iald C dX1_remembers_15 1 rfl (by decide) (by omega) ?_
        refine gi_iload_n C dX1_remembers_16 2 rfl ?_
        refine gi_icmp_eq (tgt := 26) C dX1_remembers_17 (by decide) (by omega) (by omega) (fun h17 => ?_) (fun h17 => ?_)
        · skip
          exact gi_to [0, 1, 2] [0, 1] rfl rfl rfl (L26 (Or.inr (by omega)))
        · skip
          refine gi_iinc (lv' := [(2, vi (p + 1)), (0, .ref a), (1, vi m)]) C dX1_remembers_20 0 rfl (by decide) rfl ?_
          refine gi_goto (tgt := 2) C dX1_remembers_23 (by decide) ?_
          exact gi_to [0, 1, 2] [0, 1] rfl rfl rfl (ih2 (p + 1) (by omega) (fun i h0 h1 => by by_cases e : i = p; exact e ▸ h17; exact hne i h0 (by omega)) (by omega))
  exact gi_to [0, 1, 2] [0, 1] rfl rfl rfl (L2 _ 0 (by omega) (fun i h0 h1 => by omega) (Nat.lt_succ_self _))
theorem hdX1_sends : yX1_sends.cls ≠ "java/lang/invoke/MethodHandle" ∧ yX1_sends.cls ≠ "java/lang/invoke/VarHandle" ∧ (parseMethodDescriptor yX1_sends.desc).map (fun d => d.parameters.length) = some 1 := by decide +kernel
abbrev rmX1_sends : Room := { frames := 3, cells := 0, slots := 0, locals := 86 }
set_option maxHeartbeats 4000000 in
set_option maxRecDepth 100000 in
/-- EvenWords$Wire.sends(I)I -/
theorem mX1_sends {g : GG} (hg : OKG g) (a : Nat) (f : Nat → Int) (r : Nat → Nat) (o : Nat) (fx : Nat → Int) (rx : Nat → Nat) (n : Nat) (S : Int → Int) (Se : Int → Int) (Bi : Int → Int) (Tu : Int → Int) (Ma : Int → Int) (k : Int) (hW : WR S f Se Bi Tu Ma) (hk : 0 ≤ k ∧ k < 34) (hn : S 0 < 32) : Con g yX1_sends cX1_sends 4 (some .int) rmX1_sends [.ref a, vi k] [wO a f r o, cI g (r 1) 32 Se, cZ g (r 2) 192 Bi, cZ g (r 3) 192 Tu, cI g (r 5) 3 Ma, xO o fx rx n, cI g (rx 0) 34 fA] (pI fun r_ w => ∃ (f1 : Nat → Int), ∃ (Se1 : Int → Int), ∃ (Bi1 : Int → Int), ∃ (Tu1 : Int → Int), ∃ (Ma1 : Int → Int), r_ = (fm k (dueB S)) ∧ w = [wO a f1 r o, cI g (r 1) 32 Se1, cZ g (r 2) 192 Bi1, cZ g (r 3) 192 Tu1, cI g (r 5) 3 Ma1, xO o fx rx n, cI g (rx 0) 34 fA] ∧ (WR (sendS S k) f1 Se1 Bi1 Tu1 Ma1)) := by
  refine con_of_go hg (by decide +kernel) (Nat.le_of_ble_eq_true rfl) ?_
  intro x C
  have hn0 := hW.n
  have h4 := hW.a2
  have hc := hW.c
  have hwd : 0 ≤ fm k (dueB S) ∧ fm k (dueB S) < 64 := fm_b hk
  refine gi_lv (lv' := [(0, .ref a), (1, vi k)]) [0, 1] rfl ?_
  refine gi_aload_n C dX1_sends_0 0 rfl ?_
  refine gi_get (v := .ref o) C in_X1 dX1_sends_1 7 q133 0 rfl rfl (by decide) (fun _ h => h) rfl ?_
  refine gi_iload_n C dX1_sends_4 1 rfl ?_
  refine gi_aload_n C dX1_sends_5 0 rfl ?_
  refine gi_get (v := vi (f 4)) C in_X1 dX1_sends_6 4 q127 0 rfl rfl (by decide) (fun _ h => h) rfl ?_
  refine gi_runVN (wr := [wO a f r o, cI g (r 1) 32 Se, cZ g (r 2) 192 Bi, cZ g (r 3) 192 Tu, cI g (r 5) 3 Ma]) (rest := []) C (mX0_formOf C.ok o fx rx n k (f 4) (show 0 ≤ k ∧ k < 34 from (by omega)) (show (f 4) = 0 ∨ (f 4) = 1 from (by omega))) dX1_sends_9 q395 q109 qs0 q53 q110 hdX0_formOf ⟨Nat.le_of_ble_eq_true rfl, Nat.le_of_ble_eq_true rfl⟩ 5 rfl rfl [5, 6] [0, 1, 2, 3, 4] rfl rfl rfl rfl (by decide) rfl (Nat.le_of_ble_eq_true rfl) ⟨Nat.le_of_ble_eq_true rfl, Nat.le_of_ble_eq_true rfl⟩ (kI fun r_9 w1 hv9 => ?_)
  obtain ⟨hr_9, rfl⟩ := hv9
  refine gi_pick [0, 1, 2, 3, 4, 5, 6] (w' := [wO a f r o, cI g (r 1) 32 Se, cZ g (r 2) 192 Bi, cZ g (r 3) 192 Tu, cI g (r 5) 3 Ma, xO o fx rx n, cI g (rx 0) 34 fA]) rfl rfl ?_
  refine gi_top (b := (fm k (f 4))) hr_9 ?_
  refine gi_top (b := (fm k (dueB S))) (by rw [← hW.a]) ?_
  refine gi_istore_n (lv' := [(2, vi (fm k (dueB S))), (0, .ref a), (1, vi k)]) C dX1_sends_12 (by decide) rfl ?_
  refine gi_iconst C dX1_sends_13 ?_
  refine gi_istore_n (lv' := [(3, vi 0), (2, vi (fm k (dueB S))), (0, .ref a), (1, vi k)]) C dX1_sends_14 (by decide) rfl ?_
  have L15 : ∀ (q_ : Nat) (b : Int) (Bi1 : Int → Int) (Tu1 : Int → Int) (hb : 0 ≤ b ∧ b ≤ 6) (hBi : ∀ j : Int, 0 ≤ j → j < 192 → Bi1 j = if 6 * f 0 ≤ j ∧ j < 6 * f 0 + b then fm k (dueB S) / 2 ^ (5 - (j - 6 * f 0)).toNat % 2 else Bi j) (hTu : ∀ j : Int, 0 ≤ j → j < 192 → Tu1 j = if 6 * f 0 ≤ j ∧ j < 6 * f 0 + b then 0 else Tu j) (hq_ : (6 - b).toNat < q_), Go g x 4 rmX1_sends 0 0 15 [(3, vi b), (2, vi (fm k (dueB S))), (0, .ref a), (1, vi k)] [] [wO a f r o, cI g (r 1) 32 Se, cZ g (r 2) 192 Bi1, cZ g (r 3) 192 Tu1, cI g (r 5) 3 Ma, xO o fx rx n, cI g (rx 0) 34 fA] := by
    intro q_
    induction q_ with
    | zero => intro b Bi1 Tu1 hb hBi hTu hq_; exact absurd hq_ (Nat.not_lt_zero _)
    | succ q_ ih15 =>
      intro b Bi1 Tu1 hb hBi hTu hq_
      refine gi_iload_n C dX1_sends_15 0 rfl ?_
      refine gi_bipush C dX1_sends_16 (by decide +kernel) ?_
      refine gi_icmp_ge (tgt := 66) C dX1_sends_18 (by decide) (by omega) (by omega) (fun h18 => ?_) (fun h18 => ?_)
      · skip
        obtain rfl : b = 6 := by omega
        refine gi_aload_n C dX1_sends_66 2 rfl ?_
        refine gi_get (v := .ref (r 1)) C in_X1 dX1_sends_67 1 q120 0 rfl rfl (by decide) (fun _ h => h) rfl ?_
        refine gi_aload_n C dX1_sends_70 2 rfl ?_
        refine gi_get (v := vi (f 0)) C in_X1 dX1_sends_71 0 q117 0 rfl rfl (by decide) (fun _ h => h) rfl ?_
        refine gi_iload_n C dX1_sends_74 3 rfl ?_
        refine gi_iast (w' := [wO a f r o, cI g (r 1) 32 (uF Se (f 0) k), cZ g (r 2) 192 Bi1, cZ g (r 3) 192 Tu1, cI g (r 5) 3 Ma, xO o fx rx n, cI g (rx 0) 34 fA]) C dX1_sends_75 1 rfl (by decide) (by omega) rfl ?_
        refine gi_aload_n C dX1_sends_76 2 rfl ?_
        refine gi_dup C dX1_sends_77 rfl ?_
        refine gi_get (v := vi (f 0)) C in_X1 dX1_sends_78 0 q117 0 rfl rfl (by decide) (fun _ h => h) rfl ?_
        refine gi_iconst C dX1_sends_81 ?_
        refine gi_iadd C dX1_sends_82 ?_
        refine gi_put (w' := [wO a (fu f 0 ((f 0) + 1)) r o, cI g (r 1) 32 (uF Se (f 0) k), cZ g (r 2) 192 Bi1, cZ g (r 3) 192 Tu1, cI g (r 5) 3 Ma, xO o fx rx n, cI g (rx 0) 34 fA]) C in_X1 tyX1 tyX1_ok nmX1 dX1_sends_83 0 q117 0 rfl rfl (by decide) (fun _ h => h) rfl rfl ⟨rfl, rfl⟩ (Nat.le_of_ble_eq_true rfl) rfl ?_
        refine gi_aload_n C dX1_sends_86 2 rfl ?_
        refine gi_iload_n C dX1_sends_87 1 rfl ?_
        refine gi_aload_n C dX1_sends_88 2 rfl ?_
        refine gi_get (v := vi (f 4)) C in_X1 dX1_sends_89 4 q127 0 rfl rfl (by decide) (fun _ h => h) rfl ?_
        refine gi_runSN (wr := [wO a (fu f 0 ((f 0) + 1)) r o, cI g (r 1) 32 (uF Se (f 0) k), cZ g (r 2) 192 Bi1, cZ g (r 3) 192 Tu1, cI g (r 5) 3 Ma, xO o fx rx n, cI g (rx 0) 34 fA]) (rest := [.ref a]) C (mX0_isAbove C.ok (fm k (dueB S)) (f 4) (by omega) (by omega)) dX1_sends_92 q400 q401 q53 q402 hdX0_isAbove ⟨Nat.le_of_ble_eq_true rfl, Nat.le_of_ble_eq_true rfl⟩ [] [0, 1, 2, 3, 4, 5, 6] rfl rfl rfl rfl (by decide) rfl (Nat.le_of_ble_eq_true rfl) ⟨Nat.le_of_ble_eq_true rfl, Nat.le_of_ble_eq_true rfl⟩ (kI fun r_92 w1 hv92 => ?_)
        obtain ⟨hr_92, rfl⟩ := hv92
        refine gi_pick [0, 1, 2, 3, 4, 5, 6] (w' := [wO a (fu f 0 ((f 0) + 1)) r o, cI g (r 1) 32 (uF Se (f 0) k), cZ g (r 2) 192 Bi1, cZ g (r 3) 192 Tu1, cI g (r 5) 3 Ma, xO o fx rx n, cI g (rx 0) 34 fA]) rfl rfl ?_
        refine gi_top (b := (bI (3 < ones (fm k (dueB S)) ∨ (ones (fm k (dueB S)) = 3 ∧ (f 4) = 1)))) hr_92 ?_
        refine gi_put (w' := [wO a (fu (fu f 0 ((f 0) + 1)) 4 (bI (3 < ones (fm k (dueB S)) ∨ (ones (fm k (dueB S)) = 3 ∧ (f 4) = 1)))) r o, cI g (r 1) 32 (uF Se (f 0) k), cZ g (r 2) 192 Bi1, cZ g (r 3) 192 Tu1, cI g (r 5) 3 Ma, xO o fx rx n, cI g (rx 0) 34 fA]) C in_X1 tyX1 tyX1_ok nmX1 dX1_sends_95 4 q127 0 rfl rfl (by decide) (fun _ h => h) rfl rfl (fz (bI_01 _)) (Nat.le_of_ble_eq_true rfl) rfl ?_
        refine gi_iload_n C dX1_sends_98 3 rfl ?_
        refine gi_bipush C dX1_sends_99 (by decide +kernel) ?_
        refine gi_icmp_lt (tgt := 112) C dX1_sends_101 (by decide) (by omega) (by omega) (fun h101 => ?_) (fun h101 => ?_)
        · skip
          have hWE := WR_send (f1 := fu (fu f 0 ((f 0) + 1)) 4 (bI (3 < ones (fm k (dueB S)) ∨ (ones (fm k (dueB S)) = 3 ∧ (f 4) = 1)))) hW hk hn rfl rfl (by rw [if_neg (by omega)]; exact hW.m) rfl hBi hTu
          refine gi_iload_n C dX1_sends_112 1 rfl ?_
          refine gi_pick [0, 1, 2, 3, 4, 5, 6] (w' := [wO a (fu (fu f 0 ((f 0) + 1)) 4 (bI (3 < ones (fm k (dueB S)) ∨ (ones (fm k (dueB S)) = 3 ∧ (f 4) = 1)))) r o, cI g (r 1) 32 (uF Se (f 0) k), cZ g (r 2) 192 Bi1, cZ g (r 3) 192 Tu1, cI g (r 5) 3 Ma, xO o fx rx n, cI g (rx 0) 34 fA]) rfl rfl ?_
          exact gi_ireturn C dX1_sends_113 (Nat.le_of_ble_eq_true rfl) (Nat.le_of_ble_eq_true rfl) ⟨_, rfl, (fu (fu f 0 ((f 0) + 1)) 4 (bI (3 < ones (fm k (dueB S)) ∨ (ones (fm k (dueB S)) = 3 ∧ (f 4) = 1)))), (uF Se (f 0) k), Bi1, Tu1, Ma, (by first | rfl | omega), rfl, (hWE)⟩
        · skip
          have hMr : ∀ i : Int, 0 ≤ i → i < f 6 → Rg (Ma i) := fun i g0 g1 => by
            have h1 := hW.m.2.1
            have h2 := hW.m.2.2
            have h5 := hW.ws.s2
            by_cases e : f 6 = 1
            · obtain rfl : i = 0 := by omega
              have := h1 (by omega); rw [e] at this; rw [show (1 : Int) - 1 = 0 from rfl] at this; rw [this]; exact h5.2
            · have e2 : f 6 = 2 := by omega
              by_cases z : i = 0
              · rw [z, h2 e2]; exact h5.1
              · obtain rfl : i = 1 := by omega
                have := h1 (by omega); rw [e2] at this; rw [show (2 : Int) - 1 = 1 from rfl] at this; rw [this]; exact h5.2
          refine gi_aload_n C dX1_sends_104 2 rfl ?_
          refine gi_iload_n C dX1_sends_105 3 rfl ?_
          refine gi_bipush C dX1_sends_106 (by decide +kernel) ?_
          refine gi_isub C dX1_sends_108 ?_
          refine gi_runV (wr := [cI g (r 1) 32 (uF Se (f 0) k), cZ g (r 2) 192 Bi1, cZ g (r 3) 192 Tu1, xO o fx rx n, cI g (rx 0) 34 fA]) (rest := []) C (mX1_remembers C.ok a (fu (fu f 0 ((f 0) + 1)) 4 (bI (3 < ones (fm k (dueB S)) ∨ (ones (fm k (dueB S)) = 3 ∧ (f 4) = 1)))) r o S Ma (k - 31) (show MR S (f 6) Ma from (hW.m)) (show S 2 = -9 ∨ (0 ≤ S 2 ∧ S 2 ≤ 2 ∧ S 3 ≠ -9 ∧ S 2 ≠ S 3) from (hW.ws.2.2.1)) (show S 3 = -9 ∨ (0 ≤ S 3 ∧ S 3 ≤ 2) from (hW.ws.2.2.2.1)) (show 0 ≤ (k - 31) ∧ (k - 31) ≤ 2 from (by omega)) (show 0 ≤ f 6 ∧ f 6 ≤ 2 from (hc.2)) (show ∀ i : Int, 0 ≤ i → i < f 6 → Rg (Ma i) from (hMr))) dX1_sends_109 q403 q405 qs9 q56 q406 hdX1_remembers ⟨Nat.le_of_ble_eq_true rfl, Nat.le_of_ble_eq_true rfl⟩ 0 rfl rfl [0, 4] [1, 2, 3, 5, 6] rfl rfl rfl rfl (by decide) rfl (Nat.le_of_ble_eq_true rfl) ⟨Nat.le_of_ble_eq_true rfl, Nat.le_of_ble_eq_true rfl⟩ (kV fun w1 hv109 => ?_)
          obtain ⟨c_109, Ma1_109, rfl, hM1_109⟩ := hv109
          replace hM1_109 : MR (remS S (k - 31)) c_109 Ma1_109 := hM1_109
          refine gi_pick [5, 0, 1, 2, 6, 3, 4] (w' := [wO a (fu (fu (fu f 0 ((f 0) + 1)) 4 (bI (3 < ones (fm k (dueB S)) ∨ (ones (fm k (dueB S)) = 3 ∧ (f 4) = 1)))) 6 c_109) r o, cI g (r 1) 32 (uF Se (f 0) k), cZ g (r 2) 192 Bi1, cZ g (r 3) 192 Tu1, cI g (r 5) 3 Ma1_109, xO o fx rx n, cI g (rx 0) 34 fA]) rfl rfl ?_
          have hWE := WR_send (f1 := fu (fu (fu f 0 ((f 0) + 1)) 4 (bI (3 < ones (fm k (dueB S)) ∨ (ones (fm k (dueB S)) = 3 ∧ (f 4) = 1)))) 6 c_109) hW hk hn rfl rfl (by rw [if_pos (by omega)]; exact hM1_109) rfl hBi hTu
          refine gi_iload_n C dX1_sends_112 1 rfl ?_
          refine gi_pick [0, 1, 2, 3, 4, 5, 6] (w' := [wO a (fu (fu (fu f 0 ((f 0) + 1)) 4 (bI (3 < ones (fm k (dueB S)) ∨ (ones (fm k (dueB S)) = 3 ∧ (f 4) = 1)))) 6 c_109) r o, cI g (r 1) 32 (uF Se (f 0) k), cZ g (r 2) 192 Bi1, cZ g (r 3) 192 Tu1, cI g (r 5) 3 Ma1_109, xO o fx rx n, cI g (rx 0) 34 fA]) rfl rfl ?_
          exact gi_ireturn C dX1_sends_113 (Nat.le_of_ble_eq_true rfl) (Nat.le_of_ble_eq_true rfl) ⟨_, rfl, (fu (fu (fu f 0 ((f 0) + 1)) 4 (bI (3 < ones (fm k (dueB S)) ∨ (ones (fm k (dueB S)) = 3 ∧ (f 4) = 1)))) 6 c_109), (uF Se (f 0) k), Bi1, Tu1, Ma1_109, (by first | rfl | omega), rfl, (hWE)⟩
      · skip
        have L47 : ∀ (v : Int) (hv : v = fm k (dueB S) / 2 ^ (5 - b).toNat % 2), Go g x 4 rmX1_sends 0 0 47 [(3, vi b), (2, vi (fm k (dueB S))), (0, .ref a), (1, vi k)] [vi v, vi ((6 * f 0) + b), .ref (r 2)] [wO a f r o, cI g (r 1) 32 Se, cZ g (r 2) 192 Bi1, cZ g (r 3) 192 Tu1, cI g (r 5) 3 Ma, xO o fx rx n, cI g (rx 0) 34 fA] := by
          intro v hv
          refine gi_zast (w' := [wO a f r o, cI g (r 1) 32 Se, cZ g (r 2) 192 (uF Bi1 ((6 * f 0) + b) v), cZ g (r 3) 192 Tu1, cI g (r 5) 3 Ma, xO o fx rx n, cI g (rx 0) 34 fA]) C dX1_sends_47 2 rfl (by decide) (by omega) (by omega) rfl ?_
          refine gi_aload_n C dX1_sends_48 2 rfl ?_
          refine gi_get (v := .ref (r 3)) C in_X1 dX1_sends_49 3 q125 0 rfl rfl (by decide) (fun _ h => h) rfl ?_
          refine gi_aload_n C dX1_sends_52 2 rfl ?_
          refine gi_runV (wr := [cI g (r 1) 32 Se, cZ g (r 2) 192 (uF Bi1 ((6 * f 0) + b) v), cZ g (r 3) 192 Tu1, cI g (r 5) 3 Ma, xO o fx rx n, cI g (rx 0) 34 fA]) (rest := [.ref (r 3)]) C (mX1_many C.ok a f r o) dX1_sends_53 q396 q397 q398 q56 q399 hdX1_many ⟨Nat.le_of_ble_eq_true rfl, Nat.le_of_ble_eq_true rfl⟩ 0 rfl rfl [0] [1, 2, 3, 4, 5, 6] rfl rfl rfl rfl (by decide) rfl (Nat.le_of_ble_eq_true rfl) ⟨Nat.le_of_ble_eq_true rfl, Nat.le_of_ble_eq_true rfl⟩ (kI fun r_53 w1 hv53 => ?_)
          obtain ⟨hr_53, rfl⟩ := hv53
          refine gi_pick [6, 0, 1, 2, 3, 4, 5] (w' := [wO a f r o, cI g (r 1) 32 Se, cZ g (r 2) 192 (uF Bi1 ((6 * f 0) + b) v), cZ g (r 3) 192 Tu1, cI g (r 5) 3 Ma, xO o fx rx n, cI g (rx 0) 34 fA]) rfl rfl ?_
          refine gi_top (b := (6 * f 0)) hr_53 ?_
          refine gi_iload_n C dX1_sends_56 0 rfl ?_
          refine gi_iadd C dX1_sends_57 ?_
          refine gi_iconst C dX1_sends_58 ?_
          refine gi_zast (w' := [wO a f r o, cI g (r 1) 32 Se, cZ g (r 2) 192 (uF Bi1 ((6 * f 0) + b) v), cZ g (r 3) 192 (uF Tu1 ((6 * f 0) + b) 0), cI g (r 5) 3 Ma, xO o fx rx n, cI g (rx 0) 34 fA]) C dX1_sends_59 3 rfl (by decide) (by omega) (by omega) rfl ?_
          refine gi_iinc (lv' := [(3, vi (b + 1)), (2, vi (fm k (dueB S))), (0, .ref a), (1, vi k)]) C dX1_sends_60 0 rfl (by decide) rfl ?_
          refine gi_goto (tgt := 15) C dX1_sends_63 (by decide) ?_
          exact gi_to [0, 1, 2, 3] [0, 1, 2, 3, 4, 5, 6] rfl rfl rfl (ih15 (b + 1) (uF Bi1 ((6 * f 0) + b) v) (uF Tu1 ((6 * f 0) + b) 0) (by omega) (uF_win (G := fun j => fm k (dueB S) / 2 ^ (5 - j).toNat % 2) hb.1 hBi rfl hv) (uF_win (G := fun _ => 0) hb.1 hTu rfl rfl) (by omega))
        refine gi_aload_n C dX1_sends_21 2 rfl ?_
        refine gi_get (v := .ref (r 2)) C in_X1 dX1_sends_22 2 q122 0 rfl rfl (by decide) (fun _ h => h) rfl ?_
        refine gi_aload_n C dX1_sends_25 2 rfl ?_
        refine gi_runV (wr := [cI g (r 1) 32 Se, cZ g (r 2) 192 Bi1, cZ g (r 3) 192 Tu1, cI g (r 5) 3 Ma, xO o fx rx n, cI g (rx 0) 34 fA]) (rest := [.ref (r 2)]) C (mX1_many C.ok a f r o) dX1_sends_26 q396 q397 q398 q56 q399 hdX1_many ⟨Nat.le_of_ble_eq_true rfl, Nat.le_of_ble_eq_true rfl⟩ 0 rfl rfl [0] [1, 2, 3, 4, 5, 6] rfl rfl rfl rfl (by decide) rfl (Nat.le_of_ble_eq_true rfl) ⟨Nat.le_of_ble_eq_true rfl, Nat.le_of_ble_eq_true rfl⟩ (kI fun r_26 w1 hv26 => ?_)
        obtain ⟨hr_26, rfl⟩ := hv26
        refine gi_pick [6, 0, 1, 2, 3, 4, 5] (w' := [wO a f r o, cI g (r 1) 32 Se, cZ g (r 2) 192 Bi1, cZ g (r 3) 192 Tu1, cI g (r 5) 3 Ma, xO o fx rx n, cI g (rx 0) 34 fA]) rfl rfl ?_
        refine gi_top (b := (6 * f 0)) hr_26 ?_
        refine gi_iload_n C dX1_sends_29 0 rfl ?_
        refine gi_iadd C dX1_sends_30 ?_
        refine gi_iload_n C dX1_sends_31 1 rfl ?_
        refine gi_iconst C dX1_sends_32 ?_
        refine gi_iload_n C dX1_sends_33 0 rfl ?_
        refine gi_isub C dX1_sends_34 ?_
        have hdv : 0 ≤ fm k (dueB S) / 2 ^ (5 - b).toNat := Int.ediv_nonneg hwd.1 (pow2_nn _)
        have hdg := div_rg (v := fm k (dueB S)) (by omega) (5 - b).toNat
        refine gi_ishr C dX1_sends_35 (by omega) (by omega) ?_
        refine gi_iconst C dX1_sends_36 ?_
        refine gi_mask (v := ((fm k (dueB S)) / 2 ^ ((5 - b)).toNat) % 2) C dX1_sends_37 (by omega) 1 (by decide) (by decide) (by rfl) ?_
        refine gi_iconst C dX1_sends_38 ?_
        refine gi_icmp_ne (tgt := 46) C dX1_sends_39 (by decide) (by omega) (by omega) (fun h39 => ?_) (fun h39 => ?_)
        · skip
          refine gi_iconst C dX1_sends_46 ?_
          exact gi_to [0, 1, 2, 3] [0, 1, 2, 3, 4, 5, 6] rfl rfl rfl (L47 0 (by omega))
        · skip
          refine gi_iconst C dX1_sends_42 ?_
          refine gi_goto (tgt := 47) C dX1_sends_43 (by decide) ?_
          exact gi_to [0, 1, 2, 3] [0, 1, 2, 3, 4, 5, 6] rfl rfl rfl (L47 1 (by omega))
  exact gi_to [0, 1, 2, 3] [0, 1, 2, 3, 4, 5, 6] rfl rfl rfl (L15 _ 0 Bi Tu (by omega) (fun j h0 h1 => (if_neg (by omega)).symm) (fun j h0 h1 => (if_neg (by omega)).symm) (Nat.lt_succ_self _))
theorem hdX1_turns : yX1_turns.cls ≠ "java/lang/invoke/MethodHandle" ∧ yX1_turns.cls ≠ "java/lang/invoke/VarHandle" ∧ (parseMethodDescriptor yX1_turns.desc).map (fun d => d.parameters.length) = some 1 := by decide +kernel
abbrev rmX1_turns : Room := { frames := 1, cells := 0, slots := 0, locals := 13 }
set_option maxHeartbeats 4000000 in
set_option maxRecDepth 100000 in
/-- EvenWords$Wire.turns(I)I -/
theorem mX1_turns {g : GG} (hg : OKG g) (a : Nat) (f : Nat → Int) (r : Nat → Nat) (o : Nat) (Bi : Int → Int) (Tu : Int → Int) (b : Int) (hb : 0 ≤ b ∧ b < 192) (hB : Bi b = 0 ∨ Bi b = 1) (hT : Tu b = 0 ∨ Tu b = 1) : Con g yX1_turns cX1_turns 2 (some .int) rmX1_turns [.ref a, vi b] [wO a f r o, cZ g (r 2) 192 Bi, cZ g (r 3) 192 Tu] (pI fun r_ w => r_ = (1 - Bi b) ∧ w = [wO a f r o, cZ g (r 2) 192 (uF Bi b (1 - Bi b)), cZ g (r 3) 192 (uF Tu b (1 - Tu b))]) := by
  refine con_of_go hg (by decide +kernel) (Nat.le_of_ble_eq_true rfl) ?_
  intro x C
  refine gi_lv (lv' := [(0, .ref a), (1, vi b)]) [0, 1] rfl ?_
  refine gi_aload_n C dX1_turns_0 0 rfl ?_
  refine gi_get (v := .ref (r 2)) C in_X1 dX1_turns_1 2 q122 0 rfl rfl (by decide) (fun _ h => h) rfl ?_
  refine gi_iload_n C dX1_turns_4 1 rfl ?_
  refine gi_aload_n C dX1_turns_5 0 rfl ?_
  refine gi_get (v := .ref (r 2)) C in_X1 dX1_turns_6 2 q122 0 rfl rfl (by decide) (fun _ h => h) rfl ?_
  refine gi_iload_n C dX1_turns_9 1 rfl ?_
  have L19 : ∀ (v : Int) (hv : v = 1 - Bi b), Go g x 2 rmX1_turns 0 0 19 [(0, .ref a), (1, vi b)] [vi v, vi b, .ref (r 2)] [wO a f r o, cZ g (r 2) 192 Bi, cZ g (r 3) 192 Tu] := by
    intro v hv
    subst hv
    refine gi_zast (w' := [wO a f r o, cZ g (r 2) 192 (uF Bi b (1 - Bi b)), cZ g (r 3) 192 Tu]) C dX1_turns_19 1 rfl (by decide) (by omega) (by omega) rfl ?_
    refine gi_aload_n C dX1_turns_20 0 rfl ?_
    refine gi_get (v := .ref (r 3)) C in_X1 dX1_turns_21 3 q125 0 rfl rfl (by decide) (fun _ h => h) rfl ?_
    refine gi_iload_n C dX1_turns_24 1 rfl ?_
    refine gi_aload_n C dX1_turns_25 0 rfl ?_
    refine gi_get (v := .ref (r 3)) C in_X1 dX1_turns_26 3 q125 0 rfl rfl (by decide) (fun _ h => h) rfl ?_
    refine gi_iload_n C dX1_turns_29 1 rfl ?_
    have L39 : ∀ (u : Int) (hu : u = 1 - Tu b), Go g x 2 rmX1_turns 0 0 39 [(0, .ref a), (1, vi b)] [vi u, vi b, .ref (r 3)] [wO a f r o, cZ g (r 2) 192 (uF Bi b (1 - Bi b)), cZ g (r 3) 192 Tu] := by
      intro u hu
      subst hu
      refine gi_zast (w' := [wO a f r o, cZ g (r 2) 192 (uF Bi b (1 - Bi b)), cZ g (r 3) 192 (uF Tu b (1 - Tu b))]) C dX1_turns_39 2 rfl (by decide) (by omega) (by omega) rfl ?_
      refine gi_aload_n C dX1_turns_40 0 rfl ?_
      refine gi_get (v := .ref (r 2)) C in_X1 dX1_turns_41 2 q122 0 rfl rfl (by decide) (fun _ h => h) rfl ?_
      refine gi_iload_n C dX1_turns_44 1 rfl ?_
      refine gi_zald C dX1_turns_45 1 rfl (by decide) (by omega) ?_
      refine gi_top (b := (1 - Bi b)) (uF_eq _ _ _) ?_
      refine gi_if_eq (tgt := 53) C dX1_turns_46 (by decide) (by omega) (fun h46 => ?_) (fun h46 => ?_)
      · skip
        refine gi_iconst C dX1_turns_53 ?_
        refine gi_pick [0, 1, 2] (w' := [wO a f r o, cZ g (r 2) 192 (uF Bi b (1 - Bi b)), cZ g (r 3) 192 (uF Tu b (1 - Tu b))]) rfl rfl ?_
        exact gi_ireturn C dX1_turns_54 (Nat.le_of_ble_eq_true rfl) (Nat.le_of_ble_eq_true rfl) ⟨_, rfl, (by first | rfl | omega), rfl⟩
      · skip
        refine gi_iconst C dX1_turns_49 ?_
        refine gi_goto (tgt := 54) C dX1_turns_50 (by decide) ?_
        refine gi_pick [0, 1, 2] (w' := [wO a f r o, cZ g (r 2) 192 (uF Bi b (1 - Bi b)), cZ g (r 3) 192 (uF Tu b (1 - Tu b))]) rfl rfl ?_
        exact gi_ireturn C dX1_turns_54 (Nat.le_of_ble_eq_true rfl) (Nat.le_of_ble_eq_true rfl) ⟨_, rfl, (by first | rfl | omega), rfl⟩
    refine gi_zald C dX1_turns_30 2 rfl (by decide) (by omega) ?_
    refine gi_if_ne (tgt := 38) C dX1_turns_31 (by decide) (by omega) (fun h31 => ?_) (fun h31 => ?_)
    · skip
      refine gi_iconst C dX1_turns_38 ?_
      exact gi_to [0, 1] [0, 1, 2] rfl rfl rfl (L39 0 (by omega))
    · skip
      refine gi_iconst C dX1_turns_34 ?_
      refine gi_goto (tgt := 39) C dX1_turns_35 (by decide) ?_
      exact gi_to [0, 1] [0, 1, 2] rfl rfl rfl (L39 1 (by omega))
  refine gi_zald C dX1_turns_10 1 rfl (by decide) (by omega) ?_
  refine gi_if_ne (tgt := 18) C dX1_turns_11 (by decide) (by omega) (fun h11 => ?_) (fun h11 => ?_)
  · skip
    refine gi_iconst C dX1_turns_18 ?_
    exact gi_to [0, 1] [0, 1, 2] rfl rfl rfl (L19 0 (by omega))
  · skip
    refine gi_iconst C dX1_turns_14 ?_
    refine gi_goto (tgt := 19) C dX1_turns_15 (by decide) ?_
    exact gi_to [0, 1] [0, 1, 2] rfl rfl rfl (L19 1 (by omega))
theorem hdX1_longest : yX1_longest.cls ≠ "java/lang/invoke/MethodHandle" ∧ yX1_longest.cls ≠ "java/lang/invoke/VarHandle" ∧ (parseMethodDescriptor yX1_longest.desc).map (fun d => d.parameters.length) = some 0 := by decide +kernel
abbrev rmX1_longest : Room := { frames := 2, cells := 0, slots := 0, locals := 64 }
set_option maxHeartbeats 4000000 in
set_option maxRecDepth 100000 in
/-- EvenWords$Wire.longest()I -/
theorem mX1_longest {g : GG} (hg : OKG g) (a : Nat) (f : Nat → Int) (r : Nat → Nat) (o : Nat) (Bi : Int → Int) (hn : 0 ≤ f 0 ∧ f 0 ≤ 32) (hB : ∀ b : Int, 0 ≤ b → b < 192 → (Bi b = 0 ∨ Bi b = 1)) : Con g yX1_longest cX1_longest 4 (some .int) rmX1_longest [.ref a] [wO a f r o, cZ g (r 2) 192 Bi] (pI fun r_ w => r_ = (mostI Bi (6 * f 0)) ∧ w = [wO a f r o, cZ g (r 2) 192 Bi]) := by
  refine con_of_go hg (by decide +kernel) (Nat.le_of_ble_eq_true rfl) ?_
  intro x C
  refine gi_lv (lv' := [(0, .ref a)]) [0] rfl ?_
  refine gi_iconst C dX1_longest_0 ?_
  refine gi_istore_n (lv' := [(1, vi 0), (0, .ref a)]) C dX1_longest_1 (by decide) rfl ?_
  refine gi_iconst C dX1_longest_2 ?_
  refine gi_istore_n (lv' := [(2, vi 0), (1, vi 0), (0, .ref a)]) C dX1_longest_3 (by decide) rfl ?_
  refine gi_iconst C dX1_longest_4 ?_
  refine gi_istore_n (lv' := [(3, vi 0), (2, vi 0), (1, vi 0), (0, .ref a)]) C dX1_longest_5 (by decide) rfl ?_
  have L6 : ∀ (q_ : Nat) (m : Int) (u : Int) (b : Int) (hb : 0 ≤ b ∧ b ≤ 6 * f 0) (hm : m = mostI Bi b) (hu : u = runI Bi b) (hq_ : (6 * f 0 - b).toNat < q_), Go g x 4 rmX1_longest 0 0 6 [(1, vi m), (2, vi u), (3, vi b), (0, .ref a)] [] [wO a f r o, cZ g (r 2) 192 Bi] := by
    intro q_
    induction q_ with
    | zero => intro m u b hb hm hu hq_; exact absurd hq_ (Nat.not_lt_zero _)
    | succ q_ ih6 =>
      intro m u b hb hm hu hq_
      have hu3 := runI_b Bi hb.1
      have hm3 := mostI_b Bi hb.1
      refine gi_iload_n C dX1_longest_6 2 rfl ?_
      refine gi_aload_n C dX1_longest_7 3 rfl ?_
      refine gi_runV (wr := [cZ g (r 2) 192 Bi]) (rest := [vi b]) C (mX1_many C.ok a f r o) dX1_longest_8 q396 q397 q398 q56 q399 hdX1_many ⟨Nat.le_of_ble_eq_true rfl, Nat.le_of_ble_eq_true rfl⟩ 0 rfl rfl [0] [1] rfl rfl rfl rfl (by decide) rfl (Nat.le_of_ble_eq_true rfl) ⟨Nat.le_of_ble_eq_true rfl, Nat.le_of_ble_eq_true rfl⟩ (kI fun r_8 w1 hv8 => ?_)
      obtain ⟨hr_8, rfl⟩ := hv8
      refine gi_pick [1, 0] (w' := [wO a f r o, cZ g (r 2) 192 Bi]) rfl rfl ?_
      refine gi_top (b := (6 * f 0)) hr_8 ?_
      refine gi_icmp_ge (tgt := 55) C dX1_longest_11 (by decide) (by omega) (by omega) (fun h11 => ?_) (fun h11 => ?_)
      · skip
        refine gi_iload_n C dX1_longest_55 0 rfl ?_
        refine gi_pick [0, 1] (w' := [wO a f r o, cZ g (r 2) 192 Bi]) rfl rfl ?_
        exact gi_ireturn C dX1_longest_56 (Nat.le_of_ble_eq_true rfl) (Nat.le_of_ble_eq_true rfl) ⟨_, rfl, (by have e : b = 6 * f 0 := (by omega); subst e; exact hm), rfl⟩
      · skip
        have L42 : ∀ (u2 : Int) (hu2 : u2 = runI Bi (b + 1)), Go g x 4 rmX1_longest 0 0 42 [(1, vi m), (2, vi u), (3, vi b), (0, .ref a)] [vi u2] [wO a f r o, cZ g (r 2) 192 Bi] := by
          intro u2 hu2
          have hu4 := runI_b Bi (b := b + 1) (by omega)
          refine gi_istore_n (lv' := [(2, vi u2), (1, vi m), (3, vi b), (0, .ref a)]) C dX1_longest_42 (by decide) rfl ?_
          refine gi_iload_n C dX1_longest_43 1 rfl ?_
          refine gi_iload_n C dX1_longest_44 0 rfl ?_
          refine gi_max C dX1_longest_45 q1502 q1149 q59 q1150 (by omega) (by omega) (Nat.le_of_ble_eq_true rfl) (Nat.le_of_ble_eq_true rfl) (Nat.le_of_ble_eq_true rfl) (Nat.le_of_ble_eq_true rfl) ?_
          refine gi_istore_n (lv' := [(1, vi (if m < u2 then u2 else m)), (2, vi u2), (3, vi b), (0, .ref a)]) C dX1_longest_48 (by decide) rfl ?_
          refine gi_iinc (lv' := [(3, vi (b + 1)), (1, vi (if m < u2 then u2 else m)), (2, vi u2), (0, .ref a)]) C dX1_longest_49 2 rfl (by decide) rfl ?_
          refine gi_goto (tgt := 6) C dX1_longest_52 (by decide) ?_
          exact gi_to [1, 2, 0, 3] [0, 1] rfl rfl rfl (ih6 (if m < u2 then u2 else m) u2 (b + 1) (by omega) (by rw [mostI_s _ hb.1, ← hu2, ← hm]) (hu2) (by omega))
        refine gi_iload_n C dX1_longest_14 2 rfl ?_
        refine gi_if_le (tgt := 41) C dX1_longest_15 (by decide) (by omega) (fun h15 => ?_) (fun h15 => ?_)
        · skip
          refine gi_iconst C dX1_longest_41 ?_
          exact gi_to [0, 1, 2, 3] [0, 1] rfl rfl rfl (L42 1 (by first | rw [runI_s _ hb.1, if_neg (fun z => h32 z.2)] | rw [runI_s _ hb.1, if_neg (fun z => by omega)]))
        · skip
          refine gi_aload_n C dX1_longest_18 3 rfl ?_
          refine gi_get (v := .ref (r 2)) C in_X1 dX1_longest_19 2 q122 0 rfl rfl (by decide) (fun _ h => h) rfl ?_
          refine gi_iload_n C dX1_longest_22 2 rfl ?_
          have hc1 := hB b hb.1 (by omega)
          have hc2 := hB (b - 1) (by omega) (by omega)
          refine gi_zald C dX1_longest_23 1 rfl (by decide) (by omega) ?_
          refine gi_aload_n C dX1_longest_24 3 rfl ?_
          refine gi_get (v := .ref (r 2)) C in_X1 dX1_longest_25 2 q122 0 rfl rfl (by decide) (fun _ h => h) rfl ?_
          refine gi_iload_n C dX1_longest_28 2 rfl ?_
          refine gi_iconst C dX1_longest_29 ?_
          refine gi_isub C dX1_longest_30 ?_
          refine gi_zald C dX1_longest_31 1 rfl (by decide) (by omega) ?_
          refine gi_icmp_ne (tgt := 41) C dX1_longest_32 (by decide) (by omega) (by omega) (fun h32 => ?_) (fun h32 => ?_)
          · skip
            refine gi_iconst C dX1_longest_41 ?_
            exact gi_to [0, 1, 2, 3] [0, 1] rfl rfl rfl (L42 1 (by first | rw [runI_s _ hb.1, if_neg (fun z => h32 z.2)] | rw [runI_s _ hb.1, if_neg (fun z => by omega)]))
          · skip
            refine gi_iload_n C dX1_longest_35 1 rfl ?_
            refine gi_iconst C dX1_longest_36 ?_
            refine gi_iadd C dX1_longest_37 ?_
            refine gi_goto (tgt := 42) C dX1_longest_38 (by decide) ?_
            exact gi_to [0, 1, 2, 3] [0, 1] rfl rfl rfl (L42 (u + 1) (by rw [runI_s _ hb.1, hu, if_pos ⟨h15, h32⟩]))
  exact gi_to [2, 1, 0, 3] [0, 1] rfl rfl rfl (L6 _ 0 0 0 (by omega) (rfl) (rfl) (Nat.lt_succ_self _))
