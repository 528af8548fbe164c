theorem hdX6_init : yX6_init.cls ≠ "java/lang/invoke/MethodHandle" ∧ yX6_init.cls ≠ "java/lang/invoke/VarHandle" ∧ (parseMethodDescriptor yX6_init.desc).map (fun d => d.parameters.length) = some 5 := by decide +kernel
abbrev rmX6_init : Room := { frames := 3, cells := 0, slots := 0, locals := 55 }
set_option maxHeartbeats 4000000 in
set_option maxRecDepth 100000 in
/-- EvenWords$Piece.<init>(IZIII)V -/
theorem mX6_init {g : GG} (hg : OKG g) (q : Nat) (pw : Int) (pa : Int) (pr : Int) (ph : Int) (pl : Int) (hpw : 0 ≤ pw ∧ pw < 64) (hpa : pa = 0 ∨ pa = 1) : Con g yX6_init cX6_init 6 none rmX6_init [.ref q, vi pw, vi pa, vi pr, vi ph, vi pl] [cO q 6 [vi 0, vi 0, vi 0, vi 0, vi 0, vi 0]] (pV fun w => w = [cO q 6 [vi pw, vi pa, vi (bI (3 < ones pw ∨ (ones pw = 3 ∧ pa = 1))), vi pr, vi ph, vi pl]]) := by
  refine con_of_goI hg (by decide +kernel) (Nat.le_of_ble_eq_true rfl) ?_
  intro x C hini
  refine gi_lv (lv' := [(0, .ref q), (1, vi pw), (2, vi pa), (3, vi pr), (4, vi ph), (5, vi pl)]) [0, 1, 2, 3, 4, 5] rfl ?_
  refine gi_aload_n C dX6_init_0 0 rfl ?_
  refine gi_objInit C dX6_init_1 q1157 q99 q100 (by decide) (by decide) ?_
  refine gi_aload_n C dX6_init_4 0 rfl ?_
  refine gi_iload_n C dX6_init_5 1 rfl ?_
  refine gi_putF (w' := [cO q 6 [vi pw, vi 0, vi 0, vi 0, vi 0, vi 0]]) C in_X6 tyX6 tyX6_ok nmX6 hini dX6_init_6 0 q1159 0 rfl rfl (by decide) (fun _ h => h) rfl rfl rfl ⟨rfl, rfl⟩ (Nat.le_of_ble_eq_true rfl) rfl ?_
  refine gi_aload_n C dX6_init_9 0 rfl ?_
  refine gi_iload_n C dX6_init_10 2 rfl ?_
  refine gi_putF (w' := [cO q 6 [vi pw, vi pa, vi 0, vi 0, vi 0, vi 0]]) C in_X6 tyX6 tyX6_ok nmX6 hini dX6_init_11 1 q1161 0 rfl rfl (by decide) (fun _ h => h) rfl rfl rfl (fz (by omega)) (Nat.le_of_ble_eq_true rfl) rfl ?_
  refine gi_aload_n C dX6_init_14 0 rfl ?_
  refine gi_iload_n C dX6_init_15 1 rfl ?_
  refine gi_iload_n C dX6_init_16 2 rfl ?_
  refine gi_runSN (wr := [cO q 6 [vi pw, vi pa, vi 0, vi 0, vi 0, vi 0]]) (rest := [.ref q]) C (mX0_isAbove C.ok pw pa (by omega) (by omega)) dX6_init_17 q1158 q401 q53 q402 hdX0_isAbove ⟨Nat.le_of_ble_eq_true rfl, Nat.le_of_ble_eq_true rfl⟩ [] [0] rfl rfl rfl rfl (by decide) rfl (Nat.le_of_ble_eq_true rfl) ⟨Nat.le_of_ble_eq_true rfl, Nat.le_of_ble_eq_true rfl⟩ (kI fun r_17 w1 hv17 => ?_)
  obtain ⟨hr_17, rfl⟩ := hv17
  refine gi_pick [0] (w' := [cO q 6 [vi pw, vi pa, vi 0, vi 0, vi 0, vi 0]]) rfl rfl ?_
  refine gi_top (b := (bI (3 < ones pw ∨ (ones pw = 3 ∧ pa = 1)))) hr_17 ?_
  refine gi_putF (w' := [cO q 6 [vi pw, vi pa, vi (bI (3 < ones pw ∨ (ones pw = 3 ∧ pa = 1))), vi 0, vi 0, vi 0]]) C in_X6 tyX6 tyX6_ok nmX6 hini dX6_init_20 2 q1163 0 rfl rfl (by decide) (fun _ h => h) rfl rfl rfl (fz (bI_01 _)) (Nat.le_of_ble_eq_true rfl) rfl ?_
  refine gi_aload_n C dX6_init_23 0 rfl ?_
  refine gi_iload_n C dX6_init_24 3 rfl ?_
  refine gi_putF (w' := [cO q 6 [vi pw, vi pa, vi (bI (3 < ones pw ∨ (ones pw = 3 ∧ pa = 1))), vi pr, vi 0, vi 0]]) C in_X6 tyX6 tyX6_ok nmX6 hini dX6_init_25 3 q1166 0 rfl rfl (by decide) (fun _ h => h) rfl rfl rfl ⟨rfl, rfl⟩ (Nat.le_of_ble_eq_true rfl) rfl ?_
  refine gi_aload_n C dX6_init_28 0 rfl ?_
  refine gi_iload C dX6_init_29 4 rfl ?_
  refine gi_putF (w' := [cO q 6 [vi pw, vi pa, vi (bI (3 < ones pw ∨ (ones pw = 3 ∧ pa = 1))), vi pr, vi ph, vi 0]]) C in_X6 tyX6 tyX6_ok nmX6 hini dX6_init_31 4 q1168 0 rfl rfl (by decide) (fun _ h => h) rfl rfl rfl ⟨rfl, rfl⟩ (Nat.le_of_ble_eq_true rfl) rfl ?_
  refine gi_aload_n C dX6_init_34 0 rfl ?_
  refine gi_iload C dX6_init_35 5 rfl ?_
  refine gi_putF (w' := [cO q 6 [vi pw, vi pa, vi (bI (3 < ones pw ∨ (ones pw = 3 ∧ pa = 1))), vi pr, vi ph, vi pl]]) C in_X6 tyX6 tyX6_ok nmX6 hini dX6_init_37 5 q1170 0 rfl rfl (by decide) (fun _ h => h) rfl rfl rfl ⟨rfl, rfl⟩ (Nat.le_of_ble_eq_true rfl) rfl ?_
  refine gi_pick [0] (w' := [cO q 6 [vi pw, vi pa, vi (bI (3 < ones pw ∨ (ones pw = 3 ∧ pa = 1))), vi pr, vi ph, vi pl]]) rfl rfl ?_
  exact gi_return C dX6_init_40 (Nat.le_of_ble_eq_true rfl) (Nat.le_of_ble_eq_true rfl) ⟨rfl, rfl⟩
theorem hdX0_lambda_new_0 : yX0_lambda_new_0.cls ≠ "java/lang/invoke/MethodHandle" ∧ yX0_lambda_new_0.cls ≠ "java/lang/invoke/VarHandle" ∧ (parseMethodDescriptor yX0_lambda_new_0.desc).map (fun d => d.parameters.length) = some 1 := by decide +kernel
abbrev rmX0_lambda_new_0 : Room := { frames := 1, cells := 0, slots := 0, locals := 13 }
set_option maxHeartbeats 4000000 in
set_option maxRecDepth 100000 in
/-- EvenWords.lambda$new$0(LEvenWords$Piece;)Z -/
theorem mX0_lambda_new_0 {g : GG} (hg : OKG g) (o : Nat) (fx : Nat → Int) (rx : Nat → Nat) (n : Nat) (q : Nat) (pw : Int) (pa : Int) (pb : Int) (pr : Int) (ph : Int) (pl : Int) (hpw : 0 ≤ pw ∧ pw < 64) : Con g yX0_lambda_new_0 cX0_lambda_new_0 2 (some .boolean) rmX0_lambda_new_0 [.ref o, .ref q] [xO o fx rx n, cI g (rx 1) 64 meanT, cO q 6 [vi pw, vi pa, vi pb, vi pr, vi ph, vi pl]] (pI fun r_ w => r_ = (bI (meanT pw = -9)) ∧ w = [xO o fx rx n, cI g (rx 1) 64 meanT, cO q 6 [vi pw, vi pa, vi pb, vi pr, vi ph, vi pl]]) := by
  refine con_of_go hg (by decide +kernel) (Nat.le_of_ble_eq_true rfl) ?_
  intro x C
  have hm := meanT_b hpw
  refine gi_lv (lv' := [(0, .ref o), (1, .ref q)]) [0, 1] rfl ?_
  refine gi_aload_n C dX0_lambda_new_0_0 0 rfl ?_
  refine gi_get (v := .ref (rx 1)) C in_X0 dX0_lambda_new_0_1 1 q167 0 rfl rfl (by decide) (fun _ h => h) rfl ?_
  refine gi_aload_n C dX0_lambda_new_0_4 1 rfl ?_
  refine gi_getN (v := vi pw) C in_X6 dX0_lambda_new_0_5 0 q1160 2 rfl rfl (by decide) (fun _ h => h) rfl ?_
  refine gi_iald C dX0_lambda_new_0_8 1 rfl (by decide) (by omega) ?_
  refine gi_bipush C dX0_lambda_new_0_9 (by decide +kernel) ?_
  refine gi_icmp_ne (tgt := 18) C dX0_lambda_new_0_11 (by decide) (by omega) (by omega) (fun h11 => ?_) (fun h11 => ?_)
  · skip
    refine gi_iconst C dX0_lambda_new_0_18 ?_
    refine gi_pick [0, 1, 2] (w' := [xO o fx rx n, cI g (rx 1) 64 meanT, cO q 6 [vi pw, vi pa, vi pb, vi pr, vi ph, vi pl]]) rfl rfl ?_
    exact gi_zreturn C dX0_lambda_new_0_19 (Nat.le_of_ble_eq_true rfl) (Nat.le_of_ble_eq_true rfl) (by omega) ⟨_, rfl, (by first | exact (bI_t (by omega)).symm | exact (bI_f (by omega)).symm), rfl⟩
  · skip
    refine gi_iconst C dX0_lambda_new_0_14 ?_
    refine gi_goto (tgt := 19) C dX0_lambda_new_0_15 (by decide) ?_
    refine gi_pick [0, 1, 2] (w' := [xO o fx rx n, cI g (rx 1) 64 meanT, cO q 6 [vi pw, vi pa, vi pb, vi pr, vi ph, vi pl]]) rfl rfl ?_
    exact gi_zreturn C dX0_lambda_new_0_19 (Nat.le_of_ble_eq_true rfl) (Nat.le_of_ble_eq_true rfl) (by omega) ⟨_, rfl, (by first | exact (bI_t (by omega)).symm | exact (bI_f (by omega)).symm), rfl⟩
theorem hdX0_lambda_new_1 : yX0_lambda_new_1.cls ≠ "java/lang/invoke/MethodHandle" ∧ yX0_lambda_new_1.cls ≠ "java/lang/invoke/VarHandle" ∧ (parseMethodDescriptor yX0_lambda_new_1.desc).map (fun d => d.parameters.length) = some 1 := by decide +kernel
abbrev rmX0_lambda_new_1 : Room := { frames := 2, cells := 0, slots := 0, locals := 35 }
set_option maxHeartbeats 4000000 in
set_option maxRecDepth 100000 in
/-- EvenWords.lambda$new$1(LEvenWords$Piece;)Z -/
theorem mX0_lambda_new_1 {g : GG} (hg : OKG g) (o : Nat) (fx : Nat → Int) (rx : Nat → Nat) (n : Nat) (q : Nat) (pw : Int) (pa : Int) (pb : Int) (pr : Int) (ph : Int) (pl : Int) (hpw : 0 ≤ pw ∧ pw < 64) (hpa : pa = 0 ∨ pa = 1) : Con g yX0_lambda_new_1 cX0_lambda_new_1 2 (some .boolean) rmX0_lambda_new_1 [.ref o, .ref q] [xO o fx rx n, cI g (rx 0) 34 fA, cI g (rx 1) 64 meanT, cO q 6 [vi pw, vi pa, vi pb, vi pr, vi ph, vi pl]] (pI fun r_ w => r_ = (bI (meanT pw ≠ -9 ∧ fm (meanT pw) pa ≠ pw)) ∧ w = [xO o fx rx n, cI g (rx 0) 34 fA, cI g (rx 1) 64 meanT, cO q 6 [vi pw, vi pa, vi pb, vi pr, vi ph, vi pl]]) := by
  refine con_of_go hg (by decide +kernel) (Nat.le_of_ble_eq_true rfl) ?_
  intro x C
  have hm := meanT_b hpw
  have hmm : meanT pw ≠ -9 → 0 ≤ meanT pw := meanT_nn hpw
  refine gi_lv (lv' := [(0, .ref o), (1, .ref q)]) [0, 1] rfl ?_
  refine gi_aload_n C dX0_lambda_new_1_0 0 rfl ?_
  refine gi_get (v := .ref (rx 1)) C in_X0 dX0_lambda_new_1_1 1 q167 0 rfl rfl (by decide) (fun _ h => h) rfl ?_
  refine gi_aload_n C dX0_lambda_new_1_4 1 rfl ?_
  refine gi_getN (v := vi pw) C in_X6 dX0_lambda_new_1_5 0 q1160 3 rfl rfl (by decide) (fun _ h => h) rfl ?_
  refine gi_iald C dX0_lambda_new_1_8 2 rfl (by decide) (by omega) ?_
  refine gi_bipush C dX0_lambda_new_1_9 (by decide +kernel) ?_
  refine gi_icmp_eq (tgt := 42) C dX0_lambda_new_1_11 (by decide) (by omega) (by omega) (fun h11 => ?_) (fun h11 => ?_)
  · skip
    refine gi_iconst C dX0_lambda_new_1_42 ?_
    refine gi_pick [0, 1, 2, 3] (w' := [xO o fx rx n, cI g (rx 0) 34 fA, cI g (rx 1) 64 meanT, cO q 6 [vi pw, vi pa, vi pb, vi pr, vi ph, vi pl]]) rfl rfl ?_
    exact gi_zreturn C dX0_lambda_new_1_43 (Nat.le_of_ble_eq_true rfl) (Nat.le_of_ble_eq_true rfl) (by omega) ⟨_, rfl, (by first | exact (bI_t ⟨by omega, by omega⟩).symm | exact (bI_f (fun z => by omega)).symm), rfl⟩
  · skip
    have hfm := fm_b (k := meanT pw) (b := pa) (by have := hmm h11; omega)
    refine gi_aload_n C dX0_lambda_new_1_14 0 rfl ?_
    refine gi_aload_n C dX0_lambda_new_1_15 0 rfl ?_
    refine gi_get (v := .ref (rx 1)) C in_X0 dX0_lambda_new_1_16 1 q167 0 rfl rfl (by decide) (fun _ h => h) rfl ?_
    refine gi_aload_n C dX0_lambda_new_1_19 1 rfl ?_
    refine gi_getN (v := vi pw) C in_X6 dX0_lambda_new_1_20 0 q1160 3 rfl rfl (by decide) (fun _ h => h) rfl ?_
    refine gi_iald C dX0_lambda_new_1_23 2 rfl (by decide) (by omega) ?_
    refine gi_aload_n C dX0_lambda_new_1_24 1 rfl ?_
    refine gi_getN (v := vi pa) C in_X6 dX0_lambda_new_1_25 1 q1162 3 rfl rfl (by decide) (fun _ h => h) rfl ?_
    refine gi_runV (wr := [cI g (rx 1) 64 meanT, cO q 6 [vi pw, vi pa, vi pb, vi pr, vi ph, vi pl]]) (rest := []) C (mX0_formOf C.ok o fx rx n (meanT pw) pa (show 0 ≤ (meanT pw) ∧ (meanT pw) < 34 from (by have := hmm h11; omega)) (show pa = 0 ∨ pa = 1 from (by omega))) dX0_lambda_new_1_28 q107 q109 qs0 q53 q110 hdX0_formOf ⟨Nat.le_of_ble_eq_true rfl, Nat.le_of_ble_eq_true rfl⟩ 0 rfl rfl [0, 1] [2, 3] rfl rfl rfl rfl (by decide) rfl (Nat.le_of_ble_eq_true rfl) ⟨Nat.le_of_ble_eq_true rfl, Nat.le_of_ble_eq_true rfl⟩ (kI fun r_28 w1 hv28 => ?_)
    obtain ⟨hr_28, rfl⟩ := hv28
    refine gi_pick [2, 3, 0, 1] (w' := [xO o fx rx n, cI g (rx 0) 34 fA, cI g (rx 1) 64 meanT, cO q 6 [vi pw, vi pa, vi pb, vi pr, vi ph, vi pl]]) rfl rfl ?_
    refine gi_top (b := (fm (meanT pw) pa)) hr_28 ?_
    refine gi_aload_n C dX0_lambda_new_1_31 1 rfl ?_
    refine gi_getN (v := vi pw) C in_X6 dX0_lambda_new_1_32 0 q1160 3 rfl rfl (by decide) (fun _ h => h) rfl ?_
    refine gi_icmp_eq (tgt := 42) C dX0_lambda_new_1_35 (by decide) (by omega) (by omega) (fun h35 => ?_) (fun h35 => ?_)
    · skip
      refine gi_iconst C dX0_lambda_new_1_42 ?_
      refine gi_pick [0, 1, 2, 3] (w' := [xO o fx rx n, cI g (rx 0) 34 fA, cI g (rx 1) 64 meanT, cO q 6 [vi pw, vi pa, vi pb, vi pr, vi ph, vi pl]]) rfl rfl ?_
      exact gi_zreturn C dX0_lambda_new_1_43 (Nat.le_of_ble_eq_true rfl) (Nat.le_of_ble_eq_true rfl) (by omega) ⟨_, rfl, (by first | exact (bI_t ⟨by omega, by omega⟩).symm | exact (bI_f (fun z => by omega)).symm), rfl⟩
    · skip
      refine gi_iconst C dX0_lambda_new_1_38 ?_
      refine gi_goto (tgt := 43) C dX0_lambda_new_1_39 (by decide) ?_
      refine gi_pick [0, 1, 2, 3] (w' := [xO o fx rx n, cI g (rx 0) 34 fA, cI g (rx 1) 64 meanT, cO q 6 [vi pw, vi pa, vi pb, vi pr, vi ph, vi pl]]) rfl rfl ?_
      exact gi_zreturn C dX0_lambda_new_1_43 (Nat.le_of_ble_eq_true rfl) (Nat.le_of_ble_eq_true rfl) (by omega) ⟨_, rfl, (by first | exact (bI_t ⟨by omega, by omega⟩).symm | exact (bI_f (fun z => by omega)).symm), rfl⟩
theorem hdX0_lambda_new_2 : yX0_lambda_new_2.cls ≠ "java/lang/invoke/MethodHandle" ∧ yX0_lambda_new_2.cls ≠ "java/lang/invoke/VarHandle" ∧ (parseMethodDescriptor yX0_lambda_new_2.desc).map (fun d => d.parameters.length) = some 1 := by decide +kernel
abbrev rmX0_lambda_new_2 : Room := { frames := 1, cells := 0, slots := 0, locals := 13 }
set_option maxHeartbeats 4000000 in
set_option maxRecDepth 100000 in
/-- EvenWords.lambda$new$2(LEvenWords$Piece;)Z -/
theorem mX0_lambda_new_2 {g : GG} (hg : OKG g) (q : Nat) (pw : Int) (pa : Int) (pb : Int) (pr : Int) (ph : Int) (pl : Int) (hr : Rg pr) : Con g yX0_lambda_new_2 cX0_lambda_new_2 1 (some .boolean) rmX0_lambda_new_2 [.ref q] [cO q 6 [vi pw, vi pa, vi pb, vi pr, vi ph, vi pl]] (pI fun r_ w => r_ = (bI (6 < pr)) ∧ w = [cO q 6 [vi pw, vi pa, vi pb, vi pr, vi ph, vi pl]]) := by
  refine con_of_go hg (by decide +kernel) (Nat.le_of_ble_eq_true rfl) ?_
  intro x C
  refine gi_lv (lv' := [(0, .ref q)]) [0] rfl ?_
  refine gi_aload_n C dX0_lambda_new_2_0 0 rfl ?_
  refine gi_getN (v := vi pr) C in_X6 dX0_lambda_new_2_1 3 q1167 0 rfl rfl (by decide) (fun _ h => h) rfl ?_
  refine gi_bipush C dX0_lambda_new_2_4 (by decide +kernel) ?_
  refine gi_icmp_le (tgt := 13) C dX0_lambda_new_2_6 (by decide) (by omega) (by omega) (fun h6 => ?_) (fun h6 => ?_)
  · skip
    refine gi_iconst C dX0_lambda_new_2_13 ?_
    refine gi_pick [0] (w' := [cO q 6 [vi pw, vi pa, vi pb, vi pr, vi ph, vi pl]]) rfl rfl ?_
    exact gi_zreturn C dX0_lambda_new_2_14 (Nat.le_of_ble_eq_true rfl) (Nat.le_of_ble_eq_true rfl) (by omega) ⟨_, rfl, (by first | exact (bI_t (by omega)).symm | exact (bI_f (by omega)).symm), rfl⟩
  · skip
    refine gi_iconst C dX0_lambda_new_2_9 ?_
    refine gi_goto (tgt := 14) C dX0_lambda_new_2_10 (by decide) ?_
    refine gi_pick [0] (w' := [cO q 6 [vi pw, vi pa, vi pb, vi pr, vi ph, vi pl]]) rfl rfl ?_
    exact gi_zreturn C dX0_lambda_new_2_14 (Nat.le_of_ble_eq_true rfl) (Nat.le_of_ble_eq_true rfl) (by omega) ⟨_, rfl, (by first | exact (bI_t (by omega)).symm | exact (bI_f (by omega)).symm), rfl⟩
theorem hdX0_lambda_new_3 : yX0_lambda_new_3.cls ≠ "java/lang/invoke/MethodHandle" ∧ yX0_lambda_new_3.cls ≠ "java/lang/invoke/VarHandle" ∧ (parseMethodDescriptor yX0_lambda_new_3.desc).map (fun d => d.parameters.length) = some 1 := by decide +kernel
abbrev rmX0_lambda_new_3 : Room := { frames := 1, cells := 0, slots := 0, locals := 13 }
set_option maxHeartbeats 4000000 in
set_option maxRecDepth 100000 in
/-- EvenWords.lambda$new$3(LEvenWords$Piece;)Z -/
theorem mX0_lambda_new_3 {g : GG} (hg : OKG g) (q : Nat) (pw : Int) (pa : Int) (pb : Int) (pr : Int) (ph : Int) (pl : Int) (hh : Rg ph) (hl : Rg pl) : Con g yX0_lambda_new_3 cX0_lambda_new_3 1 (some .boolean) rmX0_lambda_new_3 [.ref q] [cO q 6 [vi pw, vi pa, vi pb, vi pr, vi ph, vi pl]] (pI fun r_ w => r_ = (bI (3 < ph ∨ pl < -3)) ∧ w = [cO q 6 [vi pw, vi pa, vi pb, vi pr, vi ph, vi pl]]) := by
  refine con_of_go hg (by decide +kernel) (Nat.le_of_ble_eq_true rfl) ?_
  intro x C
  refine gi_lv (lv' := [(0, .ref q)]) [0] rfl ?_
  refine gi_aload_n C dX0_lambda_new_3_0 0 rfl ?_
  refine gi_getN (v := vi ph) C in_X6 dX0_lambda_new_3_1 4 q1169 0 rfl rfl (by decide) (fun _ h => h) rfl ?_
  refine gi_iconst C dX0_lambda_new_3_4 ?_
  refine gi_icmp_gt (tgt := 17) C dX0_lambda_new_3_5 (by decide) (by omega) (by omega) (fun h5 => ?_) (fun h5 => ?_)
  · skip
    refine gi_iconst C dX0_lambda_new_3_17 ?_
    refine gi_goto (tgt := 22) C dX0_lambda_new_3_18 (by decide) ?_
    refine gi_pick [0] (w' := [cO q 6 [vi pw, vi pa, vi pb, vi pr, vi ph, vi pl]]) rfl rfl ?_
    exact gi_zreturn C dX0_lambda_new_3_22 (Nat.le_of_ble_eq_true rfl) (Nat.le_of_ble_eq_true rfl) (by omega) ⟨_, rfl, (by first | exact (bI_t (by omega)).symm | exact (bI_f (by omega)).symm), rfl⟩
  · skip
    refine gi_aload_n C dX0_lambda_new_3_8 0 rfl ?_
    refine gi_getN (v := vi pl) C in_X6 dX0_lambda_new_3_9 5 q1171 0 rfl rfl (by decide) (fun _ h => h) rfl ?_
    refine gi_bipush C dX0_lambda_new_3_12 (by decide +kernel) ?_
    refine gi_icmp_ge (tgt := 21) C dX0_lambda_new_3_14 (by decide) (by omega) (by omega) (fun h14 => ?_) (fun h14 => ?_)
    · skip
      refine gi_iconst C dX0_lambda_new_3_21 ?_
      refine gi_pick [0] (w' := [cO q 6 [vi pw, vi pa, vi pb, vi pr, vi ph, vi pl]]) rfl rfl ?_
      exact gi_zreturn C dX0_lambda_new_3_22 (Nat.le_of_ble_eq_true rfl) (Nat.le_of_ble_eq_true rfl) (by omega) ⟨_, rfl, (by first | exact (bI_t (by omega)).symm | exact (bI_f (by omega)).symm), rfl⟩
    · skip
      refine gi_iconst C dX0_lambda_new_3_17 ?_
      refine gi_goto (tgt := 22) C dX0_lambda_new_3_18 (by decide) ?_
      refine gi_pick [0] (w' := [cO q 6 [vi pw, vi pa, vi pb, vi pr, vi ph, vi pl]]) rfl rfl ?_
      exact gi_zreturn C dX0_lambda_new_3_22 (Nat.le_of_ble_eq_true rfl) (Nat.le_of_ble_eq_true rfl) (by omega) ⟨_, rfl, (by first | exact (bI_t (by omega)).symm | exact (bI_f (by omega)).symm), rfl⟩
theorem hdX0_breaches : yX0_breaches.cls ≠ "java/lang/invoke/MethodHandle" ∧ yX0_breaches.cls ≠ "java/lang/invoke/VarHandle" ∧ (parseMethodDescriptor yX0_breaches.desc).map (fun d => d.parameters.length) = some 1 := by decide +kernel
abbrev rmX0_breaches : Room := { frames := 4, cells := 0, slots := 0, locals := 77 }
set_option maxHeartbeats 4000000 in
set_option maxRecDepth 100000 in
/-- EvenWords.breaches(LEvenWords$Piece;)I -/
theorem mX0_breaches {g : GG} (hg : OKG g) (o : Nat) (fx : Nat → Int) (rx : Nat → Nat) (n : Nat) (q : Nat) (pw : Int) (pa : Int) (pb : Int) (pr : Int) (ph : Int) (pl : Int) (So : Int → Option Nat) (l0 : Nat) (l1 : Nat) (hpw : 0 ≤ pw ∧ pw < 64) (hpa : pa = 0 ∨ pa = 1) (hr : Rg pr) (hh : Rg ph) (hl : Rg pl) (hs0 : So 0 = some l0) (hs1 : So 1 = some l1) (hs2 : So 2 = some (lA g 266 56 lmZ2)) (hs3 : So 3 = some (lA g 274 59 lmZ3)) : Con g yX0_breaches cX0_breaches 4 (some .int) rmX0_breaches [.ref o, .ref q] [xO o fx rx n, cI g (rx 0) 34 fA, cI g (rx 1) 64 meanT, cR g 4 (rx 9) 4 So, cL g 249 51 lmZ0 l0 o, cL g 258 55 lmZ1 l1 o, cO q 6 [vi pw, vi pa, vi pb, vi pr, vi ph, vi pl]] (pI fun r_ w => r_ = (brC (meanT pw = -9) (meanT pw ≠ -9 ∧ fm (meanT pw) pa ≠ pw) (6 < pr) (3 < ph ∨ pl < -3)) ∧ w = [xO o fx rx n, cI g (rx 0) 34 fA, cI g (rx 1) 64 meanT, cR g 4 (rx 9) 4 So, cL g 249 51 lmZ0 l0 o, cL g 258 55 lmZ1 l1 o, cO q 6 [vi pw, vi pa, vi pb, vi pr, vi ph, vi pl]]) := by
  refine con_of_go hg (by decide +kernel) (Nat.le_of_ble_eq_true rfl) ?_
  intro x C
  refine gi_lv (lv' := [(0, .ref o), (1, .ref q)]) [0, 1] rfl ?_
  refine gi_iconst C dX0_breaches_0 ?_
  refine gi_istore_n (lv' := [(2, vi 0), (0, .ref o), (1, .ref q)]) C dX0_breaches_1 (by decide) rfl ?_
  refine gi_iconst C dX0_breaches_2 ?_
  refine gi_istore_n (lv' := [(3, vi 0), (2, vi 0), (0, .ref o), (1, .ref q)]) C dX0_breaches_3 (by decide) rfl ?_
  refine gi_iload_n C dX0_breaches_4 0 rfl ?_
  refine gi_aload_n C dX0_breaches_5 2 rfl ?_
  refine gi_get (v := .ref (rx 9)) C in_X0 dX0_breaches_6 9 q178 0 rfl rfl (by decide) (fun _ h => h) rfl ?_
  refine gi_alen (t := 4) C dX0_breaches_9 3 rfl rfl ?_
  refine gi_top (b := 4) (rfl) ?_
  refine gi_icmp_ge (tgt := 44) C dX0_breaches_10 (by decide) (by decide) (by decide) (fun h10 => ?_) (fun h10 => ?_)
  · skip
    exact absurd h10 (by decide)
  · skip
    refine gi_iload_n C dX0_breaches_13 1 rfl ?_
    refine gi_aload_n C dX0_breaches_14 2 rfl ?_
    refine gi_get (v := .ref (rx 9)) C in_X0 dX0_breaches_15 9 q178 0 rfl rfl (by decide) (fun _ h => h) rfl ?_
    refine gi_iload_n C dX0_breaches_18 0 rfl ?_
    refine gi_aald C dX0_breaches_19 3 rfl rfl (by decide) (by omega) ?_
    refine gi_st (st' := [.ref l0, vi 0]) (by rw [hs0]; first | done | rfl) ?_
    refine gi_aload_n C dX0_breaches_20 3 rfl ?_
    refine gi_runLV (wr := [cI g (rx 0) 34 fA, cR g 4 (rx 9) 4 So, cL g 249 51 lmZ0 l0 o, cL g 258 55 lmZ1 l1 o]) (rest := [vi 0]) lm_V0 lmM0.1 ⟨rfl, rfl, by decide +kernel⟩ C (lm_at0 C.ok) (mX0_lambda_new_0 C.ok o fx rx n q pw pa pb pr ph pl (by omega)) (fun r w hw => by obtain ⟨rfl, -⟩ := hw; exact bI_01 _) dX0_breaches_21 q1272 q1274 q1273 q1910 q157 qs1 q53 q158 ⟨Nat.le_of_ble_eq_true rfl, Nat.le_of_ble_eq_true rfl⟩ 4 0 rfl rfl [0, 2, 6] [1, 3, 4, 5] rfl rfl rfl rfl (by decide) rfl (Nat.le_of_ble_eq_true rfl) ⟨Nat.le_of_ble_eq_true rfl, Nat.le_of_ble_eq_true rfl⟩ (fun r_21 w1 hv21 => ?_)
    obtain ⟨hr_21, rfl⟩ := hv21
    refine gi_pick [4, 0, 5, 1, 2, 3, 6] (w' := [xO o fx rx n, cI g (rx 0) 34 fA, cI g (rx 1) 64 meanT, cR g 4 (rx 9) 4 So, cL g 249 51 lmZ0 l0 o, cL g 258 55 lmZ1 l1 o, cO q 6 [vi pw, vi pa, vi pb, vi pr, vi ph, vi pl]]) rfl rfl ?_
    refine gi_top (b := (bI (meanT pw = -9))) hr_21 ?_
    refine gi_if_eq (tgt := 35) C dX0_breaches_26 (by decide) (bI_rg _) (fun h26 => ?_) (fun h26 => ?_)
    · skip
      replace h26 := bI_eq0.mp h26
      have hk0 := h26
      refine gi_iconst C dX0_breaches_35 ?_
      refine gi_ior C dX0_breaches_36 (by decide) (by decide) ?_
      refine gi_top (b := 0) (by decide) ?_
      refine gi_istore_n (lv' := [(2, vi 0), (3, vi 0), (0, .ref o), (1, .ref q)]) C dX0_breaches_37 (by decide) rfl ?_
      refine gi_iincE (lv' := [(3, vi 1), (2, vi 0), (0, .ref o), (1, .ref q)]) C dX0_breaches_38 1 rfl (by decide) (by decide) rfl ?_
      refine gi_goto (tgt := 4) C dX0_breaches_41 (by decide) ?_
      refine gi_iload_n C dX0_breaches_4 0 rfl ?_
      refine gi_aload_n C dX0_breaches_5 2 rfl ?_
      refine gi_get (v := .ref (rx 9)) C in_X0 dX0_breaches_6 9 q178 0 rfl rfl (by decide) (fun _ h => h) rfl ?_
      refine gi_alen (t := 4) C dX0_breaches_9 3 rfl rfl ?_
      refine gi_top (b := 4) (rfl) ?_
      refine gi_icmp_ge (tgt := 44) C dX0_breaches_10 (by decide) (by decide) (by decide) (fun h10 => ?_) (fun h10 => ?_)
      · skip
        exact absurd h10 (by decide)
      · skip
        refine gi_iload_n C dX0_breaches_13 1 rfl ?_
        refine gi_aload_n C dX0_breaches_14 2 rfl ?_
        refine gi_get (v := .ref (rx 9)) C in_X0 dX0_breaches_15 9 q178 0 rfl rfl (by decide) (fun _ h => h) rfl ?_
        refine gi_iload_n C dX0_breaches_18 0 rfl ?_
        refine gi_aald C dX0_breaches_19 3 rfl rfl (by decide) (by omega) ?_
        refine gi_st (st' := [.ref l1, vi 0]) (by rw [hs1]; first | done | rfl) ?_
        refine gi_aload_n C dX0_breaches_20 3 rfl ?_
        refine gi_runLV (wr := [cR g 4 (rx 9) 4 So, cL g 249 51 lmZ0 l0 o, cL g 258 55 lmZ1 l1 o]) (rest := [vi 0]) lm_V1 lmM1.1 ⟨rfl, rfl, by decide +kernel⟩ C (lm_at1 C.ok) (mX0_lambda_new_1 C.ok o fx rx n q pw pa pb pr ph pl (by omega) (by omega)) (fun r w hw => by obtain ⟨rfl, -⟩ := hw; exact bI_01 _) dX0_breaches_21 q1272 q1274 q1273 q1910 q160 qs2 q53 q161 ⟨Nat.le_of_ble_eq_true rfl, Nat.le_of_ble_eq_true rfl⟩ 5 0 rfl rfl [0, 1, 2, 6] [3, 4, 5] rfl rfl rfl rfl (by decide) rfl (Nat.le_of_ble_eq_true rfl) ⟨Nat.le_of_ble_eq_true rfl, Nat.le_of_ble_eq_true rfl⟩ (fun r_21 w1 hv21 => ?_)
        obtain ⟨hr_21, rfl⟩ := hv21
        refine gi_pick [3, 4, 5, 0, 1, 2, 6] (w' := [xO o fx rx n, cI g (rx 0) 34 fA, cI g (rx 1) 64 meanT, cR g 4 (rx 9) 4 So, cL g 249 51 lmZ0 l0 o, cL g 258 55 lmZ1 l1 o, cO q 6 [vi pw, vi pa, vi pb, vi pr, vi ph, vi pl]]) rfl rfl ?_
        refine gi_top (b := (bI (meanT pw ≠ -9 ∧ fm (meanT pw) pa ≠ pw))) hr_21 ?_
        refine gi_if_eq (tgt := 35) C dX0_breaches_26 (by decide) (bI_rg _) (fun h26 => ?_) (fun h26 => ?_)
        · skip
          replace h26 := bI_eq0.mp h26
          have hk1 := h26
          refine gi_iconst C dX0_breaches_35 ?_
          refine gi_ior C dX0_breaches_36 (by decide) (by decide) ?_
          refine gi_top (b := 0) (by decide) ?_
          refine gi_istore_n (lv' := [(2, vi 0), (3, vi 1), (0, .ref o), (1, .ref q)]) C dX0_breaches_37 (by decide) rfl ?_
          refine gi_iincE (lv' := [(3, vi 2), (2, vi 0), (0, .ref o), (1, .ref q)]) C dX0_breaches_38 1 rfl (by decide) (by decide) rfl ?_
          refine gi_goto (tgt := 4) C dX0_breaches_41 (by decide) ?_
          refine gi_iload_n C dX0_breaches_4 0 rfl ?_
          refine gi_aload_n C dX0_breaches_5 2 rfl ?_
          refine gi_get (v := .ref (rx 9)) C in_X0 dX0_breaches_6 9 q178 0 rfl rfl (by decide) (fun _ h => h) rfl ?_
          refine gi_alen (t := 4) C dX0_breaches_9 3 rfl rfl ?_
          refine gi_top (b := 4) (rfl) ?_
          refine gi_icmp_ge (tgt := 44) C dX0_breaches_10 (by decide) (by decide) (by decide) (fun h10 => ?_) (fun h10 => ?_)
          · skip
            exact absurd h10 (by decide)
          · skip
            refine gi_iload_n C dX0_breaches_13 1 rfl ?_
            refine gi_aload_n C dX0_breaches_14 2 rfl ?_
            refine gi_get (v := .ref (rx 9)) C in_X0 dX0_breaches_15 9 q178 0 rfl rfl (by decide) (fun _ h => h) rfl ?_
            refine gi_iload_n C dX0_breaches_18 0 rfl ?_
            refine gi_aald C dX0_breaches_19 3 rfl rfl (by decide) (by omega) ?_
            refine gi_st (st' := [.ref (lA g 266 56 lmZ2), vi 0]) (by rw [hs2]; first | done | rfl) ?_
            refine gi_aload_n C dX0_breaches_20 3 rfl ?_
            refine gi_runLS (wr := [xO o fx rx n, cI g (rx 0) 34 fA, cI g (rx 1) 64 meanT, cR g 4 (rx 9) 4 So, cL g 249 51 lmZ0 l0 o, cL g 258 55 lmZ1 l1 o]) (rest := [vi 0]) lm_S2 ⟨lmM2.1, lmM2.2.2⟩ ⟨rfl, rfl, by decide +kernel⟩ C (lm_at2 C.ok) rfl (mX0_lambda_new_2 C.ok q pw pa pb pr ph pl (by omega)) (fun r w hw => by obtain ⟨rfl, -⟩ := hw; exact bI_01 _) dX0_breaches_21 q1272 q1274 q1273 q162 q53 q163 ⟨Nat.le_of_ble_eq_true rfl, Nat.le_of_ble_eq_true rfl⟩ rfl [6] [0, 1, 2, 3, 4, 5] rfl rfl rfl rfl (by decide) rfl (Nat.le_of_ble_eq_true rfl) ⟨Nat.le_of_ble_eq_true rfl, Nat.le_of_ble_eq_true rfl⟩ (fun r_21 w1 hv21 => ?_)
            obtain ⟨hr_21, rfl⟩ := hv21
            refine gi_pick [0, 1, 2, 3, 4, 5, 6] (w' := [xO o fx rx n, cI g (rx 0) 34 fA, cI g (rx 1) 64 meanT, cR g 4 (rx 9) 4 So, cL g 249 51 lmZ0 l0 o, cL g 258 55 lmZ1 l1 o, cO q 6 [vi pw, vi pa, vi pb, vi pr, vi ph, vi pl]]) rfl rfl ?_
            refine gi_top (b := (bI (6 < pr))) hr_21 ?_
            refine gi_if_eq (tgt := 35) C dX0_breaches_26 (by decide) (bI_rg _) (fun h26 => ?_) (fun h26 => ?_)
            · skip
              replace h26 := bI_eq0.mp h26
              have hk2 := h26
              refine gi_iconst C dX0_breaches_35 ?_
              refine gi_ior C dX0_breaches_36 (by decide) (by decide) ?_
              refine gi_top (b := 0) (by decide) ?_
              refine gi_istore_n (lv' := [(2, vi 0), (3, vi 2), (0, .ref o), (1, .ref q)]) C dX0_breaches_37 (by decide) rfl ?_
              refine gi_iincE (lv' := [(3, vi 3), (2, vi 0), (0, .ref o), (1, .ref q)]) C dX0_breaches_38 1 rfl (by decide) (by decide) rfl ?_
              refine gi_goto (tgt := 4) C dX0_breaches_41 (by decide) ?_
              refine gi_iload_n C dX0_breaches_4 0 rfl ?_
              refine gi_aload_n C dX0_breaches_5 2 rfl ?_
              refine gi_get (v := .ref (rx 9)) C in_X0 dX0_breaches_6 9 q178 0 rfl rfl (by decide) (fun _ h => h) rfl ?_
              refine gi_alen (t := 4) C dX0_breaches_9 3 rfl rfl ?_
              refine gi_top (b := 4) (rfl) ?_
              refine gi_icmp_ge (tgt := 44) C dX0_breaches_10 (by decide) (by decide) (by decide) (fun h10 => ?_) (fun h10 => ?_)
              · skip
                exact absurd h10 (by decide)
              · skip
                refine gi_iload_n C dX0_breaches_13 1 rfl ?_
                refine gi_aload_n C dX0_breaches_14 2 rfl ?_
                refine gi_get (v := .ref (rx 9)) C in_X0 dX0_breaches_15 9 q178 0 rfl rfl (by decide) (fun _ h => h) rfl ?_
                refine gi_iload_n C dX0_breaches_18 0 rfl ?_
                refine gi_aald C dX0_breaches_19 3 rfl rfl (by decide) (by omega) ?_
                refine gi_st (st' := [.ref (lA g 274 59 lmZ3), vi 0]) (by rw [hs3]; first | done | rfl) ?_
                refine gi_aload_n C dX0_breaches_20 3 rfl ?_
                refine gi_runLS (wr := [xO o fx rx n, cI g (rx 0) 34 fA, cI g (rx 1) 64 meanT, cR g 4 (rx 9) 4 So, cL g 249 51 lmZ0 l0 o, cL g 258 55 lmZ1 l1 o]) (rest := [vi 0]) lm_S3 ⟨lmM3.1, lmM3.2.2⟩ ⟨rfl, rfl, by decide +kernel⟩ C (lm_at3 C.ok) rfl (mX0_lambda_new_3 C.ok q pw pa pb pr ph pl (by omega) (by omega)) (fun r w hw => by obtain ⟨rfl, -⟩ := hw; exact bI_01 _) dX0_breaches_21 q1272 q1274 q1273 q164 q53 q165 ⟨Nat.le_of_ble_eq_true rfl, Nat.le_of_ble_eq_true rfl⟩ rfl [6] [0, 1, 2, 3, 4, 5] rfl rfl rfl rfl (by decide) rfl (Nat.le_of_ble_eq_true rfl) ⟨Nat.le_of_ble_eq_true rfl, Nat.le_of_ble_eq_true rfl⟩ (fun r_21 w1 hv21 => ?_)
                obtain ⟨hr_21, rfl⟩ := hv21
                refine gi_pick [0, 1, 2, 3, 4, 5, 6] (w' := [xO o fx rx n, cI g (rx 0) 34 fA, cI g (rx 1) 64 meanT, cR g 4 (rx 9) 4 So, cL g 249 51 lmZ0 l0 o, cL g 258 55 lmZ1 l1 o, cO q 6 [vi pw, vi pa, vi pb, vi pr, vi ph, vi pl]]) rfl rfl ?_
                refine gi_top (b := (bI (3 < ph ∨ pl < -3))) hr_21 ?_
                refine gi_if_eq (tgt := 35) C dX0_breaches_26 (by decide) (bI_rg _) (fun h26 => ?_) (fun h26 => ?_)
                · skip
                  replace h26 := bI_eq0.mp h26
                  have hk3 := h26
                  refine gi_iconst C dX0_breaches_35 ?_
                  refine gi_ior C dX0_breaches_36 (by decide) (by decide) ?_
                  refine gi_top (b := 0) (by decide) ?_
                  refine gi_istore_n (lv' := [(2, vi 0), (3, vi 3), (0, .ref o), (1, .ref q)]) C dX0_breaches_37 (by decide) rfl ?_
                  refine gi_iincE (lv' := [(3, vi 4), (2, vi 0), (0, .ref o), (1, .ref q)]) C dX0_breaches_38 1 rfl (by decide) (by decide) rfl ?_
                  refine gi_goto (tgt := 4) C dX0_breaches_41 (by decide) ?_
                  refine gi_iload_n C dX0_breaches_4 0 rfl ?_
                  refine gi_aload_n C dX0_breaches_5 2 rfl ?_
                  refine gi_get (v := .ref (rx 9)) C in_X0 dX0_breaches_6 9 q178 0 rfl rfl (by decide) (fun _ h => h) rfl ?_
                  refine gi_alen (t := 4) C dX0_breaches_9 3 rfl rfl ?_
                  refine gi_top (b := 4) (rfl) ?_
                  refine gi_icmp_ge (tgt := 44) C dX0_breaches_10 (by decide) (by decide) (by decide) (fun h10 => ?_) (fun h10 => ?_)
                  · skip
                    refine gi_iload_n C dX0_breaches_44 1 rfl ?_
                    refine gi_pick [0, 1, 2, 3, 4, 5, 6] (w' := [xO o fx rx n, cI g (rx 0) 34 fA, cI g (rx 1) 64 meanT, cR g 4 (rx 9) 4 So, cL g 249 51 lmZ0 l0 o, cL g 258 55 lmZ1 l1 o, cO q 6 [vi pw, vi pa, vi pb, vi pr, vi ph, vi pl]]) rfl rfl ?_
                    exact gi_ireturn C dX0_breaches_45 (Nat.le_of_ble_eq_true rfl) (Nat.le_of_ble_eq_true rfl) ⟨_, rfl, (by unfold brC; (first | rw [if_pos hk0] | rw [if_neg hk0]); (first | rw [if_pos hk1] | rw [if_neg hk1]); (first | rw [if_pos hk2] | rw [if_neg hk2]); (first | rw [if_pos hk3] | rw [if_neg hk3]); rfl), rfl⟩
                  · skip
                    exact absurd h10 (by decide)
                · skip
                  replace h26 := bI_ne0.mp h26
                  have hk3 := h26
                  refine gi_iconst C dX0_breaches_29 ?_
                  refine gi_iload_n C dX0_breaches_30 0 rfl ?_
                  refine gi_shl1 C dX0_breaches_31 (by decide) ?_
                  refine gi_top (b := 8) (by decide) ?_
                  refine gi_goto (tgt := 36) C dX0_breaches_32 (by decide) ?_
                  refine gi_ior C dX0_breaches_36 (by decide) (by decide) ?_
                  refine gi_top (b := 8) (by decide) ?_
                  refine gi_istore_n (lv' := [(2, vi 8), (3, vi 3), (0, .ref o), (1, .ref q)]) C dX0_breaches_37 (by decide) rfl ?_
                  refine gi_iincE (lv' := [(3, vi 4), (2, vi 8), (0, .ref o), (1, .ref q)]) C dX0_breaches_38 1 rfl (by decide) (by decide) rfl ?_
                  refine gi_goto (tgt := 4) C dX0_breaches_41 (by decide) ?_
                  refine gi_iload_n C dX0_breaches_4 0 rfl ?_
                  refine gi_aload_n C dX0_breaches_5 2 rfl ?_
                  refine gi_get (v := .ref (rx 9)) C in_X0 dX0_breaches_6 9 q178 0 rfl rfl (by decide) (fun _ h => h) rfl ?_
                  refine gi_alen (t := 4) C dX0_breaches_9 3 rfl rfl ?_
                  refine gi_top (b := 4) (rfl) ?_
                  refine gi_icmp_ge (tgt := 44) C dX0_breaches_10 (by decide) (by decide) (by decide) (fun h10 => ?_) (fun h10 => ?_)
                  · skip
                    refine gi_iload_n C dX0_breaches_44 1 rfl ?_
                    refine gi_pick [0, 1, 2, 3, 4, 5, 6] (w' := [xO o fx rx n, cI g (rx 0) 34 fA, cI g (rx 1) 64 meanT, cR g 4 (rx 9) 4 So, cL g 249 51 lmZ0 l0 o, cL g 258 55 lmZ1 l1 o, cO q 6 [vi pw, vi pa, vi pb, vi pr, vi ph, vi pl]]) rfl rfl ?_
                    exact gi_ireturn C dX0_breaches_45 (Nat.le_of_ble_eq_true rfl) (Nat.le_of_ble_eq_true rfl) ⟨_, rfl, (by unfold brC; (first | rw [if_pos hk0] | rw [if_neg hk0]); (first | rw [if_pos hk1] | rw [if_neg hk1]); (first | rw [if_pos hk2] | rw [if_neg hk2]); (first | rw [if_pos hk3] | rw [if_neg hk3]); rfl), rfl⟩
                  · skip
                    exact absurd h10 (by decide)
            · skip
              replace h26 := bI_ne0.mp h26
              have hk2 := h26
              refine gi_iconst C dX0_breaches_29 ?_
              refine gi_iload_n C dX0_breaches_30 0 rfl ?_
              refine gi_shl1 C dX0_breaches_31 (by decide) ?_
              refine gi_top (b := 4) (by decide) ?_
              refine gi_goto (tgt := 36) C dX0_breaches_32 (by decide) ?_
              refine gi_ior C dX0_breaches_36 (by decide) (by decide) ?_
              refine gi_top (b := 4) (by decide) ?_
              refine gi_istore_n (lv' := [(2, vi 4), (3, vi 2), (0, .ref o), (1, .ref q)]) C dX0_breaches_37 (by decide) rfl ?_
              refine gi_iincE (lv' := [(3, vi 3), (2, vi 4), (0, .ref o), (1, .ref q)]) C dX0_breaches_38 1 rfl (by decide) (by decide) rfl ?_
              refine gi_goto (tgt := 4) C dX0_breaches_41 (by decide) ?_
              refine gi_iload_n C dX0_breaches_4 0 rfl ?_
              refine gi_aload_n C dX0_breaches_5 2 rfl ?_
              refine gi_get (v := .ref (rx 9)) C in_X0 dX0_breaches_6 9 q178 0 rfl rfl (by decide) (fun _ h => h) rfl ?_
              refine gi_alen (t := 4) C dX0_breaches_9 3 rfl rfl ?_
              refine gi_top (b := 4) (rfl) ?_
              refine gi_icmp_ge (tgt := 44) C dX0_breaches_10 (by decide) (by decide) (by decide) (fun h10 => ?_) (fun h10 => ?_)
              · skip
                exact absurd h10 (by decide)
              · skip
                refine gi_iload_n C dX0_breaches_13 1 rfl ?_
                refine gi_aload_n C dX0_breaches_14 2 rfl ?_
                refine gi_get (v := .ref (rx 9)) C in_X0 dX0_breaches_15 9 q178 0 rfl rfl (by decide) (fun _ h => h) rfl ?_
                refine gi_iload_n C dX0_breaches_18 0 rfl ?_
                refine gi_aald C dX0_breaches_19 3 rfl rfl (by decide) (by omega) ?_
                refine gi_st (st' := [.ref (lA g 274 59 lmZ3), vi 4]) (by rw [hs3]; first | done | rfl) ?_
                refine gi_aload_n C dX0_breaches_20 3 rfl ?_
                refine gi_runLS (wr := [xO o fx rx n, cI g (rx 0) 34 fA, cI g (rx 1) 64 meanT, cR g 4 (rx 9) 4 So, cL g 249 51 lmZ0 l0 o, cL g 258 55 lmZ1 l1 o]) (rest := [vi 4]) lm_S3 ⟨lmM3.1, lmM3.2.2⟩ ⟨rfl, rfl, by decide +kernel⟩ C (lm_at3 C.ok) rfl (mX0_lambda_new_3 C.ok q pw pa pb pr ph pl (by omega) (by omega)) (fun r w hw => by obtain ⟨rfl, -⟩ := hw; exact bI_01 _) dX0_breaches_21 q1272 q1274 q1273 q164 q53 q165 ⟨Nat.le_of_ble_eq_true rfl, Nat.le_of_ble_eq_true rfl⟩ rfl [6] [0, 1, 2, 3, 4, 5] rfl rfl rfl rfl (by decide) rfl (Nat.le_of_ble_eq_true rfl) ⟨Nat.le_of_ble_eq_true rfl, Nat.le_of_ble_eq_true rfl⟩ (fun r_21 w1 hv21 => ?_)
                obtain ⟨hr_21, rfl⟩ := hv21
                refine gi_pick [0, 1, 2, 3, 4, 5, 6] (w' := [xO o fx rx n, cI g (rx 0) 34 fA, cI g (rx 1) 64 meanT, cR g 4 (rx 9) 4 So, cL g 249 51 lmZ0 l0 o, cL g 258 55 lmZ1 l1 o, cO q 6 [vi pw, vi pa, vi pb, vi pr, vi ph, vi pl]]) rfl rfl ?_
                refine gi_top (b := (bI (3 < ph ∨ pl < -3))) hr_21 ?_
                refine gi_if_eq (tgt := 35) C dX0_breaches_26 (by decide) (bI_rg _) (fun h26 => ?_) (fun h26 => ?_)
                · skip
                  replace h26 := bI_eq0.mp h26
                  have hk3 := h26
                  refine gi_iconst C dX0_breaches_35 ?_
                  refine gi_ior C dX0_breaches_36 (by decide) (by decide) ?_
                  refine gi_top (b := 4) (by decide) ?_
                  refine gi_istore_n (lv' := [(2, vi 4), (3, vi 3), (0, .ref o), (1, .ref q)]) C dX0_breaches_37 (by decide) rfl ?_
                  refine gi_iincE (lv' := [(3, vi 4), (2, vi 4), (0, .ref o), (1, .ref q)]) C dX0_breaches_38 1 rfl (by decide) (by decide) rfl ?_
                  refine gi_goto (tgt := 4) C dX0_breaches_41 (by decide) ?_
                  refine gi_iload_n C dX0_breaches_4 0 rfl ?_
                  refine gi_aload_n C dX0_breaches_5 2 rfl ?_
                  refine gi_get (v := .ref (rx 9)) C in_X0 dX0_breaches_6 9 q178 0 rfl rfl (by decide) (fun _ h => h) rfl ?_
                  refine gi_alen (t := 4) C dX0_breaches_9 3 rfl rfl ?_
                  refine gi_top (b := 4) (rfl) ?_
                  refine gi_icmp_ge (tgt := 44) C dX0_breaches_10 (by decide) (by decide) (by decide) (fun h10 => ?_) (fun h10 => ?_)
                  · skip
                    refine gi_iload_n C dX0_breaches_44 1 rfl ?_
                    refine gi_pick [0, 1, 2, 3, 4, 5, 6] (w' := [xO o fx rx n, cI g (rx 0) 34 fA, cI g (rx 1) 64 meanT, cR g 4 (rx 9) 4 So, cL g 249 51 lmZ0 l0 o, cL g 258 55 lmZ1 l1 o, cO q 6 [vi pw, vi pa, vi pb, vi pr, vi ph, vi pl]]) rfl rfl ?_
                    exact gi_ireturn C dX0_breaches_45 (Nat.le_of_ble_eq_true rfl) (Nat.le_of_ble_eq_true rfl) ⟨_, rfl, (by unfold brC; (first | rw [if_pos hk0] | rw [if_neg hk0]); (first | rw [if_pos hk1] | rw [if_neg hk1]); (first | rw [if_pos hk2] | rw [if_neg hk2]); (first | rw [if_pos hk3] | rw [if_neg hk3]); rfl), rfl⟩
                  · skip
                    exact absurd h10 (by decide)
                · skip
                  replace h26 := bI_ne0.mp h26
                  have hk3 := h26
                  refine gi_iconst C dX0_breaches_29 ?_
                  refine gi_iload_n C dX0_breaches_30 0 rfl ?_
                  refine gi_shl1 C dX0_breaches_31 (by decide) ?_
                  refine gi_top (b := 8) (by decide) ?_
                  refine gi_goto (tgt := 36) C dX0_breaches_32 (by decide) ?_
                  refine gi_ior C dX0_breaches_36 (by decide) (by decide) ?_
                  refine gi_top (b := 12) (by decide) ?_
                  refine gi_istore_n (lv' := [(2, vi 12), (3, vi 3), (0, .ref o), (1, .ref q)]) C dX0_breaches_37 (by decide) rfl ?_
                  refine gi_iincE (lv' := [(3, vi 4), (2, vi 12), (0, .ref o), (1, .ref q)]) C dX0_breaches_38 1 rfl (by decide) (by decide) rfl ?_
                  refine gi_goto (tgt := 4) C dX0_breaches_41 (by decide) ?_
                  refine gi_iload_n C dX0_breaches_4 0 rfl ?_
                  refine gi_aload_n C dX0_breaches_5 2 rfl ?_
                  refine gi_get (v := .ref (rx 9)) C in_X0 dX0_breaches_6 9 q178 0 rfl rfl (by decide) (fun _ h => h) rfl ?_
                  refine gi_alen (t := 4) C dX0_breaches_9 3 rfl rfl ?_
                  refine gi_top (b := 4) (rfl) ?_
                  refine gi_icmp_ge (tgt := 44) C dX0_breaches_10 (by decide) (by decide) (by decide) (fun h10 => ?_) (fun h10 => ?_)
                  · skip
                    refine gi_iload_n C dX0_breaches_44 1 rfl ?_
                    refine gi_pick [0, 1, 2, 3, 4, 5, 6] (w' := [xO o fx rx n, cI g (rx 0) 34 fA, cI g (rx 1) 64 meanT, cR g 4 (rx 9) 4 So, cL g 249 51 lmZ0 l0 o, cL g 258 55 lmZ1 l1 o, cO q 6 [vi pw, vi pa, vi pb, vi pr, vi ph, vi pl]]) rfl rfl ?_
                    exact gi_ireturn C dX0_breaches_45 (Nat.le_of_ble_eq_true rfl) (Nat.le_of_ble_eq_true rfl) ⟨_, rfl, (by unfold brC; (first | rw [if_pos hk0] | rw [if_neg hk0]); (first | rw [if_pos hk1] | rw [if_neg hk1]); (first | rw [if_pos hk2] | rw [if_neg hk2]); (first | rw [if_pos hk3] | rw [if_neg hk3]); rfl), rfl⟩
                  · skip
                    exact absurd h10 (by decide)
        · skip
          replace h26 := bI_ne0.mp h26
          have hk1 := h26
          refine gi_iconst C dX0_breaches_29 ?_
          refine gi_iload_n C dX0_breaches_30 0 rfl ?_
          refine gi_shl1 C dX0_breaches_31 (by decide) ?_
          refine gi_top (b := 2) (by decide) ?_
          refine gi_goto (tgt := 36) C dX0_breaches_32 (by decide) ?_
          refine gi_ior C dX0_breaches_36 (by decide) (by decide) ?_
          refine gi_top (b := 2) (by decide) ?_
          refine gi_istore_n (lv' := [(2, vi 2), (3, vi 1), (0, .ref o), (1, .ref q)]) C dX0_breaches_37 (by decide) rfl ?_
          refine gi_iincE (lv' := [(3, vi 2), (2, vi 2), (0, .ref o), (1, .ref q)]) C dX0_breaches_38 1 rfl (by decide) (by decide) rfl ?_
          refine gi_goto (tgt := 4) C dX0_breaches_41 (by decide) ?_
          refine gi_iload_n C dX0_breaches_4 0 rfl ?_
          refine gi_aload_n C dX0_breaches_5 2 rfl ?_
          refine gi_get (v := .ref (rx 9)) C in_X0 dX0_breaches_6 9 q178 0 rfl rfl (by decide) (fun _ h => h) rfl ?_
          refine gi_alen (t := 4) C dX0_breaches_9 3 rfl rfl ?_
          refine gi_top (b := 4) (rfl) ?_
          refine gi_icmp_ge (tgt := 44) C dX0_breaches_10 (by decide) (by decide) (by decide) (fun h10 => ?_) (fun h10 => ?_)
          · skip
            exact absurd h10 (by decide)
          · skip
            refine gi_iload_n C dX0_breaches_13 1 rfl ?_
            refine gi_aload_n C dX0_breaches_14 2 rfl ?_
            refine gi_get (v := .ref (rx 9)) C in_X0 dX0_breaches_15 9 q178 0 rfl rfl (by decide) (fun _ h => h) rfl ?_
            refine gi_iload_n C dX0_breaches_18 0 rfl ?_
            refine gi_aald C dX0_breaches_19 3 rfl rfl (by decide) (by omega) ?_
            refine gi_st (st' := [.ref (lA g 266 56 lmZ2), vi 2]) (by rw [hs2]; first | done | rfl) ?_
            refine gi_aload_n C dX0_breaches_20 3 rfl ?_
            refine gi_runLS (wr := [xO o fx rx n, cI g (rx 0) 34 fA, cI g (rx 1) 64 meanT, cR g 4 (rx 9) 4 So, cL g 249 51 lmZ0 l0 o, cL g 258 55 lmZ1 l1 o]) (rest := [vi 2]) lm_S2 ⟨lmM2.1, lmM2.2.2⟩ ⟨rfl, rfl, by decide +kernel⟩ C (lm_at2 C.ok) rfl (mX0_lambda_new_2 C.ok q pw pa pb pr ph pl (by omega)) (fun r w hw => by obtain ⟨rfl, -⟩ := hw; exact bI_01 _) dX0_breaches_21 q1272 q1274 q1273 q162 q53 q163 ⟨Nat.le_of_ble_eq_true rfl, Nat.le_of_ble_eq_true rfl⟩ rfl [6] [0, 1, 2, 3, 4, 5] rfl rfl rfl rfl (by decide) rfl (Nat.le_of_ble_eq_true rfl) ⟨Nat.le_of_ble_eq_true rfl, Nat.le_of_ble_eq_true rfl⟩ (fun r_21 w1 hv21 => ?_)
            obtain ⟨hr_21, rfl⟩ := hv21
            refine gi_pick [0, 1, 2, 3, 4, 5, 6] (w' := [xO o fx rx n, cI g (rx 0) 34 fA, cI g (rx 1) 64 meanT, cR g 4 (rx 9) 4 So, cL g 249 51 lmZ0 l0 o, cL g 258 55 lmZ1 l1 o, cO q 6 [vi pw, vi pa, vi pb, vi pr, vi ph, vi pl]]) rfl rfl ?_
            refine gi_top (b := (bI (6 < pr))) hr_21 ?_
            refine gi_if_eq (tgt := 35) C dX0_breaches_26 (by decide) (bI_rg _) (fun h26 => ?_) (fun h26 => ?_)
            · skip
              replace h26 := bI_eq0.mp h26
              have hk2 := h26
              refine gi_iconst C dX0_breaches_35 ?_
              refine gi_ior C dX0_breaches_36 (by decide) (by decide) ?_
              refine gi_top (b := 2) (by decide) ?_
              refine gi_istore_n (lv' := [(2, vi 2), (3, vi 2), (0, .ref o), (1, .ref q)]) C dX0_breaches_37 (by decide) rfl ?_
              refine gi_iincE (lv' := [(3, vi 3), (2, vi 2), (0, .ref o), (1, .ref q)]) C dX0_breaches_38 1 rfl (by decide) (by decide) rfl ?_
              refine gi_goto (tgt := 4) C dX0_breaches_41 (by decide) ?_
              refine gi_iload_n C dX0_breaches_4 0 rfl ?_
              refine gi_aload_n C dX0_breaches_5 2 rfl ?_
              refine gi_get (v := .ref (rx 9)) C in_X0 dX0_breaches_6 9 q178 0 rfl rfl (by decide) (fun _ h => h) rfl ?_
              refine gi_alen (t := 4) C dX0_breaches_9 3 rfl rfl ?_
              refine gi_top (b := 4) (rfl) ?_
              refine gi_icmp_ge (tgt := 44) C dX0_breaches_10 (by decide) (by decide) (by decide) (fun h10 => ?_) (fun h10 => ?_)
              · skip
                exact absurd h10 (by decide)
              · skip
                refine gi_iload_n C dX0_breaches_13 1 rfl ?_
                refine gi_aload_n C dX0_breaches_14 2 rfl ?_
                refine gi_get (v := .ref (rx 9)) C in_X0 dX0_breaches_15 9 q178 0 rfl rfl (by decide) (fun _ h => h) rfl ?_
                refine gi_iload_n C dX0_breaches_18 0 rfl ?_
                refine gi_aald C dX0_breaches_19 3 rfl rfl (by decide) (by omega) ?_
                refine gi_st (st' := [.ref (lA g 274 59 lmZ3), vi 2]) (by rw [hs3]; first | done | rfl) ?_
                refine gi_aload_n C dX0_breaches_20 3 rfl ?_
                refine gi_runLS (wr := [xO o fx rx n, cI g (rx 0) 34 fA, cI g (rx 1) 64 meanT, cR g 4 (rx 9) 4 So, cL g 249 51 lmZ0 l0 o, cL g 258 55 lmZ1 l1 o]) (rest := [vi 2]) lm_S3 ⟨lmM3.1, lmM3.2.2⟩ ⟨rfl, rfl, by decide +kernel⟩ C (lm_at3 C.ok) rfl (mX0_lambda_new_3 C.ok q pw pa pb pr ph pl (by omega) (by omega)) (fun r w hw => by obtain ⟨rfl, -⟩ := hw; exact bI_01 _) dX0_breaches_21 q1272 q1274 q1273 q164 q53 q165 ⟨Nat.le_of_ble_eq_true rfl, Nat.le_of_ble_eq_true rfl⟩ rfl [6] [0, 1, 2, 3, 4, 5] rfl rfl rfl rfl (by decide) rfl (Nat.le_of_ble_eq_true rfl) ⟨Nat.le_of_ble_eq_true rfl, Nat.le_of_ble_eq_true rfl⟩ (fun r_21 w1 hv21 => ?_)
                obtain ⟨hr_21, rfl⟩ := hv21
                refine gi_pick [0, 1, 2, 3, 4, 5, 6] (w' := [xO o fx rx n, cI g (rx 0) 34 fA, cI g (rx 1) 64 meanT, cR g 4 (rx 9) 4 So, cL g 249 51 lmZ0 l0 o, cL g 258 55 lmZ1 l1 o, cO q 6 [vi pw, vi pa, vi pb, vi pr, vi ph, vi pl]]) rfl rfl ?_
                refine gi_top (b := (bI (3 < ph ∨ pl < -3))) hr_21 ?_
                refine gi_if_eq (tgt := 35) C dX0_breaches_26 (by decide) (bI_rg _) (fun h26 => ?_) (fun h26 => ?_)
                · skip
                  replace h26 := bI_eq0.mp h26
                  have hk3 := h26
                  refine gi_iconst C dX0_breaches_35 ?_
                  refine gi_ior C dX0_breaches_36 (by decide) (by decide) ?_
                  refine gi_top (b := 2) (by decide) ?_
                  refine gi_istore_n (lv' := [(2, vi 2), (3, vi 3), (0, .ref o), (1, .ref q)]) C dX0_breaches_37 (by decide) rfl ?_
                  refine gi_iincE (lv' := [(3, vi 4), (2, vi 2), (0, .ref o), (1, .ref q)]) C dX0_breaches_38 1 rfl (by decide) (by decide) rfl ?_
                  refine gi_goto (tgt := 4) C dX0_breaches_41 (by decide) ?_
                  refine gi_iload_n C dX0_breaches_4 0 rfl ?_
                  refine gi_aload_n C dX0_breaches_5 2 rfl ?_
                  refine gi_get (v := .ref (rx 9)) C in_X0 dX0_breaches_6 9 q178 0 rfl rfl (by decide) (fun _ h => h) rfl ?_
                  refine gi_alen (t := 4) C dX0_breaches_9 3 rfl rfl ?_
                  refine gi_top (b := 4) (rfl) ?_
                  refine gi_icmp_ge (tgt := 44) C dX0_breaches_10 (by decide) (by decide) (by decide) (fun h10 => ?_) (fun h10 => ?_)
                  · skip
                    refine gi_iload_n C dX0_breaches_44 1 rfl ?_
                    refine gi_pick [0, 1, 2, 3, 4, 5, 6] (w' := [xO o fx rx n, cI g (rx 0) 34 fA, cI g (rx 1) 64 meanT, cR g 4 (rx 9) 4 So, cL g 249 51 lmZ0 l0 o, cL g 258 55 lmZ1 l1 o, cO q 6 [vi pw, vi pa, vi pb, vi pr, vi ph, vi pl]]) rfl rfl ?_
                    exact gi_ireturn C dX0_breaches_45 (Nat.le_of_ble_eq_true rfl) (Nat.le_of_ble_eq_true rfl) ⟨_, rfl, (by unfold brC; (first | rw [if_pos hk0] | rw [if_neg hk0]); (first | rw [if_pos hk1] | rw [if_neg hk1]); (first | rw [if_pos hk2] | rw [if_neg hk2]); (first | rw [if_pos hk3] | rw [if_neg hk3]); rfl), rfl⟩
                  · skip
                    exact absurd h10 (by decide)
                · skip
                  replace h26 := bI_ne0.mp h26
                  have hk3 := h26
                  refine gi_iconst C dX0_breaches_29 ?_
                  refine gi_iload_n C dX0_breaches_30 0 rfl ?_
                  refine gi_shl1 C dX0_breaches_31 (by decide) ?_
                  refine gi_top (b := 8) (by decide) ?_
                  refine gi_goto (tgt := 36) C dX0_breaches_32 (by decide) ?_
                  refine gi_ior C dX0_breaches_36 (by decide) (by decide) ?_
                  refine gi_top (b := 10) (by decide) ?_
                  refine gi_istore_n (lv' := [(2, vi 10), (3, vi 3), (0, .ref o), (1, .ref q)]) C dX0_breaches_37 (by decide) rfl ?_
                  refine gi_iincE (lv' := [(3, vi 4), (2, vi 10), (0, .ref o), (1, .ref q)]) C dX0_breaches_38 1 rfl (by decide) (by decide) rfl ?_
                  refine gi_goto (tgt := 4) C dX0_breaches_41 (by decide) ?_
                  refine gi_iload_n C dX0_breaches_4 0 rfl ?_
                  refine gi_aload_n C dX0_breaches_5 2 rfl ?_
                  refine gi_get (v := .ref (rx 9)) C in_X0 dX0_breaches_6 9 q178 0 rfl rfl (by decide) (fun _ h => h) rfl ?_
                  refine gi_alen (t := 4) C dX0_breaches_9 3 rfl rfl ?_
                  refine gi_top (b := 4) (rfl) ?_
                  refine gi_icmp_ge (tgt := 44) C dX0_breaches_10 (by decide) (by decide) (by decide) (fun h10 => ?_) (fun h10 => ?_)
                  · skip
                    refine gi_iload_n C dX0_breaches_44 1 rfl ?_
                    refine gi_pick [0, 1, 2, 3, 4, 5, 6] (w' := [xO o fx rx n, cI g (rx 0) 34 fA, cI g (rx 1) 64 meanT, cR g 4 (rx 9) 4 So, cL g 249 51 lmZ0 l0 o, cL g 258 55 lmZ1 l1 o, cO q 6 [vi pw, vi pa, vi pb, vi pr, vi ph, vi pl]]) rfl rfl ?_
                    exact gi_ireturn C dX0_breaches_45 (Nat.le_of_ble_eq_true rfl) (Nat.le_of_ble_eq_true rfl) ⟨_, rfl, (by unfold brC; (first | rw [if_pos hk0] | rw [if_neg hk0]); (first | rw [if_pos hk1] | rw [if_neg hk1]); (first | rw [if_pos hk2] | rw [if_neg hk2]); (first | rw [if_pos hk3] | rw [if_neg hk3]); rfl), rfl⟩
                  · skip
                    exact absurd h10 (by decide)
            · skip
              replace h26 := bI_ne0.mp h26
              have hk2 := h26
              refine gi_iconst C dX0_breaches_29 ?_
              refine gi_iload_n C dX0_breaches_30 0 rfl ?_
              refine gi_shl1 C dX0_breaches_31 (by decide) ?_
              refine gi_top (b := 4) (by decide) ?_
              refine gi_goto (tgt := 36) C dX0_breaches_32 (by decide) ?_
              refine gi_ior C dX0_breaches_36 (by decide) (by decide) ?_
              refine gi_top (b := 6) (by decide) ?_
              refine gi_istore_n (lv' := [(2, vi 6), (3, vi 2), (0, .ref o), (1, .ref q)]) C dX0_breaches_37 (by decide) rfl ?_
              refine gi_iincE (lv' := [(3, vi 3), (2, vi 6), (0, .ref o), (1, .ref q)]) C dX0_breaches_38 1 rfl (by decide) (by decide) rfl ?_
              refine gi_goto (tgt := 4) C dX0_breaches_41 (by decide) ?_
              refine gi_iload_n C dX0_breaches_4 0 rfl ?_
              refine gi_aload_n C dX0_breaches_5 2 rfl ?_
              refine gi_get (v := .ref (rx 9)) C in_X0 dX0_breaches_6 9 q178 0 rfl rfl (by decide) (fun _ h => h) rfl ?_
              refine gi_alen (t := 4) C dX0_breaches_9 3 rfl rfl ?_
              refine gi_top (b := 4) (rfl) ?_
              refine gi_icmp_ge (tgt := 44) C dX0_breaches_10 (by decide) (by decide) (by decide) (fun h10 => ?_) (fun h10 => ?_)
              · skip
                exact absurd h10 (by decide)
              · skip
                refine gi_iload_n C dX0_breaches_13 1 rfl ?_
                refine gi_aload_n C dX0_breaches_14 2 rfl ?_
                refine gi_get (v := .ref (rx 9)) C in_X0 dX0_breaches_15 9 q178 0 rfl rfl (by decide) (fun _ h => h) rfl ?_
                refine gi_iload_n C dX0_breaches_18 0 rfl ?_
                refine gi_aald C dX0_breaches_19 3 rfl rfl (by decide) (by omega) ?_
                refine gi_st (st' := [.ref (lA g 274 59 lmZ3), vi 6]) (by rw [hs3]; first | done | rfl) ?_
                refine gi_aload_n C dX0_breaches_20 3 rfl ?_
                refine gi_runLS (wr := [xO o fx rx n, cI g (rx 0) 34 fA, cI g (rx 1) 64 meanT, cR g 4 (rx 9) 4 So, cL g 249 51 lmZ0 l0 o, cL g 258 55 lmZ1 l1 o]) (rest := [vi 6]) lm_S3 ⟨lmM3.1, lmM3.2.2⟩ ⟨rfl, rfl, by decide +kernel⟩ C (lm_at3 C.ok) rfl (mX0_lambda_new_3 C.ok q pw pa pb pr ph pl (by omega) (by omega)) (fun r w hw => by obtain ⟨rfl, -⟩ := hw; exact bI_01 _) dX0_breaches_21 q1272 q1274 q1273 q164 q53 q165 ⟨Nat.le_of_ble_eq_true rfl, Nat.le_of_ble_eq_true rfl⟩ rfl [6] [0, 1, 2, 3, 4, 5] rfl rfl rfl rfl (by decide) rfl (Nat.le_of_ble_eq_true rfl) ⟨Nat.le_of_ble_eq_true rfl, Nat.le_of_ble_eq_true rfl⟩ (fun r_21 w1 hv21 => ?_)
                obtain ⟨hr_21, rfl⟩ := hv21
                refine gi_pick [0, 1, 2, 3, 4, 5, 6] (w' := [xO o fx rx n, cI g (rx 0) 34 fA, cI g (rx 1) 64 meanT, cR g 4 (rx 9) 4 So, cL g 249 51 lmZ0 l0 o, cL g 258 55 lmZ1 l1 o, cO q 6 [vi pw, vi pa, vi pb, vi pr, vi ph, vi pl]]) rfl rfl ?_
                refine gi_top (b := (bI (3 < ph ∨ pl < -3))) hr_21 ?_
                refine gi_if_eq (tgt := 35) C dX0_breaches_26 (by decide) (bI_rg _) (fun h26 => ?_) (fun h26 => ?_)
                · skip
                  replace h26 := bI_eq0.mp h26
                  have hk3 := h26
                  refine gi_iconst C dX0_breaches_35 ?_
                  refine gi_ior C dX0_breaches_36 (by decide) (by decide) ?_
                  refine gi_top (b := 6) (by decide) ?_
                  refine gi_istore_n (lv' := [(2, vi 6), (3, vi 3), (0, .ref o), (1, .ref q)]) C dX0_breaches_37 (by decide) rfl ?_
                  refine gi_iincE (lv' := [(3, vi 4), (2, vi 6), (0, .ref o), (1, .ref q)]) C dX0_breaches_38 1 rfl (by decide) (by decide) rfl ?_
                  refine gi_goto (tgt := 4) C dX0_breaches_41 (by decide) ?_
                  refine gi_iload_n C dX0_breaches_4 0 rfl ?_
                  refine gi_aload_n C dX0_breaches_5 2 rfl ?_
                  refine gi_get (v := .ref (rx 9)) C in_X0 dX0_breaches_6 9 q178 0 rfl rfl (by decide) (fun _ h => h) rfl ?_
                  refine gi_alen (t := 4) C dX0_breaches_9 3 rfl rfl ?_
                  refine gi_top (b := 4) (rfl) ?_
                  refine gi_icmp_ge (tgt := 44) C dX0_breaches_10 (by decide) (by decide) (by decide) (fun h10 => ?_) (fun h10 => ?_)
                  · skip
                    refine gi_iload_n C dX0_breaches_44 1 rfl ?_
                    refine gi_pick [0, 1, 2, 3, 4, 5, 6] (w' := [xO o fx rx n, cI g (rx 0) 34 fA, cI g (rx 1) 64 meanT, cR g 4 (rx 9) 4 So, cL g 249 51 lmZ0 l0 o, cL g 258 55 lmZ1 l1 o, cO q 6 [vi pw, vi pa, vi pb, vi pr, vi ph, vi pl]]) rfl rfl ?_
                    exact gi_ireturn C dX0_breaches_45 (Nat.le_of_ble_eq_true rfl) (Nat.le_of_ble_eq_true rfl) ⟨_, rfl, (by unfold brC; (first | rw [if_pos hk0] | rw [if_neg hk0]); (first | rw [if_pos hk1] | rw [if_neg hk1]); (first | rw [if_pos hk2] | rw [if_neg hk2]); (first | rw [if_pos hk3] | rw [if_neg hk3]); rfl), rfl⟩
                  · skip
                    exact absurd h10 (by decide)
                · skip
                  replace h26 := bI_ne0.mp h26
                  have hk3 := h26
                  refine gi_iconst C dX0_breaches_29 ?_
                  refine gi_iload_n C dX0_breaches_30 0 rfl ?_
                  refine gi_shl1 C dX0_breaches_31 (by decide) ?_
                  refine gi_top (b := 8) (by decide) ?_
                  refine gi_goto (tgt := 36) C dX0_breaches_32 (by decide) ?_
                  refine gi_ior C dX0_breaches_36 (by decide) (by decide) ?_
                  refine gi_top (b := 14) (by decide) ?_
                  refine gi_istore_n (lv' := [(2, vi 14), (3, vi 3), (0, .ref o), (1, .ref q)]) C dX0_breaches_37 (by decide) rfl ?_
                  refine gi_iincE (lv' := [(3, vi 4), (2, vi 14), (0, .ref o), (1, .ref q)]) C dX0_breaches_38 1 rfl (by decide) (by decide) rfl ?_
                  refine gi_goto (tgt := 4) C dX0_breaches_41 (by decide) ?_
                  refine gi_iload_n C dX0_breaches_4 0 rfl ?_
                  refine gi_aload_n C dX0_breaches_5 2 rfl ?_
                  refine gi_get (v := .ref (rx 9)) C in_X0 dX0_breaches_6 9 q178 0 rfl rfl (by decide) (fun _ h => h) rfl ?_
                  refine gi_alen (t := 4) C dX0_breaches_9 3 rfl rfl ?_
                  refine gi_top (b := 4) (rfl) ?_
                  refine gi_icmp_ge (tgt := 44) C dX0_breaches_10 (by decide) (by decide) (by decide) (fun h10 => ?_) (fun h10 => ?_)
                  · skip
                    refine gi_iload_n C dX0_breaches_44 1 rfl ?_
                    refine gi_pick [0, 1, 2, 3, 4, 5, 6] (w' := [xO o fx rx n, cI g (rx 0) 34 fA, cI g (rx 1) 64 meanT, cR g 4 (rx 9) 4 So, cL g 249 51 lmZ0 l0 o, cL g 258 55 lmZ1 l1 o, cO q 6 [vi pw, vi pa, vi pb, vi pr, vi ph, vi pl]]) rfl rfl ?_
                    exact gi_ireturn C dX0_breaches_45 (Nat.le_of_ble_eq_true rfl) (Nat.le_of_ble_eq_true rfl) ⟨_, rfl, (by unfold brC; (first | rw [if_pos hk0] | rw [if_neg hk0]); (first | rw [if_pos hk1] | rw [if_neg hk1]); (first | rw [if_pos hk2] | rw [if_neg hk2]); (first | rw [if_pos hk3] | rw [if_neg hk3]); rfl), rfl⟩
                  · skip
                    exact absurd h10 (by decide)
    · skip
      replace h26 := bI_ne0.mp h26
      have hk0 := h26
      refine gi_iconst C dX0_breaches_29 ?_
      refine gi_iload_n C dX0_breaches_30 0 rfl ?_
      refine gi_shl1 C dX0_breaches_31 (by decide) ?_
      refine gi_top (b := 1) (by decide) ?_
      refine gi_goto (tgt := 36) C dX0_breaches_32 (by decide) ?_
      refine gi_ior C dX0_breaches_36 (by decide) (by decide) ?_
      refine gi_top (b := 1) (by decide) ?_
      refine gi_istore_n (lv' := [(2, vi 1), (3, vi 0), (0, .ref o), (1, .ref q)]) C dX0_breaches_37 (by decide) rfl ?_
      refine gi_iincE (lv' := [(3, vi 1), (2, vi 1), (0, .ref o), (1, .ref q)]) C dX0_breaches_38 1 rfl (by decide) (by decide) rfl ?_
      refine gi_goto (tgt := 4) C dX0_breaches_41 (by decide) ?_
      refine gi_iload_n C dX0_breaches_4 0 rfl ?_
      refine gi_aload_n C dX0_breaches_5 2 rfl ?_
      refine gi_get (v := .ref (rx 9)) C in_X0 dX0_breaches_6 9 q178 0 rfl rfl (by decide) (fun _ h => h) rfl ?_
      refine gi_alen (t := 4) C dX0_breaches_9 3 rfl rfl ?_
      refine gi_top (b := 4) (rfl) ?_
      refine gi_icmp_ge (tgt := 44) C dX0_breaches_10 (by decide) (by decide) (by decide) (fun h10 => ?_) (fun h10 => ?_)
      · skip
        exact absurd h10 (by decide)
      · skip
        refine gi_iload_n C dX0_breaches_13 1 rfl ?_
        refine gi_aload_n C dX0_breaches_14 2 rfl ?_
        refine gi_get (v := .ref (rx 9)) C in_X0 dX0_breaches_15 9 q178 0 rfl rfl (by decide) (fun _ h => h) rfl ?_
        refine gi_iload_n C dX0_breaches_18 0 rfl ?_
        refine gi_aald C dX0_breaches_19 3 rfl rfl (by decide) (by omega) ?_
        refine gi_st (st' := [.ref l1, vi 1]) (by rw [hs1]; first | done | rfl) ?_
        refine gi_aload_n C dX0_breaches_20 3 rfl ?_
        refine gi_runLV (wr := [cR g 4 (rx 9) 4 So, cL g 249 51 lmZ0 l0 o, cL g 258 55 lmZ1 l1 o]) (rest := [vi 1]) lm_V1 lmM1.1 ⟨rfl, rfl, by decide +kernel⟩ C (lm_at1 C.ok) (mX0_lambda_new_1 C.ok o fx rx n q pw pa pb pr ph pl (by omega) (by omega)) (fun r w hw => by obtain ⟨rfl, -⟩ := hw; exact bI_01 _) dX0_breaches_21 q1272 q1274 q1273 q1910 q160 qs2 q53 q161 ⟨Nat.le_of_ble_eq_true rfl, Nat.le_of_ble_eq_true rfl⟩ 5 0 rfl rfl [0, 1, 2, 6] [3, 4, 5] rfl rfl rfl rfl (by decide) rfl (Nat.le_of_ble_eq_true rfl) ⟨Nat.le_of_ble_eq_true rfl, Nat.le_of_ble_eq_true rfl⟩ (fun r_21 w1 hv21 => ?_)
        obtain ⟨hr_21, rfl⟩ := hv21
        refine gi_pick [3, 4, 5, 0, 1, 2, 6] (w' := [xO o fx rx n, cI g (rx 0) 34 fA, cI g (rx 1) 64 meanT, cR g 4 (rx 9) 4 So, cL g 249 51 lmZ0 l0 o, cL g 258 55 lmZ1 l1 o, cO q 6 [vi pw, vi pa, vi pb, vi pr, vi ph, vi pl]]) rfl rfl ?_
        refine gi_top (b := (bI (meanT pw ≠ -9 ∧ fm (meanT pw) pa ≠ pw))) hr_21 ?_
        refine gi_if_eq (tgt := 35) C dX0_breaches_26 (by decide) (bI_rg _) (fun h26 => ?_) (fun h26 => ?_)
        · skip
          replace h26 := bI_eq0.mp h26
          have hk1 := h26
          refine gi_iconst C dX0_breaches_35 ?_
          refine gi_ior C dX0_breaches_36 (by decide) (by decide) ?_
          refine gi_top (b := 1) (by decide) ?_
          refine gi_istore_n (lv' := [(2, vi 1), (3, vi 1), (0, .ref o), (1, .ref q)]) C dX0_breaches_37 (by decide) rfl ?_
          refine gi_iincE (lv' := [(3, vi 2), (2, vi 1), (0, .ref o), (1, .ref q)]) C dX0_breaches_38 1 rfl (by decide) (by decide) rfl ?_
          refine gi_goto (tgt := 4) C dX0_breaches_41 (by decide) ?_
          refine gi_iload_n C dX0_breaches_4 0 rfl ?_
          refine gi_aload_n C dX0_breaches_5 2 rfl ?_
          refine gi_get (v := .ref (rx 9)) C in_X0 dX0_breaches_6 9 q178 0 rfl rfl (by decide) (fun _ h => h) rfl ?_
          refine gi_alen (t := 4) C dX0_breaches_9 3 rfl rfl ?_
          refine gi_top (b := 4) (rfl) ?_
          refine gi_icmp_ge (tgt := 44) C dX0_breaches_10 (by decide) (by decide) (by decide) (fun h10 => ?_) (fun h10 => ?_)
          · skip
            exact absurd h10 (by decide)
          · skip
            refine gi_iload_n C dX0_breaches_13 1 rfl ?_
            refine gi_aload_n C dX0_breaches_14 2 rfl ?_
            refine gi_get (v := .ref (rx 9)) C in_X0 dX0_breaches_15 9 q178 0 rfl rfl (by decide) (fun _ h => h) rfl ?_
            refine gi_iload_n C dX0_breaches_18 0 rfl ?_
            refine gi_aald C dX0_breaches_19 3 rfl rfl (by decide) (by omega) ?_
            refine gi_st (st' := [.ref (lA g 266 56 lmZ2), vi 1]) (by rw [hs2]; first | done | rfl) ?_
            refine gi_aload_n C dX0_breaches_20 3 rfl ?_
            refine gi_runLS (wr := [xO o fx rx n, cI g (rx 0) 34 fA, cI g (rx 1) 64 meanT, cR g 4 (rx 9) 4 So, cL g 249 51 lmZ0 l0 o, cL g 258 55 lmZ1 l1 o]) (rest := [vi 1]) lm_S2 ⟨lmM2.1, lmM2.2.2⟩ ⟨rfl, rfl, by decide +kernel⟩ C (lm_at2 C.ok) rfl (mX0_lambda_new_2 C.ok q pw pa pb pr ph pl (by omega)) (fun r w hw => by obtain ⟨rfl, -⟩ := hw; exact bI_01 _) dX0_breaches_21 q1272 q1274 q1273 q162 q53 q163 ⟨Nat.le_of_ble_eq_true rfl, Nat.le_of_ble_eq_true rfl⟩ rfl [6] [0, 1, 2, 3, 4, 5] rfl rfl rfl rfl (by decide) rfl (Nat.le_of_ble_eq_true rfl) ⟨Nat.le_of_ble_eq_true rfl, Nat.le_of_ble_eq_true rfl⟩ (fun r_21 w1 hv21 => ?_)
            obtain ⟨hr_21, rfl⟩ := hv21
            refine gi_pick [0, 1, 2, 3, 4, 5, 6] (w' := [xO o fx rx n, cI g (rx 0) 34 fA, cI g (rx 1) 64 meanT, cR g 4 (rx 9) 4 So, cL g 249 51 lmZ0 l0 o, cL g 258 55 lmZ1 l1 o, cO q 6 [vi pw, vi pa, vi pb, vi pr, vi ph, vi pl]]) rfl rfl ?_
            refine gi_top (b := (bI (6 < pr))) hr_21 ?_
            refine gi_if_eq (tgt := 35) C dX0_breaches_26 (by decide) (bI_rg _) (fun h26 => ?_) (fun h26 => ?_)
            · skip
              replace h26 := bI_eq0.mp h26
              have hk2 := h26
              refine gi_iconst C dX0_breaches_35 ?_
              refine gi_ior C dX0_breaches_36 (by decide) (by decide) ?_
              refine gi_top (b := 1) (by decide) ?_
              refine gi_istore_n (lv' := [(2, vi 1), (3, vi 2), (0, .ref o), (1, .ref q)]) C dX0_breaches_37 (by decide) rfl ?_
              refine gi_iincE (lv' := [(3, vi 3), (2, vi 1), (0, .ref o), (1, .ref q)]) C dX0_breaches_38 1 rfl (by decide) (by decide) rfl ?_
              refine gi_goto (tgt := 4) C dX0_breaches_41 (by decide) ?_
              refine gi_iload_n C dX0_breaches_4 0 rfl ?_
              refine gi_aload_n C dX0_breaches_5 2 rfl ?_
              refine gi_get (v := .ref (rx 9)) C in_X0 dX0_breaches_6 9 q178 0 rfl rfl (by decide) (fun _ h => h) rfl ?_
              refine gi_alen (t := 4) C dX0_breaches_9 3 rfl rfl ?_
              refine gi_top (b := 4) (rfl) ?_
              refine gi_icmp_ge (tgt := 44) C dX0_breaches_10 (by decide) (by decide) (by decide) (fun h10 => ?_) (fun h10 => ?_)
              · skip
                exact absurd h10 (by decide)
              · skip
                refine gi_iload_n C dX0_breaches_13 1 rfl ?_
                refine gi_aload_n C dX0_breaches_14 2 rfl ?_
                refine gi_get (v := .ref (rx 9)) C in_X0 dX0_breaches_15 9 q178 0 rfl rfl (by decide) (fun _ h => h) rfl ?_
                refine gi_iload_n C dX0_breaches_18 0 rfl ?_
                refine gi_aald C dX0_breaches_19 3 rfl rfl (by decide) (by omega) ?_
                refine gi_st (st' := [.ref (lA g 274 59 lmZ3), vi 1]) (by rw [hs3]; first | done | rfl) ?_
                refine gi_aload_n C dX0_breaches_20 3 rfl ?_
                refine gi_runLS (wr := [xO o fx rx n, cI g (rx 0) 34 fA, cI g (rx 1) 64 meanT, cR g 4 (rx 9) 4 So, cL g 249 51 lmZ0 l0 o, cL g 258 55 lmZ1 l1 o]) (rest := [vi 1]) lm_S3 ⟨lmM3.1, lmM3.2.2⟩ ⟨rfl, rfl, by decide +kernel⟩ C (lm_at3 C.ok) rfl (mX0_lambda_new_3 C.ok q pw pa pb pr ph pl (by omega) (by omega)) (fun r w hw => by obtain ⟨rfl, -⟩ := hw; exact bI_01 _) dX0_breaches_21 q1272 q1274 q1273 q164 q53 q165 ⟨Nat.le_of_ble_eq_true rfl, Nat.le_of_ble_eq_true rfl⟩ rfl [6] [0, 1, 2, 3, 4, 5] rfl rfl rfl rfl (by decide) rfl (Nat.le_of_ble_eq_true rfl) ⟨Nat.le_of_ble_eq_true rfl, Nat.le_of_ble_eq_true rfl⟩ (fun r_21 w1 hv21 => ?_)
                obtain ⟨hr_21, rfl⟩ := hv21
                refine gi_pick [0, 1, 2, 3, 4, 5, 6] (w' := [xO o fx rx n, cI g (rx 0) 34 fA, cI g (rx 1) 64 meanT, cR g 4 (rx 9) 4 So, cL g 249 51 lmZ0 l0 o, cL g 258 55 lmZ1 l1 o, cO q 6 [vi pw, vi pa, vi pb, vi pr, vi ph, vi pl]]) rfl rfl ?_
                refine gi_top (b := (bI (3 < ph ∨ pl < -3))) hr_21 ?_
                refine gi_if_eq (tgt := 35) C dX0_breaches_26 (by decide) (bI_rg _) (fun h26 => ?_) (fun h26 => ?_)
                · skip
                  replace h26 := bI_eq0.mp h26
                  have hk3 := h26
                  refine gi_iconst C dX0_breaches_35 ?_
                  refine gi_ior C dX0_breaches_36 (by decide) (by decide) ?_
                  refine gi_top (b := 1) (by decide) ?_
                  refine gi_istore_n (lv' := [(2, vi 1), (3, vi 3), (0, .ref o), (1, .ref q)]) C dX0_breaches_37 (by decide) rfl ?_
                  refine gi_iincE (lv' := [(3, vi 4), (2, vi 1), (0, .ref o), (1, .ref q)]) C dX0_breaches_38 1 rfl (by decide) (by decide) rfl ?_
                  refine gi_goto (tgt := 4) C dX0_breaches_41 (by decide) ?_
                  refine gi_iload_n C dX0_breaches_4 0 rfl ?_
                  refine gi_aload_n C dX0_breaches_5 2 rfl ?_
                  refine gi_get (v := .ref (rx 9)) C in_X0 dX0_breaches_6 9 q178 0 rfl rfl (by decide) (fun _ h => h) rfl ?_
                  refine gi_alen (t := 4) C dX0_breaches_9 3 rfl rfl ?_
                  refine gi_top (b := 4) (rfl) ?_
                  refine gi_icmp_ge (tgt := 44) C dX0_breaches_10 (by decide) (by decide) (by decide) (fun h10 => ?_) (fun h10 => ?_)
                  · skip
                    refine gi_iload_n C dX0_breaches_44 1 rfl ?_
                    refine gi_pick [0, 1, 2, 3, 4, 5, 6] (w' := [xO o fx rx n, cI g (rx 0) 34 fA, cI g (rx 1) 64 meanT, cR g 4 (rx 9) 4 So, cL g 249 51 lmZ0 l0 o, cL g 258 55 lmZ1 l1 o, cO q 6 [vi pw, vi pa, vi pb, vi pr, vi ph, vi pl]]) rfl rfl ?_
                    exact gi_ireturn C dX0_breaches_45 (Nat.le_of_ble_eq_true rfl) (Nat.le_of_ble_eq_true rfl) ⟨_, rfl, (by unfold brC; (first | rw [if_pos hk0] | rw [if_neg hk0]); (first | rw [if_pos hk1] | rw [if_neg hk1]); (first | rw [if_pos hk2] | rw [if_neg hk2]); (first | rw [if_pos hk3] | rw [if_neg hk3]); rfl), rfl⟩
                  · skip
                    exact absurd h10 (by decide)
                · skip
                  replace h26 := bI_ne0.mp h26
                  have hk3 := h26
                  refine gi_iconst C dX0_breaches_29 ?_
                  refine gi_iload_n C dX0_breaches_30 0 rfl ?_
                  refine gi_shl1 C dX0_breaches_31 (by decide) ?_
                  refine gi_top (b := 8) (by decide) ?_
                  refine gi_goto (tgt := 36) C dX0_breaches_32 (by decide) ?_
                  refine gi_ior C dX0_breaches_36 (by decide) (by decide) ?_
                  refine gi_top (b := 9) (by decide) ?_
                  refine gi_istore_n (lv' := [(2, vi 9), (3, vi 3), (0, .ref o), (1, .ref q)]) C dX0_breaches_37 (by decide) rfl ?_
                  refine gi_iincE (lv' := [(3, vi 4), (2, vi 9), (0, .ref o), (1, .ref q)]) C dX0_breaches_38 1 rfl (by decide) (by decide) rfl ?_
                  refine gi_goto (tgt := 4) C dX0_breaches_41 (by decide) ?_
                  refine gi_iload_n C dX0_breaches_4 0 rfl ?_
                  refine gi_aload_n C dX0_breaches_5 2 rfl ?_
                  refine gi_get (v := .ref (rx 9)) C in_X0 dX0_breaches_6 9 q178 0 rfl rfl (by decide) (fun _ h => h) rfl ?_
                  refine gi_alen (t := 4) C dX0_breaches_9 3 rfl rfl ?_
                  refine gi_top (b := 4) (rfl) ?_
                  refine gi_icmp_ge (tgt := 44) C dX0_breaches_10 (by decide) (by decide) (by decide) (fun h10 => ?_) (fun h10 => ?_)
                  · skip
                    refine gi_iload_n C dX0_breaches_44 1 rfl ?_
                    refine gi_pick [0, 1, 2, 3, 4, 5, 6] (w' := [xO o fx rx n, cI g (rx 0) 34 fA, cI g (rx 1) 64 meanT, cR g 4 (rx 9) 4 So, cL g 249 51 lmZ0 l0 o, cL g 258 55 lmZ1 l1 o, cO q 6 [vi pw, vi pa, vi pb, vi pr, vi ph, vi pl]]) rfl rfl ?_
                    exact gi_ireturn C dX0_breaches_45 (Nat.le_of_ble_eq_true rfl) (Nat.le_of_ble_eq_true rfl) ⟨_, rfl, (by unfold brC; (first | rw [if_pos hk0] | rw [if_neg hk0]); (first | rw [if_pos hk1] | rw [if_neg hk1]); (first | rw [if_pos hk2] | rw [if_neg hk2]); (first | rw [if_pos hk3] | rw [if_neg hk3]); rfl), rfl⟩
                  · skip
                    exact absurd h10 (by decide)
            · skip
              replace h26 := bI_ne0.mp h26
              have hk2 := h26
              refine gi_iconst C dX0_breaches_29 ?_
              refine gi_iload_n C dX0_breaches_30 0 rfl ?_
              refine gi_shl1 C dX0_breaches_31 (by decide) ?_
              refine gi_top (b := 4) (by decide) ?_
              refine gi_goto (tgt := 36) C dX0_breaches_32 (by decide) ?_
              refine gi_ior C dX0_breaches_36 (by decide) (by decide) ?_
              refine gi_top (b := 5) (by decide) ?_
              refine gi_istore_n (lv' := [(2, vi 5), (3, vi 2), (0, .ref o), (1, .ref q)]) C dX0_breaches_37 (by decide) rfl ?_
              refine gi_iincE (lv' := [(3, vi 3), (2, vi 5), (0, .ref o), (1, .ref q)]) C dX0_breaches_38 1 rfl (by decide) (by decide) rfl ?_
              refine gi_goto (tgt := 4) C dX0_breaches_41 (by decide) ?_
              refine gi_iload_n C dX0_breaches_4 0 rfl ?_
              refine gi_aload_n C dX0_breaches_5 2 rfl ?_
              refine gi_get (v := .ref (rx 9)) C in_X0 dX0_breaches_6 9 q178 0 rfl rfl (by decide) (fun _ h => h) rfl ?_
              refine gi_alen (t := 4) C dX0_breaches_9 3 rfl rfl ?_
              refine gi_top (b := 4) (rfl) ?_
              refine gi_icmp_ge (tgt := 44) C dX0_breaches_10 (by decide) (by decide) (by decide) (fun h10 => ?_) (fun h10 => ?_)
              · skip
                exact absurd h10 (by decide)
              · skip
                refine gi_iload_n C dX0_breaches_13 1 rfl ?_
                refine gi_aload_n C dX0_breaches_14 2 rfl ?_
                refine gi_get (v := .ref (rx 9)) C in_X0 dX0_breaches_15 9 q178 0 rfl rfl (by decide) (fun _ h => h) rfl ?_
                refine gi_iload_n C dX0_breaches_18 0 rfl ?_
                refine gi_aald C dX0_breaches_19 3 rfl rfl (by decide) (by omega) ?_
                refine gi_st (st' := [.ref (lA g 274 59 lmZ3), vi 5]) (by rw [hs3]; first | done | rfl) ?_
                refine gi_aload_n C dX0_breaches_20 3 rfl ?_
                refine gi_runLS (wr := [xO o fx rx n, cI g (rx 0) 34 fA, cI g (rx 1) 64 meanT, cR g 4 (rx 9) 4 So, cL g 249 51 lmZ0 l0 o, cL g 258 55 lmZ1 l1 o]) (rest := [vi 5]) lm_S3 ⟨lmM3.1, lmM3.2.2⟩ ⟨rfl, rfl, by decide +kernel⟩ C (lm_at3 C.ok) rfl (mX0_lambda_new_3 C.ok q pw pa pb pr ph pl (by omega) (by omega)) (fun r w hw => by obtain ⟨rfl, -⟩ := hw; exact bI_01 _) dX0_breaches_21 q1272 q1274 q1273 q164 q53 q165 ⟨Nat.le_of_ble_eq_true rfl, Nat.le_of_ble_eq_true rfl⟩ rfl [6] [0, 1, 2, 3, 4, 5] rfl rfl rfl rfl (by decide) rfl (Nat.le_of_ble_eq_true rfl) ⟨Nat.le_of_ble_eq_true rfl, Nat.le_of_ble_eq_true rfl⟩ (fun r_21 w1 hv21 => ?_)
                obtain ⟨hr_21, rfl⟩ := hv21
                refine gi_pick [0, 1, 2, 3, 4, 5, 6] (w' := [xO o fx rx n, cI g (rx 0) 34 fA, cI g (rx 1) 64 meanT, cR g 4 (rx 9) 4 So, cL g 249 51 lmZ0 l0 o, cL g 258 55 lmZ1 l1 o, cO q 6 [vi pw, vi pa, vi pb, vi pr, vi ph, vi pl]]) rfl rfl ?_
                refine gi_top (b := (bI (3 < ph ∨ pl < -3))) hr_21 ?_
                refine gi_if_eq (tgt := 35) C dX0_breaches_26 (by decide) (bI_rg _) (fun h26 => ?_) (fun h26 => ?_)
                · skip
                  replace h26 := bI_eq0.mp h26
                  have hk3 := h26
                  refine gi_iconst C dX0_breaches_35 ?_
                  refine gi_ior C dX0_breaches_36 (by decide) (by decide) ?_
                  refine gi_top (b := 5) (by decide) ?_
                  refine gi_istore_n (lv' := [(2, vi 5), (3, vi 3), (0, .ref o), (1, .ref q)]) C dX0_breaches_37 (by decide) rfl ?_
                  refine gi_iincE (lv' := [(3, vi 4), (2, vi 5), (0, .ref o), (1, .ref q)]) C dX0_breaches_38 1 rfl (by decide) (by decide) rfl ?_
                  refine gi_goto (tgt := 4) C dX0_breaches_41 (by decide) ?_
                  refine gi_iload_n C dX0_breaches_4 0 rfl ?_
                  refine gi_aload_n C dX0_breaches_5 2 rfl ?_
                  refine gi_get (v := .ref (rx 9)) C in_X0 dX0_breaches_6 9 q178 0 rfl rfl (by decide) (fun _ h => h) rfl ?_
                  refine gi_alen (t := 4) C dX0_breaches_9 3 rfl rfl ?_
                  refine gi_top (b := 4) (rfl) ?_
                  refine gi_icmp_ge (tgt := 44) C dX0_breaches_10 (by decide) (by decide) (by decide) (fun h10 => ?_) (fun h10 => ?_)
                  · skip
                    refine gi_iload_n C dX0_breaches_44 1 rfl ?_
                    refine gi_pick [0, 1, 2, 3, 4, 5, 6] (w' := [xO o fx rx n, cI g (rx 0) 34 fA, cI g (rx 1) 64 meanT, cR g 4 (rx 9) 4 So, cL g 249 51 lmZ0 l0 o, cL g 258 55 lmZ1 l1 o, cO q 6 [vi pw, vi pa, vi pb, vi pr, vi ph, vi pl]]) rfl rfl ?_
                    exact gi_ireturn C dX0_breaches_45 (Nat.le_of_ble_eq_true rfl) (Nat.le_of_ble_eq_true rfl) ⟨_, rfl, (by unfold brC; (first | rw [if_pos hk0] | rw [if_neg hk0]); (first | rw [if_pos hk1] | rw [if_neg hk1]); (first | rw [if_pos hk2] | rw [if_neg hk2]); (first | rw [if_pos hk3] | rw [if_neg hk3]); rfl), rfl⟩
                  · skip
                    exact absurd h10 (by decide)
                · skip
                  replace h26 := bI_ne0.mp h26
                  have hk3 := h26
                  refine gi_iconst C dX0_breaches_29 ?_
                  refine gi_iload_n C dX0_breaches_30 0 rfl ?_
                  refine gi_shl1 C dX0_breaches_31 (by decide) ?_
                  refine gi_top (b := 8) (by decide) ?_
                  refine gi_goto (tgt := 36) C dX0_breaches_32 (by decide) ?_
                  refine gi_ior C dX0_breaches_36 (by decide) (by decide) ?_
                  refine gi_top (b := 13) (by decide) ?_
                  refine gi_istore_n (lv' := [(2, vi 13), (3, vi 3), (0, .ref o), (1, .ref q)]) C dX0_breaches_37 (by decide) rfl ?_
                  refine gi_iincE (lv' := [(3, vi 4), (2, vi 13), (0, .ref o), (1, .ref q)]) C dX0_breaches_38 1 rfl (by decide) (by decide) rfl ?_
                  refine gi_goto (tgt := 4) C dX0_breaches_41 (by decide) ?_
                  refine gi_iload_n C dX0_breaches_4 0 rfl ?_
                  refine gi_aload_n C dX0_breaches_5 2 rfl ?_
                  refine gi_get (v := .ref (rx 9)) C in_X0 dX0_breaches_6 9 q178 0 rfl rfl (by decide) (fun _ h => h) rfl ?_
                  refine gi_alen (t := 4) C dX0_breaches_9 3 rfl rfl ?_
                  refine gi_top (b := 4) (rfl) ?_
                  refine gi_icmp_ge (tgt := 44) C dX0_breaches_10 (by decide) (by decide) (by decide) (fun h10 => ?_) (fun h10 => ?_)
                  · skip
                    refine gi_iload_n C dX0_breaches_44 1 rfl ?_
                    refine gi_pick [0, 1, 2, 3, 4, 5, 6] (w' := [xO o fx rx n, cI g (rx 0) 34 fA, cI g (rx 1) 64 meanT, cR g 4 (rx 9) 4 So, cL g 249 51 lmZ0 l0 o, cL g 258 55 lmZ1 l1 o, cO q 6 [vi pw, vi pa, vi pb, vi pr, vi ph, vi pl]]) rfl rfl ?_
                    exact gi_ireturn C dX0_breaches_45 (Nat.le_of_ble_eq_true rfl) (Nat.le_of_ble_eq_true rfl) ⟨_, rfl, (by unfold brC; (first | rw [if_pos hk0] | rw [if_neg hk0]); (first | rw [if_pos hk1] | rw [if_neg hk1]); (first | rw [if_pos hk2] | rw [if_neg hk2]); (first | rw [if_pos hk3] | rw [if_neg hk3]); rfl), rfl⟩
                  · skip
                    exact absurd h10 (by decide)
        · skip
          replace h26 := bI_ne0.mp h26
          have hk1 := h26
          refine gi_iconst C dX0_breaches_29 ?_
          refine gi_iload_n C dX0_breaches_30 0 rfl ?_
          refine gi_shl1 C dX0_breaches_31 (by decide) ?_
          refine gi_top (b := 2) (by decide) ?_
          refine gi_goto (tgt := 36) C dX0_breaches_32 (by decide) ?_
          refine gi_ior C dX0_breaches_36 (by decide) (by decide) ?_
          refine gi_top (b := 3) (by decide) ?_
          refine gi_istore_n (lv' := [(2, vi 3), (3, vi 1), (0, .ref o), (1, .ref q)]) C dX0_breaches_37 (by decide) rfl ?_
          refine gi_iincE (lv' := [(3, vi 2), (2, vi 3), (0, .ref o), (1, .ref q)]) C dX0_breaches_38 1 rfl (by decide) (by decide) rfl ?_
          refine gi_goto (tgt := 4) C dX0_breaches_41 (by decide) ?_
          refine gi_iload_n C dX0_breaches_4 0 rfl ?_
          refine gi_aload_n C dX0_breaches_5 2 rfl ?_
          refine gi_get (v := .ref (rx 9)) C in_X0 dX0_breaches_6 9 q178 0 rfl rfl (by decide) (fun _ h => h) rfl ?_
          refine gi_alen (t := 4) C dX0_breaches_9 3 rfl rfl ?_
          refine gi_top (b := 4) (rfl) ?_
          refine gi_icmp_ge (tgt := 44) C dX0_breaches_10 (by decide) (by decide) (by decide) (fun h10 => ?_) (fun h10 => ?_)
          · skip
            exact absurd h10 (by decide)
          · skip
            refine gi_iload_n C dX0_breaches_13 1 rfl ?_
            refine gi_aload_n C dX0_breaches_14 2 rfl ?_
            refine gi_get (v := .ref (rx 9)) C in_X0 dX0_breaches_15 9 q178 0 rfl rfl (by decide) (fun _ h => h) rfl ?_
            refine gi_iload_n C dX0_breaches_18 0 rfl ?_
            refine gi_aald C dX0_breaches_19 3 rfl rfl (by decide) (by omega) ?_
            refine gi_st (st' := [.ref (lA g 266 56 lmZ2), vi 3]) (by rw [hs2]; first | done | rfl) ?_
            refine gi_aload_n C dX0_breaches_20 3 rfl ?_
            refine gi_runLS (wr := [xO o fx rx n, cI g (rx 0) 34 fA, cI g (rx 1) 64 meanT, cR g 4 (rx 9) 4 So, cL g 249 51 lmZ0 l0 o, cL g 258 55 lmZ1 l1 o]) (rest := [vi 3]) lm_S2 ⟨lmM2.1, lmM2.2.2⟩ ⟨rfl, rfl, by decide +kernel⟩ C (lm_at2 C.ok) rfl (mX0_lambda_new_2 C.ok q pw pa pb pr ph pl (by omega)) (fun r w hw => by obtain ⟨rfl, -⟩ := hw; exact bI_01 _) dX0_breaches_21 q1272 q1274 q1273 q162 q53 q163 ⟨Nat.le_of_ble_eq_true rfl, Nat.le_of_ble_eq_true rfl⟩ rfl [6] [0, 1, 2, 3, 4, 5] rfl rfl rfl rfl (by decide) rfl (Nat.le_of_ble_eq_true rfl) ⟨Nat.le_of_ble_eq_true rfl, Nat.le_of_ble_eq_true rfl⟩ (fun r_21 w1 hv21 => ?_)
            obtain ⟨hr_21, rfl⟩ := hv21
            refine gi_pick [0, 1, 2, 3, 4, 5, 6] (w' := [xO o fx rx n, cI g (rx 0) 34 fA, cI g (rx 1) 64 meanT, cR g 4 (rx 9) 4 So, cL g 249 51 lmZ0 l0 o, cL g 258 55 lmZ1 l1 o, cO q 6 [vi pw, vi pa, vi pb, vi pr, vi ph, vi pl]]) rfl rfl ?_
            refine gi_top (b := (bI (6 < pr))) hr_21 ?_
            refine gi_if_eq (tgt := 35) C dX0_breaches_26 (by decide) (bI_rg _) (fun h26 => ?_) (fun h26 => ?_)
            · skip
              replace h26 := bI_eq0.mp h26
              have hk2 := h26
              refine gi_iconst C dX0_breaches_35 ?_
              refine gi_ior C dX0_breaches_36 (by decide) (by decide) ?_
              refine gi_top (b := 3) (by decide) ?_
              refine gi_istore_n (lv' := [(2, vi 3), (3, vi 2), (0, .ref o), (1, .ref q)]) C dX0_breaches_37 (by decide) rfl ?_
              refine gi_iincE (lv' := [(3, vi 3), (2, vi 3), (0, .ref o), (1, .ref q)]) C dX0_breaches_38 1 rfl (by decide) (by decide) rfl ?_
              refine gi_goto (tgt := 4) C dX0_breaches_41 (by decide) ?_
              refine gi_iload_n C dX0_breaches_4 0 rfl ?_
              refine gi_aload_n C dX0_breaches_5 2 rfl ?_
              refine gi_get (v := .ref (rx 9)) C in_X0 dX0_breaches_6 9 q178 0 rfl rfl (by decide) (fun _ h => h) rfl ?_
              refine gi_alen (t := 4) C dX0_breaches_9 3 rfl rfl ?_
              refine gi_top (b := 4) (rfl) ?_
              refine gi_icmp_ge (tgt := 44) C dX0_breaches_10 (by decide) (by decide) (by decide) (fun h10 => ?_) (fun h10 => ?_)
              · skip
                exact absurd h10 (by decide)
              · skip
                refine gi_iload_n C dX0_breaches_13 1 rfl ?_
                refine gi_aload_n C dX0_breaches_14 2 rfl ?_
                refine gi_get (v := .ref (rx 9)) C in_X0 dX0_breaches_15 9 q178 0 rfl rfl (by decide) (fun _ h => h) rfl ?_
                refine gi_iload_n C dX0_breaches_18 0 rfl ?_
                refine gi_aald C dX0_breaches_19 3 rfl rfl (by decide) (by omega) ?_
                refine gi_st (st' := [.ref (lA g 274 59 lmZ3), vi 3]) (by rw [hs3]; first | done | rfl) ?_
                refine gi_aload_n C dX0_breaches_20 3 rfl ?_
                refine gi_runLS (wr := [xO o fx rx n, cI g (rx 0) 34 fA, cI g (rx 1) 64 meanT, cR g 4 (rx 9) 4 So, cL g 249 51 lmZ0 l0 o, cL g 258 55 lmZ1 l1 o]) (rest := [vi 3]) lm_S3 ⟨lmM3.1, lmM3.2.2⟩ ⟨rfl, rfl, by decide +kernel⟩ C (lm_at3 C.ok) rfl (mX0_lambda_new_3 C.ok q pw pa pb pr ph pl (by omega) (by omega)) (fun r w hw => by obtain ⟨rfl, -⟩ := hw; exact bI_01 _) dX0_breaches_21 q1272 q1274 q1273 q164 q53 q165 ⟨Nat.le_of_ble_eq_true rfl, Nat.le_of_ble_eq_true rfl⟩ rfl [6] [0, 1, 2, 3, 4, 5] rfl rfl rfl rfl (by decide) rfl (Nat.le_of_ble_eq_true rfl) ⟨Nat.le_of_ble_eq_true rfl, Nat.le_of_ble_eq_true rfl⟩ (fun r_21 w1 hv21 => ?_)
                obtain ⟨hr_21, rfl⟩ := hv21
                refine gi_pick [0, 1, 2, 3, 4, 5, 6] (w' := [xO o fx rx n, cI g (rx 0) 34 fA, cI g (rx 1) 64 meanT, cR g 4 (rx 9) 4 So, cL g 249 51 lmZ0 l0 o, cL g 258 55 lmZ1 l1 o, cO q 6 [vi pw, vi pa, vi pb, vi pr, vi ph, vi pl]]) rfl rfl ?_
                refine gi_top (b := (bI (3 < ph ∨ pl < -3))) hr_21 ?_
                refine gi_if_eq (tgt := 35) C dX0_breaches_26 (by decide) (bI_rg _) (fun h26 => ?_) (fun h26 => ?_)
                · skip
                  replace h26 := bI_eq0.mp h26
                  have hk3 := h26
                  refine gi_iconst C dX0_breaches_35 ?_
                  refine gi_ior C dX0_breaches_36 (by decide) (by decide) ?_
                  refine gi_top (b := 3) (by decide) ?_
                  refine gi_istore_n (lv' := [(2, vi 3), (3, vi 3), (0, .ref o), (1, .ref q)]) C dX0_breaches_37 (by decide) rfl ?_
                  refine gi_iincE (lv' := [(3, vi 4), (2, vi 3), (0, .ref o), (1, .ref q)]) C dX0_breaches_38 1 rfl (by decide) (by decide) rfl ?_
                  refine gi_goto (tgt := 4) C dX0_breaches_41 (by decide) ?_
                  refine gi_iload_n C dX0_breaches_4 0 rfl ?_
                  refine gi_aload_n C dX0_breaches_5 2 rfl ?_
                  refine gi_get (v := .ref (rx 9)) C in_X0 dX0_breaches_6 9 q178 0 rfl rfl (by decide) (fun _ h => h) rfl ?_
                  refine gi_alen (t := 4) C dX0_breaches_9 3 rfl rfl ?_
                  refine gi_top (b := 4) (rfl) ?_
                  refine gi_icmp_ge (tgt := 44) C dX0_breaches_10 (by decide) (by decide) (by decide) (fun h10 => ?_) (fun h10 => ?_)
                  · skip
                    refine gi_iload_n C dX0_breaches_44 1 rfl ?_
                    refine gi_pick [0, 1, 2, 3, 4, 5, 6] (w' := [xO o fx rx n, cI g (rx 0) 34 fA, cI g (rx 1) 64 meanT, cR g 4 (rx 9) 4 So, cL g 249 51 lmZ0 l0 o, cL g 258 55 lmZ1 l1 o, cO q 6 [vi pw, vi pa, vi pb, vi pr, vi ph, vi pl]]) rfl rfl ?_
                    exact gi_ireturn C dX0_breaches_45 (Nat.le_of_ble_eq_true rfl) (Nat.le_of_ble_eq_true rfl) ⟨_, rfl, (by unfold brC; (first | rw [if_pos hk0] | rw [if_neg hk0]); (first | rw [if_pos hk1] | rw [if_neg hk1]); (first | rw [if_pos hk2] | rw [if_neg hk2]); (first | rw [if_pos hk3] | rw [if_neg hk3]); rfl), rfl⟩
                  · skip
                    exact absurd h10 (by decide)
                · skip
                  replace h26 := bI_ne0.mp h26
                  have hk3 := h26
                  refine gi_iconst C dX0_breaches_29 ?_
                  refine gi_iload_n C dX0_breaches_30 0 rfl ?_
                  refine gi_shl1 C dX0_breaches_31 (by decide) ?_
                  refine gi_top (b := 8) (by decide) ?_
                  refine gi_goto (tgt := 36) C dX0_breaches_32 (by decide) ?_
                  refine gi_ior C dX0_breaches_36 (by decide) (by decide) ?_
                  refine gi_top (b := 11) (by decide) ?_
                  refine gi_istore_n (lv' := [(2, vi 11), (3, vi 3), (0, .ref o), (1, .ref q)]) C dX0_breaches_37 (by decide) rfl ?_
                  refine gi_iincE (lv' := [(3, vi 4), (2, vi 11), (0, .ref o), (1, .ref q)]) C dX0_breaches_38 1 rfl (by decide) (by decide) rfl ?_
                  refine gi_goto (tgt := 4) C dX0_breaches_41 (by decide) ?_
                  refine gi_iload_n C dX0_breaches_4 0 rfl ?_
                  refine gi_aload_n C dX0_breaches_5 2 rfl ?_
                  refine gi_get (v := .ref (rx 9)) C in_X0 dX0_breaches_6 9 q178 0 rfl rfl (by decide) (fun _ h => h) rfl ?_
                  refine gi_alen (t := 4) C dX0_breaches_9 3 rfl rfl ?_
                  refine gi_top (b := 4) (rfl) ?_
                  refine gi_icmp_ge (tgt := 44) C dX0_breaches_10 (by decide) (by decide) (by decide) (fun h10 => ?_) (fun h10 => ?_)
                  · skip
                    refine gi_iload_n C dX0_breaches_44 1 rfl ?_
                    refine gi_pick [0, 1, 2, 3, 4, 5, 6] (w' := [xO o fx rx n, cI g (rx 0) 34 fA, cI g (rx 1) 64 meanT, cR g 4 (rx 9) 4 So, cL g 249 51 lmZ0 l0 o, cL g 258 55 lmZ1 l1 o, cO q 6 [vi pw, vi pa, vi pb, vi pr, vi ph, vi pl]]) rfl rfl ?_
                    exact gi_ireturn C dX0_breaches_45 (Nat.le_of_ble_eq_true rfl) (Nat.le_of_ble_eq_true rfl) ⟨_, rfl, (by unfold brC; (first | rw [if_pos hk0] | rw [if_neg hk0]); (first | rw [if_pos hk1] | rw [if_neg hk1]); (first | rw [if_pos hk2] | rw [if_neg hk2]); (first | rw [if_pos hk3] | rw [if_neg hk3]); rfl), rfl⟩
                  · skip
                    exact absurd h10 (by decide)
            · skip
              replace h26 := bI_ne0.mp h26
              have hk2 := h26
              refine gi_iconst C dX0_breaches_29 ?_
              refine gi_iload_n C dX0_breaches_30 0 rfl ?_
              refine gi_shl1 C dX0_breaches_31 (by decide) ?_
              refine gi_top (b := 4) (by decide) ?_
              refine gi_goto (tgt := 36) C dX0_breaches_32 (by decide) ?_
              refine gi_ior C dX0_breaches_36 (by decide) (by decide) ?_
              refine gi_top (b := 7) (by decide) ?_
              refine gi_istore_n (lv' := [(2, vi 7), (3, vi 2), (0, .ref o), (1, .ref q)]) C dX0_breaches_37 (by decide) rfl ?_
              refine gi_iincE (lv' := [(3, vi 3), (2, vi 7), (0, .ref o), (1, .ref q)]) C dX0_breaches_38 1 rfl (by decide) (by decide) rfl ?_
              refine gi_goto (tgt := 4) C dX0_breaches_41 (by decide) ?_
              refine gi_iload_n C dX0_breaches_4 0 rfl ?_
              refine gi_aload_n C dX0_breaches_5 2 rfl ?_
              refine gi_get (v := .ref (rx 9)) C in_X0 dX0_breaches_6 9 q178 0 rfl rfl (by decide) (fun _ h => h) rfl ?_
              refine gi_alen (t := 4) C dX0_breaches_9 3 rfl rfl ?_
              refine gi_top (b := 4) (rfl) ?_
              refine gi_icmp_ge (tgt := 44) C dX0_breaches_10 (by decide) (by decide) (by decide) (fun h10 => ?_) (fun h10 => ?_)
              · skip
                exact absurd h10 (by decide)
              · skip
                refine gi_iload_n C dX0_breaches_13 1 rfl ?_
                refine gi_aload_n C dX0_breaches_14 2 rfl ?_
                refine gi_get (v := .ref (rx 9)) C in_X0 dX0_breaches_15 9 q178 0 rfl rfl (by decide) (fun _ h => h) rfl ?_
                refine gi_iload_n C dX0_breaches_18 0 rfl ?_
                refine gi_aald C dX0_breaches_19 3 rfl rfl (by decide) (by omega) ?_
                refine gi_st (st' := [.ref (lA g 274 59 lmZ3), vi 7]) (by rw [hs3]; first | done | rfl) ?_
                refine gi_aload_n C dX0_breaches_20 3 rfl ?_
                refine gi_runLS (wr := [xO o fx rx n, cI g (rx 0) 34 fA, cI g (rx 1) 64 meanT, cR g 4 (rx 9) 4 So, cL g 249 51 lmZ0 l0 o, cL g 258 55 lmZ1 l1 o]) (rest := [vi 7]) lm_S3 ⟨lmM3.1, lmM3.2.2⟩ ⟨rfl, rfl, by decide +kernel⟩ C (lm_at3 C.ok) rfl (mX0_lambda_new_3 C.ok q pw pa pb pr ph pl (by omega) (by omega)) (fun r w hw => by obtain ⟨rfl, -⟩ := hw; exact bI_01 _) dX0_breaches_21 q1272 q1274 q1273 q164 q53 q165 ⟨Nat.le_of_ble_eq_true rfl, Nat.le_of_ble_eq_true rfl⟩ rfl [6] [0, 1, 2, 3, 4, 5] rfl rfl rfl rfl (by decide) rfl (Nat.le_of_ble_eq_true rfl) ⟨Nat.le_of_ble_eq_true rfl, Nat.le_of_ble_eq_true rfl⟩ (fun r_21 w1 hv21 => ?_)
                obtain ⟨hr_21, rfl⟩ := hv21
                refine gi_pick [0, 1, 2, 3, 4, 5, 6] (w' := [xO o fx rx n, cI g (rx 0) 34 fA, cI g (rx 1) 64 meanT, cR g 4 (rx 9) 4 So, cL g 249 51 lmZ0 l0 o, cL g 258 55 lmZ1 l1 o, cO q 6 [vi pw, vi pa, vi pb, vi pr, vi ph, vi pl]]) rfl rfl ?_
                refine gi_top (b := (bI (3 < ph ∨ pl < -3))) hr_21 ?_
                refine gi_if_eq (tgt := 35) C dX0_breaches_26 (by decide) (bI_rg _) (fun h26 => ?_) (fun h26 => ?_)
                · skip
                  replace h26 := bI_eq0.mp h26
                  have hk3 := h26
                  refine gi_iconst C dX0_breaches_35 ?_
                  refine gi_ior C dX0_breaches_36 (by decide) (by decide) ?_
                  refine gi_top (b := 7) (by decide) ?_
                  refine gi_istore_n (lv' := [(2, vi 7), (3, vi 3), (0, .ref o), (1, .ref q)]) C dX0_breaches_37 (by decide) rfl ?_
                  refine gi_iincE (lv' := [(3, vi 4), (2, vi 7), (0, .ref o), (1, .ref q)]) C dX0_breaches_38 1 rfl (by decide) (by decide) rfl ?_
                  refine gi_goto (tgt := 4) C dX0_breaches_41 (by decide) ?_
                  refine gi_iload_n C dX0_breaches_4 0 rfl ?_
                  refine gi_aload_n C dX0_breaches_5 2 rfl ?_
                  refine gi_get (v := .ref (rx 9)) C in_X0 dX0_breaches_6 9 q178 0 rfl rfl (by decide) (fun _ h => h) rfl ?_
                  refine gi_alen (t := 4) C dX0_breaches_9 3 rfl rfl ?_
                  refine gi_top (b := 4) (rfl) ?_
                  refine gi_icmp_ge (tgt := 44) C dX0_breaches_10 (by decide) (by decide) (by decide) (fun h10 => ?_) (fun h10 => ?_)
                  · skip
                    refine gi_iload_n C dX0_breaches_44 1 rfl ?_
                    refine gi_pick [0, 1, 2, 3, 4, 5, 6] (w' := [xO o fx rx n, cI g (rx 0) 34 fA, cI g (rx 1) 64 meanT, cR g 4 (rx 9) 4 So, cL g 249 51 lmZ0 l0 o, cL g 258 55 lmZ1 l1 o, cO q 6 [vi pw, vi pa, vi pb, vi pr, vi ph, vi pl]]) rfl rfl ?_
                    exact gi_ireturn C dX0_breaches_45 (Nat.le_of_ble_eq_true rfl) (Nat.le_of_ble_eq_true rfl) ⟨_, rfl, (by unfold brC; (first | rw [if_pos hk0] | rw [if_neg hk0]); (first | rw [if_pos hk1] | rw [if_neg hk1]); (first | rw [if_pos hk2] | rw [if_neg hk2]); (first | rw [if_pos hk3] | rw [if_neg hk3]); rfl), rfl⟩
                  · skip
                    exact absurd h10 (by decide)
                · skip
                  replace h26 := bI_ne0.mp h26
                  have hk3 := h26
                  refine gi_iconst C dX0_breaches_29 ?_
                  refine gi_iload_n C dX0_breaches_30 0 rfl ?_
                  refine gi_shl1 C dX0_breaches_31 (by decide) ?_
                  refine gi_top (b := 8) (by decide) ?_
                  refine gi_goto (tgt := 36) C dX0_breaches_32 (by decide) ?_
                  refine gi_ior C dX0_breaches_36 (by decide) (by decide) ?_
                  refine gi_top (b := 15) (by decide) ?_
                  refine gi_istore_n (lv' := [(2, vi 15), (3, vi 3), (0, .ref o), (1, .ref q)]) C dX0_breaches_37 (by decide) rfl ?_
                  refine gi_iincE (lv' := [(3, vi 4), (2, vi 15), (0, .ref o), (1, .ref q)]) C dX0_breaches_38 1 rfl (by decide) (by decide) rfl ?_
                  refine gi_goto (tgt := 4) C dX0_breaches_41 (by decide) ?_
                  refine gi_iload_n C dX0_breaches_4 0 rfl ?_
                  refine gi_aload_n C dX0_breaches_5 2 rfl ?_
                  refine gi_get (v := .ref (rx 9)) C in_X0 dX0_breaches_6 9 q178 0 rfl rfl (by decide) (fun _ h => h) rfl ?_
                  refine gi_alen (t := 4) C dX0_breaches_9 3 rfl rfl ?_
                  refine gi_top (b := 4) (rfl) ?_
                  refine gi_icmp_ge (tgt := 44) C dX0_breaches_10 (by decide) (by decide) (by decide) (fun h10 => ?_) (fun h10 => ?_)
                  · skip
                    refine gi_iload_n C dX0_breaches_44 1 rfl ?_
                    refine gi_pick [0, 1, 2, 3, 4, 5, 6] (w' := [xO o fx rx n, cI g (rx 0) 34 fA, cI g (rx 1) 64 meanT, cR g 4 (rx 9) 4 So, cL g 249 51 lmZ0 l0 o, cL g 258 55 lmZ1 l1 o, cO q 6 [vi pw, vi pa, vi pb, vi pr, vi ph, vi pl]]) rfl rfl ?_
                    exact gi_ireturn C dX0_breaches_45 (Nat.le_of_ble_eq_true rfl) (Nat.le_of_ble_eq_true rfl) ⟨_, rfl, (by unfold brC; (first | rw [if_pos hk0] | rw [if_neg hk0]); (first | rw [if_pos hk1] | rw [if_neg hk1]); (first | rw [if_pos hk2] | rw [if_neg hk2]); (first | rw [if_pos hk3] | rw [if_neg hk3]); rfl), rfl⟩
                  · skip
                    exact absurd h10 (by decide)
theorem hdX7_init : yX7_init.cls ≠ "java/lang/invoke/MethodHandle" ∧ yX7_init.cls ≠ "java/lang/invoke/VarHandle" ∧ (parseMethodDescriptor yX7_init.desc).map (fun d => d.parameters.length) = some 4 := by decide +kernel
abbrev rmX7_init : Room := { frames := 1, cells := 0, slots := 0, locals := 13 }
set_option maxHeartbeats 4000000 in
set_option maxRecDepth 100000 in
/-- EvenWords$Read.<init>(LEvenWords;LEvenWords$Wire;IZ)V -/
theorem mX7_init {g : GG} (hg : OKG g) (a : Nat) (o : Nat) (ow : Nat) (fr : Int) (ab : Int) (hab : ab = 0 ∨ ab = 1) : Con g yX7_init cX7_init 5 none rmX7_init [.ref a, .ref o, .ref ow, vi fr, vi ab] [cO a 7 [.null, vi 0, vi 0, .null]] (pV fun w => w = [cO a 7 [.ref ow, vi fr, vi ab, .ref o]]) := by
  refine con_of_goI hg (by decide +kernel) (Nat.le_of_ble_eq_true rfl) ?_
  intro x C hini
  refine gi_lv (lv' := [(0, .ref a), (1, .ref o), (2, .ref ow), (3, vi fr), (4, vi ab)]) [0, 1, 2, 3, 4] rfl ?_
  refine gi_aload_n C dX7_init_0 0 rfl ?_
  refine gi_aload_n C dX7_init_1 1 rfl ?_
  refine gi_putF (w' := [cO a 7 [.null, vi 0, vi 0, .ref o]]) C in_X7 tyX7 tyX7_ok nmX7 hini dX7_init_2 3 q1226 0 rfl rfl (by decide) (fun _ h => h) rfl rfl rfl ⟨rfl, rfl⟩ (Nat.le_of_ble_eq_true rfl) rfl ?_
  refine gi_aload_n C dX7_init_5 0 rfl ?_
  refine gi_objInit C dX7_init_6 q1217 q99 q100 (by decide) (by decide) ?_
  refine gi_aload_n C dX7_init_9 0 rfl ?_
  refine gi_aload_n C dX7_init_10 2 rfl ?_
  refine gi_putF (w' := [cO a 7 [.ref ow, vi 0, vi 0, .ref o]]) C in_X7 tyX7 tyX7_ok nmX7 hini dX7_init_11 0 q1218 0 rfl rfl (by decide) (fun _ h => h) rfl rfl rfl ⟨rfl, rfl⟩ (Nat.le_of_ble_eq_true rfl) rfl ?_
  refine gi_aload_n C dX7_init_14 0 rfl ?_
  refine gi_iload_n C dX7_init_15 3 rfl ?_
  refine gi_putF (w' := [cO a 7 [.ref ow, vi fr, vi 0, .ref o]]) C in_X7 tyX7 tyX7_ok nmX7 hini dX7_init_16 1 q1221 0 rfl rfl (by decide) (fun _ h => h) rfl rfl rfl ⟨rfl, rfl⟩ (Nat.le_of_ble_eq_true rfl) rfl ?_
  refine gi_aload_n C dX7_init_19 0 rfl ?_
  refine gi_iload C dX7_init_20 4 rfl ?_
  refine gi_putF (w' := [cO a 7 [.ref ow, vi fr, vi ab, .ref o]]) C in_X7 tyX7 tyX7_ok nmX7 hini dX7_init_22 2 q1223 0 rfl rfl (by decide) (fun _ h => h) rfl rfl rfl (fz (by omega)) (Nat.le_of_ble_eq_true rfl) rfl ?_
  refine gi_pick [0] (w' := [cO a 7 [.ref ow, vi fr, vi ab, .ref o]]) rfl rfl ?_
  exact gi_return C dX7_init_25 (Nat.le_of_ble_eq_true rfl) (Nat.le_of_ble_eq_true rfl) ⟨rfl, rfl⟩
theorem hdX7_pieces : yX7_pieces.cls ≠ "java/lang/invoke/MethodHandle" ∧ yX7_pieces.cls ≠ "java/lang/invoke/VarHandle" ∧ (parseMethodDescriptor yX7_pieces.desc).map (fun d => d.parameters.length) = some 0 := by decide +kernel
abbrev rmX7_pieces : Room := { frames := 2, cells := 0, slots := 0, locals := 64 }
set_option maxHeartbeats 4000000 in
set_option maxRecDepth 100000 in
/-- EvenWords$Read.pieces()I -/
theorem mX7_pieces {g : GG} (hg : OKG g) (rd : Nat) (ow : Nat) (fr : Int) (fw : Nat → Int) (rw : Nat → Nat) (o : Nat) (B : Int → Int) (ab : Int) (hn : 0 ≤ fw 0 ∧ fw 0 ≤ 32) (hfr : 0 ≤ fr ∧ fr ≤ 5) : Con g yX7_pieces cX7_pieces 1 (some .int) rmX7_pieces [.ref rd] [cO rd 7 [.ref ow, vi fr, vi ab, .ref o], wO ow fw rw o] (pI fun r_ w => r_ = (npc (6 * fw 0) fr) ∧ w = [cO rd 7 [.ref ow, vi fr, vi ab, .ref o], wO ow fw rw o]) := by
  refine con_of_go hg (by decide +kernel) (Nat.le_of_ble_eq_true rfl) ?_
  intro x C
  refine gi_lv (lv' := [(0, .ref rd)]) [0] rfl ?_
  refine gi_iconst C dX7_pieces_0 ?_
  refine gi_aload_n C dX7_pieces_1 0 rfl ?_
  refine gi_get (v := .ref ow) C in_X7 dX7_pieces_2 0 q1218 0 rfl rfl (by decide) (fun _ h => h) rfl ?_
  refine gi_runV (wr := [cO rd 7 [.ref ow, vi fr, vi ab, .ref o]]) (rest := [vi 0]) C (mX1_many C.ok ow fw rw o) dX7_pieces_5 q1284 q397 q398 q56 q399 hdX1_many ⟨Nat.le_of_ble_eq_true rfl, Nat.le_of_ble_eq_true rfl⟩ 1 rfl rfl [1] [0] rfl rfl rfl rfl (by decide) rfl (Nat.le_of_ble_eq_true rfl) ⟨Nat.le_of_ble_eq_true rfl, Nat.le_of_ble_eq_true rfl⟩ (kI fun r_5 w1 hv5 => ?_)
  obtain ⟨hr_5, rfl⟩ := hv5
  refine gi_pick [0, 1] (w' := [cO rd 7 [.ref ow, vi fr, vi ab, .ref o], wO ow fw rw o]) rfl rfl ?_
  refine gi_top (b := (6 * fw 0)) hr_5 ?_
  refine gi_aload_n C dX7_pieces_8 0 rfl ?_
  refine gi_get (v := vi fr) C in_X7 dX7_pieces_9 1 q1221 0 rfl rfl (by decide) (fun _ h => h) rfl ?_
  refine gi_isub C dX7_pieces_12 ?_
  refine gi_max C dX7_pieces_13 q1285 q1149 q59 q1150 (by omega) (by omega) (Nat.le_of_ble_eq_true rfl) (Nat.le_of_ble_eq_true rfl) (Nat.le_of_ble_eq_true rfl) (Nat.le_of_ble_eq_true rfl) ?_
  refine gi_bipush C dX7_pieces_16 (by decide +kernel) ?_
  refine gi_idiv C dX7_pieces_18 (by split <;> omega) (by omega) ?_
  refine gi_pick [0, 1] (w' := [cO rd 7 [.ref ow, vi fr, vi ab, .ref o], wO ow fw rw o]) rfl rfl ?_
  exact gi_ireturn C dX7_pieces_19 (Nat.le_of_ble_eq_true rfl) (Nat.le_of_ble_eq_true rfl) ⟨_, rfl, (by unfold npc; (repeat' split) <;> omega), rfl⟩
theorem hdX8_init : yX8_init.cls ≠ "java/lang/invoke/MethodHandle" ∧ yX8_init.cls ≠ "java/lang/invoke/VarHandle" ∧ (parseMethodDescriptor yX8_init.desc).map (fun d => d.parameters.length) = some 1 := by decide +kernel
abbrev rmX8_init : Room := { frames := 1, cells := 0, slots := 0, locals := 13 }
set_option maxHeartbeats 4000000 in
set_option maxRecDepth 100000 in
/-- EvenWords$Read$1.<init>(LEvenWords$Read;)V -/
theorem mX8_init {g : GG} (hg : OKG g) (it : Nat) (rd : Nat) (ow : Nat) (fr : Int) (o : Nat) (B : Int → Int) (u : Int) (hu : u = 1 ∨ u = -1) : Con g yX8_init cX8_init 2 none rmX8_init [.ref it, .ref rd] [cO it 8 [vi 0, vi 0, vi 0, vi 0, .null], cO rd 7 [.ref ow, vi fr, vi (if u < 0 then 0 else 1), .ref o]] (pV fun w => w = [cO it 8 [vi (fr + 6 * 0), vi (if sbI B fr u 0 < 0 then 0 else 1), vi (levI B fr u (6 * 0)), vi (runI (shB B fr) (6 * 0)), .ref rd], cO rd 7 [.ref ow, vi fr, vi (if u < 0 then 0 else 1), .ref o]]) := by
  refine con_of_goI hg (by decide +kernel) (Nat.le_of_ble_eq_true rfl) ?_
  intro x C hini
  refine gi_lv (lv' := [(0, .ref it), (1, .ref rd)]) [0, 1] rfl ?_
  refine gi_aload_n C dX8_init_0 0 rfl ?_
  refine gi_aload_n C dX8_init_1 1 rfl ?_
  refine gi_putF (w' := [cO it 8 [vi 0, vi 0, vi 0, vi 0, .ref rd], cO rd 7 [.ref ow, vi fr, vi (if u < 0 then 0 else 1), .ref o]]) C in_X8 tyX8 tyX8_ok nmX8 hini dX8_init_2 4 q1250 0 rfl rfl (by decide) (fun _ h => h) rfl rfl rfl ⟨rfl, rfl⟩ (Nat.le_of_ble_eq_true rfl) rfl ?_
  refine gi_aload_n C dX8_init_5 0 rfl ?_
  refine gi_objInit C dX8_init_6 q1245 q99 q100 (by decide) (by decide) ?_
  refine gi_aload_n C dX8_init_9 0 rfl ?_
  refine gi_aload_n C dX8_init_10 0 rfl ?_
  refine gi_get (v := .ref rd) C in_X8 dX8_init_11 4 q1250 0 rfl rfl (by decide) (fun _ h => h) rfl ?_
  refine gi_getN (v := vi fr) C in_X7 dX8_init_14 1 q1220 1 rfl rfl (by decide) (fun _ h => h) rfl ?_
  refine gi_put (w' := [cO it 8 [vi fr, vi 0, vi 0, vi 0, .ref rd], cO rd 7 [.ref ow, vi fr, vi (if u < 0 then 0 else 1), .ref o]]) C in_X8 tyX8 tyX8_ok nmX8 dX8_init_17 0 q1246 0 rfl rfl (by decide) (fun _ h => h) rfl rfl ⟨rfl, rfl⟩ (Nat.le_of_ble_eq_true rfl) rfl ?_
  refine gi_aload_n C dX8_init_20 0 rfl ?_
  refine gi_aload_n C dX8_init_21 0 rfl ?_
  refine gi_get (v := .ref rd) C in_X8 dX8_init_22 4 q1250 0 rfl rfl (by decide) (fun _ h => h) rfl ?_
  refine gi_getN (v := vi (if u < 0 then 0 else 1)) C in_X7 dX8_init_25 2 q1224 1 rfl rfl (by decide) (fun _ h => h) rfl ?_
  refine gi_put (w' := [cO it 8 [vi fr, vi (if u < 0 then 0 else 1), vi 0, vi 0, .ref rd], cO rd 7 [.ref ow, vi fr, vi (if u < 0 then 0 else 1), .ref o]]) C in_X8 tyX8 tyX8_ok nmX8 dX8_init_28 1 q1247 0 rfl rfl (by decide) (fun _ h => h) rfl rfl (fz (by split <;> omega)) (Nat.le_of_ble_eq_true rfl) rfl ?_
  refine gi_aload_n C dX8_init_31 0 rfl ?_
  refine gi_aload_n C dX8_init_32 0 rfl ?_
  refine gi_get (v := .ref rd) C in_X8 dX8_init_33 4 q1250 0 rfl rfl (by decide) (fun _ h => h) rfl ?_
  refine gi_getN (v := vi (if u < 0 then 0 else 1)) C in_X7 dX8_init_36 2 q1224 1 rfl rfl (by decide) (fun _ h => h) rfl ?_
  refine gi_if_eq (tgt := 46) C dX8_init_39 (by decide) (by split <;> omega) (fun h39 => ?_) (fun h39 => ?_)
  · skip
    refine gi_iconst C dX8_init_46 ?_
    have L47 : ∀ (v : Int) (hv : v = u), Go g x 2 rmX8_init 0 0 47 [(0, .ref it), (1, .ref rd)] [vi v, .ref it] [cO it 8 [vi fr, vi (if u < 0 then 0 else 1), vi 0, vi 0, .ref rd], cO rd 7 [.ref ow, vi fr, vi (if u < 0 then 0 else 1), .ref o]] := by
      intro v hv
      refine gi_st (st' := [vi u, .ref it]) (by rw [hv]) ?_
      refine gi_put (w' := [cO it 8 [vi fr, vi (if u < 0 then 0 else 1), vi u, vi 0, .ref rd], cO rd 7 [.ref ow, vi fr, vi (if u < 0 then 0 else 1), .ref o]]) C in_X8 tyX8 tyX8_ok nmX8 dX8_init_47 2 q1248 0 rfl rfl (by decide) (fun _ h => h) rfl rfl ⟨rfl, rfl⟩ (Nat.le_of_ble_eq_true rfl) rfl ?_
      refine gi_extO (w' := [cO it 8 [vi (fr + 6 * 0), vi (if sbI B fr u 0 < 0 then 0 else 1), vi (levI B fr u (6 * 0)), vi (runI (shB B fr) (6 * 0)), .ref rd], cO rd 7 [.ref ow, vi fr, vi (if u < 0 then 0 else 1), .ref o]]) 0 rfl (by rw [show fr + 6 * 0 = fr by omega, show (6 : Int) * 0 = 0 from rfl, levI_0, runI_0, sbI_0]) rfl ?_
      refine gi_pick [0, 1] (w' := [cO it 8 [vi (fr + 6 * 0), vi (if sbI B fr u 0 < 0 then 0 else 1), vi (levI B fr u (6 * 0)), vi (runI (shB B fr) (6 * 0)), .ref rd], cO rd 7 [.ref ow, vi fr, vi (if u < 0 then 0 else 1), .ref o]]) rfl rfl ?_
      exact gi_return C dX8_init_50 (Nat.le_of_ble_eq_true rfl) (Nat.le_of_ble_eq_true rfl) ⟨rfl, rfl⟩
    exact gi_to [0, 1] [0, 1] rfl rfl rfl (L47 (-1) (by split at h39 <;> omega))
  · skip
    refine gi_iconst C dX8_init_42 ?_
    refine gi_goto (tgt := 47) C dX8_init_43 (by decide) ?_
    have L47 : ∀ (v : Int) (hv : v = u), Go g x 2 rmX8_init 0 0 47 [(0, .ref it), (1, .ref rd)] [vi v, .ref it] [cO it 8 [vi fr, vi (if u < 0 then 0 else 1), vi 0, vi 0, .ref rd], cO rd 7 [.ref ow, vi fr, vi (if u < 0 then 0 else 1), .ref o]] := by
      intro v hv
      refine gi_st (st' := [vi u, .ref it]) (by rw [hv]) ?_
      refine gi_put (w' := [cO it 8 [vi fr, vi (if u < 0 then 0 else 1), vi u, vi 0, .ref rd], cO rd 7 [.ref ow, vi fr, vi (if u < 0 then 0 else 1), .ref o]]) C in_X8 tyX8 tyX8_ok nmX8 dX8_init_47 2 q1248 0 rfl rfl (by decide) (fun _ h => h) rfl rfl ⟨rfl, rfl⟩ (Nat.le_of_ble_eq_true rfl) rfl ?_
      refine gi_extO (w' := [cO it 8 [vi (fr + 6 * 0), vi (if sbI B fr u 0 < 0 then 0 else 1), vi (levI B fr u (6 * 0)), vi (runI (shB B fr) (6 * 0)), .ref rd], cO rd 7 [.ref ow, vi fr, vi (if u < 0 then 0 else 1), .ref o]]) 0 rfl (by rw [show fr + 6 * 0 = fr by omega, show (6 : Int) * 0 = 0 from rfl, levI_0, runI_0, sbI_0]) rfl ?_
      refine gi_pick [0, 1] (w' := [cO it 8 [vi (fr + 6 * 0), vi (if sbI B fr u 0 < 0 then 0 else 1), vi (levI B fr u (6 * 0)), vi (runI (shB B fr) (6 * 0)), .ref rd], cO rd 7 [.ref ow, vi fr, vi (if u < 0 then 0 else 1), .ref o]]) rfl rfl ?_
      exact gi_return C dX8_init_50 (Nat.le_of_ble_eq_true rfl) (Nat.le_of_ble_eq_true rfl) ⟨rfl, rfl⟩
    exact gi_to [0, 1] [0, 1] rfl rfl rfl (L47 1 (by split at h39 <;> omega))
theorem hdX7_iterator : yX7_iterator.cls ≠ "java/lang/invoke/MethodHandle" ∧ yX7_iterator.cls ≠ "java/lang/invoke/VarHandle" ∧ (parseMethodDescriptor yX7_iterator.desc).map (fun d => d.parameters.length) = some 0 := by decide +kernel
abbrev rmX7_iterator : Room := { frames := 2, cells := 1, slots := 5, locals := 34 }
set_option maxHeartbeats 4000000 in
set_option maxRecDepth 100000 in
/-- EvenWords$Read.iterator()Ljava/util/Iterator; -/
theorem mX7_iterator {g : GG} (hg : OKG g) (rd : Nat) (ow : Nat) (fr : Int) (o : Nat) (B : Int → Int) (u : Int) (hu : u = 1 ∨ u = -1) : Con g yX7_iterator cX7_iterator 1 (some (.object "java/util/Iterator")) rmX7_iterator [.ref rd] [cO rd 7 [.ref ow, vi fr, vi (if u < 0 then 0 else 1), .ref o]] (pR fun it w => w = [cO rd 7 [.ref ow, vi fr, vi (if u < 0 then 0 else 1), .ref o], cO it 8 [vi (fr + 6 * 0), vi (if sbI B fr u 0 < 0 then 0 else 1), vi (levI B fr u (6 * 0)), vi (runI (shB B fr) (6 * 0)), .ref rd]]) := by
  refine con_of_go hg (by decide +kernel) (Nat.le_of_ble_eq_true rfl) ?_
  intro x C
  refine gi_lv (lv' := [(0, .ref rd)]) [0] rfl ?_
  refine gi_new (c := 8) (N := 5) (fs := [vi 0, vi 0, vi 0, vi 0, .null]) C in_X8 tyX8 tyX8_ok dX7_iterator_0 q1240 q1241 q86 rfl (newfsX8) (Nat.le_of_ble_eq_true rfl) (Nat.le_of_ble_eq_true rfl) (fun q0 => ?_)
  refine gi_ws (w' := [cO rd 7 [.ref ow, vi fr, vi (if u < 0 then 0 else 1), .ref o], cO q0 8 [vi 0, vi 0, vi 0, vi 0, .null]]) rfl ?_
  refine gi_dup C dX7_iterator_3 rfl ?_
  refine gi_aload_n C dX7_iterator_4 0 rfl ?_
  refine gi_runI (wr := []) (rest := [.ref q0]) C (mX8_init C.ok q0 rd ow fr o B u (by omega)) dX7_iterator_5 q1242 q1243 q86 q1244 rfl hdX8_init ⟨Nat.le_of_ble_eq_true rfl, Nat.le_of_ble_eq_true rfl⟩ [1, 0] [] rfl rfl rfl rfl (by decide) rfl (Nat.le_of_ble_eq_true rfl) ⟨Nat.le_of_ble_eq_true rfl, Nat.le_of_ble_eq_true rfl⟩ (kV fun w1 hv5 => ?_)
  obtain rfl := hv5
  refine gi_pick [1, 0] (w' := [cO rd 7 [.ref ow, vi fr, vi (if u < 0 then 0 else 1), .ref o], cO q0 8 [vi (fr + 6 * 0), vi (if sbI B fr u 0 < 0 then 0 else 1), vi (levI B fr u (6 * 0)), vi (runI (shB B fr) (6 * 0)), .ref rd]]) rfl rfl ?_
  refine gi_pick [0, 1] (w' := [cO rd 7 [.ref ow, vi fr, vi (if u < 0 then 0 else 1), .ref o], cO q0 8 [vi (fr + 6 * 0), vi (if sbI B fr u 0 < 0 then 0 else 1), vi (levI B fr u (6 * 0)), vi (runI (shB B fr) (6 * 0)), .ref rd]]) rfl rfl ?_
  exact gi_areturn C (Or.inl ⟨_, rfl⟩) dX7_iterator_8 (Nat.le_of_ble_eq_true rfl) (Nat.le_of_ble_eq_true rfl) (Or.inr ⟨_, rfl⟩) ⟨_, rfl, rfl⟩
theorem hdX8_hasNext : yX8_hasNext.cls ≠ "java/lang/invoke/MethodHandle" ∧ yX8_hasNext.cls ≠ "java/lang/invoke/VarHandle" ∧ (parseMethodDescriptor yX8_hasNext.desc).map (fun d => d.parameters.length) = some 0 := by decide +kernel
abbrev rmX8_hasNext : Room := { frames := 2, cells := 0, slots := 0, locals := 33 }
set_option maxHeartbeats 4000000 in
set_option maxRecDepth 100000 in
/-- EvenWords$Read$1.hasNext()Z -/
theorem mX8_hasNext {g : GG} (hg : OKG g) (it : Nat) (rd : Nat) (ow : Nat) (fr : Int) (fw : Nat → Int) (rw : Nat → Nat) (o : Nat) (B : Int → Int) (u : Int) (p : Int) (at1 : Int) (ab1 : Int) (lv1 : Int) (rn1 : Int) (ab : Int) (hn : 0 ≤ fw 0 ∧ fw 0 ≤ 32) (ha : 0 ≤ at1 ∧ at1 < 1000) : Con g yX8_hasNext cX8_hasNext 1 (some .boolean) rmX8_hasNext [.ref it] [cO it 8 [vi at1, vi ab1, vi lv1, vi rn1, .ref rd], cO rd 7 [.ref ow, vi fr, vi ab, .ref o], wO ow fw rw o] (pI fun r_ w => r_ = (bI (at1 + 6 ≤ 6 * fw 0)) ∧ w = [cO it 8 [vi at1, vi ab1, vi lv1, vi rn1, .ref rd], cO rd 7 [.ref ow, vi fr, vi ab, .ref o], wO ow fw rw o]) := by
  refine con_of_go hg (by decide +kernel) (Nat.le_of_ble_eq_true rfl) ?_
  intro x C
  refine gi_lv (lv' := [(0, .ref it)]) [0] rfl ?_
  refine gi_aload_n C dX8_hasNext_0 0 rfl ?_
  refine gi_get (v := vi at1) C in_X8 dX8_hasNext_1 0 q1246 0 rfl rfl (by decide) (fun _ h => h) rfl ?_
  refine gi_bipush C dX8_hasNext_4 (by decide +kernel) ?_
  refine gi_iadd C dX8_hasNext_6 ?_
  refine gi_aload_n C dX8_hasNext_7 0 rfl ?_
  refine gi_get (v := .ref rd) C in_X8 dX8_hasNext_8 4 q1250 0 rfl rfl (by decide) (fun _ h => h) rfl ?_
  refine gi_getN (v := .ref ow) C in_X7 dX8_hasNext_11 0 q1219 1 rfl rfl (by decide) (fun _ h => h) rfl ?_
  refine gi_runV (wr := [cO it 8 [vi at1, vi ab1, vi lv1, vi rn1, .ref rd], cO rd 7 [.ref ow, vi fr, vi ab, .ref o]]) (rest := [vi (at1 + 6)]) C (mX1_many C.ok ow fw rw o) dX8_hasNext_14 q1128 q397 q398 q56 q399 hdX1_many ⟨Nat.le_of_ble_eq_true rfl, Nat.le_of_ble_eq_true rfl⟩ 2 rfl rfl [2] [0, 1] rfl rfl rfl rfl (by decide) rfl (Nat.le_of_ble_eq_true rfl) ⟨Nat.le_of_ble_eq_true rfl, Nat.le_of_ble_eq_true rfl⟩ (kI fun r_14 w1 hv14 => ?_)
  obtain ⟨hr_14, rfl⟩ := hv14
  refine gi_pick [0, 1, 2] (w' := [cO it 8 [vi at1, vi ab1, vi lv1, vi rn1, .ref rd], cO rd 7 [.ref ow, vi fr, vi ab, .ref o], wO ow fw rw o]) rfl rfl ?_
  refine gi_top (b := (6 * fw 0)) hr_14 ?_
  refine gi_icmp_gt (tgt := 24) C dX8_hasNext_17 (by decide) (by omega) (by omega) (fun h17 => ?_) (fun h17 => ?_)
  · skip
    refine gi_iconst C dX8_hasNext_24 ?_
    refine gi_pick [0, 1, 2] (w' := [cO it 8 [vi at1, vi ab1, vi lv1, vi rn1, .ref rd], cO rd 7 [.ref ow, vi fr, vi ab, .ref o], wO ow fw rw o]) rfl rfl ?_
    exact gi_zreturn C dX8_hasNext_25 (Nat.le_of_ble_eq_true rfl) (Nat.le_of_ble_eq_true rfl) (by omega) ⟨_, rfl, (by first | exact (bI_t (by omega)).symm | exact (bI_f (by omega)).symm), rfl⟩
  · skip
    refine gi_iconst C dX8_hasNext_20 ?_
    refine gi_goto (tgt := 25) C dX8_hasNext_21 (by decide) ?_
    refine gi_pick [0, 1, 2] (w' := [cO it 8 [vi at1, vi ab1, vi lv1, vi rn1, .ref rd], cO rd 7 [.ref ow, vi fr, vi ab, .ref o], wO ow fw rw o]) rfl rfl ?_
    exact gi_zreturn C dX8_hasNext_25 (Nat.le_of_ble_eq_true rfl) (Nat.le_of_ble_eq_true rfl) (by omega) ⟨_, rfl, (by first | exact (bI_t (by omega)).symm | exact (bI_f (by omega)).symm), rfl⟩
theorem hdX8_next_2 : yX8_next_2.cls ≠ "java/lang/invoke/MethodHandle" ∧ yX8_next_2.cls ≠ "java/lang/invoke/VarHandle" ∧ (parseMethodDescriptor yX8_next_2.desc).map (fun d => d.parameters.length) = some 0 := by decide +kernel
abbrev rmX8_next_2 : Room := { frames := 4, cells := 1, slots := 6, locals := 80 }
set_option maxHeartbeats 4000000 in
set_option maxRecDepth 100000 in
/-- EvenWords$Read$1.next()LEvenWords$Piece; -/
theorem mX8_next_2 {g : GG} (hg : OKG g) (it : Nat) (rd : Nat) (ow : Nat) (fr : Int) (fw : Nat → Int) (rw : Nat → Nat) (o : Nat) (B : Int → Int) (u : Int) (p : Int) (hn : 0 ≤ fw 0 ∧ fw 0 ≤ 32) (hB : ∀ z9 : Int, 0 ≤ z9 → z9 < 192 → (B z9 = 0 ∨ B z9 = 1)) (hfr : 0 ≤ fr ∧ fr ≤ 5) (hu : u = 1 ∨ u = -1) (hp : 0 ≤ p ∧ fr + 6 * p + 6 ≤ 6 * fw 0) : Con g yX8_next_2 cX8_next_2 7 (some (.object "EvenWords$Piece")) rmX8_next_2 [.ref it] [cO it 8 [vi (fr + 6 * p), vi (if sbI B fr u p < 0 then 0 else 1), vi (levI B fr u (6 * p)), vi (runI (shB B fr) (6 * p)), .ref rd], cO rd 7 [.ref ow, vi fr, vi (if u < 0 then 0 else 1), .ref o], wO ow fw rw o, cZ g (rw 2) 192 B] (pR fun q w => w = [cO it 8 [vi (fr + 6 * (p + 1)), vi (if sbI B fr u (p + 1) < 0 then 0 else 1), vi (levI B fr u (6 * (p + 1))), vi (runI (shB B fr) (6 * (p + 1))), .ref rd], cO rd 7 [.ref ow, vi fr, vi (if u < 0 then 0 else 1), .ref o], wO ow fw rw o, cZ g (rw 2) 192 B, cO q 6 [vi (wordP B fr p), vi (if sbI B fr u p < 0 then 0 else 1), vi (if sbI B fr u (p + 1) < 0 then 0 else 1), vi (mqI B fr p 6), vi (hiI B fr u p 6), vi (loI B fr u p 6)]]) := by
  refine con_of_go hg (by decide +kernel) (Nat.le_of_ble_eq_true rfl) ?_
  intro x C
  have hlv := fun (j : Int) (h : 0 ≤ j) => levI_b B fr u h
  have hrb := fun (j : Int) (h : 0 ≤ j) => runI_b (shB B fr) h
  have hwb := wdI_b (B := B) (s := fr + 6 * p) (fun j h0 h1 => by have := hB (fr + 6 * p + j) (by omega) (by omega); omega)
  refine gi_lv (lv' := [(0, .ref it)]) [0] rfl ?_
  refine gi_iconst C dX8_next_2_0 ?_
  refine gi_istore_n (lv' := [(1, vi 0), (0, .ref it)]) C dX8_next_2_1 (by decide) rfl ?_
  refine gi_iconst C dX8_next_2_2 ?_
  refine gi_istore_n (lv' := [(2, vi 0), (1, vi 0), (0, .ref it)]) C dX8_next_2_3 (by decide) rfl ?_
  refine gi_aload_n C dX8_next_2_4 2 rfl ?_
  refine gi_get (v := vi (levI B fr u (6 * p))) C in_X8 dX8_next_2_5 2 q1248 0 rfl rfl (by decide) (fun _ h => h) rfl ?_
  refine gi_istore_n (lv' := [(3, vi (levI B fr u (6 * p))), (2, vi 0), (1, vi 0), (0, .ref it)]) C dX8_next_2_8 (by decide) rfl ?_
  refine gi_aload_n C dX8_next_2_9 3 rfl ?_
  refine gi_get (v := vi (levI B fr u (6 * p))) C in_X8 dX8_next_2_10 2 q1248 0 rfl rfl (by decide) (fun _ h => h) rfl ?_
  refine gi_istore (lv' := [(4, vi (levI B fr u (6 * p))), (3, vi (levI B fr u (6 * p))), (2, vi 0), (1, vi 0), (0, .ref it)]) C dX8_next_2_13 (by decide) rfl ?_
  refine gi_iconst C dX8_next_2_15 ?_
  refine gi_extO (w' := [cO it 8 [vi (fr + 6 * p + 0), vi (if sbI B fr u p < 0 then 0 else 1), vi (levI B fr u (6 * p + 0)), vi (runI (shB B fr) (6 * p + 0)), .ref rd], cO rd 7 [.ref ow, vi fr, vi (if u < 0 then 0 else 1), .ref o], wO ow fw rw o, cZ g (rw 2) 192 B]) 0 rfl (by rw [Int.add_zero, Int.add_zero]) rfl ?_
  refine gi_istore (lv' := [(5, vi 0), (4, vi (levI B fr u (6 * p))), (3, vi (levI B fr u (6 * p))), (2, vi 0), (1, vi 0), (0, .ref it)]) C dX8_next_2_16 (by decide) rfl ?_
  have L18 : ∀ (q_ : Nat) (b : Int) (w : Int) (m : Int) (h : Int) (l : Int) (hb : 0 ≤ b ∧ b ≤ 6) (hw : w = wdI B (fr + 6 * p) b) (hm : m = mqI B fr p b) (hh : h = hiI B fr u p b) (hl : l = loI B fr u p b) (hq_ : (6 - b).toNat < q_), Go g x 7 rmX8_next_2 0 0 18 [(5, vi b), (1, vi w), (2, vi m), (3, vi h), (4, vi l), (0, .ref it)] [] [cO it 8 [vi (fr + 6 * p + b), vi (if sbI B fr u p < 0 then 0 else 1), vi (levI B fr u (6 * p + b)), vi (runI (shB B fr) (6 * p + b)), .ref rd], cO rd 7 [.ref ow, vi fr, vi (if u < 0 then 0 else 1), .ref o], wO ow fw rw o, cZ g (rw 2) 192 B] := by
    intro q_
    induction q_ with
    | zero => intro b w m h l hb hw hm hh hl hq_; exact absurd hq_ (Nat.not_lt_zero _)
    | succ q_ ih18 =>
      intro b w m h l hb hw hm hh hl hq_
      have hlb := hlv (6 * p + b) (by omega)
      have hrr := hrb (6 * p + b) (by omega)
      have hmb := mqI_b B fr hp.1 hb.1
      have hhb := hl_b B fr u hp.1 hb.1
      refine gi_iload C dX8_next_2_18 0 rfl ?_
      refine gi_bipush C dX8_next_2_20 (by decide +kernel) ?_
      refine gi_icmp_ge (tgt := 195) C dX8_next_2_22 (by decide) (by omega) (by omega) (fun h22 => ?_) (fun h22 => ?_)
      · skip
        obtain rfl : b = 6 := by omega
        subst hw
        subst hm
        subst hh
        subst hl
        have hw6 := hwb 6 (by omega) (by omega)
        have hmb := mqI_b B fr hp.1 (show (0 : Int) ≤ 6 by decide)
        have hhb := hl_b B fr u hp.1 (show (0 : Int) ≤ 6 by decide)
        refine gi_new (c := 6) (N := 6) (fs := [vi 0, vi 0, vi 0, vi 0, vi 0, vi 0]) C in_X6 tyX6 tyX6_ok dX8_next_2_195 q1152 q1153 q84 rfl (newfsX6) (Nat.le_of_ble_eq_true rfl) (Nat.le_of_ble_eq_true rfl) (fun q195 => ?_)
        refine gi_ws (w' := [cO it 8 [vi (fr + 6 * p + 6), vi (if sbI B fr u p < 0 then 0 else 1), vi (levI B fr u (6 * p + 6)), vi (runI (shB B fr) (6 * p + 6)), .ref rd], cO rd 7 [.ref ow, vi fr, vi (if u < 0 then 0 else 1), .ref o], wO ow fw rw o, cZ g (rw 2) 192 B, cO q195 6 [vi 0, vi 0, vi 0, vi 0, vi 0, vi 0]]) rfl ?_
        refine gi_dup C dX8_next_2_198 rfl ?_
        refine gi_iload_n C dX8_next_2_199 1 rfl ?_
        refine gi_aload_n C dX8_next_2_200 5 rfl ?_
        refine gi_get (v := vi (if sbI B fr u p < 0 then 0 else 1)) C in_X8 dX8_next_2_201 1 q1247 0 rfl rfl (by decide) (fun _ h => h) rfl ?_
        refine gi_iload_n C dX8_next_2_204 2 rfl ?_
        refine gi_iload_n C dX8_next_2_205 3 rfl ?_
        refine gi_iload C dX8_next_2_206 4 rfl ?_
        refine gi_runI (wr := [cO it 8 [vi (fr + 6 * p + 6), vi (if sbI B fr u p < 0 then 0 else 1), vi (levI B fr u (6 * p + 6)), vi (runI (shB B fr) (6 * p + 6)), .ref rd], cO rd 7 [.ref ow, vi fr, vi (if u < 0 then 0 else 1), .ref o], wO ow fw rw o, cZ g (rw 2) 192 B]) (rest := [.ref q195]) C (mX6_init C.ok q195 (wdI B (fr + 6 * p) 6) (if sbI B fr u p < 0 then 0 else 1) (mqI B fr p 6) (hiI B fr u p 6) (loI B fr u p 6) (by have : (2 : Int) ^ (6 : Int).toNat = 64 := rfl; omega) (by split <;> simp)) dX8_next_2_208 q1154 q1155 q84 q1156 rfl hdX6_init ⟨Nat.le_of_ble_eq_true rfl, Nat.le_of_ble_eq_true rfl⟩ [4] [0, 1, 2, 3] rfl rfl rfl rfl (by decide) rfl (Nat.le_of_ble_eq_true rfl) ⟨Nat.le_of_ble_eq_true rfl, Nat.le_of_ble_eq_true rfl⟩ (kV fun w1 hv208 => ?_)
        obtain rfl := hv208
        refine gi_pick [0, 1, 2, 3, 4] (w' := [cO it 8 [vi (fr + 6 * p + 6), vi (if sbI B fr u p < 0 then 0 else 1), vi (levI B fr u (6 * p + 6)), vi (runI (shB B fr) (6 * p + 6)), .ref rd], cO rd 7 [.ref ow, vi fr, vi (if u < 0 then 0 else 1), .ref o], wO ow fw rw o, cZ g (rw 2) 192 B, cO q195 6 [vi (wdI B (fr + 6 * p) 6), vi (if sbI B fr u p < 0 then 0 else 1), vi (bI (3 < ones (wdI B (fr + 6 * p) 6) ∨ (ones (wdI B (fr + 6 * p) 6) = 3 ∧ (if sbI B fr u p < 0 then 0 else 1) = 1))), vi (mqI B fr p 6), vi (hiI B fr u p 6), vi (loI B fr u p 6)]]) rfl rfl ?_
        refine gi_astore (lv' := [(5, .ref q195), (1, vi (wdI B (fr + 6 * p) 6)), (2, vi (mqI B fr p 6)), (3, vi (hiI B fr u p 6)), (4, vi (loI B fr u p 6)), (0, .ref it)]) C dX8_next_2_211 (by decide) rfl ?_
        refine gi_aload_n C dX8_next_2_213 5 rfl ?_
        refine gi_aload C dX8_next_2_214 0 rfl ?_
        refine gi_getN (v := vi (bI (3 < ones (wdI B (fr + 6 * p) 6) ∨ (ones (wdI B (fr + 6 * p) 6) = 3 ∧ (if sbI B fr u p < 0 then 0 else 1) = 1)))) C in_X6 dX8_next_2_216 2 q1164 4 rfl rfl (by decide) (fun _ h => h) rfl ?_
        refine gi_put (w' := [cO it 8 [vi (fr + 6 * p + 6), vi (bI (3 < ones (wdI B (fr + 6 * p) 6) ∨ (ones (wdI B (fr + 6 * p) 6) = 3 ∧ (if sbI B fr u p < 0 then 0 else 1) = 1))), vi (levI B fr u (6 * p + 6)), vi (runI (shB B fr) (6 * p + 6)), .ref rd], cO rd 7 [.ref ow, vi fr, vi (if u < 0 then 0 else 1), .ref o], wO ow fw rw o, cZ g (rw 2) 192 B, cO q195 6 [vi (wdI B (fr + 6 * p) 6), vi (if sbI B fr u p < 0 then 0 else 1), vi (bI (3 < ones (wdI B (fr + 6 * p) 6) ∨ (ones (wdI B (fr + 6 * p) 6) = 3 ∧ (if sbI B fr u p < 0 then 0 else 1) = 1))), vi (mqI B fr p 6), vi (hiI B fr u p 6), vi (loI B fr u p 6)]]) C in_X8 tyX8 tyX8_ok nmX8 dX8_next_2_219 1 q1247 0 rfl rfl (by decide) (fun _ h => h) rfl rfl (fz (bI_01 _)) (Nat.le_of_ble_eq_true rfl) rfl ?_
        refine gi_extO (w' := [cO it 8 [vi (fr + 6 * (p + 1)), vi (if sbI B fr u (p + 1) < 0 then 0 else 1), vi (levI B fr u (6 * (p + 1))), vi (runI (shB B fr) (6 * (p + 1))), .ref rd], cO rd 7 [.ref ow, vi fr, vi (if u < 0 then 0 else 1), .ref o], wO ow fw rw o, cZ g (rw 2) 192 B, cO q195 6 [vi (wdI B (fr + 6 * p) 6), vi (if sbI B fr u p < 0 then 0 else 1), vi (bI (3 < ones (wdI B (fr + 6 * p) 6) ∨ (ones (wdI B (fr + 6 * p) 6) = 3 ∧ (if sbI B fr u p < 0 then 0 else 1) = 1))), vi (mqI B fr p 6), vi (hiI B fr u p 6), vi (loI B fr u p 6)]]) 0 rfl (by rw [← sb_ab (B := B) (fr := fr) hu hp.1, show fr + 6 * (p + 1) = fr + 6 * p + 6 by omega, show 6 * (p + 1) = 6 * p + 6 by omega]; rfl) rfl ?_
        refine gi_extO (w' := [cO it 8 [vi (fr + 6 * (p + 1)), vi (if sbI B fr u (p + 1) < 0 then 0 else 1), vi (levI B fr u (6 * (p + 1))), vi (runI (shB B fr) (6 * (p + 1))), .ref rd], cO rd 7 [.ref ow, vi fr, vi (if u < 0 then 0 else 1), .ref o], wO ow fw rw o, cZ g (rw 2) 192 B, cO q195 6 [vi (wordP B fr p), vi (if sbI B fr u p < 0 then 0 else 1), vi (if sbI B fr u (p + 1) < 0 then 0 else 1), vi (mqI B fr p 6), vi (hiI B fr u p 6), vi (loI B fr u p 6)]]) 4 rfl (by rw [← sb_ab (B := B) (fr := fr) hu hp.1]; rfl) rfl ?_
        refine gi_aload C dX8_next_2_222 0 rfl ?_
        refine gi_pick [0, 1, 2, 3, 4] (w' := [cO it 8 [vi (fr + 6 * (p + 1)), vi (if sbI B fr u (p + 1) < 0 then 0 else 1), vi (levI B fr u (6 * (p + 1))), vi (runI (shB B fr) (6 * (p + 1))), .ref rd], cO rd 7 [.ref ow, vi fr, vi (if u < 0 then 0 else 1), .ref o], wO ow fw rw o, cZ g (rw 2) 192 B, cO q195 6 [vi (wordP B fr p), vi (if sbI B fr u p < 0 then 0 else 1), vi (if sbI B fr u (p + 1) < 0 then 0 else 1), vi (mqI B fr p 6), vi (hiI B fr u p 6), vi (loI B fr u p 6)]]) rfl rfl ?_
        exact gi_areturn C (Or.inl ⟨_, rfl⟩) dX8_next_2_224 (Nat.le_of_ble_eq_true rfl) (Nat.le_of_ble_eq_true rfl) (Or.inr ⟨_, rfl⟩) ⟨_, rfl, rfl⟩
      · skip
        refine gi_aload_n C dX8_next_2_25 5 rfl ?_
        refine gi_get (v := .ref rd) C in_X8 dX8_next_2_26 4 q1250 0 rfl rfl (by decide) (fun _ h => h) rfl ?_
        refine gi_getN (v := .ref ow) C in_X7 dX8_next_2_29 0 q1219 1 rfl rfl (by decide) (fun _ h => h) rfl ?_
        refine gi_getN (v := .ref (rw 2)) C in_X1 dX8_next_2_32 2 q123 2 rfl rfl (by decide) (fun _ h => h) rfl ?_
        have hBb := hB (fr + 6 * p + b) (by omega) (by omega)
        have hwb2 := hwb b hb.1 (by omega)
        have hp2 := pow6 hb.1 (show b < 6 by omega)
        refine gi_aload_n C dX8_next_2_35 5 rfl ?_
        refine gi_get (v := vi (fr + 6 * p + b)) C in_X8 dX8_next_2_36 0 q1246 0 rfl rfl (by decide) (fun _ h => h) rfl ?_
        refine gi_zald C dX8_next_2_39 3 rfl (by decide) (by omega) ?_
        refine gi_istore (lv' := [(6, vi (B (fr + 6 * p + b))), (5, vi b), (1, vi w), (2, vi m), (3, vi h), (4, vi l), (0, .ref it)]) C dX8_next_2_40 (by decide) rfl ?_
        have L55 : ∀ (v : Int) (hv : v = B (fr + 6 * p + b)), Go g x 7 rmX8_next_2 0 0 55 [(6, vi (B (fr + 6 * p + b))), (5, vi b), (1, vi w), (2, vi m), (3, vi h), (4, vi l), (0, .ref it)] [vi v, vi (2 * w)] [cO it 8 [vi (fr + 6 * p + b), vi (if sbI B fr u p < 0 then 0 else 1), vi (levI B fr u (6 * p + b)), vi (runI (shB B fr) (6 * p + b)), .ref rd], cO rd 7 [.ref ow, vi fr, vi (if u < 0 then 0 else 1), .ref o], wO ow fw rw o, cZ g (rw 2) 192 B] := by
          intro v hv
          refine gi_iadd C dX8_next_2_55 ?_
          refine gi_top (b := ((2 * w) + v)) (rfl) ?_
          refine gi_istore_n (lv' := [(1, vi ((2 * w) + v)), (6, vi (B (fr + 6 * p + b))), (5, vi b), (2, vi m), (3, vi h), (4, vi l), (0, .ref it)]) C dX8_next_2_56 (by decide) rfl ?_
          have L72 : ∀ (v2 : Int) (hv2 : v2 = if B (fr + 6 * p + b) = 1 then 1 else -1), Go g x 7 rmX8_next_2 0 0 72 [(1, vi ((2 * w) + v)), (6, vi (B (fr + 6 * p + b))), (5, vi b), (2, vi m), (3, vi h), (4, vi l), (0, .ref it)] [vi v2, vi (levI B fr u (6 * p + b)), .ref it] [cO it 8 [vi (fr + 6 * p + b), vi (if sbI B fr u p < 0 then 0 else 1), vi (levI B fr u (6 * p + b)), vi (runI (shB B fr) (6 * p + b)), .ref rd], cO rd 7 [.ref ow, vi fr, vi (if u < 0 then 0 else 1), .ref o], wO ow fw rw o, cZ g (rw 2) 192 B] := by
            intro v2 hv2
            refine gi_iadd C dX8_next_2_72 ?_
            refine gi_top (b := (levI B fr u (6 * p + (b + 1)))) (by rw [show 6 * p + (b + 1) = 6 * p + b + 1 by omega, levI_s _ _ _ (by omega), hv2, show fr + (6 * p + b) = fr + 6 * p + b by omega]) ?_
            refine gi_put (w' := [cO it 8 [vi (fr + 6 * p + b), vi (if sbI B fr u p < 0 then 0 else 1), vi (levI B fr u (6 * p + (b + 1))), vi (runI (shB B fr) (6 * p + b)), .ref rd], cO rd 7 [.ref ow, vi fr, vi (if u < 0 then 0 else 1), .ref o], wO ow fw rw o, cZ g (rw 2) 192 B]) C in_X8 tyX8 tyX8_ok nmX8 dX8_next_2_73 2 q1248 0 rfl rfl (by decide) (fun _ h => h) rfl rfl ⟨rfl, rfl⟩ (Nat.le_of_ble_eq_true rfl) rfl ?_
            have L123 : ∀ (r1 : Int) (hr1 : r1 = runI (shB B fr) (6 * p + (b + 1))), Go g x 7 rmX8_next_2 0 0 123 [(1, vi ((2 * w) + v)), (6, vi (B (fr + 6 * p + b))), (5, vi b), (2, vi m), (3, vi h), (4, vi l), (0, .ref it)] [vi r1, .ref it] [cO it 8 [vi (fr + 6 * p + b), vi (if sbI B fr u p < 0 then 0 else 1), vi (levI B fr u (6 * p + (b + 1))), vi (runI (shB B fr) (6 * p + b)), .ref rd], cO rd 7 [.ref ow, vi fr, vi (if u < 0 then 0 else 1), .ref o], wO ow fw rw o, cZ g (rw 2) 192 B] := by
              intro r1 hr1
              subst hr1
              have hlb2 := hlv (6 * p + (b + 1)) (by omega)
              have hrr2 := hrb (6 * p + (b + 1)) (by omega)
              refine gi_put (w' := [cO it 8 [vi (fr + 6 * p + b), vi (if sbI B fr u p < 0 then 0 else 1), vi (levI B fr u (6 * p + (b + 1))), vi (runI (shB B fr) (6 * p + (b + 1))), .ref rd], cO rd 7 [.ref ow, vi fr, vi (if u < 0 then 0 else 1), .ref o], wO ow fw rw o, cZ g (rw 2) 192 B]) C in_X8 tyX8 tyX8_ok nmX8 dX8_next_2_123 3 q1249 0 rfl rfl (by decide) (fun _ h => h) rfl rfl ⟨rfl, rfl⟩ (Nat.le_of_ble_eq_true rfl) rfl ?_
              refine gi_iload_n C dX8_next_2_126 3 rfl ?_
              refine gi_aload_n C dX8_next_2_127 6 rfl ?_
              refine gi_get (v := vi (runI (shB B fr) (6 * p + (b + 1)))) C in_X8 dX8_next_2_128 3 q1249 0 rfl rfl (by decide) (fun _ h => h) rfl ?_
              refine gi_max C dX8_next_2_131 q1148 q1149 q59 q1150 (by omega) (by omega) (Nat.le_of_ble_eq_true rfl) (Nat.le_of_ble_eq_true rfl) (Nat.le_of_ble_eq_true rfl) (Nat.le_of_ble_eq_true rfl) ?_
              refine gi_istore_n (lv' := [(2, vi (if m < (runI (shB B fr) (6 * p + (b + 1))) then (runI (shB B fr) (6 * p + (b + 1))) else m)), (1, vi ((2 * w) + v)), (6, vi (B (fr + 6 * p + b))), (5, vi b), (3, vi h), (4, vi l), (0, .ref it)]) C dX8_next_2_134 (by decide) rfl ?_
              have L155 : ∀ (h2 : Int) (hh2 : h2 = hiI B fr u p (b + 1)), Go g x 7 rmX8_next_2 0 0 155 [(2, vi (if m < (runI (shB B fr) (6 * p + (b + 1))) then (runI (shB B fr) (6 * p + (b + 1))) else m)), (1, vi ((2 * w) + v)), (6, vi (B (fr + 6 * p + b))), (5, vi b), (3, vi h), (4, vi l), (0, .ref it)] [vi h2] [cO it 8 [vi (fr + 6 * p + b), vi (if sbI B fr u p < 0 then 0 else 1), vi (levI B fr u (6 * p + (b + 1))), vi (runI (shB B fr) (6 * p + (b + 1))), .ref rd], cO rd 7 [.ref ow, vi fr, vi (if u < 0 then 0 else 1), .ref o], wO ow fw rw o, cZ g (rw 2) 192 B] := by
                intro h2 hh2
                refine gi_istore_n (lv' := [(3, vi h2), (2, vi (if m < (runI (shB B fr) (6 * p + (b + 1))) then (runI (shB B fr) (6 * p + (b + 1))) else m)), (1, vi ((2 * w) + v)), (6, vi (B (fr + 6 * p + b))), (5, vi b), (4, vi l), (0, .ref it)]) C dX8_next_2_155 (by decide) rfl ?_
                have L177 : ∀ (l2 : Int) (hl2 : l2 = loI B fr u p (b + 1)), Go g x 7 rmX8_next_2 0 0 177 [(3, vi h2), (2, vi (if m < (runI (shB B fr) (6 * p + (b + 1))) then (runI (shB B fr) (6 * p + (b + 1))) else m)), (1, vi ((2 * w) + v)), (6, vi (B (fr + 6 * p + b))), (5, vi b), (4, vi l), (0, .ref it)] [vi l2] [cO it 8 [vi (fr + 6 * p + b), vi (if sbI B fr u p < 0 then 0 else 1), vi (levI B fr u (6 * p + (b + 1))), vi (runI (shB B fr) (6 * p + (b + 1))), .ref rd], cO rd 7 [.ref ow, vi fr, vi (if u < 0 then 0 else 1), .ref o], wO ow fw rw o, cZ g (rw 2) 192 B] := by
                  intro l2 hl2
                  refine gi_istore (lv' := [(4, vi l2), (3, vi h2), (2, vi (if m < (runI (shB B fr) (6 * p + (b + 1))) then (runI (shB B fr) (6 * p + (b + 1))) else m)), (1, vi ((2 * w) + v)), (6, vi (B (fr + 6 * p + b))), (5, vi b), (0, .ref it)]) C dX8_next_2_177 (by decide) rfl ?_
                  refine gi_aload_n C dX8_next_2_179 6 rfl ?_
                  refine gi_dup C dX8_next_2_180 rfl ?_
                  refine gi_get (v := vi (fr + 6 * p + b)) C in_X8 dX8_next_2_181 0 q1246 0 rfl rfl (by decide) (fun _ h => h) rfl ?_
                  refine gi_iconst C dX8_next_2_184 ?_
                  refine gi_iadd C dX8_next_2_185 ?_
                  refine gi_top (b := (fr + 6 * p + (b + 1))) (by omega) ?_
                  refine gi_put (w' := [cO it 8 [vi (fr + 6 * p + (b + 1)), vi (if sbI B fr u p < 0 then 0 else 1), vi (levI B fr u (6 * p + (b + 1))), vi (runI (shB B fr) (6 * p + (b + 1))), .ref rd], cO rd 7 [.ref ow, vi fr, vi (if u < 0 then 0 else 1), .ref o], wO ow fw rw o, cZ g (rw 2) 192 B]) C in_X8 tyX8 tyX8_ok nmX8 dX8_next_2_186 0 q1246 0 rfl rfl (by decide) (fun _ h => h) rfl rfl ⟨rfl, rfl⟩ (Nat.le_of_ble_eq_true rfl) rfl ?_
                  refine gi_iinc (lv' := [(5, vi (b + 1)), (4, vi l2), (3, vi h2), (2, vi (if m < (runI (shB B fr) (6 * p + (b + 1))) then (runI (shB B fr) (6 * p + (b + 1))) else m)), (1, vi ((2 * w) + v)), (6, vi (B (fr + 6 * p + b))), (0, .ref it)]) C dX8_next_2_189 5 rfl (by decide) rfl ?_
                  refine gi_goto (tgt := 18) C dX8_next_2_192 (by decide) ?_
                  exact gi_to [0, 4, 3, 2, 1, 6] [0, 1, 2, 3] rfl rfl rfl (ih18 (b + 1) ((2 * w) + v) (if m < (runI (shB B fr) (6 * p + (b + 1))) then (runI (shB B fr) (6 * p + (b + 1))) else m) h2 l2 (by omega) (by rw [wdI_s _ _ hb.1, ← hw, hv]) (by rw [mqI_s _ _ _ hb.1, ← hm, show 6 * p + b + 1 = 6 * p + (b + 1) by omega]) (hh2) (hl2) (by omega))
                refine gi_iload C dX8_next_2_156 4 rfl ?_
                refine gi_if_ne (tgt := 168) C dX8_next_2_158 (by decide) (by omega) (fun h158 => ?_) (fun h158 => ?_)
                · skip
                  refine gi_iload C dX8_next_2_168 5 rfl ?_
                  refine gi_aload_n C dX8_next_2_170 6 rfl ?_
                  refine gi_get (v := vi (levI B fr u (6 * p + (b + 1)))) C in_X8 dX8_next_2_171 2 q1248 0 rfl rfl (by decide) (fun _ h => h) rfl ?_
                  refine gi_min C dX8_next_2_174 q1151 q281 q59 q282 (by omega) (by omega) (Nat.le_of_ble_eq_true rfl) (Nat.le_of_ble_eq_true rfl) (Nat.le_of_ble_eq_true rfl) (Nat.le_of_ble_eq_true rfl) ?_
                  exact gi_to [0, 1, 2, 3, 4, 5, 6] [0, 1, 2, 3] rfl rfl rfl (L177 (if (levI B fr u (6 * p + (b + 1))) < l then (levI B fr u (6 * p + (b + 1))) else l) (by rw [loI_s _ _ _ _ hb.1, ← hl, show 6 * p + b + 1 = 6 * p + (b + 1) by omega]; first | rw [if_pos (show b = 0 by omega)] | rw [if_neg (show ¬ b = 0 by omega)]))
                · skip
                  refine gi_aload_n C dX8_next_2_161 6 rfl ?_
                  refine gi_get (v := vi (levI B fr u (6 * p + (b + 1)))) C in_X8 dX8_next_2_162 2 q1248 0 rfl rfl (by decide) (fun _ h => h) rfl ?_
                  refine gi_goto (tgt := 177) C dX8_next_2_165 (by decide) ?_
                  exact gi_to [0, 1, 2, 3, 4, 5, 6] [0, 1, 2, 3] rfl rfl rfl (L177 (levI B fr u (6 * p + (b + 1))) (by rw [loI_s _ _ _ _ hb.1, ← hl, show 6 * p + b + 1 = 6 * p + (b + 1) by omega]; first | rw [if_pos (show b = 0 by omega)] | rw [if_neg (show ¬ b = 0 by omega)]))
              refine gi_iload C dX8_next_2_135 3 rfl ?_
              refine gi_if_ne (tgt := 147) C dX8_next_2_137 (by decide) (by omega) (fun h137 => ?_) (fun h137 => ?_)
              · skip
                refine gi_iload_n C dX8_next_2_147 4 rfl ?_
                refine gi_aload_n C dX8_next_2_148 6 rfl ?_
                refine gi_get (v := vi (levI B fr u (6 * p + (b + 1)))) C in_X8 dX8_next_2_149 2 q1248 0 rfl rfl (by decide) (fun _ h => h) rfl ?_
                refine gi_max C dX8_next_2_152 q1148 q1149 q59 q1150 (by omega) (by omega) (Nat.le_of_ble_eq_true rfl) (Nat.le_of_ble_eq_true rfl) (Nat.le_of_ble_eq_true rfl) (Nat.le_of_ble_eq_true rfl) ?_
                exact gi_to [0, 1, 2, 3, 4, 5, 6] [0, 1, 2, 3] rfl rfl rfl (L155 (if h < (levI B fr u (6 * p + (b + 1))) then (levI B fr u (6 * p + (b + 1))) else h) (by rw [hiI_s _ _ _ _ hb.1, ← hh, show 6 * p + b + 1 = 6 * p + (b + 1) by omega]; first | rw [if_pos (show b = 0 by omega)] | rw [if_neg (show ¬ b = 0 by omega)]))
              · skip
                refine gi_aload_n C dX8_next_2_140 6 rfl ?_
                refine gi_get (v := vi (levI B fr u (6 * p + (b + 1)))) C in_X8 dX8_next_2_141 2 q1248 0 rfl rfl (by decide) (fun _ h => h) rfl ?_
                refine gi_goto (tgt := 155) C dX8_next_2_144 (by decide) ?_
                exact gi_to [0, 1, 2, 3, 4, 5, 6] [0, 1, 2, 3] rfl rfl rfl (L155 (levI B fr u (6 * p + (b + 1))) (by rw [hiI_s _ _ _ _ hb.1, ← hh, show 6 * p + b + 1 = 6 * p + (b + 1) by omega]; first | rw [if_pos (show b = 0 by omega)] | rw [if_neg (show ¬ b = 0 by omega)]))
            refine gi_aload_n C dX8_next_2_76 6 rfl ?_
            refine gi_aload_n C dX8_next_2_77 6 rfl ?_
            refine gi_get (v := vi (fr + 6 * p + b)) C in_X8 dX8_next_2_78 0 q1246 0 rfl rfl (by decide) (fun _ h => h) rfl ?_
            refine gi_aload_n C dX8_next_2_81 6 rfl ?_
            refine gi_get (v := .ref rd) C in_X8 dX8_next_2_82 4 q1250 0 rfl rfl (by decide) (fun _ h => h) rfl ?_
            refine gi_getN (v := vi fr) C in_X7 dX8_next_2_85 1 q1220 1 rfl rfl (by decide) (fun _ h => h) rfl ?_
            refine gi_icmp_le (tgt := 122) C dX8_next_2_88 (by decide) (by omega) (by omega) (fun h88 => ?_) (fun h88 => ?_)
            · skip
              refine gi_iconst C dX8_next_2_122 ?_
              exact gi_to [0, 1, 2, 3, 4, 5, 6] [0, 1, 2, 3] rfl rfl rfl (L123 1 (by rw [show 6 * p + (b + 1) = 6 * p + b + 1 by omega, runI_s _ (by omega)]; first | rw [if_neg (fun z => h110 (by have := z.2; have e : B (fr + (6 * p + b)) = B (fr + (6 * p + b - 1)) := this; rw [show fr + (6 * p + b) = fr + 6 * p + b by omega, show fr + (6 * p + b - 1) = fr + 6 * p + b - 1 by omega] at e; exact e.symm))] | rw [if_neg (fun z => by omega)]))
            · skip
              refine gi_aload_n C dX8_next_2_91 6 rfl ?_
              refine gi_get (v := .ref rd) C in_X8 dX8_next_2_92 4 q1250 0 rfl rfl (by decide) (fun _ h => h) rfl ?_
              refine gi_getN (v := .ref ow) C in_X7 dX8_next_2_95 0 q1219 1 rfl rfl (by decide) (fun _ h => h) rfl ?_
              refine gi_getN (v := .ref (rw 2)) C in_X1 dX8_next_2_98 2 q123 2 rfl rfl (by decide) (fun _ h => h) rfl ?_
              refine gi_aload_n C dX8_next_2_101 6 rfl ?_
              refine gi_get (v := vi (fr + 6 * p + b)) C in_X8 dX8_next_2_102 0 q1246 0 rfl rfl (by decide) (fun _ h => h) rfl ?_
              have hBc := hB (fr + 6 * p + b - 1) (by omega) (by omega)
              refine gi_iconst C dX8_next_2_105 ?_
              refine gi_isub C dX8_next_2_106 ?_
              refine gi_zald C dX8_next_2_107 3 rfl (by decide) (by omega) ?_
              refine gi_iload C dX8_next_2_108 1 rfl ?_
              refine gi_icmp_ne (tgt := 122) C dX8_next_2_110 (by decide) (by omega) (by omega) (fun h110 => ?_) (fun h110 => ?_)
              · skip
                refine gi_iconst C dX8_next_2_122 ?_
                exact gi_to [0, 1, 2, 3, 4, 5, 6] [0, 1, 2, 3] rfl rfl rfl (L123 1 (by rw [show 6 * p + (b + 1) = 6 * p + b + 1 by omega, runI_s _ (by omega)]; first | rw [if_neg (fun z => h110 (by have := z.2; have e : B (fr + (6 * p + b)) = B (fr + (6 * p + b - 1)) := this; rw [show fr + (6 * p + b) = fr + 6 * p + b by omega, show fr + (6 * p + b - 1) = fr + 6 * p + b - 1 by omega] at e; exact e.symm))] | rw [if_neg (fun z => by omega)]))
              · skip
                refine gi_aload_n C dX8_next_2_113 6 rfl ?_
                refine gi_get (v := vi (runI (shB B fr) (6 * p + b))) C in_X8 dX8_next_2_114 3 q1249 0 rfl rfl (by decide) (fun _ h => h) rfl ?_
                refine gi_iconst C dX8_next_2_117 ?_
                refine gi_iadd C dX8_next_2_118 ?_
                refine gi_goto (tgt := 123) C dX8_next_2_119 (by decide) ?_
                exact gi_to [0, 1, 2, 3, 4, 5, 6] [0, 1, 2, 3] rfl rfl rfl (L123 ((runI (shB B fr) (6 * p + b)) + 1) (by rw [show 6 * p + (b + 1) = 6 * p + b + 1 by omega, runI_s _ (by omega), if_pos ⟨by omega, by show B (fr + (6 * p + b)) = B (fr + (6 * p + b - 1)); rw [show fr + (6 * p + b) = fr + 6 * p + b by omega, show fr + (6 * p + b - 1) = fr + 6 * p + b - 1 by omega]; exact h110.symm⟩]))
          refine gi_aload_n C dX8_next_2_57 6 rfl ?_
          refine gi_dup C dX8_next_2_58 rfl ?_
          refine gi_get (v := vi (levI B fr u (6 * p + b))) C in_X8 dX8_next_2_59 2 q1248 0 rfl rfl (by decide) (fun _ h => h) rfl ?_
          refine gi_iload C dX8_next_2_62 1 rfl ?_
          refine gi_if_eq (tgt := 71) C dX8_next_2_64 (by decide) (by omega) (fun h64 => ?_) (fun h64 => ?_)
          · skip
            refine gi_iconst C dX8_next_2_71 ?_
            exact gi_to [0, 1, 2, 3, 4, 5, 6] [0, 1, 2, 3] rfl rfl rfl (L72 (-1) (by first | rw [if_pos (by omega)] | rw [if_neg (by omega)]))
          · skip
            refine gi_iconst C dX8_next_2_67 ?_
            refine gi_goto (tgt := 72) C dX8_next_2_68 (by decide) ?_
            exact gi_to [0, 1, 2, 3, 4, 5, 6] [0, 1, 2, 3] rfl rfl rfl (L72 1 (by first | rw [if_pos (by omega)] | rw [if_neg (by omega)]))
        refine gi_iconst C dX8_next_2_42 ?_
        refine gi_iload_n C dX8_next_2_43 2 rfl ?_
        refine gi_imul C dX8_next_2_44 ?_
        refine gi_iload C dX8_next_2_45 0 rfl ?_
        refine gi_if_eq (tgt := 54) C dX8_next_2_47 (by decide) (by omega) (fun h47 => ?_) (fun h47 => ?_)
        · skip
          refine gi_iconst C dX8_next_2_54 ?_
          exact gi_to [0, 1, 2, 3, 4, 5, 6] [0, 1, 2, 3] rfl rfl rfl (L55 0 (by omega))
        · skip
          refine gi_iconst C dX8_next_2_50 ?_
          refine gi_goto (tgt := 55) C dX8_next_2_51 (by decide) ?_
          exact gi_to [0, 1, 2, 3, 4, 5, 6] [0, 1, 2, 3] rfl rfl rfl (L55 1 (by omega))
  exact gi_to [0, 4, 3, 2, 1, 5] [0, 1, 2, 3] rfl rfl rfl (L18 _ 0 0 0 (levI B fr u (6 * p)) (levI B fr u (6 * p)) (by omega) (rfl) (rfl) (rfl) (rfl) (Nat.lt_succ_self _))
theorem hdX8_next : yX8_next.cls ≠ "java/lang/invoke/MethodHandle" ∧ yX8_next.cls ≠ "java/lang/invoke/VarHandle" ∧ (parseMethodDescriptor yX8_next.desc).map (fun d => d.parameters.length) = some 0 := by decide +kernel
abbrev rmX8_next : Room := { frames := 5, cells := 1, slots := 6, locals := 106 }
set_option maxHeartbeats 4000000 in
set_option maxRecDepth 100000 in
/-- EvenWords$Read$1.next()Ljava/lang/Object; -/
theorem mX8_next {g : GG} (hg : OKG g) (it : Nat) (rd : Nat) (ow : Nat) (fr : Int) (fw : Nat → Int) (rw : Nat → Nat) (o : Nat) (B : Int → Int) (u : Int) (p : Int) (hn : 0 ≤ fw 0 ∧ fw 0 ≤ 32) (hB : ∀ z9 : Int, 0 ≤ z9 → z9 < 192 → (B z9 = 0 ∨ B z9 = 1)) (hfr : 0 ≤ fr ∧ fr ≤ 5) (hu : u = 1 ∨ u = -1) (hp : 0 ≤ p ∧ fr + 6 * p + 6 ≤ 6 * fw 0) : Con g yX8_next cX8_next 1 (some (.object "java/lang/Object")) rmX8_next [.ref it] [cO it 8 [vi (fr + 6 * p), vi (if sbI B fr u p < 0 then 0 else 1), vi (levI B fr u (6 * p)), vi (runI (shB B fr) (6 * p)), .ref rd], cO rd 7 [.ref ow, vi fr, vi (if u < 0 then 0 else 1), .ref o], wO ow fw rw o, cZ g (rw 2) 192 B] (pR fun q w => w = [cO it 8 [vi (fr + 6 * (p + 1)), vi (if sbI B fr u (p + 1) < 0 then 0 else 1), vi (levI B fr u (6 * (p + 1))), vi (runI (shB B fr) (6 * (p + 1))), .ref rd], cO rd 7 [.ref ow, vi fr, vi (if u < 0 then 0 else 1), .ref o], wO ow fw rw o, cZ g (rw 2) 192 B, cO q 6 [vi (wordP B fr p), vi (if sbI B fr u p < 0 then 0 else 1), vi (if sbI B fr u (p + 1) < 0 then 0 else 1), vi (mqI B fr p 6), vi (hiI B fr u p 6), vi (loI B fr u p 6)]]) := by
  refine con_of_go hg (by decide +kernel) (Nat.le_of_ble_eq_true rfl) ?_
  intro x C
  refine gi_lv (lv' := [(0, .ref it)]) [0] rfl ?_
  refine gi_aload_n C dX8_next_0 0 rfl ?_
  refine gi_runV (wr := []) (rest := []) C (mX8_next_2 C.ok it rd ow fr fw rw o B u p (show 0 ≤ fw 0 ∧ fw 0 ≤ 32 from (hn)) (show ∀ z9 : Int, 0 ≤ z9 → z9 < 192 → (B z9 = 0 ∨ B z9 = 1) from (hB)) (show 0 ≤ fr ∧ fr ≤ 5 from (by omega)) (show u = 1 ∨ u = -1 from (by omega)) (show 0 ≤ p ∧ fr + 6 * p + 6 ≤ 6 * fw 0 from (by omega))) dX8_next_1 q1144 q1145 q1146 q86 q1147 hdX8_next_2 ⟨Nat.le_of_ble_eq_true rfl, Nat.le_of_ble_eq_true rfl⟩ 0 rfl rfl [0, 1, 2, 3] [] rfl rfl rfl rfl (by decide) rfl (Nat.le_of_ble_eq_true rfl) ⟨Nat.le_of_ble_eq_true rfl, Nat.le_of_ble_eq_true rfl⟩ (kR fun r_1 w1 hv1 => ?_)
  obtain rfl := hv1
  refine gi_pick [0, 1, 2, 3, 4] (w' := [cO it 8 [vi (fr + 6 * (p + 1)), vi (if sbI B fr u (p + 1) < 0 then 0 else 1), vi (levI B fr u (6 * (p + 1))), vi (runI (shB B fr) (6 * (p + 1))), .ref rd], cO rd 7 [.ref ow, vi fr, vi (if u < 0 then 0 else 1), .ref o], wO ow fw rw o, cZ g (rw 2) 192 B, cO r_1 6 [vi (wordP B fr p), vi (if sbI B fr u p < 0 then 0 else 1), vi (if sbI B fr u (p + 1) < 0 then 0 else 1), vi (mqI B fr p 6), vi (hiI B fr u p 6), vi (loI B fr u p 6)]]) rfl rfl ?_
  refine gi_wide (k' := 1) (n' := 6) (Nat.le_of_eq (by first | rfl | (dsimp only; omega))) (Nat.le_of_eq (by first | rfl | (dsimp only; omega))) ?_
  refine gi_pick [0, 1, 2, 3, 4] (w' := [cO it 8 [vi (fr + 6 * (p + 1)), vi (if sbI B fr u (p + 1) < 0 then 0 else 1), vi (levI B fr u (6 * (p + 1))), vi (runI (shB B fr) (6 * (p + 1))), .ref rd], cO rd 7 [.ref ow, vi fr, vi (if u < 0 then 0 else 1), .ref o], wO ow fw rw o, cZ g (rw 2) 192 B, cO r_1 6 [vi (wordP B fr p), vi (if sbI B fr u p < 0 then 0 else 1), vi (if sbI B fr u (p + 1) < 0 then 0 else 1), vi (mqI B fr p 6), vi (hiI B fr u p 6), vi (loI B fr u p 6)]]) rfl rfl ?_
  exact gi_areturn C (Or.inl ⟨_, rfl⟩) dX8_next_4 (Nat.le_of_ble_eq_true rfl) (Nat.le_of_ble_eq_true rfl) (Or.inr ⟨_, rfl⟩) ⟨_, rfl, rfl⟩
