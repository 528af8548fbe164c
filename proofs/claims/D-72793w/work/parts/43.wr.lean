/-! WR: a wire holds a row -/
def WR (S : Int → Int) (f : Nat → Int) (Se Bi Tu Ma : Int → Int) : Prop := WS S ∧ f 0 = S 0 ∧ f 4 = dueB S ∧ sgI S (S 0) = S 1 ∧ MR S (f 6) Ma ∧ (∀ w : Int, 0 ≤ w → w < S 0 → Se w = S (4 + w)) ∧ (∀ b : Int, 0 ≤ b → b < 6 * S 0 → Bi b = S (36 + b) ∧ Tu b = tnS S b) ∧ ∀ b : Int, 0 ≤ b → b < 192 → (Bi b = 0 ∨ Bi b = 1) ∧ (Tu b = 0 ∨ Tu b = 1)
section
variable {S : Int → Int} {f : Nat → Int} {Se Bi Tu Ma : Int → Int}
theorem WR.ws (h : WR S f Se Bi Tu Ma) : WS S := h.1
theorem WR.n (h : WR S f Se Bi Tu Ma) : f 0 = S 0 ∧ 0 ≤ S 0 ∧ S 0 ≤ 32 := ⟨h.2.1, h.1.n⟩
theorem WR.a (h : WR S f Se Bi Tu Ma) : f 4 = dueB S := h.2.2.1
theorem WR.a2 (h : WR S f Se Bi Tu Ma) : (f 4 = 0 ∧ S 1 = -1) ∨ (f 4 = 1 ∧ S 1 = 1) := by
  have h1 := h.1.s1
  have h2 := h.a
  unfold dueB at h2
  rcases h1 with e | e
  · rw [e, if_neg (by decide)] at h2; exact Or.inr ⟨h2, e⟩
  · rw [e, if_pos (by decide)] at h2; exact Or.inl ⟨h2, e⟩
theorem WR.m (h : WR S f Se Bi Tu Ma) : MR S (f 6) Ma := h.2.2.2.2.1
theorem WR.c (h : WR S f Se Bi Tu Ma) : f 6 = marksN S ∧ 0 ≤ f 6 ∧ f 6 ≤ 2 := by
  refine ⟨h.m.1, ?_⟩
  rw [h.m.1]
  unfold marksN
  (repeat' split) <;> decide
theorem WR.w (h : WR S f Se Bi Tu Ma) {w : Int} (h0 : 0 ≤ w) (h1 : w < S 0) : Se w = S (4 + w) ∧ 0 ≤ S (4 + w) ∧ S (4 + w) < 34 := ⟨h.2.2.2.2.2.1 w h0 h1, h.1.w h0 h1⟩
theorem WR.b (h : WR S f Se Bi Tu Ma) {b : Int} (h0 : 0 ≤ b) (h1 : b < 6 * S 0) : Bi b = S (36 + b) := (h.2.2.2.2.2.2.1 b h0 h1).1
theorem WR.t (h : WR S f Se Bi Tu Ma) {b : Int} (h0 : 0 ≤ b) (h1 : b < 6 * S 0) : Tu b = tnS S b := (h.2.2.2.2.2.2.1 b h0 h1).2
theorem WR.z (h : WR S f Se Bi Tu Ma) {b : Int} (h0 : 0 ≤ b) (h1 : b < 192) : (Bi b = 0 ∨ Bi b = 1) ∧ (Tu b = 0 ∨ Tu b = 1) := h.2.2.2.2.2.2.2 b h0 h1
end
theorem MR.congr {S S' : Int → Int} {c : Int} {Ma : Int → Int} (h : MR S c Ma) (h2 : S' 2 = S 2) (h3 : S' 3 = S 3) : MR S' c Ma := by
  obtain ⟨a, b, d⟩ := h
  unfold MR marksN
  rw [h2, h3]
  exact ⟨a, b, d⟩
theorem sgI_congr {S S' : Int → Int} {n : Int} (h : ∀ w : Int, 0 ≤ w → w < n → S' (4 + w) = S (4 + w)) : ∀ w : Int, 0 ≤ w → w ≤ n → sgI S' w = sgI S w := by
  intro w h0 h1
  obtain ⟨k, rfl⟩ := Int.eq_ofNat_of_zero_le h0
  induction k with
  | zero => rfl
  | succ k ih =>
    have e := ih (by omega) (by omega)
    rw [show ((k + 1 : Nat) : Int) = (k : Int) + 1 from rfl, sgI_s _ (by omega), sgI_s _ (by omega)]
    unfold wdS
    rw [e, h k (by omega) (by omega)]
theorem wdS_congr {S S' : Int → Int} {n w : Int} (h : ∀ w : Int, 0 ≤ w → w < n → S' (4 + w) = S (4 + w)) (h0 : 0 ≤ w) (h1 : w < n) : wdS S' w = wdS S w := by
  unfold wdS
  rw [sgI_congr h w h0 (by omega), h w h0 h1]
theorem sbit_congr {S S' : Int → Int} {n b : Int} (h : ∀ w : Int, 0 ≤ w → w < n → S' (4 + w) = S (4 + w)) (h0 : 0 ≤ b) (h1 : b < 6 * n) : sbit S' b = sbit S b := by
  unfold sbit
  rw [wdS_congr h (by omega) (by omega)]
theorem WR_bare {f : Nat → Int} {Se Bi Tu Ma : Int → Int} (h0 : f 0 = 0) (h4 : f 4 = 0) (h6 : f 6 = 0) (hz : ∀ b : Int, 0 ≤ b → b < 192 → (Bi b = 0 ∨ Bi b = 1) ∧ (Tu b = 0 ∨ Tu b = 1)) : WR bareS f Se Bi Tu Ma := by
  have e0 : bareS 0 = 0 := rfl
  refine ⟨bareS_WS, h0, h4, rfl, ⟨h6, fun z => absurd z (by omega), fun z => absurd z (by omega)⟩, fun w a b => by omega, fun w a b => by omega, hz⟩
theorem WR_flip {S : Int → Int} {f : Nat → Int} {Se Bi Tu Ma : Int → Int} {b : Int} (h : WR S f Se Bi Tu Ma) (hb : flipsB S b) : WR (flipS S b) f Se (uF Bi b (1 - Bi b)) (uF Tu b (1 - Tu b)) Ma := by
  have hn := h.n
  have e : ∀ j : Int, j < 36 → flipS S b j = S j := fun j hj => uF_ne _ _ (by omega)
  have hw : ∀ w : Int, 0 ≤ w → w < S 0 → flipS S b (4 + w) = S (4 + w) := fun w h0 h1 => e _ (by omega)
  refine ⟨flipS_WS h.ws hb, by rw [e 0 (by omega)]; exact hn.1, ?_, ?_, h.m.congr (e 2 (by omega)) (e 3 (by omega)), ?_, ?_, ?_⟩
  · unfold dueB
    rw [e 1 (by omega)]; exact h.a
  · rw [e 0 (by omega), e 1 (by omega), sgI_congr hw _ hn.2.1 (Int.le_refl _)]
    exact h.2.2.2.1
  · intro w h0 h1
    rw [e 0 (by omega)] at h1
    rw [hw w h0 h1]
    exact (h.w h0 h1).1
  · intro c h0 h1
    rw [e 0 (by omega)] at h1
    have hsb : sbit (flipS S b) c = sbit S c := sbit_congr hw h0 h1
    have hbb := h.b h0 h1
    have htt := h.t h0 h1
    have hs := h.ws.b h0 h1
    have h01 := sbit_01 S c
    unfold tnS at htt ⊢
    rw [hsb]
    unfold flipS uF
    by_cases q : c = b
    · subst q
      rw [if_pos rfl, if_pos rfl, if_pos rfl, hbb]
      refine ⟨rfl, ?_⟩
      rw [htt]
      by_cases z : S (36 + c) = sbit S c
      · rw [bI_f (fun q => q z), bI_t (by omega)]; rfl
      · rw [bI_t z, bI_f (by omega)]; rfl
    · rw [if_neg q, if_neg (by omega), if_neg q]
      exact ⟨hbb, htt⟩
  · intro c h0 h1
    have hz := h.z h0 h1
    unfold uF
    by_cases q : c = b
    · subst q
      rw [if_pos rfl, if_pos rfl]; omega
    · rw [if_neg q, if_neg q]; exact hz
theorem WR_send {S : Int → Int} {f f1 : Nat → Int} {Se Bi Tu Ma Se1 Bi1 Tu1 Ma1 : Int → Int} {k : Int} (h : WR S f Se Bi Tu Ma) (hk : 0 ≤ k ∧ k < 34) (hn : S 0 < 32) (h0 : f1 0 = f 0 + 1) (h4 : f1 4 = bI (3 < ones (fm k (dueB S)) ∨ (ones (fm k (dueB S)) = 3 ∧ f 4 = 1))) (h6 : MR (if 30 < k then remS S (k - 31) else S) (f1 6) Ma1)
    (hS : Se1 = uF Se (f 0) k) (hB : ∀ j : Int, 0 ≤ j → j < 192 → Bi1 j = if 6 * f 0 ≤ j ∧ j < 6 * f 0 + 6 then fm k (dueB S) / 2 ^ (5 - (j - 6 * f 0)).toNat % 2 else Bi j) (hT : ∀ j : Int, 0 ≤ j → j < 192 → Tu1 j = if 6 * f 0 ≤ j ∧ j < 6 * f 0 + 6 then 0 else Tu j) : WR (sendS S k) f1 Se1 Bi1 Tu1 Ma1 := by
  have hf := h.n
  have hs1 := h.a2
  have hdb := dueB_01 S
  have hone := fm_one hk hdb
  have hw : ∀ w : Int, 0 ≤ w → w < 32 → sendS S k (4 + w) = if w = S 0 then k else S (4 + w) := fun w g0 g1 => by rw [sendS_at (by omega), preS_w k ⟨hf.2.1, hn⟩ g0 g1]
  have hwo : ∀ w : Int, 0 ≤ w → w < S 0 → sendS S k (4 + w) = S (4 + w) := fun w g0 g1 => by rw [hw w g0 (by omega), if_neg (by omega)]
  have hsg : sgI (sendS S k) (S 0) = S 1 := by rw [sgI_congr hwo _ hf.2.1 (Int.le_refl _)]; exact h.2.2.2.1
  have hwd : wdS (sendS S k) (S 0) = fm k (dueB S) := by
    unfold wdS
    rw [hsg, hw _ hf.2.1 hn, if_pos rfl]
  have e1 : sendS S k 1 = if ones (fm k (dueB S)) = 3 then S 1 else - S 1 := by rw [sendS_at (by omega), preS_1]
  have hdu : dueB S = f 4 := h.a.symm
  refine ⟨sendS_WS h.ws hk hn, by rw [sendS_0]; omega, ?_, ?_, ?_, ?_, ?_, ?_⟩
  · rw [h4]
    show _ = if sendS S k 1 < 0 then 0 else 1
    rw [e1]
    rcases hone with q | q | q
    · rw [q, if_pos rfl]
      rcases hs1 with z | z
      · rw [z.1, z.2, bI_f (by omega)]; rfl
      · rw [z.1, z.2, bI_t (by omega)]; rfl
    · rw [if_neg (show ¬ ones (fm k (dueB S)) = 3 by omega), bI_t (Or.inl (by omega)), if_neg (show ¬ (-S 1 < 0) by omega)]
    · rw [if_neg (show ¬ ones (fm k (dueB S)) = 3 by omega), bI_f (fun z => by omega), if_pos (show -S 1 < 0 by omega)]
  · rw [sendS_0, sgI_s _ hf.2.1, hwd, hsg, e1]
  · refine MR.congr h6 ?_ ?_
    · unfold sendS
      by_cases c : 30 < k
      · rw [if_pos c, if_pos c, (remS_23 _).2, (remS_23 _).2, preS_lo _ _ hf.2.1 (Or.inl rfl), preS_lo _ _ hf.2.1 (Or.inr rfl)]
      · rw [if_neg c, if_neg c, preS_lo _ _ hf.2.1 (Or.inl rfl)]
    · unfold sendS
      by_cases c : 30 < k
      · rw [if_pos c, if_pos c, (remS_23 _).1, (remS_23 _).1]
      · rw [if_neg c, if_neg c, preS_lo _ _ hf.2.1 (Or.inr rfl)]
  · intro w g0 g1
    rw [sendS_0] at g1
    rw [hw w g0 (by omega), hS]
    unfold uF
    rw [hf.1]
    by_cases q : w = S 0
    · rw [if_pos q, if_pos q]
    · rw [if_neg q, if_neg q]
      exact (h.w g0 (by omega)).1
  · intro b g0 g1
    rw [sendS_0] at g1
    have eb : sendS S k (36 + b) = if 6 * S 0 ≤ b ∧ b < 6 * S 0 + 6 then fm k (dueB S) / 2 ^ (5 - (b - 6 * S 0)).toNat % 2 else S (36 + b) := by rw [sendS_at (by omega), preS_b k ⟨hf.2.1, hn⟩ g0]
    rw [hB b g0 (by omega), hT b g0 (by omega), hf.1, eb]
    unfold tnS
    rw [eb]
    by_cases q : 6 * S 0 ≤ b ∧ b < 6 * S 0 + 6
    · rw [if_pos q, if_pos q, if_pos q]
      refine ⟨rfl, ?_⟩
      have es : sbit (sendS S k) b = fm k (dueB S) / 2 ^ (5 - (b - 6 * S 0)).toNat % 2 := by
        unfold sbit
        rw [show b / 6 = S 0 by omega, hwd, show b % 6 = b - 6 * S 0 by omega]
      rw [es, bI_f (fun z => z rfl)]
    · rw [if_neg q, if_neg q, if_neg q, h.b g0 (by omega)]
      refine ⟨rfl, ?_⟩
      rw [sbit_congr hwo g0 (by omega), h.t g0 (by omega)]
      rfl
  · intro b g0 g1
    have hz := h.z g0 g1
    rw [hB b g0 g1, hT b g0 g1]
    by_cases q : 6 * f 0 ≤ b ∧ b < 6 * f 0 + 6
    · rw [if_pos q, if_pos q]; omega
    · rw [if_neg q, if_neg q]; exact hz
/-! sums and runs of what agrees -/
theorem sumI_cg {F G : Int → Int} {n : Int} (h : ∀ j : Int, 0 ≤ j → j < n → F j = G j) : ∀ b : Int, 0 ≤ b → b ≤ n → sumI F b = sumI G b := by
  intro b h0 h1
  obtain ⟨k, rfl⟩ := Int.eq_ofNat_of_zero_le h0
  induction k with
  | zero => rfl
  | succ k ih =>
    rw [show ((k + 1 : Nat) : Int) = (k : Int) + 1 from rfl, sumI_s _ (by omega), sumI_s _ (by omega), ih (by omega) (by omega), h k (by omega) (by omega)]
theorem runI_cg {F G : Int → Int} {n : Int} (h : ∀ j : Int, 0 ≤ j → j < n → F j = G j) : ∀ b : Int, 0 ≤ b → b ≤ n → runI F b = runI G b := by
  intro b h0 h1
  obtain ⟨k, rfl⟩ := Int.eq_ofNat_of_zero_le h0
  induction k with
  | zero => rfl
  | succ k ih =>
    rw [show ((k + 1 : Nat) : Int) = (k : Int) + 1 from rfl, runI_s _ (by omega), runI_s _ (by omega), ih (by omega) (by omega), h k (by omega) (by omega)]
    by_cases e : (0 : Int) < k
    · rw [h (k - 1) (by omega) (by omega)]
    · rw [if_neg (by omega), if_neg (by omega)]
theorem mostI_cg {F G : Int → Int} {n : Int} (h : ∀ j : Int, 0 ≤ j → j < n → F j = G j) : ∀ b : Int, 0 ≤ b → b ≤ n → mostI F b = mostI G b := by
  intro b h0 h1
  obtain ⟨k, rfl⟩ := Int.eq_ofNat_of_zero_le h0
  induction k with
  | zero => rfl
  | succ k ih =>
    rw [show ((k + 1 : Nat) : Int) = (k : Int) + 1 from rfl, mostI_s _ (by omega), mostI_s _ (by omega), ih (by omega) (by omega), runI_cg h (k + 1) (by omega) (by omega)]
