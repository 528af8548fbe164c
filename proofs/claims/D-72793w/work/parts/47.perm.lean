/-! PERM: orders, prefix by prefix -/
def pcN (m : Nat) : Nat := m % 2 + m / 2 % 2 + m / 4 % 2 + m / 8 % 2 + m / 16 % 2 + m / 32 % 2
theorem or_all : ∀ m : Nat, m < 64 → ∀ k : Nat, k < 6 → (m ||| 2 ^ k) < 64 ∧ (m / 2 ^ k % 2 = 1 → pcN (m ||| 2 ^ k) = pcN m) ∧ (m / 2 ^ k % 2 ≠ 1 → pcN (m ||| 2 ^ k) = pcN m + 1) ∧ ∀ j : Nat, j < 6 → ((m ||| 2 ^ k) / 2 ^ j % 2 = 1 ↔ (m / 2 ^ j % 2 = 1 ∨ j = k)) := by decide +kernel
theorem pc_all : ∀ n : Nat, n < 7 → pcN (2 ^ n - 1) = n ∧ ∀ m : Nat, m < 64 → (∀ j : Nat, j < 6 → m / 2 ^ j % 2 = 1 → j < n) → pcN m = n → m = 2 ^ n - 1 := by decide +kernel
theorem ior_nat (m k : Nat) : ior (m : Int) (2 ^ k) = ((m ||| 2 ^ k : Nat) : Int) := by
  have e : (2 : Int) ^ k = ((2 ^ k : Nat) : Int) := by simp
  rw [e]
  rfl
theorem ior_bits {U k : Int} (hU : 0 ≤ U ∧ U < 64) (hk : 0 ≤ k ∧ k < 6) : (0 ≤ ior U (2 ^ k.toNat) ∧ ior U (2 ^ k.toNat) < 64) ∧ ∀ j : Int, 0 ≤ j → j < 6 → (ior U (2 ^ k.toNat) / 2 ^ j.toNat % 2 = 1 ↔ (U / 2 ^ j.toNat % 2 = 1 ∨ j = k)) := by
  obtain ⟨m, rfl⟩ := Int.eq_ofNat_of_zero_le hU.1
  obtain ⟨a, rfl⟩ := Int.eq_ofNat_of_zero_le hk.1
  have h := or_all m (by omega) a (by omega)
  rw [show ((a : Int)).toNat = a from rfl, ior_nat]
  refine ⟨by omega, fun j h0 h1 => ?_⟩
  obtain ⟨b, rfl⟩ := Int.eq_ofNat_of_zero_le h0
  have hb := h.2.2.2 b (by omega)
  rw [show ((b : Int)).toNat = b from rfl]
  have e : (2 : Int) ^ b = ((2 ^ b : Nat) : Int) := by simp
  rw [e]
  have e1 : (((m ||| 2 ^ a : Nat) : Int) / ((2 ^ b : Nat) : Int) % 2 = 1) ↔ ((m ||| 2 ^ a) / 2 ^ b % 2 = 1) := by
    rw [← Int.natCast_ediv]
    omega
  have e2 : ((m : Int) / ((2 ^ b : Nat) : Int) % 2 = 1) ↔ (m / 2 ^ b % 2 = 1) := by
    rw [← Int.natCast_ediv]
    omega
  rw [e1, e2, hb]
  omega
/-- digits one by one: how many differ -/
abbrev dsT (n c : Int) (t : Nat) : Prop := ∀ i : Nat, i < t → ∀ j : Nat, j < i → dgT n c (j : Int) ≠ dgT n c (i : Int)
theorem msk_nat {n c : Int} (hn : 1 ≤ n ∧ n ≤ 6) : ∀ t : Nat, ∃ m : Nat, mskN n c t = (m : Int) ∧ m < 64 ∧ (∀ j : Nat, j < 6 → (m / 2 ^ j % 2 = 1 ↔ ∃ i : Nat, i < t ∧ dgT n c (i : Int) = (j : Int))) ∧ pcN m ≤ t ∧ (dsT n c t → pcN m = t) ∧ (¬ dsT n c t → pcN m < t) := by
  intro t
  induction t with
  | zero =>
    refine ⟨0, rfl, by decide, fun j hj => ⟨fun z => ?_, fun ⟨i, h, _⟩ => absurd h (Nat.not_lt_zero _)⟩, by decide, fun _ => rfl, fun z => absurd (fun i hi => absurd hi (Nat.not_lt_zero _)) z⟩
    rw [Nat.zero_div] at z
    exact absurd z (by decide)
  | succ t ih =>
    obtain ⟨m, e, hm, hb, hle, hd, hnd⟩ := ih
    have hdg := dgT_b c t (show 0 < n by omega)
    obtain ⟨a, ha⟩ := Int.eq_ofNat_of_zero_le hdg.1
    have ha6 : a < 6 := by omega
    have h := or_all m hm a ha6
    refine ⟨m ||| 2 ^ a, ?_, h.1, fun j hj => ?_, ?_, ?_, ?_⟩
    · show ior (mskN n c t) (2 ^ (dgT n c (t : Int)).toNat) = _
      rw [e, ha]
      exact ior_nat m a
    · rw [h.2.2.2 j hj, hb j hj]
      constructor
      · rintro (⟨i, hi, e⟩ | rfl)
        · exact ⟨i, by omega, e⟩
        · exact ⟨t, by omega, ha⟩
      · rintro ⟨i, hi, e'⟩
        by_cases q : i = t
        · subst q
          right
          rw [ha] at e'
          omega
        · exact Or.inl ⟨i, by omega, e'⟩
    · by_cases q : m / 2 ^ a % 2 = 1
      · rw [h.2.1 q]; omega
      · rw [h.2.2.1 q]; omega
    · intro hds
      have hds0 : dsT n c t := fun i hi j hj => hds i (by omega) j hj
      by_cases q : m / 2 ^ a % 2 = 1
      · obtain ⟨i, hi, e⟩ := (hb a ha6).mp q
        exact absurd (e.trans ha.symm) (hds t (by omega) i hi)
      · rw [h.2.2.1 q, hd hds0]
    · intro hds
      by_cases q : m / 2 ^ a % 2 = 1
      · rw [h.2.1 q]; omega
      · rw [h.2.2.1 q]
        have : ¬ dsT n c t := fun z => hds fun i hi j hj => by
          by_cases w : i = t
          · subst w
            intro e
            exact q ((hb a ha6).mpr ⟨j, hj, e.trans ha⟩)
          · exact z i (by omega) j hj
        have := hnd this
        omega
theorem ordB_iff {n c : Int} (hn : 1 ≤ n ∧ n ≤ 6) : ordB n c ↔ dsT n c n.toNat := by
  obtain ⟨m, e, hm, hb, hle, hd, hnd⟩ := msk_nat (c := c) hn n.toNat
  have hp := pc_all n.toNat (by omega)
  have e2 : (2 : Int) ^ n.toNat - 1 = ((2 ^ n.toNat - 1 : Nat) : Int) := by
    have : 0 < 2 ^ n.toNat := Nat.two_pow_pos _
    have e3 : (2 : Int) ^ n.toNat = ((2 ^ n.toNat : Nat) : Int) := by simp
    omega
  show mskN n c n.toNat = 2 ^ n.toNat - 1 ↔ _
  rw [e, e2]
  constructor
  · intro h
    apply Classical.byContradiction
    intro z
    have := hnd z
    have h2 : m = 2 ^ n.toNat - 1 := by omega
    rw [h2, hp.1] at this
    omega
  · intro h
    have := hp.2 m hm (fun j hj z => by
      obtain ⟨i, hi, e⟩ := (hb j hj).mp z
      have := dgT_b c i (show 0 < n by omega)
      omega) (hd h)
    rw [this]
/-! codes of prefixes -/
def cdI (n : Int) (O : Int → Int) : Nat → Int
  | 0 => 0
  | p + 1 => cdI n O p * n + O (p : Int)
theorem cdI_congr {n : Int} {O O' : Int → Int} {p : Nat} (h : ∀ i : Int, 0 ≤ i → i < p → O i = O' i) : cdI n O p = cdI n O' p := by
  induction p with
  | zero => rfl
  | succ p ih =>
    unfold cdI
    rw [ih fun i h0 h1 => h i h0 (by omega), h p (by omega) (by omega)]
theorem cdI_nn {n : Int} {O : Int → Int} {p : Nat} (hn : 0 < n) (hO : ∀ i : Int, 0 ≤ i → i < p → 0 ≤ O i ∧ O i < n) : 0 ≤ cdI n O p := by
  induction p with
  | zero => exact Int.le_refl _
  | succ p ih =>
    have h1 := ih fun i h0 h1 => hO i h0 (by omega)
    have h2 := hO p (by omega) (by omega)
    have h3 := Int.mul_nonneg h1 (Int.le_of_lt hn)
    unfold cdI
    omega
theorem cdI_dg {n : Int} {O : Int → Int} {p : Nat} (hn : 0 < n) (hO : ∀ i : Int, 0 ≤ i → i < p → 0 ≤ O i ∧ O i < n) : ∀ i : Nat, i < p → cdI n O p / n ^ (p - 1 - i) % n = O (i : Int) := by
  induction p with
  | zero => intro i hi; omega
  | succ p ih =>
    intro i hi
    have hp := hO p (by omega) (by omega)
    have hdv : (cdI n O p * n + O (p : Int)) / n = cdI n O p := by
      rw [Int.add_comm, Int.add_mul_ediv_right _ _ (by omega), Int.ediv_eq_zero_of_lt hp.1 hp.2]
      omega
    by_cases e : i = p
    · subst e
      rw [show i + 1 - 1 - i = 0 by omega, Int.pow_zero, Int.ediv_one]
      unfold cdI
      rw [Int.add_comm, Int.add_mul_emod_self_right]
      exact Int.emod_eq_of_lt hp.1 hp.2
    · have := ih (fun i h0 h1 => hO i h0 (by omega)) i (by omega)
      rw [show p + 1 - 1 - i = (p - 1 - i) + 1 by omega, Int.pow_succ, Int.mul_comm, ← Int.ediv_ediv_of_nonneg (Int.le_of_lt hn)]
      unfold cdI
      rw [hdv]
      exact this
theorem div_mid {a c K : Int} (hK : 0 < K) (h0 : a * K ≤ c) (h1 : c < (a + 1) * K) : c / K = a := by
  have : c = (c - a * K) + a * K := by omega
  rw [this, Int.add_mul_ediv_right _ _ (by omega), Int.ediv_eq_zero_of_lt (by omega) (by rw [Int.add_mul] at h1; omega)]
  omega
theorem rng_dg {n c : Int} {O : Int → Int} {p r : Nat} (hn : 0 < n) (hO : ∀ i : Int, 0 ≤ i → i < p → 0 ≤ O i ∧ O i < n) (h0 : cdI n O p * n ^ r ≤ c) (h1 : c < (cdI n O p + 1) * n ^ r) : ∀ i : Int, 0 ≤ i → i < p → dgT n c ((p : Int) + r - 1 - i) = O i := by
  intro i g0 g1
  obtain ⟨k, rfl⟩ := Int.eq_ofNat_of_zero_le g0
  have hK : 0 < n ^ r := Int.pow_pos hn
  have hd := div_mid hK h0 h1
  have := cdI_dg hn hO k (by omega)
  unfold dgT
  rw [show ((p : Int) + r - 1 - (k : Int)).toNat = r + (p - 1 - k) by omega, Int.pow_add, ← Int.ediv_ediv_of_nonneg (Int.le_of_lt hK), hd]
  exact this
def PF (n : Int) (O : Int → Int) (p : Int) : Prop := ∀ i : Int, 0 ≤ i → i < p → (0 ≤ O i ∧ O i < n) ∧ ∀ j : Int, 0 ≤ j → j < i → O j ≠ O i
def UM (n : Int) (O : Int → Int) (p U : Int) : Prop := (0 ≤ U ∧ U < 64) ∧ ∀ k : Int, 0 ≤ k → k < n → (U / 2 ^ k.toNat % 2 = 1 ↔ ∃ i : Int, 0 ≤ i ∧ i < p ∧ O i = k)
def LB (S : Int → Int) (n L : Int) (Be : Int → Int) (c : Int) : Prop := (L = if evL S n c.toNat = 1000 then 2147483647 else evL S n c.toNat) ∧ (evL S n c.toNat ≠ 1000 → ∀ i : Int, 0 ≤ i → i < n → Be i = evB S n c.toNat i)
theorem LB_0 (S : Int → Int) (n : Int) (Be : Int → Int) : LB S n 2147483647 Be 0 := ⟨rfl, fun z => absurd rfl z⟩
theorem LB_b {S : Int → Int} (hS : WS S) {n L c : Int} {Be : Int → Int} (h : LB S n L Be c) : 0 ≤ L ∧ L ≤ 2147483647 := by
  have := evL_b hS n c.toNat
  rw [h.1]
  split <;> omega
theorem ev_not (S : Int → Int) {n : Int} {c : Nat} (h : ¬ ordB n (c : Int)) : evL S n (c + 1) = evL S n c ∧ evB S n (c + 1) = evB S n c := by
  constructor
  · show (if _ then _ else _) = _
    rw [if_neg (fun z => h z.1)]
  · show (if _ then _ else _) = _
    rw [if_neg (fun z => h z.1)]
theorem LB_skip {S : Int → Int} {n L : Int} {Be : Int → Int} {a : Int} (ha : 0 ≤ a) (d : Nat) (h : ∀ c : Int, a ≤ c → c < a + d → ¬ ordB n c) (hL : LB S n L Be a) : LB S n L Be (a + d) := by
  induction d with
  | zero => rw [show a + ((0 : Nat) : Int) = a by omega]; exact hL
  | succ d ih =>
    have h2 := ih fun c h0 h1 => h c h0 (by omega)
    have h3 := h (a + d) (by omega) (by omega)
    have e : (a + ((d + 1 : Nat) : Int)).toNat = (a + d).toNat + 1 := by omega
    have e2 : ¬ ordB n (((a + d).toNat : Nat) : Int) := by rw [show (((a + d).toNat : Nat) : Int) = a + d by omega]; exact h3
    unfold LB at h2 ⊢
    rw [e, (ev_not S e2).1, (ev_not S e2).2]
    exact h2
theorem LB_hit {S : Int → Int} (hS : WS S) {n L : Int} {Be : Int → Int} {c : Int} (hc : 0 ≤ c) (ho : ordB n c) (hL : LB S n L Be c) : (lenO S n c < L → ∀ Be' : Int → Int, (∀ i : Int, 0 ≤ i → i < n → Be' i = dgT n c (n - 1 - i)) → LB S n (lenO S n c) Be' (c + 1)) ∧ (¬ lenO S n c < L → LB S n L Be (c + 1)) := by
  obtain ⟨k, rfl⟩ := Int.eq_ofNat_of_zero_le hc
  have hl := lenO_b hS n (k : Int)
  have hev := evL_b hS n k
  unfold LB at hL ⊢
  rw [show ((k : Int) + 1).toNat = k + 1 by omega]
  rw [show ((k : Int)).toNat = k from rfl] at hL
  have e1 : evL S n (k + 1) = if ordB n (k : Int) ∧ lenO S n (k : Int) < evL S n k then lenO S n (k : Int) else evL S n k := rfl
  have e2 : evB S n (k + 1) = if ordB n (k : Int) ∧ lenO S n (k : Int) < evL S n k then (fun i => dgT n (k : Int) (n - 1 - i)) else evB S n k := rfl
  have hlt : lenO S n (k : Int) < L ↔ lenO S n (k : Int) < evL S n k := by
    rw [hL.1]
    split <;> omega
  constructor
  · intro h Be' hB
    rw [if_pos ⟨ho, hlt.mp h⟩] at e1 e2
    rw [e1, e2]
    refine ⟨?_, fun _ i h0 h1 => hB i h0 h1⟩
    rw [if_neg (by omega)]
  · intro h
    rw [if_neg (fun z => h (hlt.mpr z.2))] at e1 e2
    rw [e1, e2]
    exact hL
/-- the codes of a prefix with a digit twice -/
theorem twice {n c k : Int} {O : Int → Int} {p r : Nat} (hn : 1 ≤ n ∧ n ≤ 6) (hp : (p : Int) + (r + 1 : Nat) = n) (hO : PF n O p) (hk : 0 ≤ k ∧ k < n) (hu : ∃ i : Int, 0 ≤ i ∧ i < p ∧ O i = k) (h0 : (cdI n O p * n + k) * n ^ r ≤ c) (h1 : c < (cdI n O p * n + k + 1) * n ^ r) : ¬ ordB n c := by
  rw [ordB_iff hn]
  intro h
  obtain ⟨i, g0, g1, e⟩ := hu
  obtain ⟨a, rfl⟩ := Int.eq_ofNat_of_zero_le g0
  have ec : cdI n (uF O p k) p = cdI n O p := cdI_congr fun j h0 h1 => uF_ne _ _ (by omega)
  have e2 : cdI n (uF O p k) (p + 1) = cdI n O p * n + k := by
    show cdI n (uF O p k) p * n + uF O p k (p : Int) = _
    rw [ec, uF_eq]
  have hd := rng_dg (n := n) (c := c) (O := uF O p k) (p := p + 1) (r := r) (by omega) (fun j h0 h1 => by
    unfold uF
    by_cases q : j = p
    · rw [if_pos q]; exact hk
    · rw [if_neg q]; exact (hO j h0 (by omega)).1) (by rw [e2]; exact h0) (by rw [e2]; exact h1)
  have d1 := hd a (by omega) (by omega)
  have d2 := hd p (by omega) (by omega)
  rw [uF_ne _ _ (by omega)] at d1
  rw [uF_eq] at d2
  have := h (r + p - a) (by omega) r (by omega)
  apply this
  rw [show ((r : Nat) : Int) = ((p + 1 : Nat) : Int) + r - 1 - p by omega, d2, show ((r + p - a : Nat) : Int) = ((p + 1 : Nat) : Int) + r - 1 - a by omega, d1]
  exact e.symm
/-- a whole order -/
theorem whole {n : Int} {O : Int → Int} (hn : 1 ≤ n ∧ n ≤ 6) (hO : PF n O n) : ordB n (cdI n O n.toNat) ∧ 0 ≤ cdI n O n.toNat ∧ ∀ i : Int, 0 ≤ i → i < n → dgT n (cdI n O n.toNat) (n - 1 - i) = O i := by
  have hd := rng_dg (n := n) (c := cdI n O n.toNat) (O := O) (p := n.toNat) (r := 0) (by omega) (fun j h0 h1 => (hO j h0 (by omega)).1) (by rw [Int.pow_zero]; omega) (by rw [Int.pow_zero]; omega)
  have hd2 : ∀ i : Int, 0 ≤ i → i < n → dgT n (cdI n O n.toNat) (n - 1 - i) = O i := fun i h0 h1 => by
    have := hd i h0 (by omega)
    rw [show ((n.toNat : Nat) : Int) + (0 : Nat) - 1 - i = n - 1 - i by omega] at this
    exact this
  refine ⟨?_, cdI_nn (by omega) fun j h0 h1 => (hO j h0 (by omega)).1, hd2⟩
  rw [ordB_iff hn]
  intro i hi j hj e
  have d1 := hd2 (n - 1 - i) (by omega) (by omega)
  have d2 := hd2 (n - 1 - j) (by omega) (by omega)
  rw [show n - 1 - (n - 1 - (i : Int)) = i by omega] at d1
  rw [show n - 1 - (n - 1 - (j : Int)) = j by omega] at d2
  rw [d1, d2] at e
  exact (hO (n - 1 - j) (by omega) (by omega)).2 (n - 1 - i) (by omega) (by omega) e.symm
theorem PF_s {n k p U : Int} {O : Int → Int} (h : PF n O p) (hU : UM n O p U) (hp : 0 ≤ p) (hk : 0 ≤ k ∧ k < n) (hf : U / 2 ^ k.toNat % 2 = 0) : PF n (uF O p k) (p + 1) := by
  intro i h0 h1
  unfold uF
  by_cases e : i = p
  · rw [if_pos e]
    refine ⟨hk, fun j g0 g1 => ?_⟩
    rw [if_neg (by omega)]
    intro q
    have := (hU.2 k hk.1 hk.2).mpr ⟨j, g0, by omega, q⟩
    omega
  · rw [if_neg e]
    refine ⟨(h i h0 (by omega)).1, fun j g0 g1 => ?_⟩
    rw [if_neg (by omega)]
    exact (h i h0 (by omega)).2 j g0 g1
theorem UM_s {n k p U : Int} {O : Int → Int} (hU : UM n O p U) (hn : n ≤ 6) (hp : 0 ≤ p) (hk : 0 ≤ k ∧ k < n) : UM n (uF O p k) (p + 1) (ior U (2 ^ k.toNat)) := by
  have hb := ior_bits hU.1 (k := k) (by omega)
  refine ⟨hb.1, fun j h0 h1 => ?_⟩
  rw [hb.2 j h0 (by omega), hU.2 j h0 h1]
  unfold uF
  constructor
  · rintro (⟨i, g0, g1, e⟩ | rfl)
    · exact ⟨i, g0, by omega, by rw [if_neg (by omega)]; exact e⟩
    · exact ⟨p, hp, by omega, by rw [if_pos rfl]⟩
  · rintro ⟨i, g0, g1, e⟩
    by_cases q : i = p
    · rw [if_pos q] at e
      exact Or.inr e.symm
    · rw [if_neg q] at e
      exact Or.inl ⟨i, g0, by omega, e⟩
theorem PF_congr {n p : Int} {O O' : Int → Int} (h : PF n O p) (e : ∀ i : Int, 0 ≤ i → i < p → O' i = O i) : PF n O' p := by
  intro i h0 h1
  rw [e i h0 h1]
  refine ⟨(h i h0 h1).1, fun j g0 g1 => ?_⟩
  rw [e j g0 (by omega)]
  exact (h i h0 h1).2 j g0 g1
theorem UM_congr {n p U : Int} {O O' : Int → Int} (h : UM n O p U) (e : ∀ i : Int, 0 ≤ i → i < p → O' i = O i) : UM n O' p U := by
  refine ⟨h.1, fun k h0 h1 => ?_⟩
  rw [h.2 k h0 h1]
  constructor
  · rintro ⟨i, g0, g1, q⟩
    exact ⟨i, g0, g1, by rw [e i g0 g1]; exact q⟩
  · rintro ⟨i, g0, g1, q⟩
    exact ⟨i, g0, g1, by rw [← e i g0 g1]; exact q⟩
/-! what is sent from a bare wire on, bit by bit -/
theorem salB {q : Int → Int} {m : Int} (hm : 0 ≤ m ∧ m ≤ 32) : (salI bareS q m 0 = m) ∧ (salI bareS q m 1 = sgq q m) ∧ ∀ b : Int, 0 ≤ b → b < 6 * m → salI bareS q m (36 + b) = bq q b := by
  obtain ⟨k, rfl⟩ := Int.eq_ofNat_of_zero_le hm.1
  induction k with
  | zero => exact ⟨rfl, rfl, fun b h0 h1 => by omega⟩
  | succ k ih =>
    obtain ⟨i0, i1, i2⟩ := ih (by omega)
    rw [show ((k + 1 : Nat) : Int) = (k : Int) + 1 from rfl, salI_s _ _ (by omega)]
    have hwd : fm (q k) (dueB (salI bareS q k)) = wdq q k := by
      unfold wdq
      show fm (q k) (if salI bareS q k 1 < 0 then 0 else 1) = _
      rw [i1]
    refine ⟨by rw [sendS_0, i0], ?_, fun b h0 h1 => ?_⟩
    · rw [sendS_at (by omega), preS_1, hwd, i1, sgq_s _ (by omega)]
    · rw [sendS_at (by omega), preS_b _ (by omega) h0, i0, hwd]
      by_cases e : 6 * (k : Int) ≤ b ∧ b < 6 * (k : Int) + 6
      · rw [if_pos e]
        have := bq_w q (w := k) (b := b - 6 * k) (by omega)
        rw [show 6 * (k : Int) + (b - 6 * k) = b by omega] at this
        exact this
      · rw [if_neg e]
        exact i2 b h0 (by omega)
def qO (S : Int → Int) (n : Int) (O : Int → Int) : Int → Int := fun w => if w < S 0 - n then S (4 + w) else S (4 + (S 0 - n + O (w - (S 0 - n))))
theorem qO_len {S O : Int → Int} {n c : Int} (hS : WS S) (hn : 1 ≤ n ∧ n ≤ S 0) (h : ∀ i : Int, 0 ≤ i → i < n → dgT n c (n - 1 - i) = O i) : mostI (bq (qO S n O)) (6 * S 0) = lenO S n c := by
  have hw : ∀ w : Int, 0 ≤ w → w < S 0 → qO S n O w = qo S n c w := fun w h0 h1 => by
    unfold qO qo
    by_cases e : w < S 0 - n
    · rw [if_pos e, if_pos e]
    · rw [if_neg e, if_neg e, h _ (by omega) (by omega)]
      congr 1
      omega
  exact mostI_congr fun b h0 h1 => bq_congr hw h0 h1
theorem LB_skip2 {S : Int → Int} {n L : Int} {Be : Int → Int} {a b : Int} (ha : 0 ≤ a) (hab : a ≤ b) (h : ∀ c : Int, a ≤ c → c < b → ¬ ordB n c) (hL : LB S n L Be a) : LB S n L Be b := by
  have := LB_skip ha (b - a).toNat (fun c h0 h1 => h c h0 (by omega)) hL
  rw [show a + (((b - a).toNat : Nat) : Int) = b by omega] at this
  exact this
theorem cdI_s {n k p : Int} {O O' : Int → Int} (hp : 0 ≤ p) (e : ∀ i : Int, 0 ≤ i → i < p → O' i = O i) : cdI n (uF O' p k) (p + 1).toNat = cdI n O p.toNat * n + k := by
  obtain ⟨a, rfl⟩ := Int.eq_ofNat_of_zero_le hp
  rw [show ((a : Int) + 1).toNat = a + 1 by omega]
  show cdI n (uF O' a k) a * n + uF O' a k (a : Int) = _
  rw [uF_eq, cdI_congr (O' := O) fun i h0 h1 => by rw [uF_ne _ _ (by omega)]; exact e i h0 h1]
  rfl
theorem fin_c (a n : Int) (r : Nat) : (a * n + n) * n ^ r = (a + 1) * n ^ (r + 1) := by
  rw [Int.pow_succ, Int.mul_comm (n ^ r) n, ← Int.mul_assoc, Int.add_mul a 1 n, Int.one_mul]
theorem sta_c (a n : Int) (r : Nat) : (a * n + 0) * n ^ r = a * n ^ (r + 1) := by
  rw [Int.pow_succ, Int.mul_comm (n ^ r) n, ← Int.mul_assoc, Int.add_zero]
theorem LB_used {S O : Int → Int} {n L k p U : Int} {Be : Int → Int} (r : Nat) (hn : 1 ≤ n ∧ n ≤ 6) (hp : 0 ≤ p ∧ p + (r + 1 : Nat) = n) (hO : PF n O p) (hU : UM n O p U) (hk : 0 ≤ k ∧ k < n) (hu : U / 2 ^ k.toNat % 2 ≠ 0) (hL : LB S n L Be ((cdI n O p.toNat * n + k) * n ^ r)) : LB S n L Be ((cdI n O p.toNat * n + (k + 1)) * n ^ r) := by
  have hc := cdI_nn (n := n) (O := O) (p := p.toNat) (by omega) fun i h0 h1 => (hO i h0 (by omega)).1
  have hcn := Int.mul_nonneg hc (show 0 ≤ n by omega)
  have hr : 0 < n ^ r := Int.pow_pos (by omega)
  have h1 : 0 ≤ (cdI n O p.toNat * n + k) * n ^ r := Int.mul_nonneg (by omega) (by omega)
  have e : (cdI n O p.toNat * n + (k + 1)) * n ^ r = (cdI n O p.toNat * n + k) * n ^ r + n ^ r := by
    rw [← Int.add_assoc, Int.add_mul _ 1, Int.one_mul]
  have h01 : U / 2 ^ k.toNat % 2 = 1 := by omega
  refine LB_skip2 h1 (by omega) (fun c g0 g1 => ?_) hL
  obtain ⟨i, q0, q1, q2⟩ := (hU.2 k hk.1 hk.2).mp h01
  exact twice (p := p.toNat) (r := r) hn (by omega) (fun i h0 h1 => hO i h0 (by omega)) hk ⟨i, q0, by omega, q2⟩ g0 (by rw [Int.add_assoc]; exact g1)
