/-! THE LEAST SET -/
/-- how many facts are in a set -/
def pcK (v : Nat) : Nat → Nat
  | 0 => 0
  | k + 1 => pcK v k + if v.testBit k then 1 else 0
def pc (v : Nat) : Nat := pcK v 8
theorem pcK_le (v : Nat) : ∀ k, pcK v k ≤ k := by
  intro k
  induction k with
  | zero => exact Nat.le_refl _
  | succ k ih => simp only [pcK]; split <;> omega
theorem pcK_sub {s a : Nat} (h : ∀ i, s.testBit i = true → a.testBit i = true) : ∀ k, pcK s k ≤ pcK a k := by
  intro k
  induction k with
  | zero => exact Nat.le_refl _
  | succ k ih =>
    simp only [pcK]
    by_cases hs : s.testBit k = true
    · rw [if_pos hs, if_pos (h k hs)]; omega
    · rw [if_neg hs]; split <;> omega
theorem pcK_lt {s a : Nat} (h : ∀ i, s.testBit i = true → a.testBit i = true) {j : Nat} (hs : s.testBit j = false) (ha : a.testBit j = true) : ∀ k, j < k → pcK s k < pcK a k := by
  intro k
  induction k with
  | zero => intro hj; omega
  | succ k ih =>
    intro hj
    simp only [pcK]
    by_cases hjk : j = k
    · subst hjk
      rw [hs, ha, if_neg (by decide), if_pos rfl]
      have := pcK_sub h j
      omega
    · have := ih (by omega)
      by_cases hs : s.testBit k = true
      · rw [if_pos hs, if_pos (h k hs)]; omega
      · rw [if_neg hs]; split <;> omega
theorem tb8 {v i : Nat} (h : v < 256) (hi : 8 ≤ i) : v.testBit i = false := Nat.testBit_lt_two_pow (Nat.lt_of_lt_of_le h (by show 2 ^ 8 ≤ 2 ^ i; exact Nat.pow_le_pow_right (by omega) hi))
theorem pc_lt {s a : Nat} (hs : s < 256) (ha : a < 256) (h : ∀ i, s.testBit i = true → a.testBit i = true) (hne : s ≠ a) : pc s < pc a := by
  have : ∃ j, s.testBit j ≠ a.testBit j := by
    apply Classical.byContradiction
    intro hc
    exact hne (Nat.eq_of_testBit_eq (fun i => Classical.byContradiction (fun q => hc ⟨i, q⟩)))
  obtain ⟨j, hj⟩ := this
  have hj8 : j < 8 := by
    apply Classical.byContradiction
    intro hc
    rw [tb8 hs (by omega), tb8 ha (by omega)] at hj
    exact hj rfl
  have h1 : s.testBit j = false := by
    cases hh : s.testBit j
    · rfl
    · rw [hh, h j hh] at hj; exact absurd rfl hj
  have h2 : a.testBit j = true := by
    cases hh : a.testBit j
    · rw [h1, hh] at hj; exact absurd rfl hj
    · rfl
  exact pcK_lt h h1 h2 8 hj8
theorem c_bitCount : ∀ v : Nat, v < 256 → fJ16_bitCount (v : Int) = some ((pc v : Nat) : Int) := by decide +kernel
theorem m_bits {v : Nat} (hv : v < 256) : m5_bits (v : Int) = some ((pc v : Nat) : Int) := by
  have key := loop_ind (fun q (i : Nat) => m5_bits_l4 (v : Int) q ((pcK v i : Nat) : Int) (i : Int)) (fun i => 8 - i) (fun i => i ≤ 8) (fun _ x => x = ((pc v : Nat) : Int)) (by
    rintro q i hi ih
    show ok (m5_bits_l4 (v : Int) (q + 1) ((pcK v i : Nat) : Int) (i : Int)) _
    unfold m5_bits_l4
    rw [w32_n (by omega)]
    refine ok_ite (fun hc => ok_some ?_) (fun hc => ?_)
    · have : i = 8 := by omega
      subst this; rfl
    · have := ih (i + 1) (by omega) (by omega)
      have h9 : v / 2 ^ i ≤ v := Nat.div_le_self _ _
      have e : (((pcK v i : Nat) : Int) + and32 (shr32 (v : Int) (i : Int)) 1) = ((pcK v (i + 1) : Nat) : Int) := by
        rw [shr32_n (by omega) (by omega), show (1 : Int) = ((1 : Nat) : Int) from rfl, and32_n (by omega) (by omega), Nat.and_one_is_mod]
        simp only [pcK]
        rw [Nat.testBit_eq_decide_div_mod_eq]
        by_cases hb : v / 2 ^ i % 2 = 1
        · rw [hb, decide_eq_true rfl, if_pos rfl]; omega
        · have h0 : v / 2 ^ i % 2 = 0 := by omega
          rw [h0]; simp
      rw [e]
      exact this) NN 0 (Nat.zero_le _) (NN_gt (by omega))
  obtain ⟨x, ex, rfl⟩ := key
  unfold m5_bits
  have ex' : m5_bits_l4 (v : Int) NN 0 0 = some ((pc v : Nat) : Int) := ex
  rw [ex']
  rfl
/-- the lowest bit in which two sets differ, of the first -/
def LB (a b : Nat) : Int := and32 (and32 (a : Int) (xor32 (a : Int) (b : Int))) (-(xor32 (a : Int) (b : Int)))
theorem and32_as (a b c : Int) : and32 a (and32 b c) = and32 (and32 a b) c := by
  unfold and32
  rw [show jI ((jI b &&& jI c).toInt) = jI b &&& jI c from Int32.ofInt_toInt _, show jI ((jI a &&& jI b).toInt) = jI a &&& jI b from Int32.ofInt_toInt _, Int32.and_assoc]
def bef (a b : Nat) : Bool := decide (pc a < pc b) || (decide (pc a = pc b) && decide (w32 (LB a b) ≠ 0))
theorem c_bef {G : CG} {u : Sg} {x : Option Nat} {a b : Nat} (ha : a < 256) (hb : b < 256) : f2_isBefore G x (a : Int) (b : Int) u = some (b2i (bef a b)) := by
  unfold f2_isBefore bef
  have p1 := pcK_le a 8
  have p2 := pcK_le b 8
  rw [if_pos (by rw [w32_n (by omega)]; omega), c_bitCount a ha, Option.bind_some, c_bitCount b hb, Option.bind_some]
  unfold pc
  rw [w32_id (by omega) (by omega)]
  by_cases h1 : pcK a 8 < pcK b 8
  · rw [if_pos (by omega), decide_eq_true h1]; rfl
  · rw [if_neg (by omega), decide_eq_false h1]
    by_cases h2 : pcK a 8 = pcK b 8
    · rw [if_pos (by omega), decide_eq_true h2]
      unfold fJ16_lowestOneBit
      rw [Option.bind_some, and32_as]
      show (if w32 (LB a b) = 0 then some 0 else some 1) = _
      by_cases h3 : w32 (LB a b) = 0
      · rw [if_pos h3]; simp [h3, b2i]
      · rw [if_neg h3]; simp [h3, b2i]
    · rw [if_neg (by omega), decide_eq_false h2]; rfl
theorem m_bef {a b : Nat} (ha : a < 256) (hb : b < 256) : m5_isBefore (a : Int) (b : Int) = some (b2i (bef a b)) := by
  unfold m5_isBefore bef
  have p1 := pcK_le a 8
  have p2 := pcK_le b 8
  rw [m_bits ha, Option.bind_some, m_bits hb, Option.bind_some]
  unfold pc
  rw [w32_n (by omega), w32_n (by omega)]
  by_cases h2 : pcK a 8 = pcK b 8
  · rw [if_pos (by omega), decide_eq_false (by omega), decide_eq_true h2]
    show (if w32 (LB a b) = 0 then some 0 else some 1) = _
    by_cases h3 : w32 (LB a b) = 0
    · rw [if_pos h3]; simp [h3, b2i]
    · rw [if_neg h3]; simp [h3, b2i]
  · rw [if_neg (by omega), decide_eq_false h2, Option.bind_some, Option.bind_some, w32_n (by omega), w32_n (by omega)]
    by_cases h1 : pcK a 8 < pcK b 8
    · rw [if_neg (by omega), decide_eq_true h1]; rfl
    · rw [if_pos (by omega), decide_eq_false h1]; rfl
theorem and32_0 (x : Int) : and32 x 0 = 0 := by
  unfold and32
  have : jI x &&& jI 0 = jI 0 := Int32.and_zero
  rw [this]; rfl
theorem bef_self (a : Nat) : bef a a = false := by
  unfold bef LB
  have : xor32 (a : Int) (a : Int) = 0 := by unfold xor32; rw [Int32.xor_self]; rfl
  rw [this]
  have h0 : w32 (and32 (and32 (a : Int) 0) (-0)) = 0 := by rw [Int.neg_zero, and32_0]; rfl
  rw [h0]
  simp
/-- s is within a -/
theorem sub_iff {s a : Nat} (hs : s < 256) (ha : a < 256) : (w32 (and32 (s : Int) (xor32 (a : Int) (-1))) = 0) ↔ ∀ i, s.testBit i = true → a.testBit i = true := by
  have e : and32 (s : Int) (xor32 (a : Int) (-1)) = ((BitVec.ofNat 32 s &&& ~~~ (BitVec.ofNat 32 a)) : BitVec 32).toInt := by
    unfold and32 xor32
    rw [show jI ((jI (a : Int) ^^^ jI (-1)).toInt) = jI (a : Int) ^^^ jI (-1) from Int32.ofInt_toInt _]
    show ((jI (s : Int)).toBitVec &&& ((jI (a : Int)).toBitVec ^^^ (jI (-1)).toBitVec)).toInt = _
    rw [bI_n, bI_n, show (jI (-1)).toBitVec = BitVec.allOnes 32 by decide, BitVec.xor_allOnes]
  have hle : (BitVec.ofNat 32 s &&& ~~~ (BitVec.ofNat 32 a)).toNat ≤ s := by
    rw [BitVec.toNat_and, bn_n (by omega)]; exact Nat.and_le_left
  rw [e, bt_lt (by omega), w32_n (by omega)]
  have key : ∀ i, (BitVec.ofNat 32 s &&& ~~~ (BitVec.ofNat 32 a)).toNat.testBit i = (decide (i < 32) && (s.testBit i && !a.testBit i)) := by
    intro i
    rw [BitVec.testBit_toNat, BitVec.getLsbD_and, BitVec.getLsbD_not, BitVec.getLsbD_ofNat, BitVec.getLsbD_ofNat]
    by_cases hi : i < 32 <;> simp [hi]
  constructor
  · intro h i hi
    have h0 : (BitVec.ofNat 32 s &&& ~~~ (BitVec.ofNat 32 a)).toNat = 0 := by omega
    have := key i
    rw [h0, Nat.zero_testBit, hi] at this
    have hi32 : i < 32 := by
      apply Classical.byContradiction
      intro hc
      rw [tb8 hs (by omega)] at hi; cases hi
    simp [hi32] at this
    exact this
  · intro h
    have h0 : (BitVec.ofNat 32 s &&& ~~~ (BitVec.ofNat 32 a)).toNat = 0 := by
      apply Nat.eq_of_testBit_eq
      intro i
      rw [key i, Nat.zero_testBit]
      cases hs' : s.testBit i
      · simp
      · rw [h i hs']; simp
    omega
def subB (s a : Nat) : Bool := decide (w32 (and32 (s : Int) (xor32 (a : Int) (-1))) = 0)
/-- the least set within A with P, by the order of the numbers: found so far, -1 for none (the class) -/
def lst (A : Nat) (P : Nat → Bool) : Nat → Int
  | 0 => -1
  | k + 1 => if subB k A = true ∧ (lst A P k < 0 ∨ bef k (lst A P k).toNat = true) ∧ P k = true then (k : Int) else lst A P k
/-- the same, with A itself at first (the twin) -/
def mls (A : Nat) (P : Nat → Bool) : Nat → Nat
  | 0 => A
  | k + 1 => if subB k A = true ∧ bef k (mls A P k) = true ∧ P k = true then k else mls A P k
theorem mls_lt {A : Nat} {P : Nat → Bool} (hA : A < 256) : ∀ k, k ≤ 256 → mls A P k < 256 := by
  intro k
  induction k with
  | zero => intro _; exact hA
  | succ k ih => intro hk; simp only [mls]; split
                 · omega
                 · exact ih (by omega)
theorem lst_bd {A : Nat} {P : Nat → Bool} : ∀ k, -1 ≤ lst A P k ∧ lst A P k < k := by
  intro k
  induction k with
  | zero => simp only [lst]; omega
  | succ k ih => simp only [lst]; split <;> omega
theorem lst_mls {A : Nat} {P : Nat → Bool} (hA : A < 256) : ∀ k, k ≤ 256 → (lst A P k = -1 ∧ mls A P k = A ∧ ∀ s, s < k → subB s A = true → P s = false) ∨ lst A P k = (mls A P k : Int) := by
  intro k
  induction k with
  | zero => intro _; exact Or.inl ⟨rfl, rfl, fun s hs => absurd hs (Nat.not_lt_zero _)⟩
  | succ k ih =>
    intro hk
    rcases ih (by omega) with ⟨h1, h2, h3⟩ | h1
    · simp only [lst, mls]
      rw [h1, h2]
      by_cases hs : subB k A = true
      · by_cases hP : P k = true
        · rw [if_pos ⟨hs, Or.inl (by omega), hP⟩]
          by_cases hkA : k = A
          · subst hkA
            rw [if_neg (fun q => by rw [bef_self] at q; cases q.2.1)]
            exact Or.inr rfl
          · have hlt := pc_lt (by omega) hA ((sub_iff (by omega) hA).mp (by unfold subB at hs; exact of_decide_eq_true hs)) hkA
            have hb : bef k A = true := by unfold bef; rw [decide_eq_true hlt]; rfl
            rw [if_pos ⟨hs, hb, hP⟩]
            exact Or.inr rfl
        · rw [if_neg (fun q => hP q.2.2), if_neg (fun q => hP q.2.2)]
          refine Or.inl ⟨rfl, rfl, fun s hs' hsub => ?_⟩
          by_cases hsk : s = k
          · rw [hsk]; exact Bool.not_eq_true _ |>.mp hP
          · exact h3 s (by omega) hsub
      · rw [if_neg (fun q => hs q.1), if_neg (fun q => hs q.1)]
        refine Or.inl ⟨rfl, rfl, fun s hs' hsub => ?_⟩
        by_cases hsk : s = k
        · rw [hsk] at hsub; exact absurd hsub hs
        · exact h3 s (by omega) hsub
    · simp only [lst, mls]
      rw [h1]
      have e : (((mls A P k : Nat) : Int)).toNat = mls A P k := by omega
      rw [e]
      by_cases hc : subB k A = true ∧ bef k (mls A P k) = true ∧ P k = true
      · rw [if_pos ⟨hc.1, Or.inr hc.2.1, hc.2.2⟩, if_pos hc]; exact Or.inr rfl
      · rw [if_neg (fun q => hc ⟨q.1, by rcases q.2.1 with z | z; omega; exact z, q.2.2⟩), if_neg hc]; exact Or.inr rfl
theorem mls_end {A N : Nat} {P : Nat → Bool} (hN : ∀ s, N ≤ s → s < 256 → subB s A = false) : ∀ k, N ≤ k → k ≤ 256 → mls A P k = mls A P N := by
  intro k hk
  induction hk with
  | refl => intro _; rfl
  | @step j hj ih =>
    intro h256
    rw [← ih (by omega)]
    simp only [mls]
    rw [if_neg (fun q => by rw [hN j hj (by omega)] at q; cases q.1)]
/-- both find the same -/
theorem lst_same {A F : Nat} {P : Nat → Bool} (hF : F ≤ 8) (hA : A < 2 ^ F) (hP : P A = true) : lst A P (2 ^ F) = (mls A P 256 : Int) := by
  have h28 : 2 ^ F ≤ 256 := by
    have : 2 ^ F ≤ 2 ^ 8 := Nat.pow_le_pow_right (by omega) hF
    omega
  have hA8 : A < 256 := by omega
  rw [mls_end (N := 2 ^ F) (fun s h1 h2 => ?_) 256 h28 (Nat.le_refl _)]
  · rcases lst_mls (P := P) hA8 (2 ^ F) h28 with ⟨h1, h2, h3⟩ | h1
    · have := h3 A hA (by unfold subB; exact decide_eq_true ((sub_iff hA8 hA8).mpr (fun _ q => q)))
      rw [hP] at this; cases this
    · exact h1
  · cases hh : subB s A
    · rfl
    · exfalso
      have hsub := (sub_iff h2 hA8).mp (by unfold subB at hh; exact of_decide_eq_true hh)
      have : s < 2 ^ F := by
        apply Classical.byContradiction
        intro hc
        obtain ⟨i, hi, hb⟩ := Nat.exists_ge_and_testBit_of_ge_two_pow (n := F) (x := s) (by omega)
        have := hsub i hb
        rw [Nat.testBit_lt_two_pow (Nat.lt_of_lt_of_le hA (Nat.pow_le_pow_right (by omega) hi))] at this
        cases this
      omega
