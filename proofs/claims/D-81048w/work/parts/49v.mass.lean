/-! MASSES: the plain law -/
def sm (f : Nat → Int) : Nat → Int
  | 0 => 0
  | n + 1 => sm f n + f n
theorem sm_ext {f g : Nat → Int} : ∀ n, (∀ i, i < n → f i = g i) → sm f n = sm g n := by
  intro n
  induction n with
  | zero => intro _; rfl
  | succ n ih => intro h; simp only [sm]; rw [ih (fun i hi => h i (by omega)), h n (by omega)]
theorem sm_cut {f : Nat → Int} {K : Nat} : ∀ N, K ≤ N → (∀ i, K ≤ i → i < N → f i = 0) → sm f N = sm f K := by
  intro N
  induction N with
  | zero => intro h _; rw [show K = 0 by omega]
  | succ N ih =>
    intro h hz
    by_cases q : K = N + 1
    · rw [q]
    · simp only [sm]
      rw [ih (by omega) (fun i h1 h2 => hz i h1 (by omega)), hz N (by omega) (by omega), Int.add_zero]
theorem sm_front {f : Nat → Int} : ∀ n, sm f (n + 1) = f 0 + sm (fun i => f (i + 1)) n := by
  intro n
  induction n with
  | zero => simp [sm]
  | succ n ih =>
    rw [show sm f (n + 1 + 1) = sm f (n + 1) + f (n + 1) from rfl, ih]
    simp only [sm]
    omega
theorem sm_rev : ∀ (n : Nat) (f : Nat → Int), sm (fun i => f (n - i)) (n + 1) = sm f (n + 1) := by
  intro n
  induction n with
  | zero => intro f; rfl
  | succ n ih =>
    intro f
    rw [sm_front, show sm f (n + 1 + 1) = sm f (n + 1) + f (n + 1) from rfl, ← ih f]
    rw [sm_ext (g := fun i => f (n - i)) (n + 1) (fun i hi => by rw [show n + 1 - (i + 1) = n - i by omega])]
    rw [show n + 1 - 0 = n + 1 by omega]
    omega
theorem sm_0 : ∀ n, sm (fun _ => 0) n = 0 := by
  intro n
  induction n with
  | zero => rfl
  | succ n ih => simp only [sm]; rw [ih]; rfl
theorem sm_le {f g : Nat → Int} : ∀ n, (∀ i, i < n → f i ≤ g i) → sm f n ≤ sm g n := by
  intro n
  induction n with
  | zero => intro _; exact Int.le_refl _
  | succ n ih => intro h; have := ih (fun i hi => h i (by omega)); have := h n (by omega); simp only [sm]; omega
theorem sm_mul {f : Nat → Int} {c : Int} : ∀ n, sm (fun i => f i * c) n = sm f n * c := by
  intro n
  induction n with
  | zero => simp [sm]
  | succ n ih => simp only [sm]; rw [ih, Int.add_mul]
theorem sm_sum {f : Nat → Int} : ∀ n, sm f n = ((List.range n).map f).sum := by
  intro n
  induction n with
  | zero => rfl
  | succ n ih => rw [List.range_succ, List.map_append, List.sum_append]; simp only [sm]; rw [ih]; simp
/-- n sizes together -/
def cv (s : Nat → Int) : Nat → Nat → Int
  | 0, x => if x = 0 then 1 else 0
  | n + 1, y => sm (fun a => if a ≤ y then s a * cv s n (y - a) else 0) 401
theorem cv_S {s : Nat → Int} (n y : Nat) : cv s (n + 1) y = sm (fun a => if a ≤ y then s a * cv s n (y - a) else 0) 401 := rfl
theorem p200 : ∀ n : Nat, (0 : Int) ≤ 200 ^ n := by
  intro n
  induction n with
  | zero => decide
  | succ n ih => rw [Int.pow_succ]; omega
theorem cv_0 {s : Nat → Int} : ∀ n x, 400 * n < x → cv s n x = 0 := by
  intro n
  induction n with
  | zero => intro x hx; exact if_neg (by omega)
  | succ n ih =>
    intro x hx
    rw [cv_S, sm_ext (g := fun _ => 0) 401 (fun a ha => by
      rw [if_pos (by omega), ih (x - a) (by omega), Int.mul_zero]), sm_0]
theorem cv_bd {s : Nat → Int} (h0 : ∀ a, a < 401 → 0 ≤ s a) (hs : sm s 401 ≤ 200) : ∀ n x, 0 ≤ cv s n x ∧ cv s n x ≤ 200 ^ n := by
  intro n
  induction n with
  | zero =>
    intro x
    show 0 ≤ (if x = 0 then 1 else 0) ∧ (if x = 0 then (1 : Int) else 0) ≤ 200 ^ 0
    split <;> simp
  | succ n ih =>
    intro x
    rw [cv_S]
    have hp := p200 n
    constructor
    · have := sm_le (f := fun _ => 0) (g := fun a => if a ≤ x then s a * cv s n (x - a) else 0) 401 (fun a ha => by
        show 0 ≤ if a ≤ x then s a * cv s n (x - a) else 0
        split
        · exact Int.mul_nonneg (h0 a ha) (ih _).1
        · exact Int.le_refl _)
      rw [sm_0] at this
      exact this
    · have h1 : sm (fun a => if a ≤ x then s a * cv s n (x - a) else 0) 401 ≤ sm (fun a => s a * 200 ^ n) 401 := by
        refine sm_le _ (fun a ha => ?_)
        have hp : (0 : Int) ≤ s a * 200 ^ n := Int.mul_nonneg (h0 a ha) hp
        split
        · exact Int.mul_le_mul_of_nonneg_left (ih _).2 (h0 a ha)
        · exact hp
      rw [sm_mul] at h1
      have h2 : sm s 401 * 200 ^ n ≤ 200 * 200 ^ n := Int.mul_le_mul_of_nonneg_right hs hp
      rw [Int.pow_succ, Int.mul_comm]
      exact Int.le_trans h1 h2
/-- as the class adds it up -/
def Fx (s g : Nat → Int) (y x : Nat) : Int := if x ≤ y ∧ y - x ≤ 400 then g x * s (y - x) else 0
theorem cv_c {s : Nat → Int} {n y : Nat} (hn : n ≤ 3) : sm (Fx s (cv s n) y) 1201 = cv s (n + 1) y := by
  have e1 : sm (Fx s (cv s n) y) (1201 + (y + 1)) = sm (Fx s (cv s n) y) 1201 := sm_cut _ (by omega) (fun i h1 h2 => by
    unfold Fx
    split
    · rw [cv_0 n i (by omega), Int.zero_mul]
    · rfl)
  have e2 : sm (Fx s (cv s n) y) (1201 + (y + 1)) = sm (Fx s (cv s n) y) (y + 1) := sm_cut _ (by omega) (fun i h1 h2 => by
    unfold Fx
    rw [if_neg (fun z => by have := z.1; omega)])
  rw [← e1, e2, ← sm_rev]
  have e3 : sm (fun a => if a ≤ y ∧ a ≤ 400 then s a * cv s n (y - a) else 0) (401 + (y + 1)) = sm (fun a => if a ≤ y ∧ a ≤ 400 then s a * cv s n (y - a) else 0) (y + 1) := sm_cut _ (by omega) (fun i h1 h2 => by
    rw [if_neg (fun z => by have := z.1; omega)])
  have e4 : sm (fun a => if a ≤ y ∧ a ≤ 400 then s a * cv s n (y - a) else 0) (401 + (y + 1)) = sm (fun a => if a ≤ y ∧ a ≤ 400 then s a * cv s n (y - a) else 0) 401 := sm_cut _ (by omega) (fun i h1 h2 => by
    rw [if_neg (fun z => by have := z.2; omega)])
  have e5 : sm (fun i => Fx s (cv s n) y (y - i)) (y + 1) = sm (fun a => if a ≤ y ∧ a ≤ 400 then s a * cv s n (y - a) else 0) (y + 1) := sm_ext _ (fun i hi => by
    unfold Fx
    rw [show y - (y - i) = i by omega]
    by_cases q : i ≤ 400
    · rw [if_pos ⟨by omega, q⟩, if_pos ⟨by omega, q⟩, Int.mul_comm]
    · rw [if_neg (fun z => q z.2), if_neg (fun z => q z.2)])
  rw [e5, ← e3, e4, cv_S]
  exact sm_ext _ (fun i hi => by
    by_cases q : i ≤ y
    · rw [if_pos ⟨q, by omega⟩, if_pos q]
    · rw [if_neg (fun z => q z.1), if_neg q])
/-- as the twin adds it up -/
def Fa (s g : Nat → Int) (n y a : Nat) : Int := if a ≤ y ∧ y - a ≤ 400 * n then s a * g (y - a) else 0
theorem cv_m {s : Nat → Int} {n y : Nat} : sm (Fa s (cv s n) n y) 401 = cv s (n + 1) y := by
  rw [cv_S]
  refine sm_ext _ (fun i hi => ?_)
  unfold Fa
  by_cases q : i ≤ y
  · rw [if_pos q]
    by_cases q2 : y - i ≤ 400 * n
    · rw [if_pos ⟨q, q2⟩]
    · rw [if_neg (fun z => q2 z.2), cv_0 n (y - i) (by omega), Int.mul_zero]
  · rw [if_neg (fun z => q z.1), if_neg q]
/-- the masses of up to n sizes -/
def mB (s c : Nat → Int) (W : Int) : Nat → Nat → Int
  | 0, _ => 0
  | n + 1, x => mB s c W n x + c n * W ^ (4 - n) * cv s n x
theorem pow_le {W : Int} (h : 0 ≤ W ∧ W ≤ 200) : ∀ k : Nat, 0 ≤ W ^ k ∧ W ^ k ≤ 200 ^ k := by
  intro k
  induction k with
  | zero => simp
  | succ k ih =>
    rw [Int.pow_succ, Int.pow_succ]
    exact ⟨Int.mul_nonneg ih.1 h.1, Int.mul_le_mul ih.2 h.2 h.1 (p200 k)⟩
theorem mB_bd {s c : Nat → Int} {W : Int} (h0 : ∀ a, a < 401 → 0 ≤ s a) (hs : sm s 401 = W) (hW : 0 ≤ W ∧ W ≤ 200) (hc : ∀ n, n < 5 → 0 ≤ c n ∧ c n ≤ 200) (x : Nat) : ∀ n : Nat, n ≤ 5 → 0 ≤ mB s c W n x ∧ mB s c W n x ≤ 320000000000 * (n : Int) := by
  intro n
  induction n with
  | zero => intro _; simp [mB]
  | succ n ih =>
    intro hn
    have i := ih (by omega)
    have c1 := hc n (by omega)
    have c2 := pow_le hW (4 - n)
    have c3 := cv_bd h0 (by omega) n x
    have p1 : 0 ≤ c n * W ^ (4 - n) := Int.mul_nonneg c1.1 c2.1
    have p2 : c n * W ^ (4 - n) ≤ 200 * 200 ^ (4 - n) := Int.mul_le_mul c1.2 c2.2 c2.1 (by omega)
    have p3 : 0 ≤ c n * W ^ (4 - n) * cv s n x := Int.mul_nonneg p1 c3.1
    have p4 : c n * W ^ (4 - n) * cv s n x ≤ 200 * 200 ^ (4 - n) * 200 ^ n := Int.mul_le_mul p2 c3.2 c3.1 (Int.mul_nonneg (by omega) (p200 _))
    have p5 : (200 : Int) * 200 ^ (4 - n) * 200 ^ n = 320000000000 := by
      rcases (show n = 0 ∨ n = 1 ∨ n = 2 ∨ n = 3 ∨ n = 4 by omega) with rfl | rfl | rfl | rfl | rfl <;> decide
    rw [p5] at p4
    show 0 ≤ mB s c W n x + c n * W ^ (4 - n) * cv s n x ∧ mB s c W n x + c n * W ^ (4 - n) * cv s n x ≤ _
    generalize c n * W ^ (4 - n) * cv s n x = Z at *
    clear p5 c2 c3
    omega
