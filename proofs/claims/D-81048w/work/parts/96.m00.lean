/-! THE TWIN AT THE BEGINNING -/
theorem kKy_1 : ∀ p, (kKy p).1 = u9.1 := by
  intro p
  induction p with
  | zero => rfl
  | succ p ih =>
    show (if sBi.getD p 0 = 32 then ma (kKy p) 0 (kNo p) (kAc p) else kKy p).1 = _
    split
    · exact ih
    · exact ih
theorem kKy_2 : ∀ p k, k ≠ 0 → ∀ i, (kKy p).2 k i = 0 := by
  intro p
  induction p with
  | zero => intro k _ i; rfl
  | succ p ih =>
    intro k hk i
    show (if sBi.getD p 0 = 32 then ma (kKy p) 0 (kNo p) (kAc p) else kKy p).2 k i = _
    split
    · show va_up (kKy p).2 0 _ k i = 0
      unfold va_up
      rw [if_neg hk]
      exact ih k hk i
    · exact ih k hk i
/-- what is stored at i before the character p -/
def kSt (i : Nat) : Nat → Int
  | 0 => 0
  | p + 1 => if sBi.getD p 0 = 32 ∧ kNo p = i then kAc p else kSt i p
theorem kKy_0 : ∀ p i, (kKy p).2 0 i = kSt i p := by
  intro p
  induction p with
  | zero => intro i; rfl
  | succ p ih =>
    intro i
    show (if sBi.getD p 0 = 32 then ma (kKy p) 0 (kNo p) (kAc p) else kKy p).2 0 i = if sBi.getD p 0 = 32 ∧ kNo p = i then kAc p else kSt i p
    by_cases h : sBi.getD p 0 = 32
    · rw [if_pos h]
      show va_up (kKy p).2 0 (va_up ((kKy p).2 0) (kNo p) (kAc p)) 0 i = _
      unfold va_up
      rw [if_pos rfl]
      by_cases h2 : kNo p = i
      · rw [if_pos h2.symm, if_pos ⟨h, h2⟩]
      · rw [if_neg (fun q => h2 q.symm), if_neg (fun q => h2 q.2), ih]
    · rw [if_neg h, if_neg (fun q => h q.1), ih]
set_option maxRecDepth 100000 in
theorem kSt_v : ∀ i, i < 29 → kSt i 149 = (enc 128 (wdC i) : Nat) := by decide +kernel
theorem M00_mE : M00 mE := by
  refine ⟨fun k => ?_, fun i hi => ?_, fun k hk i => ?_⟩
  · show va_up (kKy 149).1 101 (-1) k = _
    rw [kKy_1]
    show va_up (va_up (va_up (fun _ => 0) 10 (-1)) 70 (-1)) 101 (-1) k = _
    unfold va_up
    by_cases h1 : k = 101
    · rw [if_pos h1, if_pos (Or.inr (Or.inr h1))]
    · rw [if_neg h1]
      by_cases h2 : k = 70
      · rw [if_pos h2, if_pos (Or.inr (Or.inl h2))]
      · rw [if_neg h2]
        by_cases h3 : k = 10
        · rw [if_pos h3, if_pos (Or.inl h3)]
        · rw [if_neg h3, if_neg (by omega)]
  · show (kKy 149).2 0 i = _
    rw [kKy_0, kSt_v i hi]
  · exact kKy_2 149 k hk i
