/-! THE ORDER OF PAYMENT: picks, and what they pay -/
def elg (M : Mu) (p : Nat) (day : Int) (c : Nat) : Prop := M.2 88 c = (p : Int) ∧ M.2 91 c ≤ day
/-- the first claim by date and number that may be paid and isn't yet, of the claims 1 .. n; 0: none -/
def pkA (M : Mu) (p : Nat) (day : Int) (D : Nat → Bool) : Nat → Nat
  | 0 => 0
  | n + 1 => if (M.2 88 (n + 1) = (p : Int) ∧ M.2 91 (n + 1) ≤ day) ∧ D (n + 1) = false ∧ (pkA M p day D n = 0 ∨ M.2 90 (n + 1) < M.2 90 (pkA M p day D n)) then n + 1 else pkA M p day D n
theorem pkA_pj {m : Mu} {p : Nat} {day : Int} {D : Nat → Bool} : ∀ n, pkA (pj m) p day D n = pkA m p day D n := by
  intro n
  induction n with
  | zero => rfl
  | succ n ih => simp only [pkA]; rw [ih, pj_2 (k := 88) (by decide), pj_2 (k := 90) (by decide), pj_2 (k := 91) (by decide)]
noncomputable def run (m : Mu) (p : Nat) (day : Int) : Nat → (Nat → Bool) × (Nat → Int)
  | 0 => (fun _ => false, fun _ => 0)
  | k + 1 => if pkA (pj m) p day (run m p day k).1 ((pj m).1 87).toNat = 0 then run m p day k else
    (fun j => (run m p day k).1 j || decide (j = pkA (pj m) p day (run m p day k).1 ((pj m).1 87).toNat), va_up (run m p day k).2 (pkA (pj m) p day (run m p day k).1 ((pj m).1 87).toNat) (dueV m p day (pkA (pj m) p day (run m p day k).1 ((pj m).1 87).toNat) (sumD (run m p day k).1 (run m p day k).2 ((pj m).1 87).toNat) (sumD (fun j => (run m p day k).1 j && decide ((pj m).2 90 j / 365 = (pj m).2 90 (pkA (pj m) p day (run m p day k).1 ((pj m).1 87).toNat) / 365)) (run m p day k).2 ((pj m).1 87).toNat)))
theorem run_fr {m m' : Mu} (h : mfr MS0 MA0 m m') {p : Nat} {day : Int} : ∀ k, run m' p day k = run m p day k := by
  intro k
  induction k with
  | zero => rfl
  | succ k ih => simp only [run]; rw [ih, pj_fr h, dueV_fr h]
noncomputable def PVc (m : Mu) (p : Nat) (day : Int) (c : Nat) : Int := (run m p day 41).2 c
theorem PVc_fr {m m' : Mu} (h : mfr MS0 MA0 m m') {p : Nat} {day : Int} {c : Nat} : PVc m' p day c = PVc m p day c := by unfold PVc; rw [run_fr h]
/-- the pick after k -/
noncomputable def pk (m : Mu) (p : Nat) (day : Int) (k : Nat) : Nat := pkA m p day (run m p day k).1 (m.1 87).toNat
theorem run_S (m : Mu) (p : Nat) (day : Int) (k : Nat) : run m p day (k + 1) = if pk m p day k = 0 then run m p day k else
    (fun j => (run m p day k).1 j || decide (j = pk m p day k), va_up (run m p day k).2 (pk m p day k) (dueV m p day (pk m p day k) (sumD (run m p day k).1 (run m p day k).2 (m.1 87).toNat) (sumD (fun j => (run m p day k).1 j && decide (m.2 90 j / 365 = m.2 90 (pk m p day k) / 365)) (run m p day k).2 (m.1 87).toNat))) := by
  unfold pk
  rw [show run m p day (k + 1) = _ from rfl]
  simp only [run]
  rw [pj_1 (k := 87) (by decide), pkA_pj, pj_2 (k := 90) (by decide)]
theorem pkA_in {M : Mu} {p : Nat} {day : Int} {D : Nat → Bool} : ∀ n, pkA M p day D n ≤ n ∧ (pkA M p day D n ≠ 0 → elg M p day (pkA M p day D n) ∧ D (pkA M p day D n) = false ∧ ∀ c, 1 ≤ c → c ≤ n → elg M p day c → D c = false → M.2 90 (pkA M p day D n) < M.2 90 c ∨ (M.2 90 (pkA M p day D n) = M.2 90 c ∧ pkA M p day D n ≤ c)) ∧ (pkA M p day D n = 0 → ∀ c, 1 ≤ c → c ≤ n → elg M p day c → D c = true) := by
  intro n
  induction n with
  | zero => exact ⟨Nat.le_refl _, fun h => absurd rfl h, fun _ c h1 h2 => by omega⟩
  | succ n ih =>
    obtain ⟨i1, i2, i3⟩ := ih
    simp only [pkA]
    by_cases hc : (M.2 88 (n + 1) = (p : Int) ∧ M.2 91 (n + 1) ≤ day) ∧ D (n + 1) = false ∧ (pkA M p day D n = 0 ∨ M.2 90 (n + 1) < M.2 90 (pkA M p day D n))
    · rw [if_pos hc]
      refine ⟨Nat.le_refl _, fun _ => ⟨hc.1, hc.2.1, fun c c1 c2 c3 c4 => ?_⟩, fun z => by omega⟩
      by_cases hcn : c = n + 1
      · right; rw [hcn]; exact ⟨rfl, Nat.le_refl _⟩
      · left
        rcases hc.2.2 with z | z
        · have := i3 z c c1 (by omega) c3
          rw [c4] at this; cases this
        · rcases (i2 (fun q => by
            rw [q] at z
            have := i3 q c c1 (by omega) c3
            rw [c4] at this; cases this)).2.2 c c1 (by omega) c3 c4 with y | ⟨y, -⟩ <;> omega
    · rw [if_neg hc]
      refine ⟨by omega, fun z => ⟨(i2 z).1, (i2 z).2.1, fun c c1 c2 c3 c4 => ?_⟩, fun z c c1 c2 c3 => ?_⟩
      · by_cases hcn : c = n + 1
        · rw [hcn] at c3 c4 ⊢
          by_cases hlt : M.2 90 (n + 1) < M.2 90 (pkA M p day D n)
          · exact absurd ⟨c3, c4, Or.inr hlt⟩ hc
          · by_cases heq : M.2 90 (pkA M p day D n) = M.2 90 (n + 1)
            · exact Or.inr ⟨heq, by omega⟩
            · left; omega
        · exact (i2 z).2.2 c c1 (by omega) c3 c4
      · by_cases hcn : c = n + 1
        · rw [hcn] at c3 ⊢
          cases hd : D (n + 1)
          · exact absurd ⟨c3, hd, Or.inl z⟩ hc
          · rfl
        · exact i3 z c c1 (by omega) c3
/-- how many are done -/
def cnD (D : Nat → Bool) : Nat → Nat
  | 0 => 0
  | n + 1 => cnD D n + if D (n + 1) then 1 else 0
theorem cnD_le (D : Nat → Bool) : ∀ n, cnD D n ≤ n := by
  intro n
  induction n with
  | zero => exact Nat.le_refl _
  | succ n ih => simp only [cnD]; split <;> omega
theorem cnD_add {D : Nat → Bool} {c : Nat} (h : D c = false) : ∀ n, 1 ≤ c → cnD (fun j => D j || decide (j = c)) n = cnD D n + if c ≤ n then 1 else 0 := by
  intro n hc
  induction n with
  | zero => simp [cnD]; omega
  | succ n ih =>
    simp only [cnD]
    rw [ih]
    by_cases hcn : c = n + 1
    · subst hcn
      simp [h]
    · have : ¬ n + 1 = c := fun q => hcn q.symm
      simp only [this, decide_false, Bool.or_false]
      by_cases hle : c ≤ n
      · rw [if_pos hle, if_pos (show c ≤ n + 1 by omega)]; omega
      · rw [if_neg hle, if_neg (show ¬ c ≤ n + 1 by omega)]; omega
