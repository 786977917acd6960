theorem run_inv {G : CG} {L : Ly} {u : Sg} {m : Mu} (h : RC G L u m) {p : Nat} {day : Int} (hday : w32 day = day) : ∀ k, (∀ c, (run m p day k).1 c = true → 1 ≤ c ∧ (c : Int) ≤ m.1 87 ∧ elg m p day c ∧ 0 ≤ (run m p day k).2 c ∧ (run m p day k).2 c ≤ 99999999) ∧ (∀ c, (run m p day k).1 c = false → (run m p day k).2 c = 0) := by
  have hRK := h.2.2.2.2.2.2.2
  intro k
  induction k with
  | zero => exact ⟨fun c hc => (by cases hc), fun c _ => rfl⟩
  | succ k ih =>
    rw [run_S]
    by_cases hz : pk m p day k = 0
    · rw [if_pos hz]; exact ih
    rw [if_neg hz]
    obtain ⟨i1, i2, -⟩ := pkA_in (M := m) (p := p) (day := day) (D := (run m p day k).1) (m.1 87).toNat
    obtain ⟨j1, j2, -⟩ := i2 hz
    have i1 : pk m p day k ≤ (m.1 87).toNat := i1
    have j1 : elg m p day (pk m p day k) := j1
    have hn := hRK.1
    have hn2 := hRK.2.1
    have bt := sumD_bd (fun c hc => (ih.1 c hc).2.2.2) (m.1 87).toNat
    have by' := sumD_bd (D := fun j => (run m p day k).1 j && decide (m.2 90 j / 365 = m.2 90 (pk m p day k) / 365)) (P := (run m p day k).2) (fun j hj => (ih.1 j (by simp at hj; exact hj.1)).2.2.2) (m.1 87).toNat
    obtain ⟨-, -, -, b1, b2⟩ := c_worth h (c := pk m p day k) (p := p) (by omega) (by omega) j1.1 hday (tot := sumD (run m p day k).1 (run m p day k).2 (m.1 87).toNat) (by omega) (yr := sumD (fun j => (run m p day k).1 j && decide (m.2 90 j / 365 = m.2 90 (pk m p day k) / 365)) (run m p day k).2 (m.1 87).toNat) (by omega)
    refine ⟨fun c hc => ?_, fun c hc => ?_⟩
    · by_cases hcp : c = pk m p day k
      · subst hcp
        refine ⟨by omega, by omega, j1, ?_⟩
        show 0 ≤ va_up _ _ _ _ ∧ va_up _ _ _ _ ≤ 99999999
        rw [va_up_e, if_pos rfl]
        exact ⟨b1, b2⟩
      · have hc : ((run m p day k).1 c || decide (c = pk m p day k)) = true := hc
        rw [decide_eq_false hcp, Bool.or_false] at hc
        obtain ⟨q1, q2, q3, q4⟩ := ih.1 c hc
        refine ⟨q1, q2, q3, ?_⟩
        show 0 ≤ va_up _ _ _ _ ∧ va_up _ _ _ _ ≤ 99999999
        rw [va_up_e, if_neg hcp]
        exact q4
    · have hc : ((run m p day k).1 c || decide (c = pk m p day k)) = false := hc
      simp at hc
      show va_up _ _ _ _ = 0
      rw [va_up_e, if_neg hc.2]
      exact ih.2 c hc.1
theorem run_cnt {m : Mu} {p : Nat} {day : Int} : ∀ k, (∀ j, j < k → pk m p day j ≠ 0) → cnD (run m p day k).1 (m.1 87).toNat = k := by
  intro k
  induction k with
  | zero =>
    intro _
    have : ∀ n, cnD (run m p day 0).1 n = 0 := by
      intro n
      induction n with
      | zero => rfl
      | succ n ih => simp only [cnD]; rw [ih]; simp [run]
    exact this _
  | succ k ih =>
    intro hk
    have hz := hk k (by omega)
    rw [run_S, if_neg hz]
    obtain ⟨i1, i2, -⟩ := pkA_in (M := m) (p := p) (day := day) (D := (run m p day k).1) (m.1 87).toNat
    have i1 : pk m p day k ≤ (m.1 87).toNat := i1
    show cnD (fun j => (run m p day k).1 j || decide (j = pk m p day k)) (m.1 87).toNat = k + 1
    rw [cnD_add (c := pk m p day k) (i2 hz).2.1 _ (by omega), ih (fun j hj => hk j (by omega)), if_pos i1]
theorem run_end {m : Mu} {p : Nat} {day : Int} {k : Nat} (h : pk m p day k = 0) : ∀ d, run m p day (k + d) = run m p day k ∧ pk m p day (k + d) = 0 := by
  intro d
  induction d with
  | zero => exact ⟨rfl, h⟩
  | succ d ih =>
    have e : run m p day (k + d + 1) = run m p day k := by rw [run_S, if_pos ih.2, ih.1]
    refine ⟨e, ?_⟩
    show pkA m p day (run m p day (k + d + 1)).1 _ = 0
    rw [e]; exact h
/-- the run ends after at most 40 picks -/
theorem PVc_end {m : Mu} {p : Nat} {day : Int} (hn : m.1 87 ≤ 40) {k : Nat} (hk : ∀ j, j < k → pk m p day j ≠ 0) (h : pk m p day k = 0) : k ≤ 40 ∧ ∀ c, PVc m p day c = (run m p day k).2 c := by
  have h1 := run_cnt k hk
  have h2 := cnD_le (run m p day k).1 (m.1 87).toNat
  have hk40 : k ≤ 40 := by omega
  refine ⟨hk40, fun c => ?_⟩
  unfold PVc
  have := (run_end h (41 - k)).1
  rw [show k + (41 - k) = 41 by omega] at this
  rw [this]
theorem run_lt {m : Mu} {p : Nat} {day : Int} (hn : m.1 87 ≤ 40) {k : Nat} (hk : ∀ j, j < k → pk m p day j ≠ 0) : k ≤ 40 := by
  have h1 := run_cnt k hk
  have h2 := cnD_le (run m p day k).1 (m.1 87).toNat
  omega
/-- the twin's state in the run -/
def DQ (m : Mu) (p : Nat) (D : Nat → Bool) (P : Nat → Int) : Prop := ∀ c : Nat, 1 ≤ c → (c : Int) ≤ m.1 87 → m.2 88 c = (p : Int) → m.2 96 c = b2i (D c) ∧ m.2 95 c = P c
theorem m_pick {m : Mu} {p : Nat} {day : Int} {D : Nat → Bool} {P : Nat → Int} (hn : 0 ≤ m.1 87 ∧ m.1 87 ≤ 40) (hb : ∀ c : Nat, 1 ≤ c → (c : Int) ≤ m.1 87 → w32 (m.2 88 c) = m.2 88 c ∧ w32 (m.2 90 c) = m.2 90 c ∧ w32 (m.2 91 c) = m.2 91 c) (hp : p ≤ 12) (hday : w32 day = day) (hD : DQ m p D P) : m5_payAll_l52 p day m NN 0 1 = some ((pkA m p day D (m.1 87).toNat : Nat) : Int) := by
  obtain ⟨N, hN⟩ : ∃ N : Nat, m.1 87 = N := ⟨(m.1 87).toNat, by omega⟩
  rw [hN] at hn hb ⊢
  have key := loop_ind (fun q (i : Nat) => m5_payAll_l52 p day m q ((pkA m p day D i : Nat) : Int) ((i : Int) + 1)) (fun i => N - i) (fun i => i ≤ N) (fun _ r => r = ((pkA m p day D N : Nat) : Int)) (by
    rintro q i hi ih
    show ok (m5_payAll_l52 p day m (q + 1) ((pkA m p day D i : Nat) : Int) ((i : Int) + 1)) _
    unfold m5_payAll_l52
    rw [hN, w32_n (by omega), w32_id (x := (i : Int) + 1) (by omega) (by omega)]
    have hle := (pkA_in (M := m) (p := p) (day := day) (D := D) i).1
    refine ok_ite (fun hc => ok_some ?_) (fun hc => ?_)
    · have : i = N := by omega
      rw [this]
    · have hrec := ih (i + 1) (by omega) (by omega)
      obtain ⟨w88, w90, w91⟩ := hb (i + 1) (by omega) (by omega)
      have ei : (i : Int) + 1 = ((i + 1 : Nat) : Int) := by omega
      rw [ei]
      have skip : ¬ ((m.2 88 (i + 1) = (p : Int) ∧ m.2 91 (i + 1) ≤ day) ∧ D (i + 1) = false ∧ (pkA m p day D i = 0 ∨ m.2 90 (i + 1) < m.2 90 (pkA m p day D i))) → ok (m5_payAll_l52 p day m q ((pkA m p day D i : Nat) : Int) (((i + 1 : Nat) : Int) + 1)) (fun r => r = ((pkA m p day D N : Nat) : Int)) := by
        intro hs
        have e1 : pkA m p day D (i + 1) = pkA m p day D i := by simp only [pkA]; rw [if_neg hs]
        have := hrec
        simp only [e1] at this
        exact this
      have take : ((m.2 88 (i + 1) = (p : Int) ∧ m.2 91 (i + 1) ≤ day) ∧ D (i + 1) = false ∧ (pkA m p day D i = 0 ∨ m.2 90 (i + 1) < m.2 90 (pkA m p day D i))) → ok (m5_payAll_b115 (m5_payAll_l52 p day m q) p day ((i + 1 : Nat) : Int) m) (fun r => r = ((pkA m p day D N : Nat) : Int)) := by
        intro hs
        have e1 : pkA m p day D (i + 1) = i + 1 := by simp only [pkA]; rw [if_pos hs]
        have := hrec
        simp only [e1] at this
        exact this
      refine ok_mald (i + 1) rfl (by omega) (by omega) ?_
      rw [w88, w32_n (by omega)]
      refine ok_ite (fun hpp => ?_) (fun hpp => skip (fun z => hpp z.1.1))
      obtain ⟨q1, -⟩ := hD (i + 1) (by omega) (by rw [hN]; omega) hpp
      refine ok_mald (i + 1) rfl (by omega) (by omega) ?_
      rw [q1, w32_b2i]
      refine ok_ite (fun hz => ?_) (fun hz => skip (fun z => hz (by rw [z.2.1]; rfl)))
      have hd := b2i_0.mp hz
      refine ok_mald (i + 1) rfl (by omega) (by omega) ?_
      rw [w91, hday]
      refine ok_ite (fun hlt => skip (fun z => by have := z.1.2; omega)) (fun hlt => ?_)
      rw [w32_n (by omega)]
      refine ok_ite (fun h0 => take ⟨⟨hpp, by omega⟩, hd, Or.inl (by omega)⟩) (fun h0 => ?_)
      have w90' := (hb (pkA m p day D i) (by omega) (by omega)).2.1
      refine ok_mald (i + 1) rfl (by omega) (by omega) (ok_mald (pkA m p day D i) rfl (by omega) (by omega) ?_)
      rw [w90, w90']
      refine ok_ite (fun hle2 => skip (fun z => by rcases z.2.2 with y | y <;> omega)) (fun hle2 => take ⟨⟨hpp, by omega⟩, hd, Or.inr (by omega)⟩)) NN 0 (Nat.zero_le _) (NN_gt (by omega))
  obtain ⟨r, e, rfl⟩ := key
  exact e
