/-- sums over the claims 1 .. n that are done -/
def sumD (D : Nat → Bool) (P : Nat → Int) : Nat → Int
  | 0 => 0
  | n + 1 => sumD D P n + if D (n + 1) then P (n + 1) else 0
theorem sumD_bd {D : Nat → Bool} {P : Nat → Int} (h : ∀ c, D c = true → 0 ≤ P c ∧ P c ≤ 99999999) : ∀ n : Nat, 0 ≤ sumD D P n ∧ sumD D P n ≤ 99999999 * (n : Int) := by
  intro n
  induction n with
  | zero => simp [sumD]
  | succ n ih =>
    simp only [sumD]
    by_cases hd : D (n + 1) = true
    · have := h _ hd; rw [if_pos hd]; omega
    · rw [if_neg hd]; omega
/-- the twin's payments: 96 done, 95 paid -/
def DP (m : Mu) (p : Nat) (D : Nat → Bool) (P : Nat → Int) : Prop := ∀ c : Nat, 1 ≤ c → (c : Int) ≤ m.1 87 → m.2 88 c = (p : Int) → m.2 96 c = b2i (D c) ∧ (D c = true → m.2 95 c = P c)
theorem m_sums {m : Mu} {p c w : Nat} {D : Nat → Bool} {P : Nat → Int} {x y : Int} (hn : 0 ≤ m.1 87 ∧ m.1 87 ≤ 40) (h88 : ∀ c : Nat, 1 ≤ c → (c : Int) ≤ m.1 87 → w32 (m.2 88 c) = m.2 88 c ∧ 0 ≤ m.2 90 c ∧ m.2 90 c ≤ 9999) (hp : p ≤ 12) (hDP : DP m p D P) (hD : ∀ c, D c = true → m.2 88 c = (p : Int)) (hy : 0 ≤ y ∧ y ≤ 9999) : m5_due_l99 c x p y w m NN 0 0 1 = some (sumD (fun j => D j && decide (m.2 90 j / 365 = y / 365)) P (m.1 87).toNat, sumD D P (m.1 87).toNat) := by
  obtain ⟨N, hN⟩ : ∃ N : Nat, m.1 87 = N := ⟨(m.1 87).toNat, by omega⟩
  rw [hN] at hn h88 ⊢
  generalize hDy : (fun j => D j && decide (m.2 90 j / 365 = y / 365)) = Dy
  have key := loop_ind (fun q (i : Nat) => m5_due_l99 c x p y w m q (sumD Dy P i) (sumD D P i) ((i : Int) + 1)) (fun i => N - i) (fun i => i ≤ N) (fun _ r => r = (sumD Dy P N, sumD D P N)) (by
    rintro q i hi ih
    show ok (m5_due_l99 c x p y w m (q + 1) (sumD Dy P i) (sumD D P i) ((i : Int) + 1)) _
    unfold m5_due_l99
    rw [hN, w32_n (by omega), w32_id (x := (i : Int) + 1) (by omega) (by omega)]
    refine ok_ite (fun hc => ok_some ?_) (fun hc => ?_)
    · have : i = N := by omega
      rw [this]
    · have hrec := ih (i + 1) (by omega) (by omega)
      obtain ⟨w88, d1, d2⟩ := h88 (i + 1) (by omega) (by omega)
      have ei : (i : Int) + 1 = ((i + 1 : Nat) : Int) := by omega
      rw [ei]
      refine ok_mald (i + 1) rfl (by omega) (by omega) ?_
      rw [w88, w32_n (by omega)]
      have skip : D (i + 1) = false → ok (m5_due_l99 c x p y w m q (sumD Dy P i) (sumD D P i) (((i + 1 : Nat) : Int) + 1)) (fun r => r = (sumD Dy P N, sumD D P N)) := by
        intro hd
        have e1 : sumD D P (i + 1) = sumD D P i := by simp only [sumD]; rw [hd]; simp
        have e2 : sumD Dy P (i + 1) = sumD Dy P i := by simp only [sumD]; rw [← hDy]; simp [hd]
        have := hrec
        simp only [e1, e2] at this
        exact this
      refine ok_ite (fun hpp => ?_) (fun hpp => skip ?_)
      · obtain ⟨q1, q2⟩ := hDP (i + 1) (by omega) (by rw [hN]; omega) hpp
        refine ok_mald (i + 1) rfl (by omega) (by omega) ?_
        rw [q1, w32_b2i]
        refine ok_ite (fun hz => skip (b2i_0.mp hz)) (fun hz => ?_)
        have hd := b2i_n1 hz
        have e1 : sumD D P (i + 1) = sumD D P i + P (i + 1) := by simp only [sumD]; rw [hd]; simp
        refine ok_mald (i + 1) rfl (by omega) (by omega) (ok_mald (i + 1) rfl (by omega) (by omega) ?_)
        rw [q2 hd]
        have dv : ∀ z : Int, 0 ≤ z → z ≤ 9999 → w32 (div32 z 365) = z / 365 := by
          intro z z1 z2
          obtain ⟨n, rfl⟩ : ∃ n : Nat, z = n := ⟨z.toNat, by omega⟩
          rw [show (365 : Int) = ((365 : Nat) : Int) from rfl, div32_n (by omega) (by omega), w32_n (by have := Nat.div_le_self n 365; omega)]
          rfl
        rw [dv _ d1 d2, dv _ hy.1 hy.2]
        refine ok_ite (fun he => ok_mald (i + 1) rfl (by omega) (by omega) ?_) (fun he => ?_)
        · rw [q2 hd]
          have e2 : sumD Dy P (i + 1) = sumD Dy P i + P (i + 1) := by simp only [sumD]; rw [← hDy]; simp [hd, he]
          have := hrec
          simp only [e1, e2] at this
          exact this
        · have e2 : sumD Dy P (i + 1) = sumD Dy P i + 0 := by simp only [sumD]; rw [← hDy]; simp [hd, he]
          have := hrec
          simp only [e1, e2] at this
          exact this
      · cases hh : D (i + 1)
        · rfl
        · exact absurd (hD _ hh) hpp) NN 0 (Nat.zero_le _) (NN_gt (by omega))
  obtain ⟨r, e, rfl⟩ := key
  have e' : m5_due_l99 c x p y w m NN 0 0 1 = some (sumD Dy P N, sumD D P N) := e
  rw [e']; rfl
