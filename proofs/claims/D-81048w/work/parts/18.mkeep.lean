/-! WHAT THE TWIN MAY CHANGE -/
def LSc : List Nat := [2, 10, 11, 68, 70, 71, 81, 87, 97, 101, 102, 111, 115]
def LAr : List Nat := [0, 1, 66, 67, 69, 72, 73, 74, 75, 82, 83, 84, 85, 86, 88, 89, 90, 91, 92, 93, 94, 98, 99, 100, 103, 104, 105, 106, 107, 108, 109, 110, 112]
theorem RC_mod {G : CG} {L : Ly} {u : Sg} {m m' : Mu} (h : RC G L u m) (h1 : ∀ k ∈ LSc, m'.1 k = m.1 k) (h2 : ∀ k ∈ LAr, m'.2 k = m.2 k) (h3 : ∀ w : Nat, 1 ≤ w → (w : Int) ≤ m.1 11 → slc m' w = slc m w) : RC G L u m' := by
  obtain ⟨hR, hS, hA, hJ, hW, hE, hP, hK⟩ := h
  refine ⟨hR, ?_, ?_, ?_, ?_, ?_, ?_, ?_⟩
  · unfold RS
    rw [h1 2 (by decide), h1 10 (by decide), h1 97 (by decide), h1 102 (by decide), h1 101 (by decide), h1 111 (by decide), h1 115 (by decide)]
    exact hS
  · unfold RA
    rw [h1 2 (by decide), h1 97 (by decide), h1 102 (by decide), h1 111 (by decide), h1 115 (by decide), h2 0 (by decide), h2 1 (by decide), h2 98 (by decide), h2 99 (by decide), h2 100 (by decide), h2 103 (by decide), h2 104 (by decide), h2 105 (by decide), h2 106 (by decide), h2 109 (by decide), h2 110 (by decide), h2 112 (by decide)]
    exact hA
  · unfold RJ
    rw [h1 68 (by decide), h1 70 (by decide), h2 66 (by decide), h2 67 (by decide), h2 69 (by decide)]
    exact hJ
  · unfold RW
    rw [h1 11 (by decide)]
    obtain ⟨a1, a2, a3, a4⟩ := hW
    exact ⟨a1, a2, a3, fun w q1 q2 => by rw [h3 w q1 q2]; exact a4 w q1 q2⟩
  · unfold RE EE
    rw [h1 71 (by decide), h1 11 (by decide), h2 72 (by decide), h2 73 (by decide), h2 74 (by decide), h2 75 (by decide)]
    obtain ⟨a1, a2, a3, a4⟩ := hE
    refine ⟨a1, a2, a3, fun e q1 q2 => ?_⟩
    have := a4 e q1 q2
    unfold EE at this
    rw [h3 (m.2 72 e).toNat (by omega) (by omega)]
    exact this
  · unfold RP PE
    rw [h1 81 (by decide), h1 11 (by decide), h2 82 (by decide), h2 84 (by decide), h2 85 (by decide), h2 86 (by decide), h2 83 (by decide)]
    obtain ⟨a1, a2, a3, a4⟩ := hP
    refine ⟨a1, a2, a3, fun p q1 q2 => ?_⟩
    obtain ⟨b1, b2, b3, b4, b5, b6, b7, b8⟩ := a4 p q1 q2
    refine ⟨b1, b2, b3, b4, b5, b6, b7, fun k hk => ⟨fun j hj => ?_, (b8 k hk).2⟩⟩
    have e : m'.2 (83 + j) = m.2 (83 + j) := by
      rcases (show j = 0 ∨ j = 1 ∨ j = 2 ∨ j = 3 by omega) with rfl | rfl | rfl | rfl
      · exact h2 83 (by decide)
      · exact h2 84 (by decide)
      · exact h2 85 (by decide)
      · exact h2 86 (by decide)
    rw [e]
    exact (b8 k hk).1 j hj
  · unfold RK KE
    rw [h1 87 (by decide), h1 81 (by decide), h1 71 (by decide), h2 88 (by decide), h2 89 (by decide), h2 90 (by decide), h2 91 (by decide), h2 92 (by decide), h2 93 (by decide), h2 94 (by decide), h2 107 (by decide), h2 108 (by decide)]
    exact hK
theorem wid_0 {k : Nat} (h : wid k ≠ 0) : 12 ≤ k ∧ k ≤ 41 := by
  unfold wid at h
  split at h <;> first | omega | exact absurd rfl h
theorem slc_of {m m' : Mu} {w : Nat} (h : ∀ k, 12 ≤ k → k ≤ 41 → m'.2 k = m.2 k) : slc m' w = slc m w := by
  funext k j
  unfold slc
  split
  · next hj =>
    obtain ⟨a, b⟩ := wid_0 (k := k) (by omega)
    rw [h k a b]
  · rfl
/-- the twin's scalars and arrays that hold nothing from call to call -/
def MS0 : List Nat := [3, 4, 5, 6, 7, 8, 9, 46, 47, 49, 50, 51, 52, 56, 62, 65]
def MA0 : List Nat := [42, 43, 44, 45, 48, 53, 54, 55, 57, 58, 59, 60, 61, 63, 64, 76, 77, 78, 79, 80, 95, 96, 113, 114]
theorem RC_msc {G : CG} {L : Ly} {u : Sg} {m m' : Mu} (h : RC G L u m) (k : mfr MS0 MA0 m m') : RC G L u m' := by
  refine RC_mod h (fun j hj => k.1 j ?_) (fun j hj => k.2 j ?_) (fun w _ _ => slc_of (fun j h1 h2 => k.2 j ?_))
  · revert hj; revert j; decide
  · revert hj; revert j; decide
  · intro hh
    simp only [MA0, List.mem_cons, List.not_mem_nil, or_false] at hh
    omega
