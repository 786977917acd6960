/-! THE READER: how many times stand behind -/
theorem c_times {G : CG} {r a l b : Nat} {t : Sg} {W : Wv} {el : Nat → Nat} {np : Nat} (hr : zT t r = 8) (h286 : zR t r 286 = some a) (ha : zT t a = 7) (h1 : zR t a 244 = some l) (h2 : LA t l b np) (h7 : ∀ i, i < np → zB t b i = some (el i)) (hp : ∀ k, k < np → zT t (el k) = 18 ∧ zI t (el k) 680 + 15 = W 28 k ∧ 15 ≤ W 28 k ∧ W 28 k ≤ 19) : ∀ (k f : Nat) (v : Int), k ≤ np → np ≤ 100 → k < f → f7_timesBehind_l17 G (some r) t f v ((k : Int) - 1) = some (v + (tmB W k : Int)) := by
  intro k
  induction k with
  | zero =>
    intro f v _ _ hf
    obtain ⟨f, rfl⟩ : ∃ g, f = g + 1 := ⟨f - 1, by omega⟩
    unfold f7_timesBehind_l17
    rw [if_pos (by decide)]
    simp [tmB]
  | succ k ih =>
    intro f v hk hn hf
    obtain ⟨f, rfl⟩ : ∃ g, f = g + 1 := ⟨f - 1, by omega⟩
    obtain ⟨p1, p2, p3, p4⟩ := hp k (by omega)
    have e : (((k + 1 : Nat) : Int) - 1) = (k : Int) := by omega
    have w680 : w32 (zI t (el k) 680) = W 28 k - 15 := by rw [w32_id (by omega) (by omega)]; omega
    unfold f7_timesBehind_l17 f7_timesBehind_b73
    rw [e, w32_n (by omega), if_neg (by omega), gfR_v hr h286, Option.bind_some, gfR_v ha h1, Option.bind_some, ztg_e h2.1, Option.bind_some, J_get h2 k rfl (by omega), Option.bind_some, h7 k (by omega), zcast_1 p1, Option.bind_some, gfI_e p1, Option.bind_some, w680]
    simp only [tmB]
    by_cases z : W 28 k = 18
    · rw [if_pos (by omega), if_pos z]; simp
    · rw [if_neg (by omega), if_neg z, Option.bind_some, gfR_v ha h1, Option.bind_some, ztg_e h2.1, Option.bind_some, J_get h2 k rfl (by omega), Option.bind_some, h7 k (by omega), zcast_1 p1, Option.bind_some, gfI_e p1, Option.bind_some, w680]
      have hr := fun v => ih f v (by omega) hn (by omega)
      by_cases y : W 28 k = 16
      · rw [if_pos (by omega), if_pos y, show (k : Int) + -1 = (k : Int) - 1 by omega, hr]
        exact congrArg some (by omega)
      · rw [if_neg (by omega), if_neg y, show (k : Int) + -1 = (k : Int) - 1 by omega, hr]
        exact congrArg some (by omega)
theorem m_times {m : Mu} {W : Wv} {np : Nat} {v1 v2 : Int} (hs : slc m 0 = W) (hp : ∀ k, k < np → 15 ≤ W 28 k ∧ W 28 k ≤ 19) (hn : np ≤ 24) : ∀ (k f : Nat) (v : Int), k ≤ np → k < f → m5_readPrice_l19 v1 v2 m f v ((k : Int) - 1) = some (v + (tmB W k : Int)) := by
  intro k
  induction k with
  | zero =>
    intro f v _ hf
    obtain ⟨f, rfl⟩ : ∃ g, f = g + 1 := ⟨f - 1, by omega⟩
    unfold m5_readPrice_l19
    rw [if_pos (by decide)]
    simp [tmB]
  | succ k ih =>
    intro f v hk hf
    obtain ⟨f, rfl⟩ : ∃ g, f = g + 1 := ⟨f - 1, by omega⟩
    obtain ⟨p3, p4⟩ := hp k (by omega)
    have e : (((k + 1 : Nat) : Int) - 1) = (k : Int) := by omega
    have e28 : mald m 28 336 (k : Int) = some (W 28 k) := by
      rw [mald_e k rfl (by omega) (by omega), ← hs]
      show _ = some (if k < 24 then m.2 28 (24 * 0 + k) else 0)
      rw [if_pos (by omega), show 24 * 0 + k = k by omega]
    unfold m5_readPrice_l19 m5_readPrice_b54
    rw [e, w32_n (by omega), if_neg (by omega), e28, Option.bind_some, Option.bind_some, w32_id (x := W 28 k) (by omega) (by omega)]
    simp only [tmB]
    by_cases z : W 28 k = 18
    · rw [if_pos z, if_pos z]; simp
    · rw [if_neg z, if_neg z]
      have hr := fun v => ih f v (by omega) (by omega)
      by_cases y : W 28 k = 16
      · rw [if_pos y, if_pos y, show (k : Int) + -1 = (k : Int) - 1 by omega, hr]
        exact congrArg some (by omega)
      · rw [if_neg y, if_neg y, show (k : Int) + -1 = (k : Int) - 1 by omega, hr]
        exact congrArg some (by omega)
