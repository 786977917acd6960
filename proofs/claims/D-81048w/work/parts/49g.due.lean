/-! A CLAIM'S VALUE -/
/-- the twin's state with its scratch blanked -/
def pj (m : Mu) : Mu := (fun k => if k ∈ MS0 then 0 else m.1 k, fun k => if k ∈ MA0 then fun _ => 0 else m.2 k)
theorem pj_fr {m m' : Mu} (h : mfr MS0 MA0 m m') : pj m' = pj m := by
  unfold pj
  refine Prod.ext (funext fun k => ?_) (funext fun k => ?_)
  · show (if k ∈ MS0 then 0 else m'.1 k) = (if k ∈ MS0 then 0 else m.1 k)
    by_cases hk : k ∈ MS0
    · rw [if_pos hk, if_pos hk]
    · rw [if_neg hk, if_neg hk, h.1 k hk]
  · show (if k ∈ MA0 then (fun _ => 0) else m'.2 k) = (if k ∈ MA0 then (fun _ => 0) else m.2 k)
    by_cases hk : k ∈ MA0
    · rw [if_pos hk, if_pos hk]
    · rw [if_neg hk, if_neg hk, h.2 k hk]
theorem pj_2 {m : Mu} {k : Nat} (h : k ∉ MA0) : (pj m).2 k = m.2 k := if_neg h
theorem pj_1 {m : Mu} {k : Nat} (h : k ∉ MS0) : (pj m).1 k = m.1 k := if_neg h
theorem pj_mald {m : Mu} {k n : Nat} {i : Int} (h : k ∉ MA0) : mald (pj m) k n i = mald m k n i := by unfold mald; rw [pj_2 h]
theorem pj_slc {m : Mu} {w : Nat} : slc (pj m) w = slc m w := slc_of (fun k h1 h2 => pj_2 (by
  intro q
  simp only [MA0, List.mem_cons, List.not_mem_nil, or_false] at q
  omega))
theorem pj_held {m : Mu} {p w d k : Int} : m5_held p w d k (pj m) = m5_held p w d k m := by
  have key : ∀ n a b c e, m5_held_l12 p w d k (pj m) n a b c e = m5_held_l12 p w d k m n a b c e := by
    intro n
    induction n with
    | zero => intro a b c e; rfl
    | succ n ih =>
      intro a b c e
      have ihf : m5_held_l12 p w d k (pj m) n = m5_held_l12 p w d k m n := by funext a b c e; exact ih a b c e
      unfold m5_held_l12 m5_held_b105
      simp only [pj_mald (m := m) (k := 82) (by decide), pj_mald (m := m) (k := 83) (by decide), pj_mald (m := m) (k := 84) (by decide), pj_mald (m := m) (k := 85) (by decide), pj_mald (m := m) (k := 86) (by decide), ihf]
  unfold m5_held
  rw [key]
theorem pj_vvE {m : Mu} {e : Nat} {day : Int} : vvE (pj m) e day = vvE m e day := by
  funext f
  unfold vvE
  rw [pj_2 (k := 75) (by decide), pj_2 (k := 74) (by decide), pj_2 (k := 73) (by decide)]
/-- what a policy holds -/
noncomputable def hv (m : Mu) (p : Nat) (w d k : Int) : Int := (m5_held p w d k (pj m)).getD 0
/-- the sum of a claim behind first, share, most, year, all and the policy's limit -/
def cap (t x y : Int) : Int := if 0 ≤ t then min x (t - y) else x
def chW (a : Int) (s : Nat → Int) (lim tot yr : Int) : Int := max 0 (min (cap (s 4) (cap (s 3) (cap (s 2) a 0) yr) tot) (lim - tot))
def chV (loss : Int) (s : Nat → Int) (lim tot yr : Int) : Int := chW (max 0 (loss - max 0 (s 0)) * (if 0 ≤ s 1 then s 1 else 1000) / 1000) s lim tot yr
/-- a claim's value, the sums paid before it in all and in its year given -/
noncomputable def dueV (m : Mu) (p : Nat) (day : Int) (c : Nat) (tot yr : Int) : Int :=
  if hv m p 2 ((pj m).2 90 c) day = 0 ∨ hv m p 0 ((pj m).2 90 c) day = 0 ∨ cmpB (slc (pj m) (hv m p 0 ((pj m).2 90 c) day).toNat) (slc (pj m) ((pj m).2 72 ((pj m).2 89 c).toNat).toNat) = false ∨ setl (slc (pj m) (hv m p 0 ((pj m).2 90 c) day).toNat) (dgt (slc (pj m) (hv m p 0 ((pj m).2 90 c) day).toNat) (vvE (pj m) ((pj m).2 89 c).toNat day)) ≠ 1 then 0
  else chV (onV ((pj m).2 92 c) (fun k => (pj m).2 93 (6 * c + k)) (fun k => (pj m).2 94 (6 * c + k)) day 0) (slc (pj m) (hv m p 0 ((pj m).2 90 c) day).toNat 32) (hv m p 1 ((pj m).2 90 c) day) tot yr
theorem dueV_fr {m m' : Mu} (h : mfr MS0 MA0 m m') : dueV m' = dueV m := by
  unfold dueV hv
  rw [pj_fr h]
/-- without the blanking -/
theorem dueV_e (m : Mu) (p : Nat) (day : Int) (c : Nat) (tot yr : Int) : dueV m p day c tot yr = if hv m p 2 (m.2 90 c) day = 0 ∨ hv m p 0 (m.2 90 c) day = 0 ∨ cmpB (slc m (hv m p 0 (m.2 90 c) day).toNat) (slc m (m.2 72 (m.2 89 c).toNat).toNat) = false ∨ setl (slc m (hv m p 0 (m.2 90 c) day).toNat) (dgt (slc m (hv m p 0 (m.2 90 c) day).toNat) (vvE m (m.2 89 c).toNat day)) ≠ 1 then 0
  else chV (onV (m.2 92 c) (fun k => m.2 93 (6 * c + k)) (fun k => m.2 94 (6 * c + k)) day 0) (slc m (hv m p 0 (m.2 90 c) day).toNat 32) (hv m p 1 (m.2 90 c) day) tot yr := by
  unfold dueV
  rw [pj_2 (k := 90) (by decide), pj_2 (k := 89) (by decide), pj_2 (k := 72) (by decide), pj_2 (k := 92) (by decide), pj_2 (k := 93) (by decide), pj_2 (k := 94) (by decide), pj_slc, pj_slc, pj_vvE]
theorem hv_e (m : Mu) (p : Nat) (w d k : Int) : hv m p w d k = (m5_held p w d k m).getD 0 := by unfold hv; rw [pj_held]
/-- both sides hold the same -/
theorem held_e {G : CG} {L : Ly} {u : Sg} {m : Mu} (h : RC G L u m) {p : Nat} (h1 : 1 ≤ p) (h2 : (p : Int) ≤ m.1 81) {w d k : Int} (hw : w32 w = w) (hd : w32 d = d) (hk : w32 k = k) : f20_on G (some (L.1 (5000 + 8 * p))) w d k u = some (hv m p w d k) ∧ m5_held p w d k m = some (hv m p w d k) ∧ 0 ≤ hv m p w d k ∧ hv m p w d k ≤ 99999999 ∧ (w = 0 → hv m p w d k ≤ m.1 11) ∧ (w = 2 → hv m p w d k ≤ 1) := by
  have hP := h.2.2.2.2.2.2.1
  have hp := hP.2.2.2 p h1 h2
  have p12 : p ≤ 12 := by have := hP.2.1; omega
  have hw11 := h.2.2.2.2.1.1
  obtain ⟨a, b, ea, eb, e, hr⟩ := on_held p12 hp hw hd hk
  subst e
  have hh : hv m p w d k = a := by rw [hv_e, eb]; rfl
  rw [hh]
  refine ⟨ea, eb, ?_⟩
  rcases hr with rfl | ⟨i, i1, i2, rfl⟩
  · exact ⟨by omega, by omega, fun _ => by omega, fun _ => by omega⟩
  · obtain ⟨q1, q2, q3, q4, q5, q6, q7, -⟩ := hp.2.2.2.2.2.2.2 i i1
    exact ⟨q4, q5, fun z => q6 (by rw [i2]; exact z), fun z => q7 (by rw [i2]; exact z)⟩
