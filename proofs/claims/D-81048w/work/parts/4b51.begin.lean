/-! THE READER: the beginning: an empty wording, a reader -/
/-- an empty list comes into the field j of a -/
def nl (t : Sg) (a j bE : Nat) : Sg := zsR (zsR (zsI (znew t 6 0) (zN t) 200 0) (zN t) 201 (some bE)) a j (some (zN t))
/-- cells of an object a that are made since u; f: its references -/
def BL (bE : Nat) (u t : Sg) (a : Nat) (f : Nat → Option Nat) : Prop := (gro u t ∧ ∀ q, q < zN u → sam u t q) ∧ (zN u ≤ a ∧ a < zN t ∧ zT t a = 7) ∧ (∀ j, zR t a j = f j) ∧ (∀ j l, f j = some l → j ≠ 247 → a < l ∧ l < zN t ∧ zT t l = 6 ∧ zR t l 201 = some bE ∧ zI t l 202 = 0) ∧ (∀ j l, f j = some l → a < l ∧ l < zN t) ∧ ∀ j j' l, f j = some l → f j' = some l → j = j'
theorem nl_sam {t : Sg} {a j bE q : Nat} (hq : q < zN t) (ha : q ≠ a) : sam t (nl t a j bE) q := sam_zsR (sam_zsR (sam_zsI (sam_znew sam_rf (by omega)) (by omega)) (by omega)) ha
theorem nl_N {t : Sg} {a j bE : Nat} : zN (nl t a j bE) = zN t + 1 := rfl
theorem nl_I {t : Sg} {a j bE g : Nat} (ha : a < zN t) : zI (nl t a j bE) a g = zI t a g := by
  unfold nl
  rw [zsR_I, zsR_I, zsI_I, if_neg (fun q => by have := q.1; omega), znew_I, if_neg (by omega)]
theorem nl_ok {bE a j : Nat} {u t : Sg} {f : Nat → Option Nat} (h : BL bE u t a f) (hj : f j = none) (hj2 : j ≠ 247) : BL bE u (nl t a j bE) a (fun i => if i = j then some (zN t) else f i) := by
  obtain ⟨⟨h1, h2⟩, ⟨h3, h4, h5⟩, h6, h7, h8, h9⟩ := h
  have hs : ∀ q, q < zN t → q ≠ a → sam t (nl t a j bE) q := fun q q1 q2 => nl_sam q1 q2
  have ht : ∀ q, q < zN t → zT (nl t a j bE) q = zT t q ∧ zL (nl t a j bE) q = zL t q := fun q hq => by
    unfold nl
    refine ⟨?_, ?_⟩
    · show zT (znew t 6 0) q = _; rw [znew_T, if_neg (by omega)]
    · show zL (znew t 6 0) q = _; rw [znew_L, if_neg (by omega)]
  have hg : gro t (nl t a j bE) := ⟨by rw [nl_N]; omega, ht⟩
  refine ⟨⟨gro_tr h1 hg, fun q hq => sam_tr (h2 q hq) (hs q (by have := h1.1; omega) (by omega))⟩, ⟨h3, by rw [nl_N]; omega, by rw [(ht a h4).1]; exact h5⟩, fun i => ?_, fun i l hl hi => ?_, fun i l hl => ?_, fun i i' l q1 q2 => ?_⟩
  · show zR (nl t a j bE) a i = if i = j then some (zN t) else f i
    unfold nl
    rw [zsR_R]
    by_cases z : i = j
    · rw [if_pos ⟨rfl, z⟩, if_pos z]
    · rw [if_neg (fun q => z q.2), if_neg z, zsR_R, if_neg (fun q => by have := q.1; omega)]
      show zR (znew t 6 0) a i = f i
      rw [znew_R, if_neg (by omega)]; exact h6 i
  · by_cases z : i = j
    · have hl' : (if i = j then some (zN t) else f i) = some l := hl
      rw [if_pos z] at hl'
      cases hl'
      refine ⟨h4, by rw [nl_N]; omega, ?_, ?_, ?_⟩
      · unfold nl; show zT (znew t 6 0) (zN t) = 6; rw [znew_T, if_pos rfl]
      · unfold nl; rw [zsR_R, if_neg (fun q => by have := q.1; omega), zsR_R, if_pos ⟨rfl, rfl⟩]
      · unfold nl; rw [zsR_I, zsR_I, zsI_I, if_neg (fun q => absurd q.2 (by decide)), znew_I, if_pos rfl]
    · have hl' : (if i = j then some (zN t) else f i) = some l := hl
      rw [if_neg z] at hl'
      obtain ⟨k1, k2, k3, k4, k5⟩ := h7 i l hl' hi
      have s := hs l k2 (by omega)
      exact ⟨k1, by rw [nl_N]; omega, by rw [s.1]; exact k3, by rw [s.2.2.2.1]; exact k4, by rw [s.2.2.1]; exact k5⟩
  · have hl' : (if i = j then some (zN t) else f i) = some l := hl
    by_cases z : i = j
    · rw [if_pos z] at hl'; cases hl'; exact ⟨h4, by rw [nl_N]; omega⟩
    · rw [if_neg z] at hl'
      obtain ⟨k1, k2⟩ := h8 i l hl'
      exact ⟨k1, by rw [nl_N]; omega⟩
  · have q1' : (if i = j then some (zN t) else f i) = some l := q1
    have q2' : (if i' = j then some (zN t) else f i') = some l := q2
    by_cases z : i = j
    · by_cases z' : i' = j
      · omega
      · rw [if_pos z] at q1'; rw [if_neg z'] at q2'; cases q1'
        have := (h8 i' _ q2').2; omega
    · by_cases z' : i' = j
      · rw [if_neg z] at q1'; rw [if_pos z'] at q2'; cases q2'
        have := (h8 i _ q1').2; omega
      · rw [if_neg z] at q1'; rw [if_neg z'] at q2'; exact h9 i i' l q1' q2'
theorem nl_f {G : CG} {t : Sg} {a j bE : Nat} {α : Type} {K : Sg → Option (α × Nat × Nat)} (hT : zT t a = 7) (ha : G0 G ≤ a ∧ a < zN t) (hE : GS G 6 = some bE) : (bdU (zNew t 6 3) fun q2 => (fJ2_init G (some q2.1) q2.2).bind fun u3 => (pfR G.2.2.2.1 u3 7 j (some a) (some q2.1)).bind fun u4 => K u4) = (K (nl t a j bE)).map fun r => (r.1, r.2.1 + 1, r.2.2 + 3) := by
  show ((fJ2_init G (some (zN t)) (znew t 6 0)).bind _).map _ = _
  have hT' : zT (zsR (zsI (znew t 6 0) (zN t) 200 0) (zN t) 201 (some bE)) a = 7 := by
    show zT (znew t 6 0) a = 7; rw [znew_T, if_neg (by omega)]; exact hT
  rw [J_init (by rw [znew_T, if_pos rfl]) (by show G0 G ≤ _; omega) hE, Option.bind_some]
  show ((pfR G.2.2.2.1 (zsR (zsI (znew t 6 0) (zN t) 200 0) (zN t) 201 (some bE)) 7 j (some a) (some (zN t))).bind K).map _ = _
  rw [pfR_e hT' ha.1, Option.bind_some]
  rfl
/-- numbers of the object do not matter -/
theorem BL_I {bE a j : Nat} {u t : Sg} {v : Int} {f : Nat → Option Nat} (h : BL bE u t a f) : BL bE u (zsI t a j v) a f := by
  obtain ⟨⟨h1, h2⟩, ⟨h3, h4, h5⟩, h6, h7, h8, h9⟩ := h
  refine ⟨⟨h1, fun q hq => sam_zsI (h2 q hq) (by omega)⟩, ⟨h3, h4, h5⟩, h6, fun i l hl hi => ?_, h8, h9⟩
  obtain ⟨k1, k2, k3, k4, k5⟩ := h7 i l hl hi
  exact ⟨k1, k2, k3, k4, by rw [zsI_I, if_neg (fun q => by have := q.1; omega)]; exact k5⟩
/-- the array of bounds -/
def na (t : Sg) (a : Nat) : Sg := zsR (zsA (zsA (zsA (znew t 101 3) (zN t) 0 (-3)) (zN t) 1 (-3)) (zN t) 2 (-3)) a 247 (some (zN t))
theorem na_sam {t : Sg} {a q : Nat} (hq : q < zN t) (ha : q ≠ a) : sam t (na t a) q := sam_zsR (sam_zsA (sam_zsA (sam_zsA (sam_znew sam_rf (by omega)) (by omega)) (by omega)) (by omega)) ha
theorem na_ok {bE a : Nat} {u t : Sg} {f : Nat → Option Nat} (h : BL bE u t a f) (hj : f 247 = none) : BL bE u (na t a) a (fun i => if i = 247 then some (zN t) else f i) ∧ zT (na t a) (zN t) = 101 ∧ zL (na t a) (zN t) = 3 ∧ (∀ k, k < 3 → zA (na t a) (zN t) k = -3) ∧ ∀ g, zI (na t a) a g = zI t a g := by
  obtain ⟨⟨h1, h2⟩, ⟨h3, h4, h5⟩, h6, h7, h8, h9⟩ := h
  have hs : ∀ q, q < zN t → q ≠ a → sam t (na t a) q := fun q q1 q2 => na_sam q1 q2
  have ht : ∀ q, q < zN t → zT (na t a) q = zT t q ∧ zL (na t a) q = zL t q := fun q hq => by
    refine ⟨?_, ?_⟩
    · show zT (znew t 101 3) q = _; rw [znew_T, if_neg (by omega)]
    · show zL (znew t 101 3) q = _; rw [znew_L, if_neg (by omega)]
  have N' : zN (na t a) = zN t + 1 := rfl
  have hg : gro t (na t a) := ⟨by rw [N']; omega, ht⟩
  refine ⟨⟨⟨gro_tr h1 hg, fun q hq => sam_tr (h2 q hq) (hs q (by have := h1.1; omega) (by omega))⟩, ⟨h3, by rw [N']; omega, by rw [(ht a h4).1]; exact h5⟩, fun i => ?_, fun i l hl hi => ?_, fun i l hl => ?_, fun i i' l q1 q2 => ?_⟩, ?_, ?_, fun k hk => ?_, fun g => ?_⟩
  · show zR (na t a) a i = if i = 247 then some (zN t) else f i
    unfold na
    rw [zsR_R]
    by_cases z : i = 247
    · rw [if_pos ⟨rfl, z⟩, if_pos z]
    · rw [if_neg (fun q => z q.2), if_neg z]
      show zR (znew t 101 3) a i = f i
      rw [znew_R, if_neg (by omega)]; exact h6 i
  · have hl' : (if i = 247 then some (zN t) else f i) = some l := hl
    rw [if_neg hi] at hl'
    obtain ⟨k1, k2, k3, k4, k5⟩ := h7 i l hl' hi
    have s := hs l k2 (by omega)
    exact ⟨k1, by rw [N']; omega, by rw [s.1]; exact k3, by rw [s.2.2.2.1]; exact k4, by rw [s.2.2.1]; exact k5⟩
  · have hl' : (if i = 247 then some (zN t) else f i) = some l := hl
    by_cases z : i = 247
    · rw [if_pos z] at hl'; cases hl'; exact ⟨h4, by rw [N']; omega⟩
    · rw [if_neg z] at hl'
      obtain ⟨k1, k2⟩ := h8 i l hl'
      exact ⟨k1, by rw [N']; omega⟩
  · have q1' : (if i = 247 then some (zN t) else f i) = some l := q1
    have q2' : (if i' = 247 then some (zN t) else f i') = some l := q2
    by_cases z : i = 247
    · by_cases z' : i' = 247
      · omega
      · rw [if_pos z] at q1'; rw [if_neg z'] at q2'; cases q1'
        have := (h8 i' _ q2').2; omega
    · by_cases z' : i' = 247
      · rw [if_neg z] at q1'; rw [if_pos z'] at q2'; cases q2'
        have := (h8 i _ q1').2; omega
      · rw [if_neg z] at q1'; rw [if_neg z'] at q2'; exact h9 i i' l q1' q2'
  · show zT (znew t 101 3) (zN t) = 101; rw [znew_T, if_pos rfl]
  · show zL (znew t 101 3) (zN t) = 3; rw [znew_L, if_pos rfl]
  · obtain ⟨v, hv⟩ : ∃ v : Int, v = -3 := ⟨_, rfl⟩
    rw [← hv]
    have e : zA (na t a) (zN t) k = if k = 2 then -3 else if k = 1 then -3 else if k = 0 then -3 else zA (znew t 101 3) (zN t) k := by
      unfold na
      rw [zsR_A, zsA_A, zsA_A, zsA_A]
      simp
    rw [e, ← hv]
    by_cases z2 : k = 2
    · rw [if_pos z2]
    · rw [if_neg z2]
      by_cases z1 : k = 1
      · rw [if_pos z1]
      · rw [if_neg z1, if_pos (by omega)]
  · show zI (znew t 101 3) a g = _
    rw [znew_I, if_neg (by omega)]
