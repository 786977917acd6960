/-! THE STEPS OF THE LAW, as its loop needs them (printed by gen_step.py) -/
/-- what holds at the loop's head: the two are related; the text, the cells and the slots so far (a: the calls of type; b: the calls that make cells) -/
def IV (G : CG) (o a b : Nat) (u : Sg) (m : Mu) (ce sl : Nat) : Prop := (∃ Ly : Ly, RC G Ly u m ∧ Ly.1 3 = o) ∧ JB (8 * a) m ∧ ce ≤ 1000 + b * (160 * a + 100) ∧ sl ≤ 1000000 + b * (4800 * a + 18500)
theorem IV_ht {G : CG} {o a b : Nat} {u : Sg} {m : Mu} {ce sl : Nat} (h : IV G o a b u m ce sl) : zT u o = 1 := by
  obtain ⟨⟨Ly, h1, h2⟩, -⟩ := h
  rw [← h2]
  exact rT3 h1.1
theorem IV_cs {G : CG} {o a b : Nat} {u : Sg} {m : Mu} {ce sl : Nat} (h : IV G o a b u m ce sl) (hab : a + b ≤ 64) : ce ≤ 601024 ∧ sl ≤ 7293034 := by
  obtain ⟨-, -, h1, h2⟩ := h
  have h3 : 4 * (a * b) ≤ (a + b) * (a + b) := by
    rcases Nat.le_total a b with h | h
    · obtain ⟨d, rfl⟩ := Nat.exists_eq_add_of_le h
      have e1 : (a + (a + d)) * (a + (a + d)) = 4 * (a * (a + d)) + d * d := by simp only [Nat.mul_add, Nat.add_mul, Nat.mul_comm d a]; omega
      omega
    · obtain ⟨d, rfl⟩ := Nat.exists_eq_add_of_le h
      have e1 : (b + d + b) * (b + d + b) = 4 * ((b + d) * b) + d * d := by simp only [Nat.mul_add, Nat.add_mul, Nat.mul_comm d b]; omega
      omega
  have h4 : (a + b) * (a + b) ≤ 64 * 64 := Nat.mul_le_mul hab hab
  have e1 : b * (160 * a + 100) = 160 * (a * b) + 100 * b := by rw [Nat.mul_add, Nat.mul_comm b 100, Nat.mul_left_comm, Nat.mul_comm b a]
  have e2 : b * (4800 * a + 18500) = 4800 * (a * b) + 18500 * b := by rw [Nat.mul_add, Nat.mul_comm b 18500, Nat.mul_left_comm, Nat.mul_comm b a]
  rw [e1] at h1
  rw [e2] at h2
  omega
theorem IV_aft {G : CG} {o a b : Nat} {u : Sg} {m : Mu} {ce sl : Nat} {x : Option (Int × Sg)} {y : Option (Int × Mu)} (h : IV G o a b u m ce sl) (s : ∀ Ly : Ly, RC G Ly u m → Ly.1 3 = o → sim x y (aft G Ly)) (j : JB (8 * a) m → pcO y (fun r : Int × Mu => JB (8 * a) r.2)) : ∃ r0 r5, x = some r0 ∧ y = some r5 ∧ r0.1 = r5.1 ∧ IV G o a b r0.2 r5.2 ce sl := by
  obtain ⟨⟨Ly, h1, h2⟩, h3, h4⟩ := h
  obtain ⟨r0, r5, e0, e5, e, hR⟩ := s Ly h1 h2
  exact ⟨r0, r5, e0, e5, e, ⟨Ly, hR, h2⟩, j h3 r5 e5, h4⟩
theorem IV_same {G : CG} {o a b : Nat} {u : Sg} {m : Mu} {ce sl : Nat} {x y : Option Int} (h : IV G o a b u m ce sl) (s : ∀ Ly : Ly, RC G Ly u m → Ly.1 3 = o → sim x y same1) : ∃ r0 r5, x = some r0 ∧ y = some r5 ∧ r0 = r5 := by
  obtain ⟨⟨Ly, h1, h2⟩, h3, h4⟩ := h
  exact s Ly h1 h2
theorem IV_aftU {G : CG} {o a b : Nat} {u : Sg} {m : Mu} {ce sl C S : Nat} {x : Option ((Int × Sg) × Nat × Nat)} {y : Option (Int × Mu)} (h : IV G o a b u m ce sl) (s : ∀ Ly : Ly, RC G Ly u m → Ly.1 3 = o → JB (8 * a) m → sim x y (aftU G Ly C S)) (hC : JB (8 * a) m → C ≤ 160 * a + 100) (hS : JB (8 * a) m → S ≤ 4800 * a + 18500) (j : JB (8 * a) m → pcO y (fun r : Int × Mu => JB (8 * a) r.2)) : ∃ r0 c0 n0 r5, x = some (r0, c0, n0) ∧ y = some r5 ∧ r0.1 = r5.1 ∧ IV G o a (b + 1) r0.2 r5.2 (ce + c0) (sl + n0) := by
  obtain ⟨⟨Ly, h1, h2⟩, h3, h4, h5⟩ := h
  obtain ⟨⟨r0, c0, n0⟩, r5, e0, e5, e, k1, k2, L', hL, hR⟩ := s Ly h1 h2 h3
  have k1 : c0 ≤ C := k1
  have k2 : n0 ≤ S := k2
  have k3 := hC h3
  have k4 := hS h3
  refine ⟨r0, c0, n0, r5, e0, e5, e, ⟨L', hR, hL.trans h2⟩, j h3 r5 e5, ?_, ?_⟩
  · rw [Nat.add_mul, Nat.one_mul]; omega
  · rw [Nat.add_mul, Nat.one_mul]; omega
section
variable {G : CG} {o a b : Nat} {u : Sg} {m : Mu} {ce sl : Nat}
theorem st_type (h : IV G o a b u m ce sl) (x1 x2 : Int) (w2 : w32 x2 = x2) : ∃ r0 r5, f0_type G (some o) x1 x2 u = some r0 ∧ m5_type x1 x2 m = some r5 ∧ r0.1 = r5.1 ∧ IV G o (a + 1) b r0.2 r5.2 ce sl := by
  obtain ⟨⟨Ly, h1, h2⟩, h3, h4, h5⟩ := h
  subst h2
  obtain ⟨r0, r5, e0, e5, ⟨e, hR⟩, k⟩ := o_type h1 x1 x2 w2
  have g1 : b * (160 * a + 100) ≤ b * (160 * (a + 1) + 100) := Nat.mul_le_mul_left b (by omega)
  have g2 : b * (4800 * a + 18500) ≤ b * (4800 * (a + 1) + 18500) := Nat.mul_le_mul_left b (by omega)
  have q1 := h3.1
  exact ⟨r0, r5, e0, e5, e, ⟨Ly, hR, rfl⟩, ⟨by omega, by omega⟩, Nat.le_trans h4 (Nat.add_le_add_left g1 _), Nat.le_trans h5 (Nat.add_le_add_left g2 _)⟩
theorem st_place (h : IV G o a b u m ce sl)  : ∃ r0 r5, f0_place G (some o) u = some r0 ∧ m5_place m = some r5 ∧ r0 = r5 := IV_same h (fun Ly hR e => by subst e; exact o_place hR )
theorem st_wording (h : IV G o a b u m ce sl) (ha : a ≤ 64)  : ∃ r0 c0 n0 r5, f0_wording G (some o) u = some (r0, c0, n0) ∧ m5_wording m = some r5 ∧ r0.1 = r5.1 ∧ IV G o a (b + 1) r0.2 r5.2 (ce + c0) (sl + n0) := IV_aftU (C := (20 * (m.1 2).toNat + 60)) (S := (600 * (m.1 2).toNat + 15500)) h (fun Ly hR e j => by subst e; exact o_wording hR (by have := j.1; omega) ) (fun j => by have := j.1; have := j.2; omega) (fun j => by have := j.1; have := j.2; omega) (fun j => JB_wording j)
theorem st_endorse (h : IV G o a b u m ce sl) (ha : a ≤ 64) (x1 : Int) (w1 : w32 x1 = x1) : ∃ r0 c0 n0 r5, f0_endorse G (some o) x1 u = some (r0, c0, n0) ∧ m5_endorse x1 m = some r5 ∧ r0.1 = r5.1 ∧ IV G o a (b + 1) r0.2 r5.2 (ce + c0) (sl + n0) := IV_aftU (C := (20 * (m.1 2).toNat + 100)) (S := (600 * (m.1 2).toNat + 18500)) h (fun Ly hR e j => by subst e; exact o_endorse hR (by have := j.1; omega) x1 w1) (fun j => by have := j.1; have := j.2; omega) (fun j => by have := j.1; have := j.2; omega) (fun j => JB_endorse j)
theorem st_wordingPart (h : IV G o a b u m ce sl) (x1 x2 : Int) (w1 : w32 x1 = x1) (w2 : w32 x2 = x2) : ∃ r0 r5, f0_wordingPart G (some o) x1 x2 u = some r0 ∧ m5_wordingPart x1 x2 m = some r5 ∧ r0 = r5 := IV_same h (fun Ly hR e => by subst e; exact o_wordingPart hR x1 x2 w1 w2)
theorem st_factPart (h : IV G o a b u m ce sl) (x1 x2 x3 : Int) (w1 : w32 x1 = x1) (w2 : w32 x2 = x2) (w3 : w32 x3 = x3) : ∃ r0 r5, f0_factPart G (some o) x1 x2 x3 u = some r0 ∧ m5_factPart x1 x2 x3 m = some r5 ∧ r0 = r5 := IV_same h (fun Ly hR e => by subst e; exact o_factPart hR x1 x2 x3 w1 w2 w3)
theorem st_clause (h : IV G o a b u m ce sl) (x1 x2 : Int) (w1 : w32 x1 = x1) (w2 : w32 x2 = x2) : ∃ r0 r5, f0_clause G (some o) x1 x2 u = some r0 ∧ m5_clause x1 x2 m = some r5 ∧ r0 = r5 := IV_same h (fun Ly hR e => by subst e; exact o_clause hR x1 x2 w1 w2)
theorem st_compare (h : IV G o a b u m ce sl) (x1 x2 : Int) (w1 : w32 x1 = x1) (w2 : w32 x2 = x2) : ∃ r0 r5, f0_compare G (some o) x1 x2 u = some r0 ∧ m5_compare x1 x2 m = some r5 ∧ r0.1 = r5.1 ∧ IV G o a b r0.2 r5.2 ce sl := IV_aft h (fun Ly hR e => by subst e; exact o_compare hR x1 x2 w1 w2) (fun j => JB_compare j)
theorem st_apart (h : IV G o a b u m ce sl) (x1 x2 : Int) (w1 : w32 x1 = x1) (w2 : w32 x2 = x2) : ∃ r0 r5, f0_apart G (some o) x1 x2 u = some r0 ∧ m5_apart x1 x2 m = some r5 ∧ r0 = r5 := IV_same h (fun Ly hR e => by subst e; exact o_apart hR x1 x2 w1 w2)
theorem st_judge (h : IV G o a b u m ce sl) (ha : a ≤ 64) (x1 : Int) (w1 : w32 x1 = x1) : ∃ r0 c0 n0 r5, f0_judge G (some o) x1 u = some (r0, c0, n0) ∧ m5_judge x1 m = some r5 ∧ r0.1 = r5.1 ∧ IV G o a (b + 1) r0.2 r5.2 (ce + c0) (sl + n0) := IV_aftU (C := (20 * (m.1 2).toNat + 60)) (S := (600 * (m.1 2).toNat + 15500)) h (fun Ly hR e j => by subst e; exact o_judge hR (by have := j.1; omega) x1 w1) (fun j => by have := j.1; have := j.2; omega) (fun j => by have := j.1; have := j.2; omega) (fun j => JB_judge j)
theorem st_shown (h : IV G o a b u m ce sl) (x1 : Int) (w1 : w32 x1 = x1) : ∃ r0 r5, f0_shown G (some o) x1 u = some r0 ∧ m5_shown x1 m = some r5 ∧ r0 = r5 := IV_same h (fun Ly hR e => by subst e; exact o_shown hR x1 w1)
theorem st_event (h : IV G o a b u m ce sl) (ha : a ≤ 64) (x1 : Int) (w1 : w32 x1 = x1) : ∃ r0 c0 n0 r5, f0_event G (some o) x1 u = some (r0, c0, n0) ∧ m5_event x1 m = some r5 ∧ r0.1 = r5.1 ∧ IV G o a (b + 1) r0.2 r5.2 (ce + c0) (sl + n0) := IV_aftU (C := 40) (S := 600) h (fun Ly hR e j => by subst e; exact o_event hR x1 w1) (fun j => by have := j.1; have := j.2; omega) (fun j => by have := j.1; have := j.2; omega) (fun j => JB_event j)
theorem st_tell (h : IV G o a b u m ce sl) (x1 x2 x3 x4 : Int) (w1 : w32 x1 = x1) (w2 : w32 x2 = x2) (w3 : w32 x3 = x3) (w4 : w32 x4 = x4) : ∃ r0 r5, f0_tell G (some o) x1 x2 x3 x4 u = some r0 ∧ m5_tell x1 x2 x3 x4 m = some r5 ∧ r0.1 = r5.1 ∧ IV G o a b r0.2 r5.2 ce sl := IV_aft h (fun Ly hR e => by subst e; exact o_tell hR x1 x2 x3 x4 w1 w2 w3 w4) (fun j => JB_tell j)
theorem st_fact (h : IV G o a b u m ce sl) (x1 x2 x3 : Int) (w1 : w32 x1 = x1) (w2 : w32 x2 = x2) (w3 : w32 x3 = x3) : ∃ r0 r5, f0_fact G (some o) x1 x2 x3 u = some r0 ∧ m5_fact x1 x2 x3 m = some r5 ∧ r0 = r5 := IV_same h (fun Ly hR e => by subst e; exact o_fact hR x1 x2 x3 w1 w2 w3)
theorem st_covers (h : IV G o a b u m ce sl) (x1 x2 : Int) (w1 : w32 x1 = x1) (w2 : w32 x2 = x2) : ∃ r0 r5, f0_covers G (some o) x1 x2 u = some r0 ∧ m5_covers x1 x2 m = some r5 ∧ r0.1 = r5.1 ∧ IV G o a b r0.2 r5.2 ce sl := IV_aft h (fun Ly hR e => by subst e; exact o_covers hR x1 x2 w1 w2) (fun j => JB_covers j)
theorem st_settles (h : IV G o a b u m ce sl) (x1 x2 : Int) (w1 : w32 x1 = x1) (w2 : w32 x2 = x2) : ∃ r0 r5, f0_settles G (some o) x1 x2 u = some r0 ∧ m5_settles x1 x2 m = some r5 ∧ r0.1 = r5.1 ∧ IV G o a b r0.2 r5.2 ce sl := IV_aft h (fun Ly hR e => by subst e; exact o_settles hR x1 x2 w1 w2) (fun j => JB_settles j)
theorem st_because (h : IV G o a b u m ce sl) (x1 x2 : Int) (w1 : w32 x1 = x1) (w2 : w32 x2 = x2) : ∃ r0 r5, f0_because G (some o) x1 x2 u = some r0 ∧ m5_because x1 x2 m = some r5 ∧ r0.1 = r5.1 ∧ IV G o a b r0.2 r5.2 ce sl := IV_aft h (fun Ly hR e => by subst e; exact o_because hR x1 x2 w1 w2) (fun j => JB_because j)
theorem st_decider (h : IV G o a b u m ce sl) (x1 x2 : Int) (w1 : w32 x1 = x1) (w2 : w32 x2 = x2) : ∃ r0 r5, f0_decider G (some o) x1 x2 u = some r0 ∧ m5_decider x1 x2 m = some r5 ∧ r0.1 = r5.1 ∧ IV G o a b r0.2 r5.2 ce sl := IV_aft h (fun Ly hR e => by subst e; exact o_decider hR x1 x2 w1 w2) (fun j => JB_decider j)
theorem st_ways (h : IV G o a b u m ce sl) (x1 x2 x3 : Int) (w1 : w32 x1 = x1) (w2 : w32 x2 = x2) (w3 : w32 x3 = x3) : ∃ r0 r5, f0_ways G (some o) x1 x2 x3 u = some r0 ∧ m5_ways x1 x2 x3 m = some r5 ∧ r0.1 = r5.1 ∧ IV G o a b r0.2 r5.2 ce sl := IV_aft h (fun Ly hR e => by subst e; exact o_ways hR x1 x2 x3 w1 w2 w3) (fun j => JB_ways j)
theorem st_price (h : IV G o a b u m ce sl) (x1 x2 : Int) (w1 : w32 x1 = x1) (w2 : w32 x2 = x2) : ∃ r0 r5, f0_price G (some o) x1 x2 u = some r0 ∧ m5_price x1 x2 m = some r5 ∧ r0.1 = r5.1 ∧ IV G o a b r0.2 r5.2 ce sl := IV_aft h (fun Ly hR e => by subst e; exact o_price hR x1 x2 w1 w2) (fun j => JB_price j)
theorem st_policy (h : IV G o a b u m ce sl) (ha : a ≤ 64)  : ∃ r0 c0 n0 r5, f0_policy G (some o) u = some (r0, c0, n0) ∧ m5_policy m = some r5 ∧ r0.1 = r5.1 ∧ IV G o a (b + 1) r0.2 r5.2 (ce + c0) (sl + n0) := IV_aftU (C := 6) (S := 140) h (fun Ly hR e j => by subst e; exact o_policy hR ) (fun j => by have := j.1; have := j.2; omega) (fun j => by have := j.1; have := j.2; omega) (fun j => JB_policy j)
theorem st_change (h : IV G o a b u m ce sl) (x1 x2 x3 x4 x5 : Int) (w1 : w32 x1 = x1) (w2 : w32 x2 = x2) (w3 : w32 x3 = x3) (w4 : w32 x4 = x4) (w5 : w32 x5 = x5) : ∃ r0 r5, f0_change G (some o) x1 x2 x3 x4 x5 u = some r0 ∧ m5_change x1 x2 x3 x4 x5 m = some r5 ∧ r0.1 = r5.1 ∧ IV G o a b r0.2 r5.2 ce sl := IV_aft h (fun Ly hR e => by subst e; exact o_change hR x1 x2 x3 x4 x5 w1 w2 w3 w4 w5) (fun j => JB_change j)
theorem st_holds (h : IV G o a b u m ce sl) (x1 x2 x3 x4 : Int) (w1 : w32 x1 = x1) (w2 : w32 x2 = x2) (w3 : w32 x3 = x3) (w4 : w32 x4 = x4) : ∃ r0 r5, f0_holds G (some o) x1 x2 x3 x4 u = some r0 ∧ m5_holds x1 x2 x3 x4 m = some r5 ∧ r0 = r5 := IV_same h (fun Ly hR e => by subst e; exact o_holds hR x1 x2 x3 x4 w1 w2 w3 w4)
theorem st_claim (h : IV G o a b u m ce sl) (ha : a ≤ 64) (x1 x2 x3 x4 : Int) (w1 : w32 x1 = x1) (w2 : w32 x2 = x2) (w3 : w32 x3 = x3) (w4 : w32 x4 = x4) : ∃ r0 c0 n0 r5, f0_claim G (some o) x1 x2 x3 x4 u = some (r0, c0, n0) ∧ m5_claim x1 x2 x3 x4 m = some r5 ∧ r0.1 = r5.1 ∧ IV G o a (b + 1) r0.2 r5.2 (ce + c0) (sl + n0) := IV_aftU (C := 5) (S := 200) h (fun Ly hR e j => by subst e; exact o_claim hR x1 x2 x3 x4 w1 w2 w3 w4) (fun j => by have := j.1; have := j.2; omega) (fun j => by have := j.1; have := j.2; omega) (fun j => JB_claim j)
theorem st_loss (h : IV G o a b u m ce sl) (x1 x2 x3 : Int) (w1 : w32 x1 = x1) (w2 : w32 x2 = x2) (w3 : w32 x3 = x3) : ∃ r0 r5, f0_loss G (some o) x1 x2 x3 u = some r0 ∧ m5_loss x1 x2 x3 m = some r5 ∧ r0.1 = r5.1 ∧ IV G o a b r0.2 r5.2 ce sl := IV_aft h (fun Ly hR e => by subst e; exact o_loss hR x1 x2 x3 w1 w2 w3) (fun j => JB_loss j)
theorem st_pay (h : IV G o a b u m ce sl) (x1 x2 : Int) (w1 : w32 x1 = x1) (w2 : w32 x2 = x2) : ∃ r0 r5, f0_pay G (some o) x1 x2 u = some r0 ∧ m5_pay x1 x2 m = some r5 ∧ r0.1 = r5.1 ∧ IV G o a b r0.2 r5.2 ce sl := IV_aft h (fun Ly hR e => by subst e; exact o_pay hR x1 x2 w1 w2) (fun j => JB_pay j)
theorem st_used (h : IV G o a b u m ce sl) (x1 x2 x3 : Int) (w1 : w32 x1 = x1) (w2 : w32 x2 = x2) (w3 : w32 x3 = x3) : ∃ r0 r5, f0_used G (some o) x1 x2 x3 u = some r0 ∧ m5_used x1 x2 x3 m = some r5 ∧ r0.1 = r5.1 ∧ IV G o a b r0.2 r5.2 ce sl := IV_aft h (fun Ly hR e => by subst e; exact o_used hR x1 x2 x3 w1 w2 w3) (fun j => JB_used j)
theorem st_treaty (h : IV G o a b u m ce sl) (x1 x2 x3 : Int) (w1 : w32 x1 = x1) (w2 : w32 x2 = x2) (w3 : w32 x3 = x3) : ∃ r0 r5, f0_treaty G (some o) x1 x2 x3 u = some r0 ∧ m5_treaty x1 x2 x3 m = some r5 ∧ r0.1 = r5.1 ∧ IV G o a b r0.2 r5.2 ce sl := IV_aft h (fun Ly hR e => by subst e; exact o_treaty hR x1 x2 x3 w1 w2 w3) (fun j => JB_treaty j)
theorem st_ceded (h : IV G o a b u m ce sl) (x1 x2 x3 : Int) (w1 : w32 x1 = x1) (w2 : w32 x2 = x2) (w3 : w32 x3 = x3) : ∃ r0 r5, f0_ceded G (some o) x1 x2 x3 u = some r0 ∧ m5_ceded x1 x2 x3 m = some r5 ∧ r0.1 = r5.1 ∧ IV G o a b r0.2 r5.2 ce sl := IV_aft h (fun Ly hR e => by subst e; exact o_ceded hR x1 x2 x3 w1 w2 w3) (fun j => JB_ceded j)
theorem st_close (h : IV G o a b u m ce sl) (x1 : Int) (w1 : w32 x1 = x1) : ∃ r0 r5, f0_close G (some o) x1 u = some r0 ∧ m5_close x1 m = some r5 ∧ r0.1 = r5.1 ∧ IV G o a b r0.2 r5.2 ce sl := IV_aft h (fun Ly hR e => by subst e; exact o_close hR x1 w1) (fun j => JB_close j)
theorem st_row (h : IV G o a b u m ce sl) (x1 x2 : Int) (w1 : w32 x1 = x1) : ∃ r0 r5, f0_row G (some o) x1 x2 u = some r0 ∧ m5_row x1 x2 m = some r5 ∧ r0 = r5 := IV_same h (fun Ly hR e => by subst e; exact o_row hR x1 x2 w1)
theorem st_balance (h : IV G o a b u m ce sl) (x1 : Int)  : ∃ r0 r5, f0_balance G (some o) x1 u = some r0 ∧ m5_balance x1 m = some r5 ∧ r0 = r5 := IV_same h (fun Ly hR e => by subst e; exact o_balance hR x1)
theorem st_paid (h : IV G o a b u m ce sl) (x1 x2 : Int) (w1 : w32 x1 = x1) (w2 : w32 x2 = x2) : ∃ r0 r5, f0_paid G (some o) x1 x2 u = some r0 ∧ m5_paid x1 x2 m = some r5 ∧ r0.1 = r5.1 ∧ IV G o a b r0.2 r5.2 ce sl := IV_aft h (fun Ly hR e => by subst e; exact o_paid hR x1 x2 w1 w2) (fun j => JB_paid j)
theorem st_end (h : IV G o a b u m ce sl) (x1 x2 : Int) (w1 : w32 x1 = x1) (w2 : w32 x2 = x2) : ∃ r0 r5, f0_end G (some o) x1 x2 u = some r0 ∧ m5_end x1 x2 m = some r5 ∧ r0.1 = r5.1 ∧ IV G o a b r0.2 r5.2 ce sl := IV_aft h (fun Ly hR e => by subst e; exact o_end hR x1 x2 w1 w2) (fun j => JB_end j)
theorem st_size (h : IV G o a b u m ce sl) (x1 x2 : Int) (w1 : w32 x1 = x1) (w2 : w32 x2 = x2) : ∃ r0 r5, f0_size G (some o) x1 x2 u = some r0 ∧ m5_size x1 x2 m = some r5 ∧ r0.1 = r5.1 ∧ IV G o a b r0.2 r5.2 ce sl := IV_aft h (fun Ly hR e => by subst e; exact o_size hR x1 x2 w1 w2) (fun j => JB_size j)
theorem st_count (h : IV G o a b u m ce sl) (x1 x2 : Int) (w1 : w32 x1 = x1) (w2 : w32 x2 = x2) : ∃ r0 r5, f0_count G (some o) x1 x2 u = some r0 ∧ m5_count x1 x2 m = some r5 ∧ r0.1 = r5.1 ∧ IV G o a b r0.2 r5.2 ce sl := IV_aft h (fun Ly hR e => by subst e; exact o_count hR x1 x2 w1 w2) (fun j => JB_count j)
theorem st_mass (h : IV G o a b u m ce sl) (x1 : Int) (w1 : w32 x1 = x1) : ∃ r0 r5, f0_mass G (some o) x1 u = some r0 ∧ m5_mass x1 m = some r5 ∧ r0.1 = r5.1 ∧ IV G o a b r0.2 r5.2 ce sl := IV_aft h (fun Ly hR e => by subst e; exact o_mass hR x1 w1) (fun j => JB_mass j)
theorem st_quantile (h : IV G o a b u m ce sl) (x1 x2 : Int) (w1 : w32 x1 = x1) (w2 : w32 x2 = x2) : ∃ r0 r5, f0_quantile G (some o) x1 x2 u = some r0 ∧ m5_quantile x1 x2 m = some r5 ∧ r0.1 = r5.1 ∧ IV G o a b r0.2 r5.2 ce sl := IV_aft h (fun Ly hR e => by subst e; exact o_quantile hR x1 x2 w1 w2) (fun j => JB_quantile j)
theorem st_beyond (h : IV G o a b u m ce sl) (x1 : Int) (w1 : w32 x1 = x1) : ∃ r0 r5, f0_beyond G (some o) x1 u = some r0 ∧ m5_beyond x1 m = some r5 ∧ r0.1 = r5.1 ∧ IV G o a b r0.2 r5.2 ce sl := IV_aft h (fun Ly hR e => by subst e; exact o_beyond hR x1 w1) (fun j => JB_beyond j)
theorem st_told (h : IV G o a b u m ce sl) (x1 : Int)  : ∃ r0 r5, f0_told G (some o) x1 u = some r0 ∧ m5_told x1 m = some r5 ∧ r0 = r5 := IV_same h (fun Ly hR e => by subst e; exact o_told hR x1)
end
