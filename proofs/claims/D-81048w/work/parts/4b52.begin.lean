/-! THE READER: an empty wording -/
theorem map_add {β : Type} (x : Option (β × Nat × Nat)) (a b c d : Nat) : ((x.map fun r => (r.1, r.2.1 + a, r.2.2 + b)).map fun r => (r.1, r.2.1 + c, r.2.2 + d)) = x.map fun r => (r.1, r.2.1 + (a + c), r.2.2 + (b + d)) := by
  cases x with
  | none => rfl
  | some x => show some (x.1, x.2.1 + a + c, x.2.2 + b + d) = some (x.1, x.2.1 + (a + c), x.2.2 + (b + d)); rw [Nat.add_assoc, Nat.add_assoc]
def fE (N : Nat) : Nat → Option Nat := fun i => if i = 250 then some (N + 7) else if i = 247 then some (N + 6) else if i = 244 then some (N + 5) else if i = 243 then some (N + 4) else if i = 242 then some (N + 3) else if i = 241 then some (N + 2) else if i = 240 then some (N + 1) else none
theorem f6_new {G : CG} {u : Sg} (hG : G0 G ≤ zN u) (hSt : St G u) : ∃ t bE, f6_init G (some (zN u)) (znew u 7 0) = some (t, 7, 21) ∧ GS G 6 = some bE ∧ BL bE u t (zN u) (fE (zN u)) ∧ (zI t (zN u) 245 = -3 ∧ zI t (zN u) 246 = -3 ∧ zI t (zN u) 248 = 0) ∧ (zT t (zN u + 6) = 101 ∧ zL t (zN u + 6) = 3 ∧ ∀ k, k < 3 → zA t (zN u + 6) k = -3) ∧ zN t = zN u + 8 := by
  obtain ⟨bE, hE, hE2, -⟩ := hSt.2.1
  obtain ⟨a, ha⟩ : ∃ a, a = zN u := ⟨_, rfl⟩
  have B0 : BL bE u (znew u 7 0) a (fun _ => none) := by
    have hT : zT (znew u 7 0) a = 7 := by rw [znew_T, if_pos ha]
    refine ⟨⟨⟨by show zN u ≤ zN u + 1; omega, fun q hq => ⟨by rw [znew_T, if_neg (by omega)], by rw [znew_L, if_neg (by omega)]⟩⟩, fun q hq => sam_znew sam_rf (by omega)⟩, ⟨by omega, by show a < zN u + 1; omega, hT⟩, fun j => by rw [znew_R, if_pos ha], fun j l hl => by simp at hl, fun j l hl => by simp at hl, fun j j' l hl => by simp at hl⟩
  have I0 : ∀ g, zI (znew u 7 0) a g = 0 := fun g => by rw [znew_I, if_pos ha]
  have B1 := nl_ok (j := 240) B0 rfl (by decide)
  obtain ⟨t1, h1⟩ : ∃ t1, t1 = nl (znew u 7 0) a 240 bE := ⟨_, rfl⟩
  rw [← h1] at B1
  have B2 := nl_ok (j := 241) B1 (by simp) (by decide)
  obtain ⟨t2, h2⟩ : ∃ t2, t2 = nl t1 a 241 bE := ⟨_, rfl⟩
  rw [← h2] at B2
  have B3 := nl_ok (j := 242) B2 (by simp) (by decide)
  obtain ⟨t3, h3⟩ : ∃ t3, t3 = nl t2 a 242 bE := ⟨_, rfl⟩
  rw [← h3] at B3
  have B4 := nl_ok (j := 243) B3 (by simp) (by decide)
  obtain ⟨t4, h4⟩ : ∃ t4, t4 = nl t3 a 243 bE := ⟨_, rfl⟩
  rw [← h4] at B4
  have B5 := nl_ok (j := 244) B4 (by simp) (by decide)
  obtain ⟨t5, h5⟩ : ∃ t5, t5 = nl t4 a 244 bE := ⟨_, rfl⟩
  rw [← h5] at B5
  have B6 := BL_I (j := 246) (v := -3) (BL_I (j := 245) (v := -3) B5)
  obtain ⟨t6, h6⟩ : ∃ t6, t6 = zsI (zsI t5 a 245 (-3)) a 246 (-3) := ⟨_, rfl⟩
  rw [← h6] at B6
  obtain ⟨B7, T7, L7, A7, I7⟩ := na_ok B6 (by simp)
  obtain ⟨t7, h7⟩ : ∃ t7, t7 = na t6 a := ⟨_, rfl⟩
  rw [← h7] at B7 T7 L7 A7 I7
  have B8 := nl_ok (j := 250) B7 (by simp) (by decide)
  obtain ⟨t8, h8⟩ : ∃ t8, t8 = nl t7 a 250 bE := ⟨_, rfl⟩
  rw [← h8] at B8
  have N0 : zN (znew u 7 0) = a + 1 := by rw [ha]; rfl
  have N1 : zN t1 = a + 2 := by rw [h1, nl_N, N0]
  have N2 : zN t2 = a + 3 := by rw [h2, nl_N, N1]
  have N3 : zN t3 = a + 4 := by rw [h3, nl_N, N2]
  have N4 : zN t4 = a + 5 := by rw [h4, nl_N, N3]
  have N5 : zN t5 = a + 6 := by rw [h5, nl_N, N4]
  have N6 : zN t6 = a + 6 := by rw [h6]; exact N5
  have N7 : zN t7 = a + 7 := by rw [h7]; show zN t6 + 1 = _; rw [N6]
  have N8 : zN t8 = a + 8 := by rw [h8, nl_N, N7]
  have I5 : ∀ g, zI t5 a g = 0 := fun g => by rw [h5, nl_I (by omega), h4, nl_I (by omega), h3, nl_I (by omega), h2, nl_I (by omega), h1, nl_I (by omega), I0]
  have I6 : ∀ g, zI t6 a g = if g = 246 then -3 else if g = 245 then -3 else 0 := fun g => by
    rw [h6, zsI_I]
    by_cases z : g = 246
    · rw [if_pos ⟨rfl, z⟩, if_pos z]
    · rw [if_neg (fun q => z q.2), if_neg z, zsI_I]
      by_cases z2 : g = 245
      · rw [if_pos ⟨rfl, z2⟩, if_pos z2]
      · rw [if_neg (fun q => z2 q.2), if_neg z2, I5]
  have hga : G0 G ≤ a := by omega
  have hT : ∀ {t : Sg} {f : Nat → Option Nat}, BL bE u t a f → zT t a = 7 ∧ a < zN t := fun h => ⟨h.2.1.2.2, h.2.1.2.1⟩
  have e1 : f6_init G (some a) (znew u 7 0) = some (t8, 7, 21) := by
    unfold f6_init
    rw [Option.bind_some, nl_f (hT B0).1 ⟨hga, (hT B0).2⟩ hE, ← h1, nl_f (hT B1).1 ⟨hga, (hT B1).2⟩ hE, ← h2, nl_f (hT B2).1 ⟨hga, (hT B2).2⟩ hE, ← h3, nl_f (hT B3).1 ⟨hga, (hT B3).2⟩ hE, ← h4, nl_f (hT B4).1 ⟨hga, (hT B4).2⟩ hE, ← h5, pfI_e (hT B5).1 hga, Option.bind_some, pfI_e (show zT (zsI t5 a 245 (-3)) a = 7 from (hT B5).1) hga, Option.bind_some, ← h6, zNewA_e (i := 3) 3 rfl (by omega), bdU_e]
    dsimp only
    have Tz : zT (znew t6 (100 + 1) 3) (zN t6) = 100 + 1 := by rw [znew_T, if_pos rfl]
    have Lz : zL (znew t6 (100 + 1) 3) (zN t6) = 3 := by rw [znew_L, if_pos rfl]
    have hGz : G.2.2.2.1 ≤ zN t6 := by have : G0 G ≤ zN t6 := by omega
                                       exact this
    have Ta : zT (znew t6 (100 + 1) 3) a = 7 := by rw [znew_T, if_neg (by omega)]; exact (hT B6).1
    rw [asI_e (i := 0) 0 Tz hGz rfl (by omega) (by omega), Option.bind_some, asI_e (i := 1) 1 (show zT (zsA (znew t6 (100 + 1) 3) (zN t6) 0 (-3)) (zN t6) = 100 + 1 from Tz) hGz rfl (by show 1 < zL (znew t6 (100 + 1) 3) (zN t6); omega) (by show zL (znew t6 (100 + 1) 3) (zN t6) ≤ _; omega), Option.bind_some, asI_e (i := 2) 2 (show zT (zsA (zsA (znew t6 (100 + 1) 3) (zN t6) 0 (-3)) (zN t6) 1 (-3)) (zN t6) = 100 + 1 from Tz) hGz rfl (by show 2 < zL (znew t6 (100 + 1) 3) (zN t6); omega) (by show zL (znew t6 (100 + 1) 3) (zN t6) ≤ _; omega), Option.bind_some, pfR_e (show zT (zsA (zsA (zsA (znew t6 (100 + 1) 3) (zN t6) 0 (-3)) (zN t6) 1 (-3)) (zN t6) 2 (-3)) a = 7 from Ta) hga, Option.bind_some]
    have e7 : zsR (zsA (zsA (zsA (znew t6 (100 + 1) 3) (zN t6) 0 (-3)) (zN t6) 1 (-3)) (zN t6) 2 (-3)) a 247 (some (zN t6)) = t7 := by rw [h7]; rfl
    rw [e7, nl_f (hT B7).1 ⟨hga, (hT B7).2⟩ hE, ← h8]
    rfl
  rw [← ha]
  refine ⟨t8, bE, e1, hE, ?_, ?_, ?_, N8⟩
  · have ef : (fun i => if i = 250 then some (zN t7) else if i = 247 then some (zN t6) else if i = 244 then some (zN t4) else if i = 243 then some (zN t3) else if i = 242 then some (zN t2) else if i = 241 then some (zN t1) else if i = 240 then some (zN (znew u 7 0)) else none) = fE a := by
      funext i; unfold fE; rw [N7, N6, N4, N3, N2, N1, N0]
    rw [← ef]; exact B8
  · have i8 : ∀ g, zI t8 a g = if g = 246 then -3 else if g = 245 then -3 else 0 := fun g => by rw [h8, nl_I (by omega), I7, I6]
    exact ⟨by rw [i8]; rfl, by rw [i8]; rfl, by rw [i8]; rfl⟩
  · have s := nl_sam (t := t7) (a := a) (j := 250) (bE := bE) (q := a + 6) (by omega) (by omega)
    rw [← h8] at s
    rw [N6] at T7 L7 A7
    exact ⟨by rw [s.1]; exact T7, by rw [s.2.1]; exact L7, fun k hk => by rw [s.2.2.2.2.1]; exact A7 k hk⟩
