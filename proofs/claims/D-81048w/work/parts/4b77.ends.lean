/-! THE READER: the call wording -/
/-- the twin at a bad first token -/
theorem m_l25_bad {m : Mu} (h4 : m.1 4 = 5) (h8 : m.1 8 = 0) : ∃ m', m5_wording_l25 NN m = some m' ∧ m'.1 8 = 1 ∧ m'.1 9 = m.1 5 ∧ mfr CS7 CA7 m m' := by
  obtain ⟨fu, hfu⟩ : ∃ fu, NN = fu + 1 + 1 := ⟨NN - 2, by have := NN_ge; omega⟩
  obtain ⟨m', e, hm⟩ := m_cannot h8 (by rw [h4]; decide)
  rw [if_pos h4] at hm
  refine ⟨m', ?_, hm.1, hm.2.1, hm.2.2⟩
  rw [hfu, m5_wording_l25.eq_2, h4, if_neg (by decide), h8, if_pos (show w32 0 = 0 from rfl)]
  have es : m5_readStatement m = some m' := by
    unfold m5_readStatement
    rw [h4, if_neg (by decide), e, Option.bind_some]
  rw [es, Option.bind_some, m5_wording_l25.eq_2]
  by_cases z : w32 (m'.1 4) = 0
  · rw [if_pos z]
  · rw [if_neg z, hm.1, if_neg (by decide)]
/-- the end of the twin behind a fault -/
theorem m_end_bad {m : Mu} {K P w : Int} (h8 : m.1 8 = K) (h9 : m.1 9 = P) (hK : 1 ≤ K ∧ K ≤ 7) : m5_wording_b267 w m = some (-10 - K, ms (ms m 2 0) 10 P) := by
  have e8 : w32 K = K := w32_id (by omega) (by omega)
  have e10 : w32 (-10 - K) = -10 - K := w32_id (by omega) (by omega)
  unfold m5_wording_b267 m5_ended m5_ended_b21
  rw [Option.bind_some]
  have a8 : (ms m 2 0).1 8 = K := by rw [ms_1, if_neg (by decide)]; exact h8
  have a9 : (ms m 2 0).1 9 = P := by rw [ms_1, if_neg (by decide)]; exact h9
  have b8 : (ms (ms m 2 0) 10 P).1 8 = K := by rw [ms_1, if_neg (by decide)]; exact a8
  rw [a8, e8, if_neg (by omega), a9, Option.bind_some, b8, e8, if_neg (by omega), Option.bind_some]
  dsimp only
  rw [e10, if_neg (by omega)]
  unfold m5_wording_b286
  rw [e10, if_neg (by omega)]
theorem m_end_good {m : Mu} {w : Int} (h8 : m.1 8 = 0) : m5_wording_b267 w m = some (w, ms (ms (ms m 2 0) 10 (-1)) 11 (m.1 11 + 1)) := by
  unfold m5_wording_b267 m5_ended m5_ended_b21
  rw [Option.bind_some]
  have a8 : (ms m 2 0).1 8 = 0 := by rw [ms_1, if_neg (by decide)]; exact h8
  have b8 : (ms (ms m 2 0) 10 (-1)).1 8 = 0 := by rw [ms_1, if_neg (by decide)]; exact a8
  have b11 : (ms (ms m 2 0) 10 (-1)).1 11 = m.1 11 := by rw [ms_1, if_neg (by decide), ms_1, if_neg (by decide)]
  rw [a8, if_pos (by decide), Option.bind_some, b8, if_pos (by decide), Option.bind_some]
  dsimp only
  rw [if_pos (show w32 0 = 0 by decide), Option.bind_some, b11]
  unfold m5_wording_b286
  rw [if_pos (show 0 ≤ w32 0 by decide)]
/-- the end of the class behind a fault -/
theorem c_end_bad {G : CG} {L : Ly} {t : Sg} {m : Mu} {e : Nat} {K P : Int} (h : RC G L t m) (h1 : zT t e = 9) (h2 : zI t e 326 = K) (h3 : zI t e 327 = P) : f0_wording_b54 G (some (L.1 3)) (some e) t = some ((-10 - K, zsI (zsI t (L.1 3) 3 P) (L.1 3) 2 0), 0, 0) := by
  have hR := h.1
  have ne : e ≠ L.1 3 := fun q => by rw [q, rT3 hR] at h1; omega
  unfold f0_wording_b54 f0_failed f0_wording_b61
  rw [ztg_e (rT3 hR), Option.bind_some, gfI_v h1 h3, Option.bind_some, pfI_e (rT3 hR) (rG3 hR), Option.bind_some, gfI_v (show zT (zsI t (L.1 3) 3 P) e = 9 from h1) (show zI (zsI t (L.1 3) 3 P) e 326 = K by rw [zsI_I, if_neg (fun z => ne z.1)]; exact h2), Option.bind_some, Option.bind_some]
  dsimp only
  rw [pfI_e (show zT (zsI t (L.1 3) 3 P) (L.1 3) = 1 from (rT3 hR : zT t (L.1 3) = 1)) (rG3 hR), Option.bind_some]
/-- what a reading of the place 0 has changed in the twin -/
theorem fr_read {m m1 m3 m' : Mu} (h1 : mpl 0 [12, 19, 23, 27, 32, 33] m m1) (h2 : m3.2 = m1.2) (h3 : ∀ k, k ∉ [3, 4, 5, 6, 7, 8, 46, 47, 51, 52, 56] → m3.1 k = m.1 k) (h4 : MI m3 m') : mfr SF7 AF7 m m' ∧ ∀ w, 1 ≤ w → slc m' w = slc m w := by
  have d1 : ∀ k, k ∉ SF7 → k ∉ SI7 ∧ k ∉ [3, 4, 5, 6, 7, 8, 46, 47, 51, 52, 56] := fun k hk => by
    simp only [SF7, SI7, List.mem_cons, List.not_mem_nil, or_false, not_or] at hk ⊢
    omega
  have d2 : ∀ k, k ∉ AF7 → k ∉ AI7 ∧ k ∉ [12, 19, 23, 27, 32, 33] := fun k hk => by
    simp only [AF7, AI7, List.mem_cons, List.not_mem_nil, or_false, not_or] at hk ⊢
    omega
  refine ⟨⟨fun k hk => ?_, fun k hk => ?_⟩, fun w hw => ?_⟩
  · rw [h4.1.1 k (d1 k hk).1, h3 k (d1 k hk).2]
  · rw [h4.1.2 k (d2 k hk).1, h2, h1.2.1 k (d2 k hk).2]
  · rw [h4.2 w hw]
    have : slc m3 w = slc m1 w := by funext k j; unfold slc; rw [h2]
    rw [this, slc_mpl_o h1 (by omega)]
theorem m_wcopy_b46 {m mc : Mu} {w : Nat} (h8 : m.1 8 = 0) (hw : m.1 11 + 1 = (w : Int)) (h : ((m5_clear w m).bind fun u1 => (m5_copyWording w 0 u1).bind fun u2 => (m5_takeNodes w 0 (u2.1 46) u2).bind fun u3 => (m5_wording_l83 w NN 0 u3).bind fun q4 => (mast q4 23 14 w (q4.1 56)).bind fun u5 => (m5_wording_l145 w NN 0 u5).bind fun q6 => m5_wording_l212 w NN 0 q6) = some mc) : m5_wording_b46 m = (m5_finish w mc).bind fun u8 => m5_wording_b267 w u8 := by
  unfold m5_wording_b46
  rw [h8, if_pos (show w32 0 = 0 from rfl), hw]
  obtain ⟨u1, e1, h⟩ := Option.bind_eq_some_iff.mp h
  obtain ⟨u2, e2, h⟩ := Option.bind_eq_some_iff.mp h
  obtain ⟨u3, e3, h⟩ := Option.bind_eq_some_iff.mp h
  obtain ⟨q4, e4, h⟩ := Option.bind_eq_some_iff.mp h
  obtain ⟨u5, e5, h⟩ := Option.bind_eq_some_iff.mp h
  obtain ⟨q6, e6, h⟩ := Option.bind_eq_some_iff.mp h
  rw [e1, Option.bind_some, e2, Option.bind_some, e3, Option.bind_some, e4, Option.bind_some, e5, Option.bind_some, e6, Option.bind_some, h, Option.bind_some]
