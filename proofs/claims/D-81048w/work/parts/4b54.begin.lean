/-! THE READER: the first token -/
theorem start7 {G : CG} {L : Ly} {t : Sg} {m : Mu} {r : Nat} (h1 : TX G L t m r) (h2 : G0 G ≤ zN t ∧ r < zN t ∧ L.1 3 < zN t ∧ L.1 100 < zN t ∧ L.1 101 < zN t ∧ r ≠ L.1 100 ∧ r ≠ L.1 101) (h3 : zI t r 280 = 0 ∧ m.1 3 = 0) (h4 : zI t r 288 = 0 ∧ m.1 52 = 0 ∧ m.1 2 ≤ 512) (h5 : LIM (zI t r 289) (m.1 47)) (h6 : m.1 8 = 0) : ∃ m', m5_next m = some m' ∧ m'.2 = m.2 ∧ (∀ k, (k < 3 ∨ 7 < k) → m'.1 k = m.1 k) ∧ 0 ≤ m'.1 5 ∧ ((∃ t', f7_next G (some r) t = some ((.inr (), t'), 0, 0) ∧ R7 G L t' m' r ∧ m'.1 52 ≤ m'.1 5 ∧ fr7 r t t' ∧ zN t' = zN t ∧ ∀ k, (k < 280 ∨ 285 < k) → zI t' r k = zI t r k) ∨ (∃ e t', f7_next G (some r) t = some ((.inl e, t'), 1, 8) ∧ TH7 r t 0 e t' 1 8 1 (m'.1 5) ∧ m'.1 4 = 5 ∧ m'.1 8 = 0)) := by
  have hn := next_ok (t := t) h1 h2.1 h2.2.1 (g := zI t r) (by rw [h3.1, h3.2]) (by rw [h3.2]; exact Int.le_refl _) (by rw [h3.2]; exact h1.2.1.2.2.1)
  rw [rI_id] at hn
  obtain ⟨a, m', e1, e2, f1, f2, f3, f4, f5⟩ := hn
  rw [h3.2] at f3
  refine ⟨m', e2, f1, f2, f3, ?_⟩
  rcases f5 with ⟨g', rfl, k1, k2⟩ | ⟨g', u', rfl, k1, k2, k3, k4⟩
  · left
    have hfr : fr7 r t (rI t r g') := fr7_rI (k1 289 (by omega))
    refine ⟨rI t r g', e1, ⟨TX_k h1 ⟨h2.2.2.1, h2.2.2.2.1, h2.2.2.2.2.1, h2.2.2.2.2.2⟩ hfr (f2 2 (by omega)) (by rw [f1]) (by rw [f1]), h2, ?_, ?_, ?_, ?_⟩, ?_, hfr, rfl, fun k hk => by rw [rI_I]; exact k1 k hk⟩
    · rw [rI_I, f2 2 (by omega)]; exact k2
    · rw [rI_I, k1 288 (by omega), f2 52 (by omega), f2 2 (by omega), f2 47 (by omega), h4.1, h4.2.1]; exact ⟨rfl, ⟨Int.le_refl _, by rcases h5 with ⟨-, q⟩ | ⟨-, q⟩ <;> omega⟩, h4.2.2⟩
    · rw [rI_I, k1 289 (by omega), f2 47 (by omega)]; exact h5
    · rw [f2 8 (by omega)]; exact h6
    · rw [f2 52 (by omega), h4.2.1]; exact f3
  · right
    have hfr : fr7 r t (rI t r g') := fr7_rI (k1 289 (by omega))
    have hT := TH7_flt (t := rI t r g') (w := 0) h2.2.1 (by have := h4.2.2; omega) k2
    obtain ⟨q1, q2, q3, q4, q5, q6, q7, q8⟩ := hT
    exact ⟨zN t, u', e1, ⟨q1, q2, q3, q4, fr7_tr hfr q5, q6, q7, q8⟩, k3, by rw [f2 8 (by omega)]; exact h6⟩
/-- the reader's cell -/
theorem new8 {G : CG} {u : Sg} {o : Nat} {v2 : Option Nat} {v : Int} (hG : G0 G ≤ zN u) : ∃ t, f7_init G (some (zN u)) (some o) v2 v (znew u 8 0) = (bdU (f7_next G (some (zN u)) t) fun q6 => tel q6.1 (fun e7 => xth e7 q6.2) fun _ => some ((.inr (), q6.2), 0, 0)) ∧ (gro u t ∧ ∀ q, q < zN u → sam u t q) ∧ zT t (zN u) = 8 ∧ zR t (zN u) 290 = some o ∧ zR t (zN u) 286 = v2 ∧ (∀ j, zI t (zN u) j = if j = 289 then v else 0) ∧ zN t = zN u + 1 := by
  obtain ⟨t, ht⟩ : ∃ t, t = zsI (zsR (zsR (znew u 8 0) (zN u) 290 (some o)) (zN u) 286 v2) (zN u) 289 v := ⟨_, rfl⟩
  have T0 : zT (znew u 8 0) (zN u) = 8 := by rw [znew_T, if_pos rfl]
  have hs : ∀ q, q < zN u → sam u t q := fun q hq => by
    rw [ht]; exact sam_zsI (sam_zsR (sam_zsR (sam_znew sam_rf (by omega)) (by omega)) (by omega)) (by omega)
  refine ⟨t, ?_, ⟨⟨by rw [ht]; show zN u ≤ zN u + 1; omega, fun q hq => ⟨(hs q hq).1, (hs q hq).2.1⟩⟩, hs⟩, by rw [ht]; exact T0, ?_, ?_, fun j => ?_, by rw [ht]; rfl⟩
  · unfold f7_init
    rw [pfR_e T0 hG, Option.bind_some, Option.bind_some, pfR_e (show zT (zsR (znew u 8 0) (zN u) 290 (some o)) (zN u) = 8 from T0) hG, Option.bind_some, pfI_e (show zT (zsR (zsR (znew u 8 0) (zN u) 290 (some o)) (zN u) 286 v2) (zN u) = 8 from T0) hG, Option.bind_some, ← ht, ztg_e (show zT t (zN u) = 8 by rw [ht]; exact T0), Option.bind_some]
  · rw [ht, zsI_R, zsR_R, if_neg (fun q => absurd q.2 (by decide)), zsR_R, if_pos ⟨rfl, rfl⟩]
  · rw [ht, zsI_R, zsR_R, if_pos ⟨rfl, rfl⟩]
  · rw [ht, zsI_I]
    by_cases z : j = 289
    · rw [if_pos ⟨rfl, z⟩, if_pos z]
    · rw [if_neg (fun q => z q.2), if_neg z, zsR_I, zsR_I, znew_I, if_pos rfl]
