/-! THE READER: a price row: the class's cell -/
theorem f17_e {G : CG} {u : Sg} {x : Nat} {v1 v2 : Int} {v3 : Option Nat} (h : zT u x = 18) (hG : G0 G ≤ x) : f17_init G (some x) v1 v2 v3 u = some (zsR (zsI (zsI u x 680 v1) x 681 v2) x 682 v3) := by
  unfold f17_init
  rw [Option.bind_some, pfI_e h hG, Option.bind_some, pfI_e (show zT (zsI u x 680 v1) x = 18 from h) hG, Option.bind_some, pfR_e (show zT (zsI (zsI u x 680 v1) x 681 v2) x = 18 from h) hG, Option.bind_some]
/-- the new row's cell -/
theorem new18 {G : CG} {L : Ly} {t : Sg} {m : Mu} {r : Nat} (h : R7 G L t m r) (v1 v2 : Int) (v3 : Option Nat) : ∃ t4, f17_init G (some (zN t)) v1 v2 v3 (znew t 18 0) = some t4 ∧ fr7 r t t4 ∧ (∀ j, zI t4 r j = zI t r j) ∧ zT t4 (zN t) = 18 ∧ zI t4 (zN t) 680 = v1 ∧ zI t4 (zN t) 681 = v2 ∧ zR t4 (zN t) 682 = v3 ∧ zN t4 = zN t + 1 := by
  have hrN := h.2.1.2.1
  have hGN := h.2.1.1
  refine ⟨zsR (zsI (zsI (znew t 18 0) (zN t) 680 v1) (zN t) 681 v2) (zN t) 682 v3, f17_e (by rw [znew_T, if_pos rfl]) hGN, fr7_zsR (fr7_zsI (fr7_zsI (fr7_znew fr7_rf hrN) (Nat.le_refl _) (by omega)) (Nat.le_refl _) (by omega)) (Nat.le_refl _) (by omega), fun j => ?_, ?_, ?_, ?_, ?_, rfl⟩
  · rw [zsR_I, zsI_I, if_neg (fun q => by have := q.1; omega), zsI_I, if_neg (fun q => by have := q.1; omega), znew_I, if_neg (by omega)]
  · show zT (znew t 18 0) (zN t) = 18; rw [znew_T, if_pos rfl]
  · rw [zsR_I, zsI_I, if_neg (fun q => absurd q.2 (by decide)), zsI_I, if_pos ⟨rfl, rfl⟩]
  · rw [zsR_I, zsI_I, if_pos ⟨rfl, rfl⟩]
  · rw [zsR_R, if_pos ⟨rfl, rfl⟩]
