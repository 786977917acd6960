/-! the same, but that the payments (roles 116, 117) stay too -/
def SCR : List Nat := [114, 129, 130, 140, 141, 142, 143, 144, 145, 160, 161, 162, 163, 164, 165, 166, 167, 170, 171, 172, 173, 174, 175, 176, 177]
/-- since u only such cells have changed -/
def scr (L : Ly) (u u' : Sg) : Prop := zT u' = zT u ∧ zL u' = zL u ∧ zB u' = zB u ∧ zN u' = zN u ∧ (∀ a g, ¬ (L.2 a = 114 ∧ g = 80) → ¬ (L.2 a = 3 ∧ g = 4) → zR u' a g = zR u a g) ∧ (∀ a, L.2 a ∉ SCR → zA u' a = zA u a ∧ ∀ g, ¬ (L.2 a = 115 ∧ (g = 121 ∨ g = 122)) → zI u' a g = zI u a g)
theorem scr_rf {L : Ly} {u : Sg} : scr L u u := ⟨rfl, rfl, rfl, rfl, fun _ _ _ _ => rfl, fun _ _ => ⟨rfl, fun _ _ => rfl⟩⟩
theorem scr_tr {L : Ly} {u v w : Sg} (h : scr L u v) (k : scr L v w) : scr L u w :=
  ⟨k.1.trans h.1, k.2.1.trans h.2.1, k.2.2.1.trans h.2.2.1, k.2.2.2.1.trans h.2.2.2.1, fun a g h1 h2 => (k.2.2.2.2.1 a g h1 h2).trans (h.2.2.2.2.1 a g h1 h2), fun a ha => ⟨(k.2.2.2.2.2 a ha).1.trans (h.2.2.2.2.2 a ha).1, fun g hg => ((k.2.2.2.2.2 a ha).2 g hg).trans ((h.2.2.2.2.2 a ha).2 g hg)⟩⟩
theorem scr_I {L : Ly} {u v : Sg} {a g : Nat} {x : Int} (h : scr L u v) (ha : L.2 a ∈ SCR ∨ (L.2 a = 115 ∧ (g = 121 ∨ g = 122))) : scr L u (zsI v a g x) :=
  ⟨h.1, h.2.1, h.2.2.1, h.2.2.2.1, h.2.2.2.2.1, fun b hb => ⟨(h.2.2.2.2.2 b hb).1, fun j hj => by
    rw [zsI_I, if_neg (fun q => ?_)]
    · exact (h.2.2.2.2.2 b hb).2 j hj
    · obtain ⟨q1, q2⟩ := q
      rw [q1, q2] at hj
      rw [q1] at hb
      rcases ha with ha | ha
      · exact hb ha
      · exact hj ha⟩⟩
theorem scr_A {L : Ly} {u v : Sg} {a g : Nat} {x : Int} (h : scr L u v) (ha : L.2 a ∈ SCR) : scr L u (zsA v a g x) :=
  ⟨h.1, h.2.1, h.2.2.1, h.2.2.2.1, h.2.2.2.2.1, fun b hb => ⟨by
    rw [← (h.2.2.2.2.2 b hb).1]
    funext j
    rw [zsA_A, if_neg (fun q => hb (by rw [q.1]; exact ha))], (h.2.2.2.2.2 b hb).2⟩⟩
theorem scr_R {L : Ly} {u v : Sg} {a g : Nat} {x : Option Nat} (h : scr L u v) (ha : (L.2 a = 114 ∧ g = 80) ∨ (L.2 a = 3 ∧ g = 4)) : scr L u (zsR v a g x) :=
  ⟨h.1, h.2.1, h.2.2.1, h.2.2.2.1, fun b j h1 h2 => by
    rw [zsR_R, if_neg (fun q => ?_)]
    · exact h.2.2.2.2.1 b j h1 h2
    · rw [q.1, q.2] at h1 h2
      rcases ha with ha | ha
      · exact h1 ha
      · exact h2 ha, h.2.2.2.2.2⟩
/-- a cell of another role is as it was -/
theorem scr_sam {L : Ly} {u u' : Sg} (h : scr L u u') {a : Nat} (h1 : L.2 a ∉ SCR) (h3 : L.2 a ≠ 3) (h5 : L.2 a ≠ 115) : sam u u' a := by
  have h4 : L.2 a ≠ 114 := fun q => h1 (by rw [q]; decide)
  exact ⟨by rw [h.1], by rw [h.2.1], funext fun g => (h.2.2.2.2.2 a h1).2 g (fun q => h5 q.1), funext fun g => h.2.2.2.2.1 a g (fun q => h4 q.1) (fun q => h3 q.1), (h.2.2.2.2.2 a h1).1, by rw [h.2.2.1]⟩
theorem scr_gro {L : Ly} {u u' : Sg} (h : scr L u u') : gro u u' := ⟨by rw [h.2.2.2.1]; exact Nat.le_refl _, fun x _ => ⟨by rw [h.1], by rw [h.2.1]⟩⟩
theorem SCR_P : ∀ r, r ∈ SCR → r ∈ SCP := by decide
theorem scr_p {L : Ly} {u u' : Sg} (h : scr L u u') : scp L u u' := ⟨h.1, h.2.1, h.2.2.1, h.2.2.2.1, h.2.2.2.2.1, fun a ha => h.2.2.2.2.2 a (fun q => ha (SCR_P _ q))⟩
theorem frz_scr {L : Ly} {u u' : Sg} (h : scr L u u') : frz L L u u' := frz_scp (scr_p h)
theorem RC_scr {G : CG} {L : Ly} {u u' : Sg} {m : Mu} (h : RC G L u m) (k : scr L u u') : RC G L u' m := RC_scp h (scr_p k)
