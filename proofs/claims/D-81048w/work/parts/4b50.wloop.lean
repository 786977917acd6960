/-! THE READER: all items -/
noncomputable def XW (G : CG) (r fuel : Nat) (t : Sg) : Option (((Nat ⊕ Unit) × Sg) × Nat × Nat) := bdU (f7_wording_l0 G (some r) fuel t) (Sum.elim (fun e2 => xth e2.1 e2.2) (fun q1 => some ((.inr (), q1), 0, 0)))
theorem XW_e {G : CG} {r : Nat} {t : Sg} : f7_wording G (some r) t = XW G r NN t := rfl
theorem bdU_as {α β γ : Type} (x : Option (α × Nat × Nat)) (f : α → Option (β × Nat × Nat)) (g : β → Option (γ × Nat × Nat)) : bdU (bdU x f) g = bdU x fun q => bdU (f q) g := by
  cases x with
  | none => rfl
  | some x =>
    obtain ⟨x, c, n⟩ := x
    rw [bdU_e, bdU_e]
    cases f x with
    | none => rfl
    | some y =>
      obtain ⟨y, c', n'⟩ := y
      rw [bdU_e]
      show bdU (some (y, c' + c, n' + n)) g = _
      rw [bdU_e]
      cases g y with
      | none => rfl
      | some z =>
        obtain ⟨z, c'', n''⟩ := z
        show some (z, c'' + (c' + c), n'' + (n' + n)) = some (z, c'' + c' + c, n'' + n' + n)
        rw [Nat.add_assoc, Nat.add_assoc]
/-- what all items come to -/
def WLR (G : CG) (L : Ly) (r a N0 : Nat) (t : Sg) (m : Mu) (X : Option (((Nat ⊕ Unit) × Sg) × Nat × Nat)) (Y : Option Mu) : Prop := (∃ t' cc nn m' κ' W', X = some ((.inr (), t'), cc, nn) ∧ Y = some m' ∧ IX G L r a N0 κ' t' m' W' ∧ m'.1 4 = 0 ∧ FRo N0 t t' ∧ MI m m' ∧ m.1 5 ≤ m'.1 5 ∧ (cc : Int) ≤ 20 * (m'.1 5 - m.1 5) ∧ (nn : Int) ≤ 600 * (m'.1 5 - m.1 5)) ∨ (∃ e t' cc nn K P m', X = some ((.inl e, t'), cc, nn) ∧ THI N0 t (m.1 5) e t' cc nn K P ∧ Y = some m' ∧ m'.1 8 = K ∧ m'.1 9 = P ∧ MI m m')
theorem wloop {G : CG} {L : Ly} {r a N0 : Nat} : ∀ (fuel f2 : Nat) (κ : Nat → Nat) (t : Sg) (m : Mu) (W : Wv), IX G L r a N0 κ t m W → 600 - m.1 5 < (fuel : Int) → 600 - m.1 5 < (f2 : Int) → WLR G L r a N0 t m (XW G r fuel t) (m5_wording_l25 f2 m) := by
  intro fuel
  induction fuel with
  | zero =>
    intro f2 κ t m W h hf hf2
    have := h.1.1.2.2.2.1.2.2
    have := h.1.1.2.2.1.2.2.2
    omega
  | succ fuel ih =>
    intro f2 κ t m W h hf hf2
    have hR := h.1.1
    have hts := hR.2.2.2.1.2.2
    have htk := hR.2.2.1.2.2.2
    obtain ⟨f2, rfl⟩ : ∃ g, f2 = g + 1 := ⟨f2 - 1, by omega⟩
    obtain ⟨k1, k2⟩ := tk_w hR.2.2.1
    have h8 : m.1 8 = 0 := hR.2.2.2.2.2
    unfold XW
    rw [f7_wording_l0.eq_2, m5_wording_l25.eq_2, gfI_v hR.1.1.1 k1.2.2.2, Option.bind_some, k1.2.2.1]
    by_cases z : m.1 4 = 0
    · rw [if_pos z, if_pos z]
      exact Or.inl ⟨t, 0, 0, m, κ, W, rfl, rfl, h, z, FRo_rf, MI_rf, Int.le_refl _, by omega, by omega⟩
    · rw [if_neg z, if_neg z, h8, if_pos (show w32 0 = 0 from rfl), ztg_e hR.1.1.1, Option.bind_some]
      rcases item7 h with ⟨t', cc, nn, m', κ', W', e1, e2, e3, e4, e5, e6⟩ | ⟨e, t', cc, nn, K, P, m', e1, e2, e3, e4⟩
      · rw [e1, e2, Option.bind_some]
        obtain ⟨c1, c2, c3, c4⟩ := e6
        have eX : bdU (bdU (some ((Sum.inr (), t'), cc, nn)) fun q3 => tel q3.1 (fun e4 => some ((.inl (e4, q3.2) : (Nat × Sg) ⊕ Sg), 0, 0)) fun (_ : Unit) => f7_wording_l0 G (some r) fuel q3.2) (Sum.elim (fun e2 => xth e2.1 e2.2) (fun q1 => some ((.inr (), q1), 0, 0))) = (XW G r fuel t').map fun r => (r.1, r.2.1 + cc, r.2.2 + nn) := by
          rw [bdU_as, bdU_e]; rfl
        rw [eX]
        rcases ih f2 κ' t' m' W' e3 (by omega) (by omega) with ⟨t2, cc2, nn2, m2, κ2, W2, q1, q2, q3, q4, q5, q6, q7, q8, q9⟩ | ⟨e, t2, cc2, nn2, K, P, m2, q1, q2, q3, q4, q5, q6⟩
        · rw [q1, q2]
          exact Or.inl ⟨t2, cc2 + cc, nn2 + nn, m2, κ2, W2, rfl, rfl, q3, q4, FRo_tr e4 q5, MI_tr e5 q6, by omega, by omega, by omega⟩
        · rw [q1, q3]
          obtain ⟨r1, r2, r3, r4, r5, r6, r7, r8⟩ := q2
          exact Or.inr ⟨e, t2, cc2 + cc, nn2 + nn, K, P, m2, rfl, ⟨r1, r2, r3, r4, FRo_tr e4 r5, by omega, by omega, by omega⟩, rfl, q4, q5, MI_tr e5 q6⟩
      · rw [e1, e3, Option.bind_some]
        right
        have hK := e2.2.1.2
        have eX : bdU (bdU (some ((Sum.inl e, t'), cc, nn)) fun q3 => tel q3.1 (fun e4 => some ((.inl (e4, q3.2) : (Nat × Sg) ⊕ Sg), 0, 0)) fun (_ : Unit) => f7_wording_l0 G (some r) fuel q3.2) (Sum.elim (fun e2 => xth e2.1 e2.2) (fun q1 => some ((.inr (), q1), 0, 0))) = some ((.inl e, t'), cc, nn) := by
          rw [bdU_as, bdU_e]
          show (bdU (some ((Sum.inl (e, t') : (Nat × Sg) ⊕ Sg), 0, 0)) _).map _ = _
          rw [bdU_z]
          show (xth (α := Unit) e t').map _ = _
          unfold xth
          rw [if_pos e2.1]
          show some ((Sum.inl e, t'), 0 + cc, 0 + nn) = _
          rw [Nat.zero_add, Nat.zero_add]
        rw [eX]
        have hP := e2.2.2.2.2.2.1
        obtain ⟨f2, rfl⟩ : ∃ g, f2 = g + 1 := ⟨f2 - 1, by omega⟩
        obtain ⟨f2, rfl⟩ : ∃ g, f2 = g + 1 := ⟨f2 - 1, by omega⟩
        have stop : ∀ {g : Nat} {q : Mu}, q.1 8 = K → m5_wording_l25 (g + 1) q = some q := fun {g q} hq => by
          rw [m5_wording_l25.eq_2]
          by_cases y : w32 (q.1 4) = 0
          · rw [if_pos y]
          · rw [if_neg y, hq, w32_id (x := K) (by omega) (by omega), if_neg (by omega)]
        obtain ⟨hm | ⟨rfl, h2, h3, h4⟩, hMI⟩ := e4
        · exact ⟨e, t', cc, nn, K, P, m', rfl, e2, stop hm.1, hm.1, hm.2, hMI⟩
        · obtain ⟨m2, em, hm⟩ := m_cannot h2 (by rw [h3]; decide)
          rw [if_pos h3, h4] at hm
          refine ⟨e, t', cc, nn, 1, P, m2, rfl, e2, ?_, hm.1, hm.2.1, MI_tr hMI (MI_7 hm.2.2)⟩
          rw [m5_wording_l25.eq_2, h3, if_neg (by decide), h2, if_pos (show w32 0 = 0 from rfl)]
          unfold m5_readStatement
          rw [h3, if_neg (by decide), em, Option.bind_some, Option.bind_some]
          exact stop hm.1
