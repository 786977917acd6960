/-! ENDORSE: the twin joins: all together -/
/-- the clauses under way and the old wording W at the place v -/
def EJ (m : Mu) (v nc : Nat) (W : Wv) : Prop := (slc m v = W ∧ WM W ∧ v ≤ 12) ∧ (m.1 56 = (nc : Int) ∧ nc ≤ 1400 ∧ 0 ≤ m.1 46 ∧ m.1 46 ≤ 2400) ∧ (∀ k, k < nC W → m.2 57 k = -1 ∨ m.2 57 k = -2 ∨ (0 ≤ m.2 57 k ∧ m.2 57 k < (nc : Int))) ∧ (∀ j, j < nc → 0 ≤ m.2 54 j ∧ m.2 54 j ≤ m.2 55 j ∧ m.2 55 j ≤ m.1 46) ∧ (∀ j, j < nc → m.2 58 j = 0 ∨ m.2 58 j = 1) ∧ ((szC (csO W m (nC W)) + szC (csN m nc) : Nat) : Int) = lsm (fun k => if m.2 57 k = -1 then W 26 k - W 25 k else 0) (nC W) + m.1 46
/-- how many clauses, how many nodes there would be -/
def cntE (m : Mu) (nc : Nat) (W : Wv) : Nat := (csO W m (nC W)).length + (csN m nc).length
def totE (m : Mu) (nc : Nat) (W : Wv) : Int := lsm (fun k => W 22 k - W 21 k) (nM W) + ((szC (csO W m (nC W)) + szC (csN m nc) : Nat) : Int) + lsm (fun k => W 31 k - W 30 k) (nP W)
theorem m_joinE {m : Mu} {w v nc : Nat} {W : Wv} (h : EJ m v nc W) (hw : 1 ≤ w ∧ w ≤ 12) (hne : v ≠ w) : ((24 < cntE m nc W ∨ 300 < totE m nc W) ∧ m5_join w v m = (m5_wrong 6 m).bind fun u1 => some u1) ∨ (cntE m nc W ≤ 24 ∧ totE m nc W ≤ 300 ∧ ∃ (mB : Mu) (T : Nat), m5_join w v m = (m5_finish w mB).bind (fun u => some u) ∧ mpl w KA7 m mB ∧ (∀ k ∈ KW, ∀ j, j < wid k → slc mB w k j = W k j) ∧ BLT mB w (rowN W 21 22 (nM W)) (csO W m (nC W) ++ csN m nc) (rowN W 30 31 (nP W)) T ∧ (T : Int) = totE m nc W) := by
  obtain ⟨⟨hW, hM, hv⟩, ⟨h56, hnc, h46a, h46⟩, hst, h54, h58, hsum⟩ := h
  have hM1 := hM.1
  have e19 : W 19 0 = (nM W : Int) := by unfold nM; omega
  have e23 : W 23 0 = (nC W : Int) := by unfold nC; omega
  have e27 : W 27 0 = (nP W : Int) := by unfold nP; omega
  have n12 : nM W ≤ 12 := by unfold nM; omega
  have n24 : nC W ≤ 24 := by unfold nC; omega
  have p24 : nP W ≤ 24 := by unfold nP; omega
  have a1 := m_l11 (m := m) (w := w) (v := v) (by omega) hW e23 n24 (fun k hk => by rcases hst k hk with q | q | q <;> omega)
  obtain ⟨all1, ha1⟩ : ∃ a, a = m.1 46 + lsm (fun k => if m.2 57 k = -1 then W 26 k - W 25 k else 0) (nC W) := ⟨_, rfl⟩
  rw [← ha1] at a1
  have a2 := m_l96 (m := m) (w := w) (v := v) ((csO W m (nC W)).length : Int) all1 (by omega) hW e19 n12
  have a3 := m_l146 (m := m) (w := w) (v := v) ((csO W m (nC W)).length : Int) (all1 + lsm (fun k => W 22 k - W 21 k) (nM W)) (by omega) hW e27 p24
  have etot : all1 + lsm (fun k => W 22 k - W 21 k) (nM W) + lsm (fun k => W 31 k - W 30 k) (nP W) = totE m nc W := by unfold totE; rw [hsum, ha1]; omega
  rw [etot] at a3
  have a4 := m_l196 (m := m) (w := w) (v := v) (nc := nc) (totE m nc W) ((csO W m (nC W)).length : Int) h56 hnc h58
  rw [show ((csO W m (nC W)).length : Int) + ((csN m nc).length : Int) = (cntE m nc W : Int) by unfold cntE; omega] at a4
  have sM : ∀ k, k < nM W → 0 ≤ W 21 k ∧ W 21 k ≤ W 22 k ∧ W 22 k ≤ 300 := fun k hk => by
    have q1 := (hM.2.2.1 k hk).1; have q2 := (hM.2.2.1 k hk).2.1; have q3 := (hM.2.2.1 k hk).2.2.1; omega
  have sC : ∀ k, k < nC W → 0 ≤ W 25 k ∧ W 25 k ≤ W 26 k ∧ W 26 k ≤ 300 := fun k hk => by
    have q := (hM.2.2.2.1 k hk).2.2; have q1 := q.1; have q2 := q.2.1; have q3 := q.2.2.1; omega
  have sP0 : ∀ k, k < nP W → 0 ≤ W 31 k - W 30 k := fun k hk => by
    rcases (hM.2.2.2.2.1 k hk).2.2.2.2 with q | q
    · omega
    · have := q.2.2.1; omega
  obtain ⟨-, mM0⟩ := lsm_mono (f := fun k => W 22 k - W 21 k) (n := nM W) (k := nM W) (fun i hi => by have := sM i hi; omega) (Nat.le_refl _)
  obtain ⟨-, mP0⟩ := lsm_mono (f := fun k => W 31 k - W 30 k) (n := nP W) (k := nP W) sP0 (Nat.le_refl _)
  have hcl : cntE m nc W ≤ 24 + 1400 := by
    have c1 : ∀ k, k ≤ nC W → (csO W m k).length ≤ k := by
      intro k
      induction k with
      | zero => intro _; exact Nat.le_refl _
      | succ k ih =>
        intro hk
        simp only [csO]
        rw [List.length_append]
        have := ih (by omega)
        split
        · simp; omega
        · split <;> simp <;> omega
    have c2 : ∀ k, (csN m k).length ≤ k := by
      intro k
      induction k with
      | zero => exact Nat.le_refl _
      | succ k ih =>
        simp only [csN]
        rw [List.length_append]
        split <;> simp <;> omega
    have q1 := c1 (nC W) (Nat.le_refl _)
    have q2 := c2 nc
    unfold cntE; omega
  have szN : ((szC (csO W m (nC W)) + szC (csN m nc) : Nat) : Int) ≤ 24 * 300 + 2400 := by
    rw [hsum]
    have : ∀ k, k ≤ nC W → lsm (fun k => if m.2 57 k = -1 then W 26 k - W 25 k else 0) k ≤ 300 * (k : Int) := by
      intro k
      induction k with
      | zero => intro _; exact Int.le_refl _
      | succ k ih =>
        intro hk
        rw [lsm_s]
        have q1 := ih (by omega)
        have q2 := sC k (by omega)
        split <;> omega
    have := this (nC W) (Nat.le_refl _)
    omega
  have tb : -1000000 ≤ totE m nc W ∧ totE m nc W ≤ 1000000 := by
    have : ∀ k, k ≤ nM W → lsm (fun k => W 22 k - W 21 k) k ≤ 300 * (k : Int) := by
      intro k
      induction k with
      | zero => intro _; exact Int.le_refl _
      | succ k ih =>
        intro hk
        rw [lsm_s]
        have q1 := ih (by omega)
        have q2 := sM k (by omega)
        omega
    have q1 := this (nM W) (Nat.le_refl _)
    have this2 : ∀ k, k ≤ nP W → lsm (fun k => W 31 k - W 30 k) k ≤ 300 * (k : Int) := by
      intro k
      induction k with
      | zero => intro _; exact Int.le_refl _
      | succ k ih =>
        intro hk
        rw [lsm_s]
        have q1 := ih (by omega)
        have q2 : W 31 k - W 30 k ≤ 300 := by
          rcases (hM.2.2.2.2.1 k (by omega)).2.2.2.2 with q | q
          · omega
          · have := q.2.1; have := q.2.2.2.1; omega
        omega
    have q2 := this2 (nP W) (Nat.le_refl _)
    unfold totE
    omega
  have eJ : m5_join w v m = (if 24 < (cntE m nc W : Int) then m5_join_b243 m else if totE m nc W ≤ 300 then (m5_clear w m).bind fun u5 => (m5_copyWording w v u5).bind fun u6 => (m5_join_l264 w v NN 0 u6).bind fun q7 => (m5_join_l350 w v NN 0 q7).bind fun q8 => (m5_join_l518 w v NN 0 q8).bind fun q9 => (m5_join_l553 w v NN 0 q9).bind fun q10 => (m5_finish w q10).bind fun u11 => some u11 else m5_join_b243 m) := by
    unfold m5_join
    rw [a1, Option.bind_some]
    dsimp only
    rw [a2, Option.bind_some, a3, Option.bind_some, a4, Option.bind_some, w32_n (show cntE m nc W < 2147483648 by omega), w32_id (x := totE m nc W) (by omega) (by omega)]
  rw [eJ]
  by_cases z1 : 24 < cntE m nc W
  · left
    exact ⟨Or.inl z1, by rw [if_pos (by omega)]; rfl⟩
  · by_cases z2 : totE m nc W ≤ 300
    · right
      rw [if_neg (by omega), if_pos z2]
      refine ⟨by omega, z2, ?_⟩
      obtain ⟨m1, b1, b2, b3, -⟩ := m_clear (m := m) (w := w) (by omega)
      obtain ⟨m2, c1, c2, c3, c4⟩ := m_copyW (m := m1) (w := w) (v := v) (by omega) (by omega) (by omega)
      have p1 : mpl w KA7 m m1 := ⟨b2.1, fun k hk => b2.2.1 k (fun z => hk ((by decide : ∀ k ∈ [12, 19, 23, 27, 32, 33], k ∈ KA7) k z)), b2.2.2⟩
      have p2 : mpl w KA7 m m2 := mpl_tr p1 (CPY_mpl c2 c3 c4)
      have sl1 : slc m1 v = W := by rw [slc_mpl_o b2 hne]; exact hW
      have sl2 : slc m2 v = W := mpl_v p2 hW hne
      have B0 : BLT m2 w [] [] [] 0 := ⟨⟨by rw [c3 33 (by decide)]; exact b3.2.2.2.2, rfl⟩, fun k hk => absurd hk (Nat.not_lt_zero _), ⟨by rw [c3 23 (by decide)]; exact b3.2.2.1, fun k hk => absurd hk (Nat.not_lt_zero _)⟩, fun k hk => absurd hk (Nat.not_lt_zero _), fun k hk => absurd hk (Nat.not_lt_zero _), fun x hx => absurd hx (Nat.not_lt_zero _)⟩
      have totU : totE m nc W = lsm (fun k => W 22 k - W 21 k) (nM W) + ((szC (csO W m (nC W)) + szC (csN m nc) : Nat) : Int) + lsm (fun k => W 31 k - W 30 k) (nP W) := rfl
      obtain ⟨m3, cM, d1, d2, d3, d4⟩ := m_l264 (m := m2) (w := w) (v := v) (by omega) (by omega) hne sl2 e19 n12 sM (by omega) B0
      have p3 : mpl w KA7 m m3 := mpl_tr p2 d2
      have st' : ∀ k, k < nC W → m.2 57 k = -1 ∨ m.2 57 k = -2 ∨ (0 ≤ m.2 57 k ∧ m.2 57 k < 1400 ∧ 0 ≤ m.2 54 (m.2 57 k).toNat ∧ m.2 54 (m.2 57 k).toNat ≤ m.2 55 (m.2 57 k).toNat ∧ m.2 55 (m.2 57 k).toNat ≤ 4100) := fun k hk => by
        rcases hst k hk with q | q | q
        · exact Or.inl q
        · exact Or.inr (Or.inl q)
        · have := h54 (m.2 57 k).toNat (by omega)
          exact Or.inr (Or.inr ⟨q.1, by omega, by omega, by omega, by omega⟩)
      have lC : (csO W m (nC W)).length ≤ 24 := by unfold cntE at z1; omega
      obtain ⟨m4, f1, f2, f3⟩ := m_l350 (m := m) (m0 := m3) (w := w) (v := v) (by omega) (by omega) hne hW p3 e23 n24 sC st' lC (by omega) d3
      obtain ⟨m5, g1, g2, g3⟩ := m_l518 (m := m) (m0 := m4) (w := w) (v := v) (nc := nc) (by omega) f2 h56 hnc (fun j hj => by have := h54 j hj; omega) h58 (by rw [List.length_append]; unfold cntE at z1; omega) (by omega) f3
      have sl5 : slc m5 v = W := mpl_v g2 hW hne
      have sP : ∀ k, k < nP W → 0 ≤ W 30 k ∧ W 30 k ≤ W 31 k ∧ W 31 k ≤ 300 ∨ W 30 k = W 31 k := fun k hk => by
        rcases (hM.2.2.2.2.1 k hk).2.2.2.2 with q | q
        · exact Or.inr q
        · have q1 := q.2.1; have q2 := q.2.2.1; have q3 := q.2.2.2.1; left; omega
      obtain ⟨m6, T, k1, k2, k3, k4⟩ := m_l553 (m := m5) (w := w) (v := v) (by omega) (by omega) hne sl5 e27 p24 sP (by omega) (by omega) g3
      have jk0 : JK m2 m2 := fun _ _ => rfl
      have jk3 := JK_join_l264 _ _ _ jk0 _ d1
      have jk4 := JK_join_l350 _ _ _ jk3 _ f1
      have jk5 := JK_join_l518 _ _ _ jk4 _ g1
      have jk6 := JK_join_l553 _ _ _ jk5 _ k1
      refine ⟨m6, T, ?_, mpl_tr g2 k2, fun k hk j hj => ?_, k3, ?_⟩
      · rw [b1, Option.bind_some, c1, Option.bind_some, d1, Option.bind_some, f1, Option.bind_some, g1, Option.bind_some, k1, Option.bind_some]
      · rw [← sl1]
        unfold slc
        rw [if_pos hj, if_pos hj, jk6 k hk]
        exact CPY_g (c4 k hk) hj
      · rw [k4, totU]; omega
    · left
      refine ⟨Or.inr (by omega), ?_⟩
      rw [if_neg (by omega), if_neg z2]; rfl
