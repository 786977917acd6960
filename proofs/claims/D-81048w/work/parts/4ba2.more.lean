/-! ENDORSE: the loop: a clause that comes behind -/
/-- what stands fixed while the items are read -/
def CTE (G : CG) (L : Ly) (r a v : Nat) (W : Wv) (N2 : Nat) (t2 : Sg) : Prop := LK (fun q => q < N2) t2 a W ∧ (L.1 3 < N2 ∧ L.1 100 < N2 ∧ L.1 101 < N2 ∧ G0 G ≤ N2) ∧ (v ≤ 12 ∧ N2 ≤ r) ∧ WM W
/-- between two items -/
def EF (G : CG) (L : Ly) (r a v : Nat) (W : Wv) (oel : Nat → Nat) (kl kb ch ml N2 N3 : Nat) (t2 : Sg) (κ : Nat → Nat) (mb : Nat) (ec : Nat → Nat) (t : Sg) (m : Mu) (nc : Nat) : Prop := EN G L r a v W t m nc ∧ EB G r W oel kl kb ch ml N2 N3 t2 (m.2 57) (m.2 57) (ceN ec m nc) κ mb ec t m nc ∧ (∀ k, k < nC W → m.2 57 k = -1 ∨ m.2 57 k = -2 ∨ (0 ≤ m.2 57 k ∧ m.2 57 k < (nc : Int))) ∧ (∀ j, j < nc → m.2 58 j = 0 ∨ m.2 58 j = 1) ∧ lsm (fun k => if 0 ≤ m.2 57 k then m.2 55 (m.2 57 k).toNat - m.2 54 (m.2 57 k).toNat else 0) (nC W) + lsm (fun j => if m.2 58 j = 0 then m.2 55 j - m.2 54 j else 0) nc = m.1 46
/-- what an item comes to -/
def EIT (G : CG) (L : Ly) (r a v : Nat) (W : Wv) (oel : Nat → Nat) (kl kb ch ml N2 N3 : Nat) (t2 : Sg) (t : Sg) (m : Mu) (XF : (Sg → Option (((Nat × Sg) ⊕ ((Sg) ⊕ (Sg) ⊕ (Sg) ⊕ (Sg))) × Nat × Nat)) → Option (((Nat × Sg) ⊕ ((Sg) ⊕ (Sg) ⊕ (Sg) ⊕ (Sg))) × Nat × Nat)) (YF : (Mu → Option ((Mu) ⊕ (Mu))) → Option ((Mu) ⊕ (Mu))) : Prop :=
  (∃ (t' : Sg) (cc nn : Nat) (m' : Mu) (κ' : Nat → Nat) (mb' : Nat) (ec' : Nat → Nat) (nc' : Nat), (∀ kh, XF kh = (kh t').map fun r => (r.1, r.2.1 + cc, r.2.2 + nn)) ∧ (∀ kh, YF kh = kh m') ∧ EF G L r a v W oel kl kb ch ml N2 N3 t2 κ' mb' ec' t' m' nc' ∧ MIe m m' ∧ FRo N2 t t' ∧ m.1 5 < m'.1 5 ∧ (cc : Int) ≤ 20 * (m'.1 5 - m.1 5) ∧ (nn : Int) ≤ 600 * (m'.1 5 - m.1 5)) ∨
  (∃ (e : Nat) (t' : Sg) (cc nn : Nat) (K P : Int) (m' : Mu), (∀ K0 kh, XS G r K0 (XF kh) = some ((.inl e, t'), cc, nn)) ∧ THI N2 t (m.1 5) e t' cc nn K P ∧ MFe m m' K P ∧ ((∀ kh, YF kh = kh m') ∨ ((m'.1 8 = K ∧ m'.1 9 = P) ∧ ∀ kh, YF kh = some (.inl m'))))
theorem ceN_len {ec : Nat → Nat} {m : Mu} : ∀ n, (ceN ec m n).length ≤ n := by
  intro n
  induction n with
  | zero => exact Nat.le_refl _
  | succ n ih =>
    simp only [ceN]
    rw [List.length_append]
    split <;> simp <;> omega
theorem ceN_cg {ec ec' : Nat → Nat} {m m' : Mu} : ∀ n, (∀ j, j < n → m'.2 58 j = m.2 58 j ∧ ec' j = ec j) → ceN ec' m' n = ceN ec m n := by
  intro n
  induction n with
  | zero => intro _; rfl
  | succ n ih =>
    intro h
    simp only [ceN]
    rw [ih (fun j hj => h j (by omega)), (h n (by omega)).1, (h n (by omega)).2]
theorem EN_cl {G : CG} {L : Ly} {r a v kd : Nat} {W : Wv} {t t' : Sg} {m m' : Mu} {nc x c : Nat} {ns : List Nd} (h : EN G L r a v W t m nc) (hc : CLG G L r a v nc kd W t m x c t' m' ns) (h5 : m.1 5 + 3 ≤ m'.1 5) : EN G L r a v W t' m' (nc + 1) := by
  obtain ⟨⟨h1, h2⟩, ⟨h3, h4, h4'⟩, h6, h7⟩ := h
  obtain ⟨⟨x1, x2, x3⟩, -, ⟨z1, z2, z3, z4, z5, z6, z7⟩, ⟨w1, -⟩, -⟩ := hc
  exact ⟨⟨x1, x2⟩, ⟨by omega, by omega, z7⟩, by rw [w1]; omega, by omega⟩
/-- the heap's cells below N2, and the reader, do not change when more grows -/
theorem more7 {G : CG} {L : Ly} {r a v : Nat} {W : Wv} {oel : Nat → Nat} {kl kb ch ml N2 N3 : Nat} {t2 : Sg} {κ : Nat → Nat} {mb : Nat} {ec : Nat → Nat} {t : Sg} {m : Mu} {nc kd : Nat} (hC : CTE G L r a v W N2 t2) (h : EF G L r a v W oel kl kb ch ml N2 N3 t2 κ mb ec t m nc) (h4 : m.1 4 = 4) (hkd : kd < 3) (h7 : m.1 7 = 6 + (kd : Int)) : EIT G L r a v W oel kl kb ch ml N2 N3 t2 t m (fun kh => (ztg t 8 (some r)).bind fun b10 => bdU (f7_clause G (some b10) t) fun q11 => tel q11.1 (fun e12 => some (.inl (e12, q11.2), 0, 0)) fun x13 => (ztg q11.2 6 (some ml)).bind fun b14 => bdU (fJ2_add G (some b14) x13 q11.2) fun q15 => kh q15.2) (fun kh => (mast m 58 1400 (m.1 56) (nz 0)).bind fun u5 => (m5_readClause u5).bind fun u6 => kh u6) := by
  obtain ⟨hE, hB, hst, h58, hsum⟩ := id h
  obtain ⟨hLK, hL3, ⟨hv, hNr⟩, hM⟩ := hC
  obtain ⟨⟨hCX, h287⟩, ⟨h46e, h46, hJ⟩, h56, h3n⟩ := id hE
  have hR := hCX.1
  have htx := hR.2.2.2.1.2.2
  have h5b := hR.2.2.1.2.2
  have hnc : nc ≤ 171 := by omega
  obtain ⟨m1, hm1⟩ : ∃ m1, m1 = ma m 58 nc 0 := ⟨_, rfl⟩
  have n0 : nz 0 = 0 := by decide
  have e58 : mast m 58 1400 (m.1 56) (nz 0) = some m1 := by rw [mast_e nc h56 (by omega) (by omega), n0, hm1]
  have M1 : MIe m m1 := by rw [hm1]; exact MIe_ma (Or.inr rfl)
  have a1 : ∀ k, k ≠ 58 → m1.2 k = m.2 k := fun k hk => by rw [hm1, ma_o hk]
  have e1 : m1.1 = m.1 := by rw [hm1]; rfl
  have s1 : slc m1 v = slc m v := slc_fr (S := []) (T := [58]) ⟨fun k _ => by rw [e1], fun k hk => a1 k (by simpa using hk)⟩ (by decide)
  obtain ⟨⟨⟨b1, b2⟩, b3, ⟨b4, b5, b6⟩, b7⟩, -⟩ := id hB
  have E1 : EN G L r a v W t m1 nc := EN_o hE gro_rf (fun _ _ => sam_rf) hLK ⟨b1, b2⟩ hNr hL3 e1 (a1 0 (by decide)) (a1 1 (by decide)) s1
  obtain ⟨⟨hCX1, h2871⟩, ⟨h46e1, h461, hJ1⟩, h561, -⟩ := id E1
  have B1 : EB G r W oel kl kb ch ml N2 N3 t2 (m.2 57) (m.2 57) (ceN ec m nc) κ mb ec t m1 nc := EB_k hB gro_rf (fun _ _ _ => sam_rf) rfl (fun _ _ => rfl) hB.2.1 ⟨by rw [e1]; exact Int.le_refl _, fun k _ => nd_of (fun j hj => a1 j (by omega)) k⟩ (fun n _ => by rw [a1 53 (by decide), a1 54 (by decide), a1 55 (by decide)]; exact ⟨rfl, rfl, rfl⟩)
  have ez : ztg t 8 (some r) = some r := ztg_e hR.1.1.1
  have ek := c_clk hR h4 hkd h7
  rcases clauseR hCX1 h2871 h461 hJ1 (by rw [e1]; exact h4) hkd (by rw [e1]; exact h7) h561 (by omega) with ⟨x, c, t3, cc, nn, m3, ns, y1, y2, y3, y4, y5, y6⟩ | ⟨e, t3, cc, nn, K, P, m3, y1, y2, y3, y4⟩
  · left
    rw [e1] at y4 y5 y6
    have E3 := EN_cl E1 y3 (by rw [e1]; exact y4)
    have B3 := EB_cl B1 y3 hkd h461 (fun k hk => by rcases hst k hk with q | q | q <;> omega)
    obtain ⟨⟨x1, x2, x3⟩, ⟨u1, u2, u3, u4, u5, u6⟩, ⟨z1, z2, z3, z4, z5, z6, z7⟩, ⟨w1, w2, w3, w4, w5⟩, fr⟩ := y3
    obtain ⟨t4, κ4, mb4, ca, na, p1, p2, p3, p4, p5, p6⟩ := EB_add B3 (x := x) (by rw [u1]; exact ⟨by decide, u3⟩) (by have := ceN_len (ec := ec) (m := m) nc; omega)
    have hln := ceN_len (ec := ec) (m := m) nc
    obtain ⟨⟨⟨c1, c2⟩, c3, ⟨c4, c5, c6⟩, c7⟩, -, ⟨k1, -, -, k4, -⟩, -, ⟨k7, -, k8, -⟩, -⟩ := id p4
    have rne : r ≠ ml := fun e => by
      have := k7.1
      rw [← e, c6] at this; exact absurd this (by decide)
    have E4 : EN G L r a v W t4 m3 (nc + 1) := EN_o E3 p5 (fun q hq => by
      rcases hq with hq | hq
      · exact p6 q (by omega) (by omega) (by omega)
      · rw [hq]; exact p6 r c5 rne (by omega)) hLK ⟨c1, c2⟩ hNr hL3 rfl rfl rfl rfl
    have f57 : m3.2 57 = m.2 57 := by rw [fr.2 57 (by decide)]; exact a1 57 (by decide)
    have f58 : m3.2 58 = m1.2 58 := fr.2 58 (by decide)
    have g58 : ∀ j, m3.2 58 j = if j = nc then 0 else m.2 58 j := fun j => by rw [f58, hm1, ma_s]
    have eN : ceN (fun j => if j < nc then ec j else x) m3 (nc + 1) = ceN ec m nc ++ [x] := by
      show ceN _ m3 nc ++ (if m3.2 58 nc = 0 then [if nc < nc then ec nc else x] else []) = _
      rw [ceN_cg (ec := ec) (ec' := fun j => if j < nc then ec j else x) (m := m) (m' := m3) nc (fun j hj => ⟨by rw [g58, if_neg (by omega)], if_pos hj⟩), g58, if_pos rfl, if_pos rfl, if_neg (by omega)]
    refine ⟨t4, ca + cc, na + nn, m3, κ4, mb4, fun j => if j < nc then ec j else x, nc + 1, fun kh => ?_, fun kh => ?_, ⟨E4, ?_, fun k hk => ?_, fun j hj => ?_, ?_⟩, MIe_tr M1 (MIe_I (MI_E fr)), ⟨gro_tr x3.1 p5, fun q hq => sam_tr (x3.2.1 q (by omega) (by omega)) (p6 q (by omega) (by omega) (by omega))⟩, by omega, by omega, by omega⟩
    · show ((ztg t 8 (some r)).bind _) = _
      rw [ez, Option.bind_some, ek, y1, te_okc]
      dsimp only
      rw [ztg_e (show zT t3 ml = 6 by have := B3.2.2.2.2.1.1.1; exact this), Option.bind_some, p1, bdU_e]
      cases kh t4 with
      | none => rfl
      | some q =>
        obtain ⟨q, d, n⟩ := q
        show some (q, d + ca + cc, n + na + nn) = some (q, d + (ca + cc), n + (na + nn))
        rw [Nat.add_assoc, Nat.add_assoc]
    · show ((mast m 58 1400 (m.1 56) (nz 0)).bind _) = _
      rw [e58, Option.bind_some, y2, Option.bind_some]
    · rw [eN, f57]; exact p4
    · rw [f57]
      have := hst k hk
      omega
    · rw [g58]
      by_cases z : j = nc
      · rw [if_pos z]; exact Or.inl rfl
      · rw [if_neg z]; exact h58 j (by omega)
    · rw [f57, lsm_s, g58, if_pos rfl, if_pos rfl, w3, w4]
      have o5 : ∀ j, j ≠ nc → m3.2 54 j = m.2 54 j ∧ m3.2 55 j = m.2 55 j := fun j hj => by
        obtain ⟨-, q2, q3⟩ := w5 j hj
        rw [q2, q3, a1 54 (by decide), a1 55 (by decide)]; exact ⟨rfl, rfl⟩
      rw [lsm_cg (n := nC W) (g := fun k => if 0 ≤ m.2 57 k then m.2 55 (m.2 57 k).toNat - m.2 54 (m.2 57 k).toNat else 0) (fun k hk => by
        have := hst k hk
        by_cases z : 0 ≤ m.2 57 k
        · rw [if_pos z, if_pos z, (o5 _ (by omega)).1, (o5 _ (by omega)).2]
        · rw [if_neg z, if_neg z]), lsm_cg (n := nc) (g := fun j => if m.2 58 j = 0 then m.2 55 j - m.2 54 j else 0) (fun j hj => by
        rw [g58, if_neg (show ¬ j = nc by omega), (o5 j (by omega)).1, (o5 j (by omega)).2])]
      rw [e1]; omega
  · right
    rw [e1] at y2
    refine ⟨e, t3, cc, nn, K, P, m3, fun K0 kh => ?_, THI_tr FRo_rf ⟨by omega, hNr⟩ (Int.le_refl _) y2 (by omega) (by omega), MFe_I M1 y4, Or.inl (fun kh => ?_)⟩
    · show XS G r K0 ((ztg t 8 (some r)).bind _) = _
      rw [ez, Option.bind_some, ek, y1]
      exact XS_t y2.1
    · show ((mast m 58 1400 (m.1 56) (nz 0)).bind _) = _
      rw [e58, Option.bind_some, y3, Option.bind_some]
