/-! ENDORSE: the cells of the loop are made; the twin's beginning -/
theorem e_setup {G : CG} {t : Sg} {r o l4 d4 n bE e7 : Nat} {oel : Nat → Nat} (hG : G0 G ≤ zN t) (ho : zT t o = 7 ∧ zR t o 243 = some l4 ∧ o < zN t) (hl : LA t l4 d4 n) (hle : ∀ i, i < n → zB t d4 i = some (oel i)) (hn : n ≤ 24) (hE : GS G 6 = some bE ∧ bE < zN t ∧ zT t bE = 105 ∧ zL t bE = 0 ∧ ∀ i, zB t bE i = none) (h7 : GS G 7 = some e7 ∧ zT t e7 = 105 ∧ zL t e7 = 0 ∧ e7 < zN t ∧ ∀ i, zB t e7 i = none) : ∃ kl kb ch ml u c s, f7_endorsement G (some r) (some o) t = (XS G r (KEe G r kl ml) (f7_endorsement_l26 G (some r) (some kl) (some ch) (some ml) NN u)).map (fun r => (r.1, r.2.1 + c, r.2.2 + s)) ∧ c ≤ 4 ∧ s ≤ 54 ∧ gro t u ∧ (∀ q, q < zN t → sam t u q) ∧ (LA u kl kb n ∧ kb < zN u ∧ (0 < n → zN t ≤ kb) ∧ (zN t ≤ kl ∧ kl < zN u) ∧ ∀ k, k < n → zB u kb k = some (oel k)) ∧ (zT u ch = 103 ∧ zL u ch = 24 ∧ (zN t ≤ ch ∧ ch < zN u) ∧ ∀ k, zA u ch k = 0) ∧ (LA u ml bE 0 ∧ LW G u ml bE ∧ zN t ≤ ml ∧ ml < zN u ∧ ml ≠ kl) := by
  obtain ⟨kl, hkl⟩ : ∃ kl, kl = zN t := ⟨_, rfl⟩
  obtain ⟨t1, ht1⟩ : ∃ t1, t1 = znew t 6 0 := ⟨_, rfl⟩
  have N1 : zN t1 = zN t + 1 := by rw [ht1]; rfl
  have s1 : ∀ q, q < zN t → sam t t1 q := fun q hq => by rw [ht1]; exact sam_znew sam_rf (by omega)
  have g1 : gro t t1 := by rw [ht1]; exact gro_new
  have T1 : zT t1 kl = 6 := by rw [ht1, hkl, znew_T, if_pos rfl]
  have hl1 := LA_sam hl (s1 l4 hl.2.2.2.2.2.2.1) (s1 d4 hl.2.2.2.2.2.2.2.1) g1.1 (fun x hx => (g1.2 x hx).1)
  have hl4N := hl.2.2.2.2.2.2.1
  have hd4N := hl.2.2.2.2.2.2.2.1
  obtain ⟨kb, t2, ⟨⟨v2, c2, n2⟩, e2, e2', c2b, n2b⟩, a1, a2, a3, a4, a5, a6⟩ := J_init2 (G := G) (u := t1) (a := kl) (c := l4) (d := d4) (k := n) (e7 := e7) T1 (by show G0 G ≤ kl; omega) (by omega) hl1 (by omega) (by show G0 G ≤ zN t1; omega) h7.1 ⟨by rw [(s1 e7 h7.2.2.2.1).1]; exact h7.2.1, by rw [(s1 e7 h7.2.2.2.1).2.1]; exact h7.2.2.1, by omega, fun i => by rw [(s1 e7 h7.2.2.2.1).2.2.2.2.2]; exact h7.2.2.2.2 i⟩
  have e2' : v2 = t2 := e2'
  subst e2'
  have c2b : c2 ≤ 1 := c2b
  have n2b : n2 ≤ n := n2b
  obtain ⟨ch, hch⟩ : ∃ ch, ch = zN v2 := ⟨_, rfl⟩
  obtain ⟨t3, ht3⟩ : ∃ t3, t3 = znew v2 103 24 := ⟨_, rfl⟩
  obtain ⟨ml, hml⟩ : ∃ ml, ml = zN t3 := ⟨_, rfl⟩
  obtain ⟨t4, ht4⟩ : ∃ t4, t4 = znew t3 6 0 := ⟨_, rfl⟩
  obtain ⟨t5, ht5⟩ : ∃ t5, t5 = zsR (zsI t4 ml 200 0) ml 201 (some bE) := ⟨_, rfl⟩
  have N3 : zN t3 = zN v2 + 1 := by rw [ht3]; rfl
  have N4 : zN t4 = zN t3 + 1 := by rw [ht4]; rfl
  have N5 : zN t5 = zN t4 := by rw [ht5]; rfl
  have T4 : zT t4 ml = 6 := by rw [ht4, hml, znew_T, if_pos rfl]
  have eI : fJ2_init G (some ml) t4 = some t5 := by rw [J_init T4 (by show G0 G ≤ ml; omega) hE.1, ht5]
  have s25 : ∀ q, q < zN v2 → sam v2 t5 q := fun q hq => by
    rw [ht5, ht4, ht3]
    exact sam_zsR (sam_zsI (sam_znew (sam_znew sam_rf (by omega)) (by rw [← ht3]; omega)) (by omega)) (by omega)
  have s2 : ∀ q, q < zN t → sam t v2 q := fun q hq => sam_tr (s1 q hq) (a6 q (by omega) (by omega))
  have s5 : ∀ q, q < zN t → sam t t5 q := fun q hq => sam_tr (s2 q hq) (s25 q (by omega))
  have g25 : gro v2 t5 := ⟨by omega, fun x hx => ⟨(s25 x hx).1, (s25 x hx).2.1⟩⟩
  have hbE5 := s5 bE hE.2.1
  have hklN := a1.2.2.2.2.2.2.1
  have hkbN := a1.2.2.2.2.2.2.2.1
  have T5 : zT t5 ml = 6 := by rw [ht5]; exact T4
  refine ⟨kl, kb, ch, ml, t5, 0 + 1 + 1 + c2 + 1, 0 + 3 + 24 + n2 + 3, ?_, by omega, by omega, gro_tr g1 (gro_tr a4 g25), s5, ⟨LA_sam a1 (s25 kl hklN) (s25 kb hkbN) g25.1 (fun x hx => (g25.2 x hx).1), by omega, fun h => by have := a2 h; omega, ⟨by omega, by omega⟩, fun k hk => ?_⟩, ⟨?_, ?_, ⟨by omega, by omega⟩, fun k => ?_⟩, ⟨T5, ?_, ?_, by rw [hbE5.1]; exact hE.2.2.1, by omega, by rw [hbE5.2.1, hE.2.2.2.1]; omega, by omega, by omega, fun i x hx => by rw [hbE5.2.2.2.2.2, hE.2.2.2.2] at hx; cases hx⟩, ⟨by show G0 G ≤ ml; omega, fun _ => hE.1, fun q => by rw [hbE5.2.1, hE.2.2.2.1] at q; omega⟩, by omega, by omega, by omega⟩
  · unfold f7_endorsement
    have ez : ∀ (β : Type) (u : Sg) (T n : Nat) (k : Nat × Sg → Option (β × Nat × Nat)), bdU (zNew u T n) k = (k (zN u, znew u T 0)).map fun r => (r.1, r.2.1 + 1, r.2.2 + n) := fun β u T n k => rfl
    rw [ez]
    dsimp only
    rw [← ht1, ← hkl, gfR_v (r := some l4) (by rw [(s1 o ho.2.2).1]; exact ho.1) (by rw [(s1 o ho.2.2).2.2.2.1]; exact ho.2.1), Option.bind_some, e2, bdU_e]
    rw [zNewA_e (t := 3) (i := 24) 24 rfl (by omega), bdU_e, ez]
    dsimp only
    rw [← hch, show znew v2 (100 + 3) 24 = t3 from ht3.symm, ← hml, ← ht4, eI, Option.bind_some]
    show Option.map _ (Option.map _ (Option.map _ (Option.map _ (XS G r (KEe G r kl ml) (f7_endorsement_l26 G (some r) (some kl) (some ch) (some ml) NN t5))))) = _
    cases XS G r (KEe G r kl ml) (f7_endorsement_l26 G (some r) (some kl) (some ch) (some ml) NN t5) with
    | none => rfl
    | some q =>
      obtain ⟨q, c, s⟩ := q
      show some (q, c + 1 + 1 + c2 + 1, s + 3 + 24 + n2 + 3) = some (q, c + (0 + 1 + 1 + c2 + 1), s + (0 + 3 + 24 + n2 + 3))
      congr 3 <;> omega
  · rw [(s25 kb hkbN).2.2.2.2.2, a3 k hk, (s1 d4 hd4N).2.2.2.2.2]; exact hle k hk
  · rw [ht5]; show zT t4 ch = 103; rw [ht4, znew_T, if_neg (by omega), ht3, hch, znew_T, if_pos rfl]
  · rw [ht5]; show zL t4 ch = 24; rw [ht4, znew_L, if_neg (by omega), ht3, hch, znew_L, if_pos rfl]
  · rw [ht5]; show zA t4 ch k = 0; rw [ht4, znew_A, if_neg (by omega), ht3, hch, znew_A, if_pos rfl]
  · rw [ht5, zsR_R, if_pos ⟨rfl, rfl⟩]
  · rw [ht5, zsR_I, zsI_I, if_neg (fun q => absurd q.2 (by decide)), ht4, hml, znew_I, if_pos rfl]; rfl
/-- nothing has changed yet -/
theorem m_l37 {m : Mu} {v : Nat} {W : Wv} (hv : v ≤ 13) (hW : slc m v = W) (h23 : W 23 0 = (nC W : Int)) (h24 : nC W ≤ 24) : ∃ m', m5_endorse_l37 v NN 0 m = some m' ∧ m'.1 = m.1 ∧ (∀ k, k ≠ 57 → m'.2 k = m.2 k) ∧ ∀ k, k < nC W → m'.2 57 k = -1 := by
  have key := loop_ind (fun q (s : Nat × Mu) => m5_endorse_l37 v q (s.1 : Int) s.2) (fun s => 30 - s.1) (fun s => s.1 ≤ nC W ∧ s.2.1 = m.1 ∧ (∀ k, k ≠ 57 → s.2.2 k = m.2 k) ∧ ∀ k, k < s.1 → s.2.2 57 k = -1) (fun _ r => r.1 = m.1 ∧ (∀ k, k ≠ 57 → r.2 k = m.2 k) ∧ ∀ k, k < nC W → r.2 57 k = -1) (by
    rintro q ⟨k, t⟩ ⟨g1, g2, g3, g4⟩ ih
    dsimp only at g1 g2 g3 g4 ⊢
    show ok (m5_endorse_l37 v (q + 1) (k : Int) t) _
    unfold m5_endorse_l37
    have st : slc t v = W := by rw [← hW]; exact slc_fr (S := []) (T := [57]) ⟨fun k _ => by rw [g2], fun k hk => g3 k (by simpa using hk)⟩ (by decide)
    have e23 : mald t 23 14 (v : Int) = some (nC W : Int) := by rw [← h23, ← st]; exact m_sl (w := v) (k := 23) (j := 0) (by decide) (by show (v : Int) = ((1 * v + 0 : Nat) : Int); omega) (by show 1 * v + 0 < 14; omega) (by omega)
    refine ok_eq e23 ?_
    rw [w32_n (by omega), w32_n (by omega)]
    refine ok_ite (fun hz => ok_some ⟨g2, g3, fun j hj => g4 j (by omega)⟩) (fun hz => ?_)
    refine ok_mast k rfl (by omega) (by omega) ?_
    refine ih (k + 1, ma t 57 k (-1)) ⟨by show k + 1 ≤ nC W; omega, g2, fun j hj => by rw [← g3 j hj]; exact ma_o hj, fun j hj => ?_⟩ (by show 30 - (k + 1) < 30 - k; omega)
    show (ma t 57 k (-1)).2 57 j = -1
    rw [ma_s]
    by_cases z : j = k
    · rw [if_pos z]
    · rw [if_neg z]; exact g4 j (by have : j < k + 1 := hj; omega)) NN (0, m) ⟨Nat.zero_le _, rfl, fun _ _ => rfl, fun k hk => absurd hk (Nat.not_lt_zero _)⟩ (NN_gt (by show 30 - 0 < 100000; omega))
  obtain ⟨m', e, k1, k2, k3⟩ := key
  exact ⟨m', e, k1, k2, k3⟩
