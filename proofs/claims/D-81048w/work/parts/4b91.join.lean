/-! ENDORSE: the twin joins: the loops over clauses -/
theorem m_l350 {m m0 : Mu} {w v c0 : Nat} {W : Wv} {ms : List (List Nd)} (hw : w ≤ 13) (hv : v ≤ 13) (hne : v ≠ w) (hW : slc m v = W) (hp0 : mpl w KA7 m m0) (h23 : W 23 0 = (nC W : Int)) (h24 : nC W ≤ 24) (hs : ∀ k, k < nC W → 0 ≤ W 25 k ∧ W 25 k ≤ W 26 k ∧ W 26 k ≤ 300) (hst : ∀ k, k < nC W → m.2 57 k = -1 ∨ m.2 57 k = -2 ∨ (0 ≤ m.2 57 k ∧ m.2 57 k < 1400 ∧ 0 ≤ m.2 54 (m.2 57 k).toNat ∧ m.2 54 (m.2 57 k).toNat ≤ m.2 55 (m.2 57 k).toNat ∧ m.2 55 (m.2 57 k).toNat ≤ 4100)) (hl : (csO W m (nC W)).length ≤ 24) (hb : c0 + szC (csO W m (nC W)) ≤ 2400) (h0 : BLT m0 w ms [] [] c0) : ∃ m', m5_join_l350 w v NN 0 m0 = some m' ∧ mpl w KA7 m m' ∧ BLT m' w ms (csO W m (nC W)) [] (c0 + szC (csO W m (nC W))) := by
  have key := loop_ind (fun q (s : Nat × Mu) => m5_join_l350 w v q (s.1 : Nat) s.2) (fun s => 30 - s.1) (fun s => s.1 ≤ nC W ∧ mpl w KA7 m s.2 ∧ BLT s.2 w ms (csO W m s.1) [] (c0 + szC (csO W m s.1))) (fun _ r => mpl w KA7 m r ∧ BLT r w ms (csO W m (nC W)) [] (c0 + szC (csO W m (nC W)))) (by
    rintro q ⟨k, t⟩ ⟨g1, g2, g3⟩ ih
    dsimp only at g1 g2 g3 ⊢
    show ok (m5_join_l350 w v (q + 1) (k : Nat) t) _
    unfold m5_join_l350
    have st := mpl_v g2 hW hne
    have e23 : mald t 23 14 (v : Int) = some (W 23 0) := by rw [← st]; exact m_sl (w := v) (k := 23) (j := 0) (by decide) (by show (v : Int) = ((1 * v + 0 : Nat) : Int); omega) (by show 1 * v + 0 < 14; omega) (by omega)
    refine ok_eq e23 ?_
    rw [h23, w32_n (by omega), w32_n (by omega)]
    refine ok_ite (fun hz => ok_some (by rw [show nC W = k by omega]; exact ⟨g2, g3⟩)) (fun hz => ?_)
    have hk : k < nC W := by omega
    have e57 : t.2 57 = m.2 57 := g2.2.1 57 (by decide)
    refine ok_mald k rfl (by omega) (by omega) ?_
    rw [e57]
    obtain ⟨l1, l2⟩ := csO_le (W := W) (m := m) (show k + 1 ≤ nC W by omega)
    have es : csO W m (k + 1) = csO W m k ++ (if m.2 57 k = -1 then [(W 24 k, (seg W (W 25 k) (W 26 k)).map w8n)] else if m.2 57 k < 0 then [] else [newC m (m.2 57 k).toNat]) := rfl
    have hst' := hst k hk
    have w57 : w32 (m.2 57 k) = m.2 57 k := w32_id (by omega) (by omega)
    rw [w57]
    refine ok_ite (fun z1 => ?_) (fun z1 => ?_)
    · -- it stands
      rw [if_pos z1] at es
      obtain ⟨s1, s2, s3⟩ := hs k hk
      obtain ⟨ns, hns⟩ : ∃ ns, ns = (seg W (W 25 k) (W 26 k)).map w8n := ⟨_, rfl⟩
      rw [← hns] at es
      have hlen : ns.length = (W 26 k).toNat - (W 25 k).toNat := by rw [hns, List.length_map, seg_len]
      rw [es, List.length_append] at l1
      rw [es, szC_a] at l2
      have sz1 : szC [(W 24 k, ns)] = ns.length := by unfold szC; simp
      rw [sz1] at l2
      have ln1 : [(W 24 k, ns)].length = 1 := rfl
      rw [ln1] at l1
      obtain ⟨c, hc⟩ : ∃ c, c = c0 + szC (csO W m k) := ⟨_, rfl⟩
      obtain ⟨n, hn⟩ : ∃ n, n = (csO W m k).length := ⟨_, rfl⟩
      rw [← hc] at g3
      have c23 : t.2 23 w = (n : Int) := by rw [hn]; exact g3.2.2.1.1
      have c33 : t.2 33 w = (c : Int) := g3.1.1
      have hn24 : n < 24 := by omega
      have e24 : mald t 24 336 (24 * (v : Int) + k) = some (W 24 k) := by rw [← st]; exact m_sl (w := v) (k := 24) (j := k) (show k < 24 by omega) (by show (24 * (v : Int) + k) = ((24 * v + k : Nat) : Int); omega) (by show 24 * v + k < 336; omega) (by omega)
      refine ok_mald w rfl (by omega) (by omega) (ok_eq e24 ?_)
      rw [c23]
      refine ok_mast (24 * w + n) (by omega) (by omega) (by omega) ?_
      obtain ⟨t3, ht3⟩ : ∃ t3, t3 = ma t 24 (24 * w + n) (W 24 k) := ⟨_, rfl⟩
      rw [← ht3]
      refine ok_mald w rfl (by omega) (by omega) (ok_mald w rfl (by omega) (by omega) ?_)
      rw [show t3.2 23 w = (n : Int) by rw [ht3, ma_o (by decide)]; exact c23, show t3.2 33 w = (c : Int) by rw [ht3, ma_o (by decide)]; exact c33]
      refine ok_mast (24 * w + n) (by omega) (by omega) (by omega) ?_
      obtain ⟨t6, ht6⟩ : ∃ t6, t6 = ma t3 25 (24 * w + n) (c : Int) := ⟨_, rfl⟩
      rw [← ht6]
      have p3 : mpl w KA7 m t3 := by rw [ht3]; exact mpl_ma g2 (by decide) (by show 24 * w ≤ _; omega) (by show _ < 24 * w + 24; omega)
      have p6 : mpl w KA7 m t6 := by rw [ht6]; exact mpl_ma p3 (by decide) (by show 24 * w ≤ _; omega) (by show _ < 24 * w + 24; omega)
      have st6 := mpl_v p6 hW hne
      have e25 : mald t6 25 336 (24 * (v : Int) + k) = some (W 25 k) := by rw [← st6]; exact m_sl (w := v) (k := 25) (j := k) (show k < 24 by omega) (by show (24 * (v : Int) + k) = ((24 * v + k : Nat) : Int); omega) (by show 24 * v + k < 336; omega) (by omega)
      have e26 : mald t6 26 336 (24 * (v : Int) + k) = some (W 26 k) := by rw [← st6]; exact m_sl (w := v) (k := 26) (j := k) (show k < 24 by omega) (by show (24 * (v : Int) + k) = ((24 * v + k : Nat) : Int); omega) (by show 24 * v + k < 336; omega) (by omega)
      refine ok_eq e25 (ok_eq e26 ?_)
      have c336 : t6.2 33 w = (c : Int) := by rw [ht6, ma_o (by decide), ht3, ma_o (by decide)]; exact c33
      obtain ⟨t9, a1, a2, a3, a4, a5⟩ := ap_copy (m := t6) (w := w) (v := v) (s := (W 25 k).toNat) (e := (W 26 k).toNat) (c := c) hw hv hne (by omega) (by omega) c336 (by omega)
      rw [show (((W 25 k).toNat : Nat) : Int) = W 25 k by omega, show (((W 26 k).toNat : Nat) : Int) = W 26 k by omega] at a1
      refine ok_eq a1 ?_
      have esg : sgP t6 v (W 25 k).toNat (W 26 k).toNat = seg W (W 25 k) (W 26 k) := by
        rw [sgP_seg (by omega), st6, show (((W 25 k).toNat : Nat) : Int) = W 25 k by omega, show (((W 26 k).toNat : Nat) : Int) = W 26 k by omega]
      rw [esg, ← hns] at a3 a5
      have c239 : t9.2 23 w = (n : Int) := by rw [a2.2.1 23 (by decide), ht6, ma_o (by decide), ht3, ma_o (by decide)]; exact c23
      refine ok_mald w rfl (by omega) (by omega) (ok_mald w rfl (by omega) (by omega) ?_)
      rw [c239, a3]
      refine ok_mast (24 * w + n) (by omega) (by omega) (by omega) ?_
      obtain ⟨t12, ht12⟩ : ∃ t12, t12 = ma t9 26 (24 * w + n) ((c + ns.length : Nat) : Int) := ⟨_, rfl⟩
      rw [← ht12]
      refine ok_mald w rfl (by omega) (by omega) ?_
      rw [show t12.2 23 w = (n : Int) by rw [ht12, ma_o (by decide)]; exact c239]
      refine ok_mast w rfl (by omega) (by omega) ?_
      obtain ⟨t14, ht14⟩ : ∃ t14, t14 = ma t12 23 w ((n : Int) + 1) := ⟨_, rfl⟩
      rw [← ht14]
      have p9 : mpl w KA7 m t9 := mpl_tr p6 ⟨a2.1, fun k hk => a2.2.1 k (fun z => hk ((by decide : ∀ k ∈ KN, k ∈ KA7) k z)), a2.2.2⟩
      have p12 : mpl w KA7 m t12 := by rw [ht12]; exact mpl_ma p9 (by decide) (by show 24 * w ≤ _; omega) (by show _ < 24 * w + 24; omega)
      have p14 : mpl w KA7 m t14 := by rw [ht14]; exact mpl_ma p12 (by decide) (by show 1 * w ≤ _; omega) (by show _ < 1 * w + 1; omega)
      have o14 : ∀ k, k ∉ KN → k ≠ 23 → k ≠ 24 → k ≠ 25 → k ≠ 26 → t14.2 k = t.2 k := fun k h0 h1 h2 h3 h4 => by rw [ht14, ma_o h1, ht12, ma_o h4, a2.2.1 k h0, ht6, ma_o h3, ht3, ma_o h2]
      have n14 : ∀ i, ndP t14 w i = ndP t9 w i := fun i => by unfold ndP; rw [ht14, ma_o (by decide), ma_o (by decide), ma_o (by decide), ma_o (by decide), ht12, ma_o (by decide), ma_o (by decide), ma_o (by decide), ma_o (by decide)]
      have n6 : ∀ i, ndP t6 w i = ndP t w i := fun i => by unfold ndP; rw [ht6, ma_o (by decide), ma_o (by decide), ma_o (by decide), ma_o (by decide), ht3, ma_o (by decide), ma_o (by decide), ma_o (by decide), ma_o (by decide)]
      have x24 : ∀ x, t14.2 24 x = if x = 24 * w + n then W 24 k else t.2 24 x := fun x => by rw [ht14, ma_o (by decide), ht12, ma_o (by decide), a2.2.1 24 (by decide), ht6, ma_o (by decide), ht3, ma_s]
      have x25 : ∀ x, t14.2 25 x = if x = 24 * w + n then (c : Int) else t.2 25 x := fun x => by rw [ht14, ma_o (by decide), ht12, ma_o (by decide), a2.2.1 25 (by decide), ht6, ma_s, ht3, ma_o (by decide)]
      have x26 : ∀ x, t14.2 26 x = if x = 24 * w + n then ((c + ns.length : Nat) : Int) else t.2 26 x := fun x => by rw [ht14, ma_o (by decide), ht12, ma_s, a2.2.1 26 (by decide), ht6, ma_o (by decide), ht3, ma_o (by decide)]
      have B14 : BLT t14 w ms (csO W m (k + 1)) [] (c0 + szC (csO W m (k + 1))) := by
        rw [es, szC_a, sz1, ← Nat.add_assoc, ← hc]
        refine BLT_c g3 (by rw [ht14, ma_o (by decide), ht12, ma_o (by decide)]; exact a3) (fun i hi => by rw [n14, a4 i hi, n6]) (Eq.trans (List.map_congr_left (fun i _ => n14 _)) a5) (fun k hk => o14 k (by simp only [KN, List.mem_cons, List.not_mem_nil, or_false]; omega) (by omega) (by omega) (by omega) (by omega)) (fun k hk => ?_) (fun k hk => ?_) (by rw [← hn, x25, if_pos rfl]) (by rw [← hn, x26, if_pos rfl]) (by rw [← hn, x24, if_pos rfl]) (by rw [ht14, ma_s, if_pos rfl]; omega)
        · rw [← hn] at hk
          rw [x25, x26, if_neg (by omega), if_neg (by omega)]; exact ⟨rfl, rfl⟩
        · rw [← hn] at hk
          rw [x24, if_neg (by omega)]
      exact ih (k + 1, t14) ⟨by show k + 1 ≤ nC W; omega, p14, B14⟩ (by show 30 - (k + 1) < 30 - k; omega)
    · rw [if_neg z1] at es
      refine ok_mald k rfl (by omega) (by omega) ?_
      rw [e57, w57]
      refine ok_ite (fun z2 => ?_) (fun z2 => ?_)
      · rw [if_pos z2, List.append_nil] at es
        exact ih (k + 1, t) ⟨by show k + 1 ≤ nC W; omega, g2, by dsimp only; rw [es]; exact g3⟩ (by show 30 - (k + 1) < 30 - k; omega)
      · rw [if_neg z2] at es
        have hj : 0 ≤ m.2 57 k ∧ m.2 57 k < 1400 ∧ 0 ≤ m.2 54 (m.2 57 k).toNat ∧ m.2 54 (m.2 57 k).toNat ≤ m.2 55 (m.2 57 k).toNat ∧ m.2 55 (m.2 57 k).toNat ≤ 4100 := by
          rcases hst' with q | q | q
          · omega
          · omega
          · exact q
        refine ok_mald k rfl (by omega) (by omega) ?_
        rw [e57]
        rw [es, List.length_append] at l1
        rw [es, szC_a] at l2
        have sz1 : szC [newC m (m.2 57 k).toNat] = (newC m (m.2 57 k).toNat).2.length := by unfold szC; simp
        rw [sz1] at l2
        have ln1 : [newC m (m.2 57 k).toNat].length = 1 := rfl
        rw [ln1] at l1
        obtain ⟨t', a1, a2, a3⟩ := m_pClause (j := (m.2 57 k).toNat) hw g2 g3 (by omega) hj.2.2 (by omega) (by omega)
        rw [show (((m.2 57 k).toNat : Nat) : Int) = m.2 57 k by omega] at a1
        refine ok_eq a1 ?_
        refine ih (k + 1, t') ⟨by show k + 1 ≤ nC W; omega, a2, ?_⟩ (by show 30 - (k + 1) < 30 - k; omega)
        dsimp only
        rw [es, szC_a, sz1, ← Nat.add_assoc]; exact a3) NN (0, m0) ⟨Nat.zero_le _, hp0, h0⟩ (NN_gt (by show 30 - 0 < 100000; omega))
  exact key
theorem m_l518 {m m0 : Mu} {w v c0 nc : Nat} {ms : List (List Nd)} {cs : List (Int × List Nd)} (hw : w ≤ 13) (hp0 : mpl w KA7 m m0) (h56 : m.1 56 = (nc : Int)) (hnc : nc ≤ 1400) (hst : ∀ j, j < nc → 0 ≤ m.2 54 j ∧ m.2 54 j ≤ m.2 55 j ∧ m.2 55 j ≤ 4100) (h58 : ∀ j, j < nc → m.2 58 j = 0 ∨ m.2 58 j = 1) (hl : (cs ++ csN m nc).length ≤ 24) (hb : c0 + szC (csN m nc) ≤ 2400) (h0 : BLT m0 w ms cs [] c0) : ∃ m', m5_join_l518 w v NN 0 m0 = some m' ∧ mpl w KA7 m m' ∧ BLT m' w ms (cs ++ csN m nc) [] (c0 + szC (csN m nc)) := by
  have key := loop_ind (fun q (s : Nat × Mu) => m5_join_l518 w v q (s.1 : Nat) s.2) (fun s => 1500 - s.1) (fun s => s.1 ≤ nc ∧ mpl w KA7 m s.2 ∧ BLT s.2 w ms (cs ++ csN m s.1) [] (c0 + szC (csN m s.1))) (fun _ r => mpl w KA7 m r ∧ BLT r w ms (cs ++ csN m nc) [] (c0 + szC (csN m nc))) (by
    rintro q ⟨k, t⟩ ⟨g1, g2, g3⟩ ih
    dsimp only at g1 g2 g3 ⊢
    show ok (m5_join_l518 w v (q + 1) (k : Nat) t) _
    unfold m5_join_l518
    rw [g2.1, h56, w32_n (by omega), w32_n (by omega)]
    refine ok_ite (fun hz => ok_some (by rw [show nc = k by omega]; exact ⟨g2, g3⟩)) (fun hz => ?_)
    have hk : k < nc := by omega
    have e58 : t.2 58 = m.2 58 := g2.2.1 58 (by decide)
    refine ok_mald k rfl (by omega) (by omega) ?_
    rw [e58]
    obtain ⟨l1, l2⟩ := csN_le (m := m) (show k + 1 ≤ nc by omega)
    have es : csN m (k + 1) = csN m k ++ (if m.2 58 k = 0 then [newC m k] else []) := rfl
    have h58' := h58 k hk
    rw [w32_id (x := m.2 58 k) (by omega) (by omega)]
    rw [List.length_append] at hl
    refine ok_ite (fun z1 => ?_) (fun z1 => ?_)
    · rw [if_pos z1] at es
      rw [es, List.length_append] at l1
      rw [es, szC_a] at l2
      have sz1 : szC [newC m k] = (newC m k).2.length := by unfold szC; simp
      rw [sz1] at l2
      have ln1 : [newC m k].length = 1 := rfl
      rw [ln1] at l1
      obtain ⟨t', a1, a2, a3⟩ := m_pClause (j := k) hw g2 g3 (by omega) (hst k hk) (by rw [List.length_append]; omega) (by omega)
      refine ok_eq a1 ?_
      refine ih (k + 1, t') ⟨by show k + 1 ≤ nc; omega, a2, ?_⟩ (by show 1500 - (k + 1) < 1500 - k; omega)
      dsimp only
      rw [es, szC_a, sz1, ← Nat.add_assoc, ← List.append_assoc]; exact a3
    · rw [if_neg z1, List.append_nil] at es
      exact ih (k + 1, t) ⟨by show k + 1 ≤ nc; omega, g2, by dsimp only; rw [es]; exact g3⟩ (by show 1500 - (k + 1) < 1500 - k; omega)) NN (0, m0) ⟨Nat.zero_le _, hp0, by dsimp only; rw [show csN m 0 = [] from rfl, List.append_nil]; exact h0⟩ (NN_gt (by show 1500 - 0 < 100000; omega))
  exact key
