/-! ENDORSE: the twin joins: price rows, clauses -/
theorem m_l553 {m : Mu} {w v : Nat} {W : Wv} (hw : w ≤ 13) (hv : v ≤ 13) (hne : v ≠ w) (hW : slc m v = W) (h27 : W 27 0 = (nP W : Int)) (h12 : nP W ≤ 24) (hs : ∀ k, k < nP W → (0 ≤ W 30 k ∧ W 30 k ≤ W 31 k ∧ W 31 k ≤ 300) ∨ W 30 k = W 31 k) (hb : lsm (fun k => W 31 k - W 30 k) (nP W) ≤ 300) {ms : List (List Nd)} {cs : List (Int × List Nd)} {c0 : Nat} (hc0 : c0 ≤ 300) (h0 : BLT m w ms cs [] c0) : ∃ m' c, m5_join_l553 w v NN 0 m = some m' ∧ mpl w KA7 m m' ∧ BLT m' w ms cs (rowN W 30 31 (nP W)) c ∧ (c : Int) = c0 + lsm (fun k => W 31 k - W 30 k) (nP W) := by
  have key := loop_ind (fun q (s : Nat × Mu) => m5_join_l553 w v q (s.1 : Nat) s.2) (fun s => 30 - s.1) (fun s => s.1 ≤ nP W ∧ mpl w KA7 m s.2 ∧ ∃ c : Nat, BLT s.2 w ms cs (rowN W 30 31 s.1) c ∧ (c : Int) = c0 + lsm (fun k => W 31 k - W 30 k) s.1) (fun _ r => mpl w KA7 m r ∧ ∃ c : Nat, BLT r w ms cs (rowN W 30 31 (nP W)) c ∧ (c : Int) = c0 + lsm (fun k => W 31 k - W 30 k) (nP W)) (by
    rintro q ⟨k, t⟩ ⟨g1, g2, c, g3, g4⟩ ih
    dsimp only at g1 g2 g3 g4 ⊢
    show ok (m5_join_l553 w v (q + 1) (k : Nat) t) _
    unfold m5_join_l553
    have st := mpl_v g2 hW hne
    have e27 : mald t 27 14 (v : Int) = some (W 27 0) := by rw [← st]; exact m_sl (w := v) (k := 27) (j := 0) (by decide) (by show (v : Int) = ((1 * v + 0 : Nat) : Int); omega) (by show 1 * v + 0 < 14; omega) (by omega)
    refine ok_eq e27 ?_
    rw [h27, w32_n (by omega), w32_n (by omega)]
    refine ok_ite (fun hz => ok_some ⟨g2, c, by rw [show nP W = k by omega]; exact ⟨g3, g4⟩⟩) (fun hz => ?_)
    have hk : k < nP W := by omega
    have hsk := hs k hk
    obtain ⟨p1, p2⟩ := lsm_mono (f := fun k => W 31 k - W 30 k) (n := nP W) (k := k + 1) (fun i hi => by have := hs i hi; omega) (by omega)
    rw [lsm_s] at p1 p2
    have c33 : t.2 33 w = (c : Int) := g3.1.1
    refine ok_mald w rfl (by omega) (by omega) ?_
    rw [c33]
    refine ok_mast (24 * w + k) (by omega) (by omega) (by omega) ?_
    obtain ⟨t3, ht3⟩ : ∃ t3, t3 = ma t 30 (24 * w + k) (c : Int) := ⟨_, rfl⟩
    rw [← ht3]
    have p3 : mpl w KA7 m t3 := by rw [ht3]; exact mpl_ma g2 (by decide) (by show 24 * w ≤ _; omega) (by show _ < 24 * w + 24; omega)
    have st3 := mpl_v p3 hW hne
    have e30 : mald t3 30 336 (24 * (v : Int) + k) = some (W 30 k) := by rw [← st3]; exact m_sl (w := v) (k := 30) (j := k) (show k < 24 by omega) (by show (24 * (v : Int) + k) = ((24 * v + k : Nat) : Int); omega) (by show 24 * v + k < 336; omega) (by omega)
    have e31 : mald t3 31 336 (24 * (v : Int) + k) = some (W 31 k) := by rw [← st3]; exact m_sl (w := v) (k := 31) (j := k) (show k < 24 by omega) (by show (24 * (v : Int) + k) = ((24 * v + k : Nat) : Int); omega) (by show 24 * v + k < 336; omega) (by omega)
    refine ok_eq e30 (ok_eq e31 ?_)
    have c333 : t3.2 33 w = (c : Int) := by rw [ht3, ma_o (by decide)]; exact c33
    have hcopy : ∃ t6, m5_copyNodes w v (W 30 k) (W 31 k) t3 = some t6 ∧ APN w t3 t6 c ((seg W (W 30 k) (W 31 k)).map w8n) := by
      rcases hsk with ⟨s1, s2, s3⟩ | se
      · obtain ⟨t6, a1, a2⟩ := ap_copy (m := t3) (w := w) (v := v) (s := (W 30 k).toNat) (e := (W 31 k).toNat) (c := c) hw hv hne (by omega) (by omega) c333 (by omega)
        rw [show (((W 30 k).toNat : Nat) : Int) = W 30 k by omega, show (((W 31 k).toNat : Nat) : Int) = W 31 k by omega] at a1
        have esg : sgP t3 v (W 30 k).toNat (W 31 k).toNat = seg W (W 30 k) (W 31 k) := by
          rw [sgP_seg (by omega), st3, show (((W 30 k).toNat : Nat) : Int) = W 30 k by omega, show (((W 31 k).toNat : Nat) : Int) = W 31 k by omega]
        rw [esg] at a2
        exact ⟨t6, a1, a2⟩
      · have e0 : seg W (W 30 k) (W 31 k) = [] := by unfold seg; rw [se, Nat.sub_self]; rfl
        refine ⟨t3, ?_, ?_⟩
        · obtain ⟨fu, hfu⟩ : ∃ fu, NN = fu + 1 := ⟨NN - 1, by have := NN_ge; omega⟩
          unfold m5_copyNodes
          rw [hfu, m5_copyNodes_l3.eq_2, se, if_pos (Int.le_refl _), Option.bind_some]
        · rw [e0]
          refine ⟨mpl_rf, c333, fun _ _ => rfl, ?_⟩
          unfold sgP
          show (List.range (c + 0 - c)).map _ = _
          rw [show c + 0 - c = 0 by omega]; rfl
    obtain ⟨t6, a1, a2, a3, a4, a5⟩ := hcopy
    refine ok_eq a1 ?_
    obtain ⟨ns, hns⟩ : ∃ ns, ns = (seg W (W 30 k) (W 31 k)).map w8n := ⟨_, rfl⟩
    rw [← hns] at a3 a5
    have hl : (ns.length : Int) = W 31 k - W 30 k := by rw [hns, List.length_map, seg_len]; omega
    refine ok_mald w rfl (by omega) (by omega) ?_
    rw [a3]
    refine ok_mast (24 * w + k) (by omega) (by omega) (by omega) ?_
    obtain ⟨t8, ht8⟩ : ∃ t8, t8 = ma t6 31 (24 * w + k) ((c + ns.length : Nat) : Int) := ⟨_, rfl⟩
    rw [← ht8]
    have p6 : mpl w KA7 m t6 := mpl_tr p3 ⟨a2.1, fun k hk => a2.2.1 k (fun z => hk ((by decide : ∀ k ∈ KN, k ∈ KA7) k z)), a2.2.2⟩
    have p8 : mpl w KA7 m t8 := by rw [ht8]; exact mpl_ma p6 (by decide) (by show 24 * w ≤ _; omega) (by show _ < 24 * w + 24; omega)
    have o8 : ∀ j, j ∉ KN → j ≠ 30 → j ≠ 31 → t8.2 j = t.2 j := fun j h1 h2 h3 => by rw [ht8, ma_o h3, a2.2.1 j h1, ht3, ma_o h2]
    have n8 : ∀ j, ndP t8 w j = ndP t6 w j := fun j => by unfold ndP; rw [ht8, ma_o (by decide), ma_o (by decide), ma_o (by decide), ma_o (by decide)]
    have n3 : ∀ j, ndP t3 w j = ndP t w j := fun j => by unfold ndP; rw [ht3, ma_o (by decide), ma_o (by decide), ma_o (by decide), ma_o (by decide)]
    have x30 : ∀ x, t8.2 30 x = if x = 24 * w + k then (c : Int) else t.2 30 x := fun x => by rw [ht8, ma_o (by decide), a2.2.1 30 (by decide), ht3, ma_s]
    have x31 : ∀ x, t8.2 31 x = if x = 24 * w + k then ((c + ns.length : Nat) : Int) else t.2 31 x := fun x => by rw [ht8, ma_s, a2.2.1 31 (by decide), ht3, ma_o (by decide)]
    have B8 : BLT t8 w ms cs (rowN W 30 31 (k + 1)) (c + ns.length) := by
      rw [rowN_s, ← hns]
      refine BLT_p g3 (by rw [ht8, ma_o (by decide)]; exact a3) (fun j hj => by rw [n8, a4 j hj, n3]) ?_ (fun j hj => o8 j (by simp only [KN, List.mem_cons, List.not_mem_nil, or_false]; omega) (by omega) (by omega)) (fun j hj => ?_) (by rw [rowN_len, x30, if_pos rfl]) (by rw [rowN_len, x31, if_pos rfl])
      · exact Eq.trans (List.map_congr_left (fun j _ => n8 _)) a5
      · rw [rowN_len] at hj
        rw [x30, x31, if_neg (by omega), if_neg (by omega)]; exact ⟨rfl, rfl⟩
    refine ih (k + 1, t8) ⟨by show k + 1 ≤ nP W; omega, p8, c + ns.length, B8, ?_⟩ (by show 30 - (k + 1) < 30 - k; omega)
    rw [lsm_s]; omega) NN (0, m) ⟨Nat.zero_le _, mpl_rf, c0, h0, by show (c0 : Int) = c0 + 0; omega⟩ (NN_gt (by show 30 - 0 < 100000; omega))
  obtain ⟨m', e, k1, c, k2, k3⟩ := key
  exact ⟨m', c, e, k1, k2, k3⟩
/-- a clause that was read -/
def newC (m : Mu) (j : Nat) : Int × List Nd := (m.2 53 j, (sgNw m (m.2 54 j) (m.2 55 j)).map w8n)
/-- the clauses of the old wording that stand, or those in their stead -/
def csO (W : Wv) (m : Mu) : Nat → List (Int × List Nd)
  | 0 => []
  | k + 1 => csO W m k ++ (if m.2 57 k = -1 then [(W 24 k, (seg W (W 25 k) (W 26 k)).map w8n)] else if m.2 57 k < 0 then [] else [newC m (m.2 57 k).toNat])
/-- those that come behind -/
def csN (m : Mu) : Nat → List (Int × List Nd)
  | 0 => []
  | j + 1 => csN m j ++ (if m.2 58 j = 0 then [newC m j] else [])
/-- how many, how long -/
def szC (l : List (Int × List Nd)) : Nat := (l.map (fun q => q.2.length)).sum
theorem szC_a {a b : List (Int × List Nd)} : szC (a ++ b) = szC a + szC b := by unfold szC; rw [List.map_append, List.sum_append]
theorem csO_le {W : Wv} {m : Mu} {k n : Nat} (h : k ≤ n) : (csO W m k).length ≤ (csO W m n).length ∧ szC (csO W m k) ≤ szC (csO W m n) := by
  obtain ⟨d, rfl⟩ : ∃ d, n = k + d := ⟨n - k, by omega⟩
  clear h
  induction d with
  | zero => exact ⟨Nat.le_refl _, Nat.le_refl _⟩
  | succ d ih =>
    rw [show k + (d + 1) = k + d + 1 by omega]
    simp only [csO]
    rw [List.length_append, szC_a]; omega
theorem csN_le {m : Mu} {k n : Nat} (h : k ≤ n) : (csN m k).length ≤ (csN m n).length ∧ szC (csN m k) ≤ szC (csN m n) := by
  obtain ⟨d, rfl⟩ : ∃ d, n = k + d := ⟨n - k, by omega⟩
  clear h
  induction d with
  | zero => exact ⟨Nat.le_refl _, Nat.le_refl _⟩
  | succ d ih =>
    rw [show k + (d + 1) = k + d + 1 by omega]
    simp only [csN]
    rw [List.length_append, szC_a]; omega
/-- what the twin's clauses under way are made of, unchanged since m -/
theorem newC_k {w : Nat} {m t : Mu} (h : mpl w KA7 m t) (j : Nat) : newC t j = newC m j := by
  unfold newC sgNw
  rw [h.2.1 53 (by decide), h.2.1 54 (by decide), h.2.1 55 (by decide)]
  have e : ∀ k, ndN t k = ndN m k := fun k => nd_of (fun i hi => h.2.1 i (by rcases hi with rfl | rfl | rfl | rfl <;> decide)) k
  have : (fun k => ndN t ((m.2 54 j).toNat + k)) = fun k => ndN m ((m.2 54 j).toNat + k) := funext (fun k => e _)
  rw [this]
theorem m_pClause {m t : Mu} {w j c : Nat} {ms : List (List Nd)} {cs : List (Int × List Nd)} (hw : w ≤ 13) (hp : mpl w KA7 m t) (hB : BLT t w ms cs [] c) (hj : j < 1400) (h54 : 0 ≤ m.2 54 j ∧ m.2 54 j ≤ m.2 55 j ∧ m.2 55 j ≤ 4100) (hl : cs.length < 24) (hc : c + (newC m j).2.length ≤ 2400) : ∃ t', m5_putClause w j t = some t' ∧ mpl w KA7 m t' ∧ BLT t' w ms (cs ++ [newC m j]) [] (c + (newC m j).2.length) := by
  have c23 : t.2 23 w = (cs.length : Int) := hB.2.2.1.1
  have c33 : t.2 33 w = (c : Int) := hB.1.1
  obtain ⟨n, hn⟩ : ∃ n, n = cs.length := ⟨_, rfl⟩
  rw [← hn] at c23 hl
  obtain ⟨t3, ht3⟩ : ∃ t3, t3 = ma t 24 (24 * w + n) (m.2 53 j) := ⟨_, rfl⟩
  obtain ⟨t6, ht6⟩ : ∃ t6, t6 = ma t3 25 (24 * w + n) (c : Int) := ⟨_, rfl⟩
  have p3 : mpl w KA7 m t3 := by rw [ht3]; exact mpl_ma hp (by decide) (by show 24 * w ≤ _; omega) (by show _ < 24 * w + 24; omega)
  have p6 : mpl w KA7 m t6 := by rw [ht6]; exact mpl_ma p3 (by decide) (by show 24 * w ≤ _; omega) (by show _ < 24 * w + 24; omega)
  have c336 : t6.2 33 w = (c : Int) := by rw [ht6, ma_o (by decide), ht3, ma_o (by decide)]; exact c33
  have hlen : (newC m j).2.length = (m.2 55 j).toNat - (m.2 54 j).toNat := by show ((sgNw m (m.2 54 j) (m.2 55 j)).map w8n).length = _; rw [List.length_map, sgNw_len]
  obtain ⟨t9, a1, a2, a3, a4, a5⟩ := ap_take (m := t6) (w := w) (s := (m.2 54 j).toNat) (e := (m.2 55 j).toNat) (c := c) hw (by omega) (by omega) c336 (by omega)
  rw [show (((m.2 54 j).toNat : Nat) : Int) = m.2 54 j by omega, show (((m.2 55 j).toNat : Nat) : Int) = m.2 55 j by omega] at a1 a3 a5
  have esg : (sgNw t6 (m.2 54 j) (m.2 55 j)).map w8n = (newC m j).2 := by
    rw [← newC_k p6 j]
    show _ = (sgNw t6 (t6.2 54 j) (t6.2 55 j)).map w8n
    rw [p6.2.1 54 (by decide), p6.2.1 55 (by decide)]
  rw [esg] at a3 a5
  obtain ⟨ns, hns⟩ : ∃ ns, ns = (newC m j).2 := ⟨_, rfl⟩
  rw [← hns] at a3 a5 hlen hc ⊢
  obtain ⟨t12, ht12⟩ : ∃ t12, t12 = ma t9 26 (24 * w + n) ((c + ns.length : Nat) : Int) := ⟨_, rfl⟩
  obtain ⟨t14, ht14⟩ : ∃ t14, t14 = ma t12 23 w ((n : Int) + 1) := ⟨_, rfl⟩
  have p9 : mpl w KA7 m t9 := mpl_tr p6 ⟨a2.1, fun k hk => a2.2.1 k (fun z => hk ((by decide : ∀ k ∈ KN, k ∈ KA7) k z)), a2.2.2⟩
  have p12 : mpl w KA7 m t12 := by rw [ht12]; exact mpl_ma p9 (by decide) (by show 24 * w ≤ _; omega) (by show _ < 24 * w + 24; omega)
  have p14 : mpl w KA7 m t14 := by rw [ht14]; exact mpl_ma p12 (by decide) (by show 1 * w ≤ _; omega) (by show _ < 1 * w + 1; omega)
  have c239 : t9.2 23 w = (n : Int) := by rw [a2.2.1 23 (by decide), ht6, ma_o (by decide), ht3, ma_o (by decide)]; exact c23
  refine ⟨t14, ?_, p14, ?_⟩
  · have e53 : t.2 53 = m.2 53 := hp.2.1 53 (by decide)
    have e54 : t6.2 54 = m.2 54 := p6.2.1 54 (by decide)
    have e55 : t6.2 55 = m.2 55 := p6.2.1 55 (by decide)
    unfold m5_putClause
    rw [mald_e w rfl (by omega) (by omega), Option.bind_some, c23, mald_e j rfl (by omega) (by omega), Option.bind_some, e53, mast_e (24 * w + n) (by omega) (by omega) (by omega), Option.bind_some, ← ht3, mald_e w rfl (by omega) (by omega), Option.bind_some, mald_e w rfl (by omega) (by omega), Option.bind_some, show t3.2 23 w = (n : Int) by rw [ht3, ma_o (by decide)]; exact c23, show t3.2 33 w = (c : Int) by rw [ht3, ma_o (by decide)]; exact c33, mast_e (24 * w + n) (by omega) (by omega) (by omega), Option.bind_some, ← ht6, mald_e j rfl (by omega) (by omega), Option.bind_some, mald_e j rfl (by omega) (by omega), Option.bind_some, e54, e55, a1, Option.bind_some, mald_e w rfl (by omega) (by omega), Option.bind_some, mald_e w rfl (by omega) (by omega), Option.bind_some, c239, a3, mast_e (24 * w + n) (by omega) (by omega) (by omega), Option.bind_some, ← ht12, mald_e w rfl (by omega) (by omega), Option.bind_some, show t12.2 23 w = (n : Int) by rw [ht12, ma_o (by decide)]; exact c239, mast_e w rfl (by omega) (by omega), Option.bind_some, ← ht14]
  · have o14 : ∀ k, k ∉ KN → k ≠ 23 → k ≠ 24 → k ≠ 25 → k ≠ 26 → t14.2 k = t.2 k := fun k h0 h1 h2 h3 h4 => by rw [ht14, ma_o h1, ht12, ma_o h4, a2.2.1 k h0, ht6, ma_o h3, ht3, ma_o h2]
    have n14 : ∀ i, ndP t14 w i = ndP t9 w i := fun i => by unfold ndP; rw [ht14, ma_o (by decide), ma_o (by decide), ma_o (by decide), ma_o (by decide), ht12, ma_o (by decide), ma_o (by decide), ma_o (by decide), ma_o (by decide)]
    have n6 : ∀ i, ndP t6 w i = ndP t w i := fun i => by unfold ndP; rw [ht6, ma_o (by decide), ma_o (by decide), ma_o (by decide), ma_o (by decide), ht3, ma_o (by decide), ma_o (by decide), ma_o (by decide), ma_o (by decide)]
    have x24 : ∀ x, t14.2 24 x = if x = 24 * w + n then m.2 53 j else t.2 24 x := fun x => by rw [ht14, ma_o (by decide), ht12, ma_o (by decide), a2.2.1 24 (by decide), ht6, ma_o (by decide), ht3, ma_s]
    have x25 : ∀ x, t14.2 25 x = if x = 24 * w + n then (c : Int) else t.2 25 x := fun x => by rw [ht14, ma_o (by decide), ht12, ma_o (by decide), a2.2.1 25 (by decide), ht6, ma_s, ht3, ma_o (by decide)]
    have x26 : ∀ x, t14.2 26 x = if x = 24 * w + n then ((c + ns.length : Nat) : Int) else t.2 26 x := fun x => by rw [ht14, ma_o (by decide), ht12, ma_s, a2.2.1 26 (by decide), ht6, ma_o (by decide), ht3, ma_o (by decide)]
    have epair : newC m j = (m.2 53 j, ns) := by rw [hns]; rfl
    rw [epair]
    refine BLT_c hB (by rw [ht14, ma_o (by decide), ht12, ma_o (by decide)]; exact a3) (fun i hi => by rw [n14, a4 i hi, n6]) (Eq.trans (List.map_congr_left (fun i _ => n14 _)) a5) (fun k hk => o14 k (by simp only [KN, List.mem_cons, List.not_mem_nil, or_false]; omega) (by omega) (by omega) (by omega) (by omega)) (fun k hk => ?_) (fun k hk => ?_) (by rw [← hn, x25, if_pos rfl]) (by rw [← hn, x26, if_pos rfl]) (by rw [← hn, x24, if_pos rfl]) (by rw [ht14, ma_s, if_pos rfl]; omega)
    · rw [← hn] at hk
      rw [x25, x26, if_neg (by omega), if_neg (by omega)]; exact ⟨rfl, rfl⟩
    · rw [← hn] at hk
      rw [x24, if_neg (by omega)]
