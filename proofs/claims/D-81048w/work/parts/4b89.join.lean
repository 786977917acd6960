/-! ENDORSE: the twin joins: the loops -/
theorem lsm_mono {f : Nat → Int} {n k : Nat} (hf : ∀ i, i < n → 0 ≤ f i) (hk : k ≤ n) : lsm f k ≤ lsm f n ∧ 0 ≤ lsm f k := by
  have h0 : ∀ k, k ≤ n → 0 ≤ lsm f k := by
    intro k
    induction k with
    | zero => intro _; exact Int.le_refl _
    | succ k ih => intro hk; rw [lsm_s]; have := ih (by omega); have := hf k (by omega); omega
  refine ⟨?_, h0 k hk⟩
  have : ∀ d, k + d ≤ n → lsm f k ≤ lsm f (k + d) := by
    intro d
    induction d with
    | zero => intro _; exact Int.le_refl _
    | succ d ih => intro hd; rw [show k + (d + 1) = k + d + 1 by omega, lsm_s]; have := ih (by omega); have := hf (k + d) (by omega); omega
  have := this (n - k) (by omega)
  rw [show k + (n - k) = n by omega] at this
  exact this
theorem sgNw_len {m : Mu} {i j : Int} : (sgNw m i j).length = j.toNat - i.toNat := by unfold sgNw; simp
theorem seg_len {W : Wv} {i j : Int} : (seg W i j).length = j.toNat - i.toNat := by unfold seg; simp
/-- the conditions of a value's row, as bytes -/
def rowN (W : Wv) (A B : Nat) (n : Nat) : List (List Nd) := (List.range n).map fun k => (seg W (W A k) (W B k)).map w8n
theorem rowN_s {W : Wv} {A B n : Nat} : rowN W A B (n + 1) = rowN W A B n ++ [(seg W (W A n) (W B n)).map w8n] := by unfold rowN; rw [List.range_succ, List.map_append]; rfl
theorem rowN_len {W : Wv} {A B n : Nat} : (rowN W A B n).length = n := by unfold rowN; simp
/-- a place that is read stays while another is built -/
theorem mpl_v {w v : Nat} {T : List Nat} {m t : Mu} {W : Wv} (h : mpl w T m t) (hv : slc m v = W) (hne : v ≠ w) : slc t v = W := by rw [slc_mpl_o h hne]; exact hv
theorem m_l264 {m : Mu} {w v : Nat} {W : Wv} (hw : w ≤ 13) (hv : v ≤ 13) (hne : v ≠ w) (hW : slc m v = W) (h19 : W 19 0 = (nM W : Int)) (h12 : nM W ≤ 12) (hs : ∀ k, k < nM W → 0 ≤ W 21 k ∧ W 21 k ≤ W 22 k ∧ W 22 k ≤ 300) (hb : lsm (fun k => W 22 k - W 21 k) (nM W) ≤ 300) (h0 : BLT m w [] [] [] 0) : ∃ m' c, m5_join_l264 w v NN 0 m = some m' ∧ mpl w KA7 m m' ∧ BLT m' w (rowN W 21 22 (nM W)) [] [] c ∧ (c : Int) = lsm (fun k => W 22 k - W 21 k) (nM W) := by
  have key := loop_ind (fun q (s : Nat × Mu) => m5_join_l264 w v q (s.1 : Nat) s.2) (fun s => 20 - s.1) (fun s => s.1 ≤ nM W ∧ mpl w KA7 m s.2 ∧ ∃ c : Nat, BLT s.2 w (rowN W 21 22 s.1) [] [] c ∧ (c : Int) = lsm (fun k => W 22 k - W 21 k) s.1) (fun _ r => mpl w KA7 m r ∧ ∃ c : Nat, BLT r w (rowN W 21 22 (nM W)) [] [] c ∧ (c : Int) = lsm (fun k => W 22 k - W 21 k) (nM W)) (by
    rintro q ⟨k, t⟩ ⟨g1, g2, c, g3, g4⟩ ih
    dsimp only at g1 g2 g3 g4 ⊢
    show ok (m5_join_l264 w v (q + 1) (k : Nat) t) _
    unfold m5_join_l264
    have st := mpl_v g2 hW hne
    have e19 : mald t 19 14 (v : Int) = some (W 19 0) := by rw [← st]; exact m_sl (w := v) (k := 19) (j := 0) (by decide) (by show (v : Int) = ((1 * v + 0 : Nat) : Int); omega) (by show 1 * v + 0 < 14; omega) (by omega)
    refine ok_eq e19 ?_
    rw [h19, w32_n (by omega), w32_n (by omega)]
    refine ok_ite (fun hz => ok_some ⟨g2, c, by rw [show nM W = k by omega]; exact ⟨g3, g4⟩⟩) (fun hz => ?_)
    have hk : k < nM W := by omega
    obtain ⟨s1, s2, s3⟩ := hs k hk
    obtain ⟨p1, p2⟩ := lsm_mono (f := fun k => W 22 k - W 21 k) (n := nM W) (k := k + 1) (fun i hi => by have := hs i hi; omega) (by omega)
    rw [lsm_s] at p1 p2
    have c33 : t.2 33 w = (c : Int) := g3.1.1
    refine ok_mald w rfl (by omega) (by omega) ?_
    rw [c33]
    refine ok_mast (12 * w + k) (by omega) (by omega) (by omega) ?_
    obtain ⟨t3, ht3⟩ : ∃ t3, t3 = ma t 21 (12 * w + k) (c : Int) := ⟨_, rfl⟩
    rw [← ht3]
    have p3 : mpl w KA7 m t3 := by rw [ht3]; exact mpl_ma g2 (by decide) (by show 12 * w ≤ _; omega) (by show _ < 12 * w + 12; omega)
    have st3 := mpl_v p3 hW hne
    have e21 : mald t3 21 168 (12 * (v : Int) + k) = some (W 21 k) := by rw [← st3]; exact m_sl (w := v) (k := 21) (j := k) (show k < 12 by omega) (by show (12 * (v : Int) + k) = ((12 * v + k : Nat) : Int); omega) (by show 12 * v + k < 168; omega) (by omega)
    have e22 : mald t3 22 168 (12 * (v : Int) + k) = some (W 22 k) := by rw [← st3]; exact m_sl (w := v) (k := 22) (j := k) (show k < 12 by omega) (by show (12 * (v : Int) + k) = ((12 * v + k : Nat) : Int); omega) (by show 12 * v + k < 168; omega) (by omega)
    refine ok_eq e21 (ok_eq e22 ?_)
    have c333 : t3.2 33 w = (c : Int) := by rw [ht3, ma_o (by decide)]; exact c33
    obtain ⟨t6, a1, a2, a3, a4, a5⟩ := ap_copy (m := t3) (w := w) (v := v) (s := (W 21 k).toNat) (e := (W 22 k).toNat) (c := c) hw hv hne (by omega) (by omega) c333 (by omega)
    rw [show (((W 21 k).toNat : Nat) : Int) = W 21 k by omega, show (((W 22 k).toNat : Nat) : Int) = W 22 k by omega] at a1
    refine ok_eq a1 ?_
    have esg : sgP t3 v (W 21 k).toNat (W 22 k).toNat = seg W (W 21 k) (W 22 k) := by
      rw [sgP_seg (by omega), st3, show (((W 21 k).toNat : Nat) : Int) = W 21 k by omega, show (((W 22 k).toNat : Nat) : Int) = W 22 k by omega]
    rw [esg] at a3 a5
    obtain ⟨ns, hns⟩ : ∃ ns, ns = (seg W (W 21 k) (W 22 k)).map w8n := ⟨_, rfl⟩
    rw [← hns] at a3 a5
    have hl : (ns.length : Int) = W 22 k - W 21 k := by rw [hns, List.length_map, seg_len]; omega
    refine ok_mald w rfl (by omega) (by omega) ?_
    rw [a3]
    refine ok_mast (12 * w + k) (by omega) (by omega) (by omega) ?_
    obtain ⟨t8, ht8⟩ : ∃ t8, t8 = ma t6 22 (12 * w + k) ((c + ns.length : Nat) : Int) := ⟨_, rfl⟩
    rw [← ht8]
    have p6 : mpl w KA7 m t6 := mpl_tr p3 ⟨a2.1, fun k hk => a2.2.1 k (fun z => hk ((by decide : ∀ k ∈ KN, k ∈ KA7) k z)), a2.2.2⟩
    have p8 : mpl w KA7 m t8 := by rw [ht8]; exact mpl_ma p6 (by decide) (by show 12 * w ≤ _; omega) (by show _ < 12 * w + 12; omega)
    have o8 : ∀ j, j ∉ KN → j ≠ 21 → j ≠ 22 → t8.2 j = t.2 j := fun j h1 h2 h3 => by rw [ht8, ma_o h3, a2.2.1 j h1, ht3, ma_o h2]
    have n8 : ∀ j, ndP t8 w j = ndP t6 w j := fun j => by unfold ndP; rw [ht8, ma_o (by decide), ma_o (by decide), ma_o (by decide), ma_o (by decide)]
    have n3 : ∀ j, ndP t3 w j = ndP t w j := fun j => by unfold ndP; rw [ht3, ma_o (by decide), ma_o (by decide), ma_o (by decide), ma_o (by decide)]
    have x21 : ∀ x, t8.2 21 x = if x = 12 * w + k then (c : Int) else t.2 21 x := fun x => by rw [ht8, ma_o (by decide), a2.2.1 21 (by decide), ht3, ma_s]
    have x22 : ∀ x, t8.2 22 x = if x = 12 * w + k then ((c + ns.length : Nat) : Int) else t.2 22 x := fun x => by rw [ht8, ma_s, a2.2.1 22 (by decide), ht3, ma_o (by decide)]
    have B8 : BLT t8 w (rowN W 21 22 (k + 1)) [] [] (c + ns.length) := by
      rw [rowN_s, ← hns]
      refine BLT_m g3 (by rw [ht8, ma_o (by decide)]; exact a3) (fun j hj => by rw [n8, a4 j hj, n3]) ?_ (fun j hj => o8 j (by simp only [KN, List.mem_cons, List.not_mem_nil, or_false]; omega) (by omega) (by omega)) (fun j hj => ?_) (by rw [rowN_len, x21, if_pos rfl]) (by rw [rowN_len, x22, if_pos rfl])
      · exact Eq.trans (List.map_congr_left (fun j _ => n8 _)) a5
      · rw [rowN_len] at hj
        rw [x21, x22, if_neg (by omega), if_neg (by omega)]; exact ⟨rfl, rfl⟩
    refine ih (k + 1, t8) ⟨by show k + 1 ≤ nM W; omega, p8, c + ns.length, B8, ?_⟩ (by show 20 - (k + 1) < 20 - k; omega)
    rw [lsm_s]; omega) NN (0, m) ⟨Nat.zero_le _, mpl_rf, 0, h0, rfl⟩ (NN_gt (by show 20 - 0 < 100000; omega))
  obtain ⟨m', e, k1, c, k2, k3⟩ := key
  exact ⟨m', c, e, k1, k2, k3⟩
