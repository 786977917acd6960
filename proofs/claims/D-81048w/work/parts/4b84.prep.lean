/-! JUDGE: the law as a wording of its own, in place 13 -/
theorem thN_w8 {nf nm f x : Int} {q : Nd} (hf : nf ≤ 8) (hm : nm ≤ 12) (h : okN nf nm q) : thN f (w8n q) x ↔ thN f q x := by
  obtain ⟨-, y2, y3, -⟩ := okN_w8 hf hm h
  constructor
  · intro z
    have z1 := z.1
    rw [y2] at z1
    rw [y3 z1] at z; exact z
  · intro z
    rw [y3 z.1]; exact z
/-- facts copied from W, nodes ns -/
def V13 (W V : Wv) (made : Nat) (ns : List Nd) : Prop := (V 12 0 = W 12 0 ∧ ∀ f, f < nF W → V 14 f = W 14 f ∧ V 17 f = W 17 f ∧ V 18 f = W 18 f) ∧ V 33 0 = (made : Int) ∧ made = ns.length ∧ seg V ((0 : Nat) : Int) (made : Int) = ns.map w8n
theorem V13_nd {W V : Wv} {made : Nat} {ns : List Nd} (h : V13 W V made ns) : (∀ k : Nat, k < made → nd V k ∈ ns.map w8n) ∧ ∀ q ∈ ns.map w8n, ∃ k : Nat, k < made ∧ q = nd V k := by
  obtain ⟨-, -, -, h4⟩ := h
  refine ⟨fun k hk => ?_, fun q hq => ?_⟩
  · rw [← h4]; exact (mem_seg (by omega)).mpr ⟨k, by omega, by omega, rfl⟩
  · rw [← h4] at hq
    obtain ⟨k, k1, k2, k3⟩ := (mem_seg (by omega)).mp hq
    exact ⟨k, by omega, k3⟩
theorem m_prep {m : Mu} {w made : Nat} {W : Wv} {ns : List Nd} (hw : slc m w = W) (w1 : w ≤ 12) (h46 : m.1 46 = (made : Int)) (hmd : made ≤ 300) (hnd : NDS m 0 ns) (hl : ns.length = made) : ∃ m5, ((m5_clear 13 m).bind fun u2 => (m5_copyWording 13 w u2).bind fun u3 => (mast u3 33 14 13 0).bind fun u4 => m5_takeNodes 13 0 (u4.1 46) u4) = some m5 ∧ mpl 13 KA7 m m5 ∧ V13 W (slc m5 13) made ns := by
  obtain ⟨m1, a1, a2, a3, a4⟩ := m_clear (m := m) (w := 13) (by omega)
  obtain ⟨m2, b1, b2, b3, b4⟩ := m_copyW (m := m1) (w := 13) (v := w) (by omega) (by omega) (by omega)
  have hp2 : mpl 13 KA7 m1 m2 := CPY_mpl b2 b3 b4
  obtain ⟨m3, hm3⟩ : ∃ m3, m3 = ma m2 33 13 0 := ⟨_, rfl⟩
  have hp3 : mpl 13 KA7 m2 m3 := by rw [hm3]; exact mpl_ma mpl_rf (by decide) (by show 1 * 13 ≤ 13; omega) (by show 13 < 1 * 13 + 1; omega)
  have e46 : m3.1 46 = (made : Int) := by rw [hm3]; show m2.1 46 = _; rw [b2, a2.1]; exact h46
  obtain ⟨m5, d1, d2, d3, -, d5⟩ := m_takeN (m := m3) (w := 13) (s := 0) (e := made) (c := 0) (by omega) (by omega) (by omega) (by rw [hm3, ma_s, if_pos rfl]; rfl) (by omega)
  have hp5 : mpl 13 KA7 m3 m5 := ⟨d2.1, fun k hk => d2.2.1 k (fun z => hk ((by decide : ∀ k ∈ KN, k ∈ KA7) k z)), d2.2.2⟩
  have hp1 : mpl 13 KA7 m m1 := ⟨a2.1, fun k hk => a2.2.1 k (fun z => hk ((by decide : ∀ k ∈ [12, 19, 23, 27, 32, 33], k ∈ KA7) k z)), a2.2.2⟩
  have hp : mpl 13 KA7 m m5 := mpl_tr hp1 (mpl_tr hp2 (mpl_tr hp3 hp5))
  have nd3 : ∀ k, ndN m3 k = ndN m k := fun k => nd_of (fun j hj => by
    have hj' : j ∉ KA7 := by have : j = 42 ∨ j = 43 ∨ j = 44 ∨ j = 45 := by omega
                             rcases this with rfl | rfl | rfl | rfl <;> decide
    rw [(mpl_tr hp1 (mpl_tr hp2 hp3)).2.1 j hj']) k
  have kw : ∀ k ∈ KW, ∀ j, j < wid k → slc m5 13 k j = W k j := fun k hk j hj => by
    have hk' : k ∉ KN ∧ k ≠ 33 := by
      have key : ∀ k ∈ KW, k ∉ KN ∧ k ≠ 33 := by decide
      exact key k hk
    have e1 : slc m1 w = W := by rw [slc_mpl_o a2 (by omega)]; exact hw
    rw [← e1]
    unfold slc
    rw [if_pos hj, if_pos hj, d2.2.1 k hk'.1, hm3, ma_o hk'.2]
    exact CPY_g (b4 k hk) hj
  refine ⟨m5, ?_, hp, ⟨kw 12 (by decide) 0 (by decide), fun f hf => ?_⟩, ?_, hl.symm, ?_⟩
  · have a1 : m5_clear 13 m = some m1 := a1
    have b1 : m5_copyWording 13 w m1 = some m2 := b1
    rw [a1, Option.bind_some, b1, Option.bind_some, (mast_e (m := m2) (k := 33) (n := 14) (v := 0) 13 rfl (by omega) (by omega) : mast m2 33 14 13 0 = some (ma m2 33 13 0)), Option.bind_some, ← hm3, e46]
    exact d1
  · have : f < 8 ∨ 8 ≤ f := by omega
    rcases this with z | z
    · exact ⟨kw 14 (by decide) f z, kw 17 (by decide) f z, kw 18 (by decide) f z⟩
    · have e0 : ∀ k, wid k = 8 → slc m5 13 k f = 0 ∧ W k f = 0 := fun k hk => by
        rw [← hw]; unfold slc; rw [hk, if_neg (by omega), if_neg (by omega)]; exact ⟨rfl, rfl⟩
      rw [(e0 14 rfl).1, (e0 14 rfl).2, (e0 17 rfl).1, (e0 17 rfl).2, (e0 18 rfl).1, (e0 18 rfl).2]; exact ⟨rfl, rfl, rfl⟩
  · show slc m5 13 33 0 = _
    unfold slc
    rw [if_pos (show 0 < wid 33 by decide), show wid 33 * 13 + 0 = 13 from rfl, d3]
    omega
  · have hns := NDS_get ns 0 hnd
    rw [hl] at hns
    unfold seg
    rw [hns, List.map_map]
    show (List.range (((made : Nat) : Int).toNat - ((0 : Nat) : Int).toNat)).map _ = _
    rw [show ((made : Nat) : Int).toNat - ((0 : Nat) : Int).toNat = made by omega]
    refine List.map_congr_left (fun k hk => ?_)
    have hk := List.mem_range.mp hk
    have := d5 k (by omega)
    rw [Nat.zero_add, nd3] at this
    show nd (slc m5 13) (((0 : Nat) : Int).toNat + k) = w8n (ndN m (0 + k))
    rw [Nat.zero_add, ← this, show ((0 : Nat) : Int).toNat + k = k by omega]
    unfold nd ndP slc
    rw [if_pos (show k < wid 34 by show k < 2400; omega), if_pos (show k < wid 35 by show k < 2400; omega), if_pos (show k < wid 36 by show k < 2400; omega), if_pos (show k < wid 37 by show k < 2400; omega)]
    rfl
theorem V13_4 {W V V' : Wv} {made : Nat} {ns : List Nd} (h : Wq4 V V') (k : V13 W V made ns) : V13 W V' made ns := by
  unfold V13 at k ⊢
  rw [seg_4 h, h 12 (by decide) (by decide) (by decide) (by decide), h 14 (by decide) (by decide) (by decide) (by decide), h 17 (by decide) (by decide) (by decide) (by decide), h 18 (by decide) (by decide) (by decide) (by decide), h 33 (by decide) (by decide) (by decide) (by decide)]
  exact k
theorem V13_FS {W V : Wv} {made : Nat} {ns : List Nd} (hM : WM W) (h : V13 W V made ns) (hmd : made ≤ 300) (ho : ∀ q ∈ ns, okN (nF W) (nM W) q) : WFS V ∧ nF V = nF W := by
  have hfs := WM0_FS (WM_0 hM) hM.2.2.2.2.2.2.2.2.2.2.2
  obtain ⟨⟨h1, h2⟩, h3, h4, h5⟩ := id h
  have eF : nF V = nF W := by show (V 12 0).toNat = _; rw [h1]
  have hM1 := hM.1
  have e12 := (nF_e hM).1
  refine ⟨⟨by rw [h1]; exact hfs.1, by rw [h3]; omega, fun f hf => ?_, fun k hk => ?_⟩, eF⟩
  · rw [eF] at hf
    obtain ⟨q1, q2, q3⟩ := h2 f hf
    have := hfs.2.2.1 f hf
    unfold fkO at this ⊢
    rw [q1, q2, q3]; exact this
  · rw [h3] at hk
    obtain ⟨q, q1, q2⟩ := List.mem_map.mp ((V13_nd h).1 k (by omega))
    rw [← q2, h1, e12]
    have n12 : ((nM W : Nat) : Int) ≤ 12 := by show (((W 19 0).toNat : Nat) : Int) ≤ 12; omega
    exact okN_up (okN_w8 (nf := (nF W : Int)) (nm := (nM W : Int)) (by omega) n12 (ho q q1)).1 (Int.le_refl _) n12
/-- the starts of the law -/
theorem m_l130 {m : Mu} {w made : Nat} {W V : Wv} {ns : List Nd} (hw : slc m w = W) (w1 : w ≤ 12) (hM : WM W) (hV : slc m 13 = V) (h : V13 W V made ns) (hmd : made ≤ 300) (ho : ∀ q ∈ ns, okN (nF W) (nM W) q) (v2 : Int) : ∃ m', m5_judge_l130 w v2 NN 0 m = some m' ∧ mpl 13 [38, 39] m m' ∧ V13 W (slc m' 13) made ns ∧ ∀ f, f < nF W → stO (slc m' 13) f ∧ ∀ x, stS (slc m' 13) f x ↔ thr V f x := by
  obtain ⟨hfs, eF⟩ := V13_FS hM h hmd ho
  have e12 := (nF_e hM).1
  have h8 := (nF_e hM).2
  have key := loop_ind (fun q (s : Nat × Mu) => m5_judge_l130 w v2 q (s.1 : Nat) s.2) (fun s => 10 - s.1) (fun s => s.1 ≤ nF W ∧ mpl 13 [38, 39] m s.2 ∧ ∀ f, f < s.1 → ∃ n a, SR s.2 (8 * 13 + f) n a (thr V f)) (fun _ r => mpl 13 [38, 39] m r ∧ ∀ f, f < nF W → ∃ n a, SR r (8 * 13 + f) n a (thr V f)) (by
    rintro q ⟨f, t⟩ ⟨hf, fr, hB⟩ ih
    dsimp only at hf fr hB ⊢
    show ok (m5_judge_l130 w v2 (q + 1) (f : Nat) t) _
    unfold m5_judge_l130
    have et : mald t 12 14 (w : Int) = some (W 12 0) := by
      have : slc t w = W := by rw [slc_mpl_o fr (by omega)]; exact hw
      rw [← this]; exact m_sl (w := w) (k := 12) (j := 0) (by decide) (by show (w : Int) = ((1 * w + 0 : Nat) : Int); omega) (by show 1 * w + 0 < 14; omega) (by omega)
    refine ok_eq et ?_
    rw [e12, w32_n (by omega), w32_n (by omega)]
    refine ok_ite (fun hz => ok_some ⟨fr, fun g hg => hB g (by omega)⟩) (fun hz => ?_)
    have hq4 : Wq4 V (slc t 13) := fun k a b _ _ => by rw [slc_mpl fr (by simp [a, b]), hV]
    obtain ⟨n2, a2, t2, e2, fr2, b2⟩ := m_fstarts (f := f) (m := t) (w := 13) rfl (by omega) (by rw [WFS_4 hq4]; exact hfs) (by rw [nF_4 hq4, eF]; omega)
    rw [thr_4 hq4] at b2
    refine ok_eq e2 ?_
    refine ih (f + 1, t2) ⟨by show f + 1 ≤ nF W; omega, mpl_tr fr (sfr_mpl (by omega) fr2), fun g hg => ?_⟩ (by show 10 - (f + 1) < 10 - f; omega)
    have hg : g < f + 1 := hg
    by_cases z : g = f
    · subst z; exact ⟨n2, a2, b2⟩
    · obtain ⟨n, a, hb⟩ := hB g (by omega)
      exact ⟨n, a, SR_k hb fr2 (by omega)⟩) NN (0, m) ⟨Nat.zero_le _, mpl_rf, fun f hf => absurd hf (Nat.not_lt_zero _)⟩ (NN_gt (by show 10 - 0 < 100000; omega))
  obtain ⟨m', e, k1, k2⟩ := key
  have hq4 : Wq4 V (slc m' 13) := fun k a b _ _ => by rw [slc_mpl k1 (by simp [a, b]), hV]
  refine ⟨m', e, k1, V13_4 hq4 h, fun f hf => ?_⟩
  obtain ⟨n, a, s1, s2, s3, s4, s5⟩ := k2 f hf
  have e39 : slc m' 13 39 f = (n : Int) := by
    unfold slc; rw [if_pos (show f < wid 39 by show f < 8; omega)]; exact s1
  have eN : nS (slc m' 13) f = n := by show (slc m' 13 39 f).toNat = n; rw [e39]; simp
  have e38 : ∀ k, k < n → slc m' 13 38 (608 * f + k) = a k := fun k hk => by
    unfold slc
    rw [if_pos (show 608 * f + k < wid 38 by show 608 * f + k < 4864; omega), show wid 38 * 13 + (608 * f + k) = 608 * (8 * 13 + f) + k by show 4864 * 13 + _ = _; omega]
    exact s2 k hk
  refine ⟨⟨by rw [eN]; exact e39, by rw [eN]; exact s5, fun k hk => ?_⟩, fun x => ?_⟩
  · rw [eN] at hk
    rw [e38 k hk]; exact s4 k hk
  · unfold stS
    rw [eN]
    constructor
    · rintro ⟨k, k1, k2⟩
      exact (s3.2 x).mpr ⟨k, k1, by rw [← e38 k k1]; exact k2⟩
    · intro z
      obtain ⟨k, k1, k2⟩ := (s3.2 x).mp z
      exact ⟨k, k1, by rw [e38 k k1]; exact k2⟩
