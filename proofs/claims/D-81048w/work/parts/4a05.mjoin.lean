/-! STARTS: the twin's joinStarts -/
def stS (W : Wv) (f : Nat) (x : Int) : Prop := ∃ k, k < nS W f ∧ W 38 (608 * f + k) = x
/-- the starts of a fact in order -/
def stO (W : Wv) (f : Nat) : Prop := W 39 f = (nS W f : Int) ∧ nS W f ≤ 601 ∧ ∀ k, k < nS W f → 0 ≤ W 38 (608 * f + k) ∧ W 38 (608 * f + k) ≤ 1000000000
theorem stO_of {W : Wv} (h : WM W) {f : Nat} (hf : f < nF W) : stO W f := by
  obtain ⟨h1, h2, h3⟩ := nS_e h hf
  exact ⟨h1, h3, fun k hk => by have := st_bd h hf k hk; omega⟩
/-- a row of both: fact f, its n starts a -/
def BT (m : Mu) (f n : Nat) (a : Nat → Int) (X : Int → Prop) : Prop := m.2 64 f = (n : Int) ∧ (∀ j, j < n → m.2 63 (2000 * f + j) = a j) ∧ SRT n a X ∧ ∀ j, j < n → 0 ≤ a j ∧ a j ≤ 1000000000
theorem BT_k {m m' : Mu} {f g n : Nat} {a : Nat → Int} {X : Int → Prop} (h : BT m g n a X) (hn : n ≤ 2000) (hfg : g ≠ f) (h1 : ∀ x, (x < 2000 * f ∨ 2000 * f + 2000 ≤ x) → m'.2 63 x = m.2 63 x) (h2 : ∀ x, x ≠ f → m'.2 64 x = m.2 64 x) : BT m' g n a X :=
  ⟨by rw [h2 g hfg]; exact h.1, fun j hj => by rw [h1 _ (by omega)]; exact h.2.1 j hj, h.2.2⟩
/-- since m only the row f of both has changed -/
def bfr (f : Nat) (m m' : Mu) : Prop := mfr [] [63, 64] m m' ∧ (∀ x, (x < 2000 * f ∨ 2000 * f + 2000 ≤ x) → m'.2 63 x = m.2 63 x) ∧ ∀ x, x ≠ f → m'.2 64 x = m.2 64 x
theorem bfr_rf {f : Nat} {m : Mu} : bfr f m m := ⟨mfr_rf, fun _ _ => rfl, fun _ _ => rfl⟩
theorem bfr_tr {f : Nat} {a b c : Mu} (h : bfr f a b) (k : bfr f b c) : bfr f a c := ⟨mfr_tr h.1 k.1, fun x hx => (k.2.1 x hx).trans (h.2.1 x hx), fun x hx => (k.2.2 x hx).trans (h.2.2 x hx)⟩
theorem bfr_slc {f : Nat} {m m' : Mu} (h : bfr f m m') (w : Nat) : slc m' w = slc m w := slc_of (fun k h1 h2 => h.1.2 k (by simp; omega))
theorem m_row27 {m : Mu} {w f n : Nat} {a : Nat → Int} {X : Int → Prop} {l : List Int} {v2 v3 : Int} (hw : w ≤ 13) (hf : f < 8) (hO : stO (slc m w) f) (hB : BT m f n a X) (hl : l.length < 2000) (hXl : ∀ x, X x → x ∈ l) (hWl : ∀ x, stS (slc m w) f x → x ∈ l) : ∃ n' a' m', m5_joinStarts_l27 w v2 v3 f NN 0 m = some m' ∧ bfr f m m' ∧ BT m' f n' a' (fun x => X x ∨ stS (slc m w) f x) := by
  obtain ⟨o1, o2, o3⟩ := hO
  have key := loop_ind (fun q (s : Nat × Mu) => m5_joinStarts_l27 w v2 v3 f q (s.1 : Int) s.2) (fun s => 700 - s.1) (fun s => s.1 ≤ nS (slc m w) f ∧ bfr f m s.2 ∧ ∃ n' a', BT s.2 f n' a' (fun x => X x ∨ ∃ k, k < s.1 ∧ slc m w 38 (608 * f + k) = x)) (fun _ r => bfr f m r ∧ ∃ n' a', BT r f n' a' (fun x => X x ∨ stS (slc m w) f x)) (by
    rintro q ⟨i, t⟩ ⟨hi, fr, n', a', b1, b2, b3, b4⟩ ih
    dsimp only at hi fr b1 b2 b3 b4 ⊢
    show ok (m5_joinStarts_l27 w v2 v3 f (q + 1) (i : Int) t) _
    unfold m5_joinStarts_l27
    have e39 : mald t 39 112 (8 * (w : Int) + f) = some (slc m w 39 f) := by
      rw [← bfr_slc fr]; exact m_sl (w := w) (k := 39) (j := f) (by show f < 8; exact hf) (by show 8 * (w : Int) + f = ((8 * w + f : Nat) : Int); omega) (by show 8 * w + f < 112; omega) (by omega)
    refine ok_eq e39 ?_
    rw [o1, w32_n (by omega), w32_n (by omega)]
    refine ok_ite (fun hz => ok_some ⟨fr, n', a', b1, b2, SRT_cg b3 (fun _ _ => rfl) (fun x => or_congr Iff.rfl ?_), b4⟩) (fun hz => ?_)
    · rw [show i = nS (slc m w) f by omega]; exact Iff.rfl
    have e38 : mald t 38 68096 (608 * (8 * (w : Int) + f) + i) = some (slc m w 38 (608 * f + i)) := by
      rw [← bfr_slc fr]; exact m_sl (w := w) (k := 38) (j := 608 * f + i) (by show 608 * f + i < 4864; omega) (by show 608 * (8 * (w : Int) + f) + i = ((4864 * w + (608 * f + i) : Nat) : Int); omega) (by show 4864 * w + (608 * f + i) < 68096; omega) (by omega)
    refine ok_eq e38 ?_
    have hn' : n' ≤ l.length := SRT_len b3 (fun x hx => hx.elim (hXl x) (fun ⟨k, k1, k2⟩ => hWl x ⟨k, by omega, k2⟩))
    obtain ⟨n2, a2, t2, e2, g1, g2, g3, g4, g5, g6, g7⟩ := m_putB hf (by omega) b1 b2 b3 b4 (o3 i (by omega))
    refine ok_eq e2 (ih (i + 1, t2) ⟨by show i + 1 ≤ nS (slc m w) f; omega, bfr_tr fr ⟨g1, g2, g3⟩, n2, a2, g4, g5, SRT_cg g6 (fun _ _ => rfl) (fun x => ⟨?_, ?_⟩), g7⟩ (by show 700 - (i + 1) < 700 - i; omega))
    · rintro ((z | ⟨k, k1, k2⟩) | z)
      · exact Or.inl z
      · exact Or.inr ⟨k, by dsimp only; omega, k2⟩
      · exact Or.inr ⟨i, by dsimp only; omega, z.symm⟩
    · rintro (z | ⟨k, k1, k2⟩)
      · exact Or.inl (Or.inl z)
      · by_cases hk : k = i
        · rw [hk] at k2; exact Or.inr k2.symm
        · exact Or.inl (Or.inr ⟨k, by dsimp only at k1; omega, k2⟩)) NN (0, m) ⟨Nat.zero_le _, bfr_rf, n, a, hB.1, hB.2.1, SRT_cg hB.2.2.1 (fun _ _ => rfl) (fun x => ⟨Or.inl, fun z => z.elim id (fun ⟨k, k1, _⟩ => by dsimp only at k1; omega)⟩), hB.2.2.2⟩ (NN_gt (by show 700 - 0 < 100000; omega))
  obtain ⟨r, e, fr, n', a', b⟩ := key
  exact ⟨n', a', r, e, fr, b⟩
theorem m_78_27 {v1 v2 v3 v5 : Int} : ∀ n k m, m5_joinStarts_l78 v1 v2 v3 v5 n k m = m5_joinStarts_l27 v2 v1 v3 v5 n k m := by
  intro n
  induction n with
  | zero => intro k m; rfl
  | succ n ih =>
    intro k m
    unfold m5_joinStarts_l78 m5_joinStarts_l27
    simp only [ih]
/-- how many starts there are together -/
def jA (ns : Nat → Nat) : Nat → Nat
  | 0 => 1
  | f + 1 => if jA ns f ≤ 1000000 then jA ns f * ns f else jA ns f
theorem m_join {m : Mu} {w v : Nat} {W V : Wv} (hw : slc m w = W) (hv : slc m v = V) (hw13 : w ≤ 13) (hv13 : v ≤ 13) (h12 : W 12 0 = (nF W : Int)) (h8 : nF W ≤ 8) (hO : ∀ f, f < nF W → stO W f) (hO2 : ∀ f, f < nF W → stO V f) : ∃ (ns : Nat → Nat) (as : Nat → Nat → Int) (m' : Mu), m5_joinStarts w v m = some (if jA ns (nF W) ≤ 20000 then 1 else 0, m') ∧ mfr [65] [63, 64] m m' ∧ m'.1 65 = (if jA ns (nF W) ≤ 1000000 then (jA ns (nF W) : Int) else 1000001) ∧ ∀ f, f < nF W → BT m' f (ns f) (as f) (fun x => stS W f x ∨ stS V f x) ∧ ns f ≤ 1202 := by
  have key := loop_ind (fun q (s : (Nat × (Nat → Nat)) × Mu) => m5_joinStarts_l5 w v q (jA s.1.2 s.1.1 : Nat) (s.1.1 : Int) s.2) (fun s => 10 - s.1.1) (fun s => s.1.1 ≤ nF W ∧ mfr [] [63, 64] m s.2 ∧ jA s.1.2 s.1.1 ≤ 1300000000 ∧ ∃ as : Nat → Nat → Int, ∀ f, f < s.1.1 → BT s.2 f (s.1.2 f) (as f) (fun x => stS W f x ∨ stS V f x) ∧ s.1.2 f ≤ 1202) (fun _ r => ∃ (ns : Nat → Nat) (as : Nat → Nat → Int), r.1 = (jA ns (nF W) : Nat) ∧ jA ns (nF W) ≤ 1300000000 ∧ mfr [] [63, 64] m r.2 ∧ ∀ f, f < nF W → BT r.2 f (ns f) (as f) (fun x => stS W f x ∨ stS V f x) ∧ ns f ≤ 1202) (by
    rintro q ⟨⟨f, ns⟩, t⟩ ⟨hf, fr, hj, as, hB⟩ ih
    dsimp only at hf fr hj hB ⊢
    show ok (m5_joinStarts_l5 w v (q + 1) (jA ns f : Nat) (f : Int) t) _
    unfold m5_joinStarts_l5
    have st : slc t w = W := by rw [← hw]; exact slc_of (fun k h1 h2 => fr.2 k (by simp; omega))
    have sv : slc t v = V := by rw [← hv]; exact slc_of (fun k h1 h2 => fr.2 k (by simp; omega))
    have e12 : mald t 12 14 (w : Int) = some (W 12 0) := by rw [← st]; exact m_sl (w := w) (k := 12) (j := 0) (by decide) (by show (w : Int) = ((1 * w + 0 : Nat) : Int); omega) (by show 1 * w + 0 < 14; omega) (by omega)
    refine ok_eq e12 ?_
    rw [h12, w32_n (by omega), w32_n (by omega)]
    refine ok_ite (fun hz => ok_some ⟨ns, as, by rw [show nF W = f by omega], by rw [show nF W = f by omega]; exact hj, fr, by rw [show nF W = f by omega]; exact hB⟩) (fun hz => ?_)
    have hfn : f < nF W := by omega
    have f8 : f < 8 := by omega
    refine ok_mast f rfl (by omega) (by omega) ?_
    have sl0 : ∀ x, slc (ma t 64 f 0) x = slc t x := fun x => slc_of (fun k h1 h2 => ma_o (by omega))
    have b0 : BT (ma t 64 f 0) f 0 (fun _ => 0) (fun _ => False) := ⟨by rw [ma_s, if_pos rfl]; rfl, fun j hj => by omega, ⟨fun i j h1 h2 => by omega, fun x => ⟨fun z => z.elim, fun ⟨k, k1, _⟩ => by omega⟩⟩, fun j hj => by omega⟩
    obtain ⟨l, hl⟩ : ∃ l, l = (List.range (nS W f)).map (fun k => W 38 (608 * f + k)) ++ (List.range (nS V f)).map (fun k => V 38 (608 * f + k)) := ⟨_, rfl⟩
    have o1 := hO f hfn
    have o2 := hO2 f hfn
    have hll : l.length ≤ 1202 := by
      rw [hl, List.length_append, List.length_map, List.length_map, List.length_range, List.length_range]
      have := o1.2.1
      have := o2.2.1
      omega
    have lW : ∀ x, stS W f x → x ∈ l := fun x ⟨k, k1, k2⟩ => by
      rw [hl, List.mem_append]
      exact Or.inl (List.mem_map.mpr ⟨k, List.mem_range.mpr k1, k2⟩)
    have lV : ∀ x, stS V f x → x ∈ l := fun x ⟨k, k1, k2⟩ => by
      rw [hl, List.mem_append]
      exact Or.inr (List.mem_map.mpr ⟨k, List.mem_range.mpr k1, k2⟩)
    obtain ⟨n1, a1, t1, e1, fr1, b1⟩ := m_row27 (m := ma t 64 f 0) (w := w) (v2 := v) (v3 := (jA ns f : Nat)) hw13 f8 (by rw [sl0, st]; exact o1) b0 (by omega : l.length < 2000) (fun x z => z.elim) (by rw [sl0, st]; exact lW)
    rw [sl0, st] at b1
    obtain ⟨n2, a2, t2, e2, fr2, b2⟩ := m_row27 (m := t1) (w := v) (v2 := w) (v3 := (jA ns f : Nat)) hv13 f8 (by rw [bfr_slc fr1, sl0, sv]; exact o2) b1 (by omega : l.length < 2000) (fun x z => z.elim (fun y => y.elim) (lW x)) (by rw [bfr_slc fr1, sl0, sv]; exact lV)
    rw [bfr_slc fr1, sl0, sv] at b2
    have b2' : BT t2 f n2 a2 (fun x => stS W f x ∨ stS V f x) := ⟨b2.1, b2.2.1, SRT_cg b2.2.2.1 (fun _ _ => rfl) (fun x => by simp), b2.2.2.2⟩
    have hn2 : n2 ≤ l.length := SRT_len b2'.2.2.1 (fun x z => z.elim (lW x) (lV x))
    refine ok_eq e1 (ok_eq (by rw [m_78_27]; exact e2) ?_)
    have frt : mfr [] [63, 64] m t2 := mfr_tr (mfr_tr (mfr_ma fr (by simp)) fr1.1) fr2.1
    have old : ∀ g, g < f → BT t2 g (ns g) (as g) (fun x => stS W g x ∨ stS V g x) ∧ ns g ≤ 1202 := fun g hg => by
      obtain ⟨h1, h2⟩ := hB g hg
      refine ⟨BT_k (f := f) h1 (by omega) (by omega) (fun x hx => ?_) (fun x hx => ?_), h2⟩
      · rw [fr2.2.1 x hx, fr1.2.1 x hx, ma_o (by decide)]
      · rw [fr2.2.2 x hx, fr1.2.2 x hx, ma_s, if_neg hx]
    have hnew := fun (ns' : Nat → Nat) (as' : Nat → Nat → Int) (h1 : ∀ g, g < f → ns' g = ns g ∧ as' g = as g) (h2 : ns' f = n2 ∧ as' f = a2) => ih ((f + 1, ns'), t2)
    have hns : ∀ g, g < f → (fun g => if g = f then n2 else ns g) g = ns g := fun g hg => if_neg (by omega)
    have hja : ∀ g, g ≤ f → jA (fun g => if g = f then n2 else ns g) g = jA ns g := by
      intro g
      induction g with
      | zero => intro _; rfl
      | succ g ihg => intro hg; simp only [jA]; rw [ihg (by omega), if_neg (show ¬ g = f by omega)]
    have hI : ∃ as' : Nat → Nat → Int, ∀ g, g < f + 1 → BT t2 g ((fun g => if g = f then n2 else ns g) g) (as' g) (fun x => stS W g x ∨ stS V g x) ∧ (fun g => if g = f then n2 else ns g) g ≤ 1202 := ⟨fun g => if g = f then a2 else as g, fun g hg => by
      by_cases q : g = f
      · subst q
        dsimp only
        rw [if_pos rfl, if_pos rfl]
        exact ⟨b2', by omega⟩
      · dsimp only
        rw [if_neg q, if_neg q]
        exact old g (by omega)⟩
    have hjn : jA (fun g => if g = f then n2 else ns g) (f + 1) = if jA ns f ≤ 1000000 then jA ns f * n2 else jA ns f := by
      simp only [jA]; rw [hja f (Nat.le_refl _), if_pos trivial]
    have hjb : jA (fun g => if g = f then n2 else ns g) (f + 1) ≤ 1300000000 := by
      rw [hjn]
      split
      · next h => exact Nat.le_trans (Nat.mul_le_mul h (show n2 ≤ 1202 by omega)) (by decide)
      · exact hj
    have hrec := ih ((f + 1, fun g => if g = f then n2 else ns g), t2) ⟨by show f + 1 ≤ nF W; omega, frt, hjb, hI⟩ (by show 10 - (f + 1) < 10 - f; omega)
    dsimp only at hrec
    rw [hjn] at hrec
    rw [w64_id (x := ((jA ns f : Nat) : Int)) (by omega) (by omega)]
    refine ok_ite (fun h => ?_) (fun h => ?_)
    · refine ok_mald f rfl (by omega) (by omega) ?_
      rw [if_pos (by omega)] at hrec
      rw [b2.1, w32_n (by omega), ← Int.natCast_mul]
      exact hrec
    · rw [if_neg (by omega)] at hrec
      exact hrec) NN ((0, fun _ => 0), m) ⟨Nat.zero_le _, mfr_rf, by show (1 : Nat) ≤ 1300000000; decide, fun _ _ => 0, fun f hf => by dsimp only at hf; omega⟩ (NN_gt (by show 10 - 0 < 100000; omega))
  obtain ⟨⟨r1, r2⟩, e, ns, as, e1, e2, fr, hB⟩ := key
  dsimp only at e e1 fr hB
  have e : m5_joinStarts_l5 w v NN 1 0 m = some (r1, r2) := e
  have wj : w64 ((jA ns (nF W) : Nat) : Int) = (jA ns (nF W) : Nat) := w64_id (by omega) (by omega)
  have fin : ∀ s1 : Int, s1 = (if jA ns (nF W) ≤ 1000000 then (jA ns (nF W) : Int) else 1000001) → m5_joinStarts_b171 r1 s1 r2 = some (if jA ns (nF W) ≤ 20000 then 1 else 0, ms r2 65 s1) := by
    intro s1 _
    unfold m5_joinStarts_b171
    rw [Option.bind_some, e1, wj]
    by_cases h : jA ns (nF W) ≤ 20000
    · rw [if_neg (by omega), if_pos h]
    · rw [if_pos (by omega), if_neg h]
  refine ⟨ns, as, ms r2 65 (if jA ns (nF W) ≤ 1000000 then (jA ns (nF W) : Int) else 1000001), ?_, mfr_ms (mfr_up fr (by simp) (by simp)) (by simp), by rw [ms_1, if_pos rfl], hB⟩
  unfold m5_joinStarts
  rw [e, Option.bind_some]
  dsimp only
  rw [e1, wj]
  by_cases h : jA ns (nF W) ≤ 1000000
  · rw [if_pos (by omega), if_pos h, ← e1]
    exact fin r1 (by rw [if_pos h, e1])
  · rw [if_neg (by omega), if_neg h, ← e1]
    exact fin 1000001 (by rw [if_neg h])
