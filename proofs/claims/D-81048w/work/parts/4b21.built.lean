/-! THE READER: a wording under construction -/
/-- frozen, a test of a fact that stands -/
def FK (κ : Nat → Nat) (W : Wv) (t : Sg) (q : Nat) : Prop := κ q = 1 ∧ (zT t q = 14 → (zI t q 520).toNat < nF W ∧ W 14 (zI t q 520).toNat ≠ 2)
/-- a list of the wording at a, in its field j; its cells have the colour j -/
def LBw (G : CG) (κ : Nat → Nat) (t : Sg) (a j n : Nat) (el : Nat → Nat) : Prop := ∃ l b, zR t a j = some l ∧ LA t l b n ∧ LW G t l b ∧ κ l = j ∧ (0 < zL t b → κ b = j) ∧ (zL t b = 0 → b < G0 G) ∧ ∀ i, i < n → zB t b i = some (el i)
def sgNw (m : Mu) (i j : Int) : List Nd := (List.range (j.toNat - i.toNat)).map fun k => ndN m (i.toNat + k)
/-- a condition: its tree at c, its nodes from i to j -/
def CB (G : CG) (κ : Nat → Nat) (t : Sg) (m : Mu) (W : Wv) (nm : Int) (c : Nat) (i j : Int) : Prop := (0 ≤ i ∧ i < j ∧ j ≤ m.1 46) ∧ CA (FK κ W t) G t 100 c (sgNw m i j) ∧ ∀ q ∈ sgNw m i j, okN (nF W) nm q
def FB (κ : Nat → Nat) (t : Sg) (W : Wv) (b f : Nat) : Prop := κ b = 1 ∧ zT t b = 10 ∧ NM (zI t b 360) (W 13 f) ∧ zI t b 361 = W 14 f ∧ zI t b 363 = W 15 f ∧ zI t b 364 = W 17 f ∧ zI t b 365 = W 18 f ∧ (0 ≤ W 14 f ∧ W 14 f ≤ 2 ∧ 0 ≤ W 15 f ∧ W 15 f ≤ 6 ∧ (W 14 f ≠ 1 → W 15 f = 0) ∧ (W 14 f = 1 → 2 ≤ W 15 f ∧ W 17 f = 0 ∧ W 18 f = W 15 f - 1) ∧ (W 14 f = 0 → W 17 f = 0 ∧ W 18 f = 1) ∧ (W 14 f = 2 → 0 ≤ W 17 f ∧ W 17 f < W 18 f ∧ W 18 f ≤ 999999999)) ∧ ∃ c, zR t b 362 = some c ∧ κ c = 1 ∧ zT t c = 104 ∧ zL t c = 6 ∧ ∀ k : Nat, (k : Int) < W 15 f → NM (zA t c k) (W 16 (6 * f + k))
def QB (G : CG) (κ : Nat → Nat) (t : Sg) (m : Mu) (W : Wv) (b k : Nat) : Prop := κ b = 1 ∧ zT t b = 17 ∧ zI t b 640 = m.2 53 k ∧ (0 ≤ m.2 53 k ∧ m.2 53 k ≤ 2) ∧ zI t b 642 = m.2 55 k - m.2 54 k ∧ ∃ c, zR t b 641 = some c ∧ CB G κ t m W (nM W) c (m.2 54 k) (m.2 55 k)
def PB (G : CG) (κ : Nat → Nat) (t : Sg) (m : Mu) (W : Wv) (b k : Nat) : Prop := κ b = 1 ∧ zT t b = 18 ∧ zI t b 680 + 15 = W 28 k ∧ zI t b 681 = W 29 k ∧ (15 ≤ W 28 k ∧ W 28 k ≤ 19 ∧ (if W 28 k = 18 then 1 else 0) ≤ W 29 k ∧ W 29 k ≤ 9999999) ∧ ((zR t b 682 = none ∧ W 30 k = W 31 k) ∨ ((W 28 k = 16 ∨ W 28 k = 17) ∧ ∃ c, zR t b 682 = some c ∧ CB G κ t m W (nM W) c (W 30 k) (W 31 k)))
/-- colours: 1 frozen, 2 the wording, 3 the reader, 240.. its lists -/
def KO (G : CG) (r a N0 : Nat) (κ : Nat → Nat) (t : Sg) : Prop := (κ a = 2 ∧ zT t a = 7 ∧ κ r = 3) ∧ (∀ q, κ q ≠ 0 → q < zN t) ∧ (∀ q, κ q ≠ 0 → q < G0 G ∨ N0 ≤ q) ∧ (∀ q, q < G0 G → κ q = 1) ∧ G0 G ≤ N0
theorem k25 {G : CG} {N0 : Nat} {κ : Nat → Nat} (o5 : ∀ q, κ q ≠ 0 → q < G0 G ∨ N0 ≤ q) (o6 : ∀ q, q < G0 G → κ q = 1) : ∀ q, 2 ≤ κ q → N0 ≤ q := fun q hq => by
  rcases o5 q (by omega) with z | z
  · rw [o6 q z] at hq; omega
  · exact z
/-- the wording at a against the twin's place 0 -/
def WB (G : CG) (r a N0 : Nat) (κ : Nat → Nat) (t : Sg) (m : Mu) (W : Wv) : Prop := KO G r a N0 κ t ∧ (slc m 0 = W ∧ W 12 0 = (nF W : Int) ∧ nF W ≤ 8 ∧ W 19 0 = (nM W : Int) ∧ nM W ≤ 12 ∧ W 27 0 = (nP W : Int) ∧ nP W ≤ 24 ∧ 0 ≤ m.1 56 ∧ m.1 56 ≤ 24 ∧ ∀ k, k ≤ nP W → tmB W k ≤ 3) ∧
  (∃ el, LBw G κ t a 240 (nF W) el ∧ ∀ f, f < nF W → FB κ t W (el f) f) ∧
  (∃ el, LBw G κ t a 241 (nM W) el ∧ ∀ k, k < nM W → κ (el k) = 1 ∧ zT t (el k) = 29 ∧ NM (zI t (el k) 1120) (W 20 k)) ∧
  (∃ el, LBw G κ t a 242 (nM W) el ∧ ∀ k : Nat, k < nM W → CB G κ t m W k (el k) (W 21 k) (W 22 k)) ∧
  (∃ el, LBw G κ t a 243 (m.1 56).toNat el ∧ ∀ k, k < (m.1 56).toNat → QB G κ t m W (el k) k) ∧
  (∃ el, LBw G κ t a 244 (nP W) el ∧ ∀ k, k < nP W → PB G κ t m W (el k) k) ∧
  (zI t a 245 = W 32 0 ∧ zI t a 246 = W 32 1 ∧ smO (W 32 0) 99999999 ∧ smO (W 32 1) 1000 ∧ ∃ d, zR t a 247 = some d ∧ κ d = 247 ∧ zT t d = 101 ∧ zL t d = 3 ∧ ∀ k, k < 3 → zA t d k = W 32 (2 + k) ∧ smO (W 32 (2 + k)) 99999999) ∧
  (zI t a 248 = ((List.range (nM W)).map fun k => W 22 k - W 21 k).sum + ((List.range (nP W)).map fun k => W 31 k - W 30 k).sum) ∧
  ∃ el, LBw G κ t a 250 0 el
/-- the sum of a row -/
def lsm (f : Nat → Int) (n : Nat) : Int := ((List.range n).map f).sum
theorem lsm_s {f : Nat → Int} {n : Nat} : lsm f (n + 1) = lsm f n + f n := by unfold lsm; rw [List.range_succ, List.map_append, List.sum_append]; simp
theorem lsm_cg {f g : Nat → Int} {n : Nat} (h : ∀ k, k < n → f k = g k) : lsm f n = lsm g n := by unfold lsm; exact congrArg List.sum (List.map_congr_left (fun k hk => h k (List.mem_range.mp hk)))
/-- the nodes of all parts together -/
def SMS (m : Mu) (W : Wv) : Int := lsm (fun k => W 22 k - W 21 k) (nM W) + lsm (fun k => m.2 55 k - m.2 54 k) (m.1 56).toNat + lsm (fun k => W 31 k - W 30 k) (nP W)
/-- each node up to h is of a meaning, a clause or a price row -/
def CVR (m : Mu) (W : Wv) (h : Int) : Prop := (∀ i : Nat, (i : Int) < h → (∃ k, k < nM W ∧ W 21 k ≤ (i : Int) ∧ (i : Int) < W 22 k) ∨ (∃ k, k < (m.1 56).toNat ∧ m.2 54 k ≤ (i : Int) ∧ (i : Int) < m.2 55 k) ∨ (∃ k, k < nP W ∧ W 30 k ≤ (i : Int) ∧ (i : Int) < W 31 k)) ∧ SMS m W = h
/-! keeping it -/
/-- coloured cells but the reader are the same, and keep their colour -/
def KK (κ κ' : Nat → Nat) (t t' : Sg) : Prop := gro t t' ∧ ∀ q, κ q ≠ 0 → κ q ≠ 3 → sam t t' q ∧ κ' q = κ q
/-- frozen cells are the same and stay frozen -/
def KF (κ κ' : Nat → Nat) (t t' : Sg) : Prop := gro t t' ∧ ∀ q, κ q = 1 → sam t t' q ∧ κ' q = 1
theorem KK_F {κ κ' : Nat → Nat} {t t' : Sg} (h : KK κ κ' t t') : KF κ κ' t t' := ⟨h.1, fun q hq => by
  obtain ⟨s, e⟩ := h.2 q (by rw [hq]; decide) (by rw [hq]; decide)
  exact ⟨s, by rw [e]; exact hq⟩⟩
theorem LBw_r {G : CG} {κ κ' : Nat → Nat} {t t' : Sg} {a j n : Nat} {el : Nat → Nat} (hg : gro t t') (hk : ∀ q, κ q = j → sam t t' q ∧ κ' q = κ q) (hG : ∀ q, q < G0 G → sam t t' q) (ha : zR t' a j = zR t a j) (h : LBw G κ t a j n el) : LBw G κ' t' a j n el := by
  obtain ⟨l, b, h1, h2, h3, h4, h5, h6, h7⟩ := h
  obtain ⟨sl, kl⟩ := hk l h4
  have sb : sam t t' b := by
    by_cases z : zL t b = 0
    · exact hG b (h6 z)
    · exact (hk b (h5 (by omega))).1
  refine ⟨l, b, by rw [ha]; exact h1, LA_sam h2 sl sb hg.1 (fun x hx => (hg.2 x hx).1), ⟨h3.1, fun q => h3.2.1 (by rw [← sb.2.1]; exact q), fun q => h3.2.2 (by rw [← sb.2.1]; exact q)⟩, by rw [kl]; exact h4, fun q => ?_, fun q => h6 (by rw [← sb.2.1]; exact q), fun i hi => by rw [sb.2.2.2.2.2]; exact h7 i hi⟩
  rw [sb.2.1] at q
  rw [(hk b (h5 q)).2]; exact h5 q
theorem LBw_k {G : CG} {κ κ' : Nat → Nat} {t t' : Sg} {a j n : Nat} {el : Nat → Nat} (k : KK κ κ' t t') (hG : ∀ q, q < G0 G → κ q = 1) (ha : κ a = 2) (hj : j ≠ 0 ∧ j ≠ 3) (h : LBw G κ t a j n el) : LBw G κ' t' a j n el := by
  obtain ⟨l, b, h1, h2, h3, h4, h5, h6, h7⟩ := h
  have sa := (k.2 a (by omega) (by omega)).1
  obtain ⟨sl, kl⟩ := k.2 l (by omega) (by omega)
  have kb : κ b ≠ 0 ∧ κ b ≠ 3 := by
    by_cases z : zL t b = 0
    · rw [hG b (h6 z)]; omega
    · rw [h5 (by omega)]; exact hj
  obtain ⟨sb, kb'⟩ := k.2 b kb.1 kb.2
  refine ⟨l, b, by rw [sa.2.2.2.1]; exact h1, LA_sam h2 sl sb k.1.1 (fun x hx => (k.1.2 x hx).1), ⟨h3.1, fun q => h3.2.1 (by rw [← sb.2.1]; exact q), fun q => h3.2.2 (by rw [← sb.2.1]; exact q)⟩, by rw [kl]; exact h4, fun q => by rw [kb']; exact h5 (by rw [← sb.2.1]; exact q), fun q => h6 (by rw [← sb.2.1]; exact q), fun i hi => by rw [sb.2.2.2.2.2]; exact h7 i hi⟩
theorem FK_k {κ κ' : Nat → Nat} {t t' : Sg} {W W' : Wv} (k : KF κ κ' t t') (hF : nF W ≤ nF W') (hW : ∀ f, f < nF W → W' 14 f = W 14 f) : ∀ q, FK κ W t q → FK κ' W' t' q ∧ sam t t' q := fun q h => by
  obtain ⟨s, e⟩ := k.2 q h.1
  refine ⟨⟨e, ?_⟩, s⟩
  rw [s.1, s.2.2.1]
  intro q14
  obtain ⟨z1, z2⟩ := h.2 q14
  exact ⟨by omega, by rw [hW _ z1]; exact z2⟩
theorem okN_up {nf nm nf' nm' : Int} {q : Nd} (h : okN nf nm q) (h1 : nf ≤ nf') (h2 : nm ≤ nm') : okN nf' nm' q := by
  obtain ⟨a, b, c, d⟩ := h
  refine ⟨a, b, fun z => ?_, fun z => ?_⟩
  · obtain ⟨c1, c2, c3⟩ := c z
    exact ⟨c1, by omega, c3⟩
  · obtain ⟨d1, d2⟩ := d z
    exact ⟨d1, by omega⟩
theorem sgNw_cg {m m' : Mu} {i j : Int} (h : ∀ k : Nat, (k : Int) < j → ndN m' k = ndN m k) (hij : 0 ≤ i ∧ i < j) : sgNw m' i j = sgNw m i j := by
  unfold sgNw
  refine List.map_congr_left (fun k hk => ?_)
  have := List.mem_range.mp hk
  exact h _ (by omega)
theorem CB_k {G : CG} {κ κ' : Nat → Nat} {t t' : Sg} {m m' : Mu} {W W' : Wv} {nm nm' : Int} {c : Nat} {i j : Int} (k : KF κ κ' t t') (hF : nF W ≤ nF W') (hW : ∀ f, f < nF W → W' 14 f = W 14 f) (hm : nm ≤ nm') (hn : m.1 46 ≤ m'.1 46 ∧ ∀ k : Nat, (k : Int) < m.1 46 → ndN m' k = ndN m k) (h : CB G κ t m W nm c i j) : CB G κ' t' m' W' nm' c i j := by
  obtain ⟨⟨h1, h2, h3⟩, h4, h5⟩ := h
  have e := sgNw_cg (m := m) (m' := m') (i := i) (j := j) (fun k hk => hn.2 k (by omega)) ⟨h1, h2⟩
  refine ⟨⟨h1, h2, by omega⟩, by rw [e]; exact CA_sam (FK_k k hF hW) k.1 _ _ _ h4, fun q hq => ?_⟩
  rw [e] at hq
  exact okN_up (h5 q hq) (by omega) hm
theorem FB_k {κ κ' : Nat → Nat} {t t' : Sg} {W W' : Wv} {b f : Nat} (k : KF κ κ' t t') (hW : W' 13 f = W 13 f ∧ W' 14 f = W 14 f ∧ W' 15 f = W 15 f ∧ W' 17 f = W 17 f ∧ W' 18 f = W 18 f ∧ ∀ j : Nat, (j : Int) < W 15 f → W' 16 (6 * f + j) = W 16 (6 * f + j)) (h : FB κ t W b f) : FB κ' t' W' b f := by
  obtain ⟨h1, h2, h3, h4, h5, h6, h7, h8, c, c1, c2, c3, c4, c5⟩ := h
  obtain ⟨w1, w2, w3, w4, w5, w6⟩ := hW
  obtain ⟨s, e⟩ := k.2 b h1
  obtain ⟨s', e'⟩ := k.2 c c2
  unfold FB
  rw [w1, w2, w3, w4, w5, s.1, s.2.2.1]
  refine ⟨e, h2, h3, h4, h5, h6, h7, h8, c, by rw [s.2.2.2.1]; exact c1, e', by rw [s'.1]; exact c3, by rw [s'.2.1]; exact c4, fun j hj => ?_⟩
  rw [s'.2.2.2.2.1, w6 j hj]; exact c5 j hj
theorem QB_k {G : CG} {κ κ' : Nat → Nat} {t t' : Sg} {m m' : Mu} {W W' : Wv} {b n : Nat} (k : KF κ κ' t t') (hF : nF W ≤ nF W') (hM : nM W ≤ nM W') (hW : ∀ f, f < nF W → W' 14 f = W 14 f) (hn : m.1 46 ≤ m'.1 46 ∧ ∀ k : Nat, (k : Int) < m.1 46 → ndN m' k = ndN m k) (hq : m'.2 53 n = m.2 53 n ∧ m'.2 54 n = m.2 54 n ∧ m'.2 55 n = m.2 55 n) (h : QB G κ t m W b n) : QB G κ' t' m' W' b n := by
  obtain ⟨h1, h2, h3, h4, h5, c, c1, c2⟩ := h
  obtain ⟨s, e⟩ := k.2 b h1
  unfold QB
  rw [hq.1, hq.2.1, hq.2.2, s.1, s.2.2.1]
  exact ⟨e, h2, h3, h4, h5, c, by rw [s.2.2.2.1]; exact c1, CB_k k hF hW (by omega) hn c2⟩
theorem PB_k {G : CG} {κ κ' : Nat → Nat} {t t' : Sg} {m m' : Mu} {W W' : Wv} {b n : Nat} (k : KF κ κ' t t') (hF : nF W ≤ nF W') (hM : nM W ≤ nM W') (hW : ∀ f, f < nF W → W' 14 f = W 14 f) (hn : m.1 46 ≤ m'.1 46 ∧ ∀ k : Nat, (k : Int) < m.1 46 → ndN m' k = ndN m k) (hp : W' 28 n = W 28 n ∧ W' 29 n = W 29 n ∧ W' 30 n = W 30 n ∧ W' 31 n = W 31 n) (h : PB G κ t m W b n) : PB G κ' t' m' W' b n := by
  obtain ⟨h1, h2, h3, h4, h5, h6⟩ := h
  obtain ⟨s, e⟩ := k.2 b h1
  unfold PB
  rw [hp.1, hp.2.1, hp.2.2.1, hp.2.2.2, s.1, s.2.2.1, s.2.2.2.1]
  refine ⟨e, h2, h3, h4, h5, ?_⟩
  rcases h6 with h6 | ⟨h6, c, c1, c2⟩
  · exact Or.inl h6
  · exact Or.inr ⟨h6, c, c1, CB_k k hF hW (by omega) hn c2⟩
/-- the wording stays when only the reader, new cells, new nodes come -/
theorem WB_k {G : CG} {r a N0 : Nat} {κ κ' : Nat → Nat} {t t' : Sg} {m m' : Mu} {W : Wv} (k : KK κ κ' t t') (hO : KO G r a N0 κ' t') (hs : slc m' 0 = slc m 0) (h56 : m'.1 56 = m.1 56) (hn : m.1 46 ≤ m'.1 46 ∧ ∀ k : Nat, (k : Int) < m.1 46 → ndN m' k = ndN m k) (hq : ∀ n, n < (m.1 56).toNat → m'.2 53 n = m.2 53 n ∧ m'.2 54 n = m.2 54 n ∧ m'.2 55 n = m.2 55 n) (h : WB G r a N0 κ t m W) : WB G r a N0 κ' t' m' W := by
  obtain ⟨⟨⟨o1, o2, o3⟩, o4, o5, o6, o7⟩, ⟨b1, b2⟩, ⟨e1, f1, f2⟩, ⟨e2, g1, g2⟩, ⟨e3, m1, m2⟩, ⟨e4, q1, q2⟩, ⟨e5, p1, p2⟩, ⟨s1, s2, s3, s4, d, s5, s6, s7, s8, s9⟩, u1, e6, u2⟩ := h
  have sa := (k.2 a (by rw [o1]; decide) (by rw [o1]; decide)).1
  obtain ⟨sd, kd⟩ := k.2 d (by rw [s6]; decide) (by rw [s6]; decide)
  refine ⟨hO, ⟨by rw [hs]; exact b1, by rw [h56]; exact b2⟩, ⟨e1, LBw_k k o6 o1 (by decide) f1, fun f hf => FB_k (KK_F k) ⟨rfl, rfl, rfl, rfl, rfl, fun _ _ => rfl⟩ (f2 f hf)⟩, ⟨e2, LBw_k k o6 o1 (by decide) g1, fun n hn => ?_⟩, ⟨e3, LBw_k k o6 o1 (by decide) m1, fun n hn' => CB_k (KK_F k) (Nat.le_refl _) (fun _ _ => rfl) (Int.le_refl _) hn (m2 n hn')⟩, ⟨e4, by rw [h56]; exact LBw_k k o6 o1 (by decide) q1, fun n hn' => QB_k (KK_F k) (Nat.le_refl _) (Nat.le_refl _) (fun _ _ => rfl) hn (hq n (by rw [h56] at hn'; exact hn')) (q2 n (by rw [h56] at hn'; exact hn'))⟩, ⟨e5, LBw_k k o6 o1 (by decide) p1, fun n hn' => PB_k (KK_F k) (Nat.le_refl _) (Nat.le_refl _) (fun _ _ => rfl) hn ⟨rfl, rfl, rfl, rfl⟩ (p2 n hn')⟩, ⟨by rw [sa.2.2.1]; exact s1, by rw [sa.2.2.1]; exact s2, s3, s4, d, by rw [sa.2.2.2.1]; exact s5, by rw [kd]; exact s6, by rw [sd.1]; exact s7, by rw [sd.2.1]; exact s8, by rw [sd.2.2.2.2.1]; exact s9⟩, by rw [sa.2.2.1]; exact u1, e6, LBw_k k o6 o1 (by decide) u2⟩
  obtain ⟨z1, z2, z3⟩ := g2 n hn
  obtain ⟨s, e⟩ := k.2 (e2 n) (by rw [z1]; decide) (by rw [z1]; decide)
  exact ⟨by rw [e]; exact z1, by rw [s.1]; exact z2, by rw [s.2.2.1]; exact z3⟩
theorem tmB_cg {W W' : Wv} : ∀ k, (∀ i, i < k → W' 28 i = W 28 i) → tmB W' k = tmB W k := by
  intro k
  induction k with
  | zero => intro _; rfl
  | succ k ih => intro h; simp only [tmB]; rw [h k (by omega), ih (fun i hi => h i (by omega))]
/-- the sums alone are set: numbers of the wording, its array of bounds -/
theorem WB_s {G : CG} {r a N0 : Nat} {κ : Nat → Nat} {t t' : Sg} {m m' : Mu} {W W' : Wv} (hg : gro t t') (hk : ∀ q, κ q ≠ 0 → κ q ≠ 2 → κ q ≠ 3 → κ q ≠ 247 → sam t t' q) (ha : zT t' a = 7 ∧ zR t' a = zR t a ∧ zI t' a 248 = zI t a 248) (hd : ∀ d, κ d = 247 → zT t' d = zT t d ∧ zL t' d = zL t d) (hs : slc m' 0 = W') (hW : ∀ k, k ≠ 32 → W' k = W k) (h56 : m'.1 56 = m.1 56) (hn : m.1 46 ≤ m'.1 46 ∧ ∀ k : Nat, (k : Int) < m.1 46 → ndN m' k = ndN m k) (hq : ∀ n, n < (m.1 56).toNat → m'.2 53 n = m.2 53 n ∧ m'.2 54 n = m.2 54 n ∧ m'.2 55 n = m.2 55 n) (h1 : zI t' a 245 = W' 32 0 ∧ zI t' a 246 = W' 32 1 ∧ smO (W' 32 0) 99999999 ∧ smO (W' 32 1) 1000) (h2 : ∀ d, zR t a 247 = some d → ∀ k, k < 3 → zA t' d k = W' 32 (2 + k) ∧ smO (W' 32 (2 + k)) 99999999) (h : WB G r a N0 κ t m W) : WB G r a N0 κ t' m' W' := by
  obtain ⟨⟨⟨o1, o2, o3⟩, o4, o5, o6, o7⟩, ⟨b1, b2, b3, b4, b5, b6, b7, b8, b9, b10⟩, ⟨e1, f1, f2⟩, ⟨e2, g1, g2⟩, ⟨e3, m1, m2⟩, ⟨e4, q1, q2⟩, ⟨e5, p1, p2⟩, ⟨s1, s2, s3, s4, d, s5, s6, s7, s8, s9⟩, u1, e6, u2⟩ := h
  have kf : KF κ κ t t' := ⟨hg, fun q hq => ⟨hk q (by rw [hq]; decide) (by rw [hq]; decide) (by rw [hq]; decide) (by rw [hq]; decide), hq⟩⟩
  have lb : ∀ {j n : Nat} {el : Nat → Nat}, (j ≠ 0 ∧ j ≠ 2 ∧ j ≠ 3) → j ≠ 247 → True → LBw G κ t a j n el → LBw G κ t' a j n el := fun {j n el} j1 j3 _ hl => LBw_r hg (fun q hq => ⟨hk q (by rw [hq]; exact j1.1) (by rw [hq]; exact j1.2.1) (by rw [hq]; exact j1.2.2) (by rw [hq]; exact j3), rfl⟩) (fun q hq => hk q (by rw [o6 q hq]; decide) (by rw [o6 q hq]; decide) (by rw [o6 q hq]; decide) (by rw [o6 q hq]; decide)) (by rw [ha.2.1]) hl
  have eF : nF W' = nF W := by show (W' 12 0).toNat = _; rw [hW 12 (by decide)]
  have eM : nM W' = nM W := by show (W' 19 0).toNat = _; rw [hW 19 (by decide)]
  have eP : nP W' = nP W := by show (W' 27 0).toNat = _; rw [hW 27 (by decide)]
  have w14 : ∀ f, f < nF W → W' 14 f = W 14 f := fun f _ => by rw [hW 14 (by decide)]
  unfold WB
  rw [eF, eM, eP, h56, hW 12 (by decide), hW 19 (by decide), hW 27 (by decide), hW 20 (by decide), hW 21 (by decide), hW 22 (by decide), hW 30 (by decide), hW 31 (by decide)]
  refine ⟨⟨⟨o1, ha.1, o3⟩, fun q hq => Nat.lt_of_lt_of_le (o4 q hq) hg.1, o5, o6, o7⟩, ⟨hs, b2, b3, b4, b5, b6, b7, b8, b9, fun k hk => by rw [tmB_cg k (fun i _ => by rw [hW 28 (by decide)])]; exact b10 k hk⟩, ⟨e1, lb (by decide) (by decide) trivial f1, fun f hf => FB_k kf ⟨by rw [hW 13 (by decide)], by rw [hW 14 (by decide)], by rw [hW 15 (by decide)], by rw [hW 17 (by decide)], by rw [hW 18 (by decide)], fun j _ => by rw [hW 16 (by decide)]⟩ (f2 f hf)⟩, ⟨e2, lb (by decide) (by decide) trivial g1, fun n hn => ?_⟩, ⟨e3, lb (by decide) (by decide) trivial m1, fun n hn' => CB_k kf (Nat.le_of_eq eF.symm) w14 (Int.le_refl _) hn (m2 n hn')⟩, ⟨e4, lb (by decide) (by decide) trivial q1, fun n hn' => QB_k kf (Nat.le_of_eq eF.symm) (Nat.le_of_eq eM.symm) w14 hn (hq n hn') (q2 n hn')⟩, ⟨e5, lb (by decide) (by decide) trivial p1, fun n hn' => PB_k kf (Nat.le_of_eq eF.symm) (Nat.le_of_eq eM.symm) w14 hn ⟨by rw [hW 28 (by decide)], by rw [hW 29 (by decide)], by rw [hW 30 (by decide)], by rw [hW 31 (by decide)]⟩ (p2 n hn')⟩, ⟨h1.1, h1.2.1, h1.2.2.1, h1.2.2.2, d, by rw [ha.2.1]; exact s5, s6, by rw [(hd d s6).1]; exact s7, by rw [(hd d s6).2]; exact s8, h2 d s5⟩, by rw [ha.2.2]; exact u1, e6, lb (by decide) (by decide) trivial u2⟩
  obtain ⟨z1, z2, z3⟩ := g2 n hn
  obtain ⟨s, -⟩ := kf.2 (e2 n) z1
  exact ⟨z1, by rw [s.1]; exact z2, by rw [s.2.2.1]; exact z3⟩
