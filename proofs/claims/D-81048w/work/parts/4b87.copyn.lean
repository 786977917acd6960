/-! ENDORSE: the twin joins: nodes are copied from place to place -/
theorem m_copyN {m : Mu} {w v s e c : Nat} (hw : w ≤ 13) (hv : v ≤ 13) (hvw : v ≠ w) (hse : s ≤ e) (he : e ≤ 2400) (hc : m.2 33 w = (c : Int)) (hce : c + (e - s) ≤ 2400) : ∃ m', m5_copyNodes w v s e m = some m' ∧ mpl w KN m m' ∧ m'.2 33 w = ((c + (e - s) : Nat) : Int) ∧ (∀ j, j < c → ndP m' w j = ndP m w j) ∧ ∀ j, j < e - s → ndP m' w (c + j) = w8n (ndP m v (s + j)) := by
  have key : ∀ (d g i : Nat) (t : Mu), i + d = e - s → d < g → mpl w KN m t → t.2 33 w = ((c + i : Nat) : Int) → (∀ j, j < c → ndP t w j = ndP m w j) → (∀ j, j < i → ndP t w (c + j) = w8n (ndP m v (s + j))) → ∃ m', m5_copyNodes_l3 w v e g ((s + i : Nat) : Int) t = some m' ∧ mpl w KN m m' ∧ m'.2 33 w = ((c + (e - s) : Nat) : Int) ∧ (∀ j, j < c → ndP m' w j = ndP m w j) ∧ ∀ j, j < e - s → ndP m' w (c + j) = w8n (ndP m v (s + j)) := by
    intro d
    induction d with
    | zero =>
      intro g i t hi hg h1 h2 h3 h4
      obtain ⟨g, rfl⟩ : ∃ x, g = x + 1 := ⟨g - 1, by omega⟩
      refine ⟨t, ?_, h1, by rw [h2, show i = e - s by omega], h3, fun j hj => h4 j (by omega)⟩
      unfold m5_copyNodes_l3
      rw [w32_n (by omega), w32_n (by omega), if_pos (by omega)]
    | succ d ih =>
      intro g i t hi hg h1 h2 h3 h4
      obtain ⟨g, rfl⟩ : ∃ x, g = x + 1 := ⟨g - 1, by omega⟩
      have hne : 2400 * v + (s + i) ≠ 2400 * w + (c + i) := by omega
      have hout : 2400 * v + (s + i) < 2400 * w ∨ 2400 * w + 2400 ≤ 2400 * v + (s + i) := by omega
      have r : ∀ k, k = 34 ∨ k = 35 ∨ k = 36 ∨ k = 37 → t.2 k (2400 * v + (s + i)) = m.2 k (2400 * v + (s + i)) := fun k hk => h1.2.2 k _ (by
        have : wid k = 2400 := by rcases hk with rfl | rfl | rfl | rfl <;> rfl
        rw [this]; exact hout)
      unfold m5_copyNodes_l3
      rw [w32_n (by omega), w32_n (by omega), if_neg (by omega), mald_e w rfl (by omega) (by omega), Option.bind_some, h2, mald_e (2400 * v + (s + i)) (by omega) (by omega) (by omega), Option.bind_some, r 34 (by omega), mast_e (2400 * w + (c + i)) (by omega) (by omega) (by omega), Option.bind_some, mald_e (2400 * v + (s + i)) (by omega) (by omega) (by omega), ma_o (by decide), Option.bind_some, r 35 (by omega), mast_e (2400 * w + (c + i)) (by omega) (by omega) (by omega), Option.bind_some, mald_e (2400 * v + (s + i)) (by omega) (by omega) (by omega), ma_o (by decide), ma_o (by decide), Option.bind_some, r 36 (by omega), mast_e (2400 * w + (c + i)) (by omega) (by omega) (by omega), Option.bind_some, mald_e (2400 * v + (s + i)) (by omega) (by omega) (by omega), ma_o (by decide), ma_o (by decide), ma_o (by decide), Option.bind_some, r 37 (by omega), mast_e (2400 * w + (c + i)) (by omega) (by omega) (by omega), Option.bind_some, mald_e w rfl (by omega) (by omega), ma_o (by decide), ma_o (by decide), ma_o (by decide), ma_o (by decide), Option.bind_some, h2, mast_e w rfl (by omega) (by omega), Option.bind_some]
      obtain ⟨P, hP⟩ : ∃ P, P = 2400 * v + (s + i) := ⟨_, rfl⟩
      rw [← hP]
      obtain ⟨t', ht⟩ : ∃ t', t' = ma (ma (ma (ma (ma t 34 (2400 * w + (c + i)) (w8 (m.2 34 P))) 35 (2400 * w + (c + i)) (w8 (m.2 35 P))) 36 (2400 * w + (c + i)) (w8 (m.2 36 P))) 37 (2400 * w + (c + i)) (m.2 37 P)) 33 w (((c + i : Nat) : Int) + 1) := ⟨_, rfl⟩
      rw [← ht]
      have g34 : ∀ x, t'.2 34 x = if x = 2400 * w + (c + i) then w8 (m.2 34 P) else t.2 34 x := fun x => by rw [ht, ma_o (by decide), ma_o (by decide), ma_o (by decide), ma_o (by decide), ma_s]
      have g35 : ∀ x, t'.2 35 x = if x = 2400 * w + (c + i) then w8 (m.2 35 P) else t.2 35 x := fun x => by rw [ht, ma_o (by decide), ma_o (by decide), ma_o (by decide), ma_s, ma_o (by decide)]
      have g36 : ∀ x, t'.2 36 x = if x = 2400 * w + (c + i) then w8 (m.2 36 P) else t.2 36 x := fun x => by rw [ht, ma_o (by decide), ma_o (by decide), ma_s, ma_o (by decide), ma_o (by decide)]
      have g37 : ∀ x, t'.2 37 x = if x = 2400 * w + (c + i) then m.2 37 P else t.2 37 x := fun x => by rw [ht, ma_o (by decide), ma_s, ma_o (by decide), ma_o (by decide), ma_o (by decide)]
      have hold : ∀ j, j ≠ c + i → ndP t' w j = ndP t w j := fun j hj => by
        unfold ndP
        rw [g34, g35, g36, g37, if_neg (by omega), if_neg (by omega), if_neg (by omega), if_neg (by omega)]
      have hnew : ndP t' w (c + i) = w8n (ndP m v (s + i)) := by
        unfold ndP w8n
        rw [g34, g35, g36, g37, if_pos rfl, if_pos rfl, if_pos rfl, if_pos rfl, hP]
      have hp : mpl w KN m t' := by
        rw [ht]
        refine mpl_ma (mpl_ma (mpl_ma (mpl_ma (mpl_ma h1 (by decide) ?_ ?_) (by decide) ?_ ?_) (by decide) ?_ ?_) (by decide) ?_ ?_) (by decide) ?_ ?_
        · show 2400 * w ≤ _; omega
        · show _ < 2400 * w + 2400; omega
        · show 2400 * w ≤ _; omega
        · show _ < 2400 * w + 2400; omega
        · show 2400 * w ≤ _; omega
        · show _ < 2400 * w + 2400; omega
        · show 2400 * w ≤ _; omega
        · show _ < 2400 * w + 2400; omega
        · show 1 * w ≤ _; omega
        · show _ < 1 * w + 1; omega
      have e33 : t'.2 33 w = ((c + (i + 1) : Nat) : Int) := by rw [ht, ma_s, if_pos rfl]; omega
      have := ih g (i + 1) t' (by omega) (by omega) hp e33 (fun j hj => by rw [hold j (by omega)]; exact h3 j hj) (fun j hj => ?_)
      · rw [show ((s + i : Nat) : Int) + 1 = ((s + (i + 1) : Nat) : Int) by omega]; exact this
      · by_cases z : j = i
        · rw [z]; exact hnew
        · rw [hold _ (by omega)]; exact h4 j (by omega)
  obtain ⟨m', e1, e2⟩ := key (e - s) NN 0 m (by omega) (NN_gt (by omega)) mpl_rf (by rw [hc]; rfl) (fun _ _ => rfl) (fun j hj => by omega)
  refine ⟨m', ?_, e2⟩
  unfold m5_copyNodes
  rw [bind_id7]
  exact e1
/-- the nodes from i to j at the place w -/
def sgP (m : Mu) (w i j : Nat) : List Nd := (List.range (j - i)).map fun k => ndP m w (i + k)
theorem sgP_seg {m : Mu} {w i j : Nat} (hj : j ≤ 2400) : sgP m w i j = seg (slc m w) (i : Int) (j : Int) := by
  unfold sgP seg
  show _ = (List.range (((j : Nat) : Int).toNat - ((i : Nat) : Int).toNat)).map _
  rw [show ((j : Nat) : Int).toNat - ((i : Nat) : Int).toNat = j - i by omega]
  refine List.map_congr_left (fun k hk => ?_)
  have hk := List.mem_range.mp hk
  show ndP m w (i + k) = nd (slc m w) (((i : Nat) : Int).toNat + k)
  rw [show ((i : Nat) : Int).toNat + k = i + k by omega]
  unfold nd ndP slc
  rw [if_pos (show i + k < wid 34 by show i + k < 2400; omega), if_pos (show i + k < wid 35 by show i + k < 2400; omega), if_pos (show i + k < wid 36 by show i + k < 2400; omega), if_pos (show i + k < wid 37 by show i + k < 2400; omega)]
  rfl
/-- nodes have come behind the others of the place w -/
def APN (w : Nat) (m m' : Mu) (c : Nat) (ns : List Nd) : Prop := mpl w KN m m' ∧ m'.2 33 w = ((c + ns.length : Nat) : Int) ∧ (∀ j, j < c → ndP m' w j = ndP m w j) ∧ sgP m' w c (c + ns.length) = ns
theorem ap_copy {m : Mu} {w v s e c : Nat} (hw : w ≤ 13) (hv : v ≤ 13) (hvw : v ≠ w) (hse : s ≤ e) (he : e ≤ 2400) (hc : m.2 33 w = (c : Int)) (hce : c + (e - s) ≤ 2400) : ∃ m', m5_copyNodes w v s e m = some m' ∧ APN w m m' c ((sgP m v s e).map w8n) := by
  obtain ⟨m', a1, a2, a3, a4, a5⟩ := m_copyN hw hv hvw hse he hc hce
  have hl : ((sgP m v s e).map w8n).length = e - s := by unfold sgP; simp
  refine ⟨m', a1, a2, by rw [hl]; exact a3, a4, ?_⟩
  rw [hl]
  unfold sgP
  rw [List.map_map, show c + (e - s) - c = e - s by omega]
  refine List.map_congr_left (fun k hk => ?_)
  exact a5 k (List.mem_range.mp hk)
theorem ap_take {m : Mu} {w s e c : Nat} (hw : w ≤ 13) (hse : s ≤ e) (he : e ≤ 4100) (hc : m.2 33 w = (c : Int)) (hce : c + (e - s) ≤ 2400) : ∃ m', m5_takeNodes w s e m = some m' ∧ APN w m m' c ((sgNw m (s : Int) (e : Int)).map w8n) := by
  obtain ⟨m', a1, a2, a3, a4, a5⟩ := m_takeN hw hse he hc hce
  have hl : ((sgNw m (s : Int) (e : Int)).map w8n).length = e - s := by unfold sgNw; simp
  refine ⟨m', a1, a2, by rw [hl]; exact a3, a4, ?_⟩
  rw [hl]
  unfold sgP sgNw
  rw [List.map_map, show c + (e - s) - c = e - s by omega, show ((e : Nat) : Int).toNat - ((s : Nat) : Int).toNat = e - s by omega]
  refine List.map_congr_left (fun k hk => ?_)
  have := a5 k (List.mem_range.mp hk)
  show ndP m' w (c + k) = w8n (ndN m (((s : Nat) : Int).toNat + k))
  rw [this, show ((s : Nat) : Int).toNat + k = s + k by omega]
/-- a segment stays when nodes come behind -/
theorem sgP_k {w c i j : Nat} {m m' : Mu} (h : ∀ k, k < c → ndP m' w k = ndP m w k) (hj : j ≤ c) : sgP m' w i j = sgP m w i j := by
  unfold sgP
  refine List.map_congr_left (fun k hk => ?_)
  have := List.mem_range.mp hk
  exact h _ (by omega)
