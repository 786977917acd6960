/-! THE TWIN: nodes under way come to a wording -/
/-- a node, its first three as bytes -/
def w8n (q : Nd) : Nd := (w8 q.1, w8 q.2.1, w8 q.2.2.1, q.2.2.2)
/-- node i of the place w -/
def ndP (m : Mu) (w i : Nat) : Nd := (m.2 34 (2400 * w + i), m.2 35 (2400 * w + i), m.2 36 (2400 * w + i), m.2 37 (2400 * w + i))
def KN : List Nat := [33, 34, 35, 36, 37]
theorem m_takeN {m : Mu} {w s e c : Nat} (hw : w ≤ 13) (hse : s ≤ e) (he : e ≤ 4100) (hc : m.2 33 w = (c : Int)) (hce : c + (e - s) ≤ 2400) : ∃ m', m5_takeNodes w s e m = some m' ∧ mpl w KN m m' ∧ m'.2 33 w = ((c + (e - s) : Nat) : Int) ∧ (∀ j, j < c → ndP m' w j = ndP m w j) ∧ ∀ j, j < e - s → ndP m' w (c + j) = w8n (ndN m (s + j)) := by
  have key : ∀ (d g i : Nat) (t : Mu), i + d = e - s → d < g → mpl w KN m t → t.2 33 w = ((c + i : Nat) : Int) → (∀ j, j < c → ndP t w j = ndP m w j) → (∀ j, j < i → ndP t w (c + j) = w8n (ndN m (s + j))) → ∃ m', m5_takeNodes_l3 w e g ((s + i : Nat) : Int) t = some m' ∧ mpl w KN m m' ∧ m'.2 33 w = ((c + (e - s) : Nat) : Int) ∧ (∀ j, j < c → ndP m' w j = ndP m w j) ∧ ∀ j, j < e - s → ndP m' w (c + j) = w8n (ndN m (s + j)) := by
    intro d
    induction d with
    | zero =>
      intro g i t hi hg h1 h2 h3 h4
      obtain ⟨g, rfl⟩ : ∃ x, g = x + 1 := ⟨g - 1, by omega⟩
      refine ⟨t, ?_, h1, by rw [h2, show i = e - s by omega], h3, fun j hj => h4 j (by omega)⟩
      unfold m5_takeNodes_l3
      rw [w32_n (by omega), w32_n (by omega), if_pos (by omega)]
    | succ d ih =>
      intro g i t hi hg h1 h2 h3 h4
      obtain ⟨g, rfl⟩ : ∃ x, g = x + 1 := ⟨g - 1, by omega⟩
      have r : ∀ k, k = 42 ∨ k = 43 ∨ k = 44 ∨ k = 45 → t.2 k = m.2 k := fun k hk => h1.2.1 k (by simp only [KN, List.mem_cons, List.not_mem_nil, or_false]; omega)
      have z1 : w8 (t.2 42 (s + i)) = w8 (m.2 42 (s + i)) := by rw [r 42 (by omega)]
      have z2 : w8 (t.2 43 (s + i)) = w8 (m.2 43 (s + i)) := by rw [r 43 (by omega)]
      have z3 : w8 (t.2 44 (s + i)) = w8 (m.2 44 (s + i)) := by rw [r 44 (by omega)]
      have z4 : t.2 45 (s + i) = m.2 45 (s + i) := by rw [r 45 (by omega)]
      unfold m5_takeNodes_l3
      rw [w32_n (by omega), w32_n (by omega), if_neg (by omega), mald_e w rfl (by omega) (by omega), Option.bind_some, h2, mald_e (s + i) rfl (by omega) (by omega), Option.bind_some, z1, mast_e (2400 * w + (c + i)) (by omega) (by omega) (by omega), Option.bind_some, mald_e (s + i) rfl (by omega) (by omega), ma_o (by decide), Option.bind_some, z2, mast_e (2400 * w + (c + i)) (by omega) (by omega) (by omega), Option.bind_some, mald_e (s + i) rfl (by omega) (by omega), ma_o (by decide), ma_o (by decide), Option.bind_some, z3, mast_e (2400 * w + (c + i)) (by omega) (by omega) (by omega), Option.bind_some, mald_e (s + i) rfl (by omega) (by omega), ma_o (by decide), ma_o (by decide), ma_o (by decide), Option.bind_some, z4, mast_e (2400 * w + (c + i)) (by omega) (by omega) (by omega), Option.bind_some, mald_e w rfl (by omega) (by omega), ma_o (by decide), ma_o (by decide), ma_o (by decide), ma_o (by decide), Option.bind_some, h2, mast_e w rfl (by omega) (by omega), Option.bind_some]
      obtain ⟨t', ht⟩ : ∃ t', t' = ma (ma (ma (ma (ma t 34 (2400 * w + (c + i)) (w8 (m.2 42 (s + i)))) 35 (2400 * w + (c + i)) (w8 (m.2 43 (s + i)))) 36 (2400 * w + (c + i)) (w8 (m.2 44 (s + i)))) 37 (2400 * w + (c + i)) (m.2 45 (s + i))) 33 w (((c + i : Nat) : Int) + 1) := ⟨_, rfl⟩
      rw [← ht]
      have g34 : ∀ x, t'.2 34 x = if x = 2400 * w + (c + i) then w8 (m.2 42 (s + i)) else t.2 34 x := fun x => by rw [ht, ma_o (by decide), ma_o (by decide), ma_o (by decide), ma_o (by decide), ma_s]
      have g35 : ∀ x, t'.2 35 x = if x = 2400 * w + (c + i) then w8 (m.2 43 (s + i)) else t.2 35 x := fun x => by rw [ht, ma_o (by decide), ma_o (by decide), ma_o (by decide), ma_s, ma_o (by decide)]
      have g36 : ∀ x, t'.2 36 x = if x = 2400 * w + (c + i) then w8 (m.2 44 (s + i)) else t.2 36 x := fun x => by rw [ht, ma_o (by decide), ma_o (by decide), ma_s, ma_o (by decide), ma_o (by decide)]
      have g37 : ∀ x, t'.2 37 x = if x = 2400 * w + (c + i) then m.2 45 (s + i) else t.2 37 x := fun x => by rw [ht, ma_o (by decide), ma_s, ma_o (by decide), ma_o (by decide), ma_o (by decide)]
      have hold : ∀ j, j ≠ c + i → ndP t' w j = ndP t w j := fun j hj => by
        unfold ndP
        rw [g34, g35, g36, g37, if_neg (by omega), if_neg (by omega), if_neg (by omega), if_neg (by omega)]
      have hnew : ndP t' w (c + i) = w8n (ndN m (s + i)) := by
        unfold ndP ndN w8n
        rw [g34, g35, g36, g37, if_pos rfl, if_pos rfl, if_pos rfl, if_pos rfl]
      have hp : mpl w KN m t' := by
        rw [ht]
        refine mpl_ma (mpl_ma (mpl_ma (mpl_ma (mpl_ma h1 (by decide) ?_ ?_) (by decide) ?_ ?_) (by decide) ?_ ?_) (by decide) ?_ ?_) (by decide) ?_ ?_
        · show 2400 * w ≤ _; omega
        · show _ < 2400 * w + 2400; omega
        · show 2400 * w ≤ _; omega
        · show _ < 2400 * w + 2400; omega
        · show 2400 * w ≤ _; omega
        · show _ < 2400 * w + 2400; omega
        · show 2400 * w ≤ _; omega
        · show _ < 2400 * w + 2400; omega
        · show 1 * w ≤ _; omega
        · show _ < 1 * w + 1; omega
      have e33 : t'.2 33 w = ((c + (i + 1) : Nat) : Int) := by rw [ht, ma_s, if_pos rfl]; omega
      have := ih g (i + 1) t' (by omega) (by omega) hp e33 (fun j hj => by rw [hold j (by omega)]; exact h3 j hj) (fun j hj => ?_)
      · rw [show ((s + i : Nat) : Int) + 1 = ((s + (i + 1) : Nat) : Int) by omega]; exact this
      · by_cases z : j = i
        · rw [z]; exact hnew
        · rw [hold _ (by omega)]; exact h4 j (by omega)
  obtain ⟨m', e1, e2⟩ := key (e - s) NN 0 m (by omega) (NN_gt (by omega)) mpl_rf (by rw [hc]; rfl) (fun _ _ => rfl) (fun j hj => by omega)
  refine ⟨m', ?_, e2⟩
  unfold m5_takeNodes
  rw [bind_id7]
  exact e1
