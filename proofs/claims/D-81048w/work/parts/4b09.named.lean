/-! THE READER: a name in a condition -/
theorem te_ok {α β : Type} {x : α} {u : Sg} {F : (Nat ⊕ α) × Sg → Nat → Option (β × Nat × Nat)} {K : (Nat ⊕ α) × Sg → α → Option (β × Nat × Nat)} : (bdU (some (((.inr x : Nat ⊕ α), u), 0, 0)) fun q => tel q.1 (F q) fun y => K q y) = K (.inr x, u) x := bdU_z
theorem te_okc {α β : Type} {x : α} {u : Sg} {c n : Nat} {F : (Nat ⊕ α) × Sg → Nat → Option (β × Nat × Nat)} {K : (Nat ⊕ α) × Sg → α → Option (β × Nat × Nat)} : (bdU (some (((.inr x : Nat ⊕ α), u), c, n)) fun q => tel q.1 (F q) fun y => K q y) = (K (.inr x, u) x).map fun r => (r.1, r.2.1 + c, r.2.2 + n) := rfl
/-- cells of a condition: new since N0; no Is on a fact of numbers -/
def FN (N0 : Nat) (W : Wv) (u : Sg) (q : Nat) : Prop := N0 ≤ q ∧ q < zN u ∧ (zT u q = 14 → (zI u q 520).toNat < nF W ∧ W 14 (zI u q 520).toNat ≠ 2)
theorem FN_k {N0 : Nat} {W : Wv} {r : Nat} {t t' : Sg} (hr : r < N0) (k : fr7 r t t') : ∀ q, FN N0 W t q → FN N0 W t' q ∧ sam t t' q := fun q h => by
  have s := k.2.1 q h.2.1 (by have := h.1; omega)
  exact ⟨⟨h.1, by have := k.1.1; have := h.2.1; omega, by rw [s.1, s.2.2.1]; exact h.2.2⟩, s⟩
theorem FN_dn {N0 N1 : Nat} {W : Wv} {u : Sg} (h : N0 ≤ N1) : ∀ q, FN N1 W u q → FN N0 W u q := fun q k => ⟨Nat.le_trans h k.1, k.2⟩
theorem CA_mono {F F' : Nat → Prop} {G : CG} {u : Sg} (h : ∀ a, F a → F' a) {d c : Nat} {ns : List Nd} (k : CA F G u d c ns) : CA F' G u d c ns := CA_sam (fun a ha => ⟨h a ha, sam_rf⟩) gro_rf d c ns k
/-- a node is made -/
def emN (m : Mu) (q : Nd) : Mu := ms (ma (ma (ma (ma m 43 (m.1 46).toNat q.2.1) 44 (m.1 46).toNat q.2.2.1) 45 (m.1 46).toNat q.2.2.2) 42 (m.1 46).toNat q.1) 46 (m.1 46 + 1)
theorem emN_fr {m : Mu} {q : Nd} : mfr [46] [42, 43, 44, 45] m (emN m q) := mfr_ms (mfr_ma (mfr_ma (mfr_ma (mfr_ma mfr_rf (by simp)) (by simp)) (by simp)) (by simp)) (by simp)
theorem emN_46 {m : Mu} {q : Nd} : (emN m q).1 46 = m.1 46 + 1 := by unfold emN; rw [ms_1, if_pos rfl]
theorem emN_nd {m : Mu} {q : Nd} (i : Nat) : ndN (emN m q) i = if i = (m.1 46).toNat then q else ndN m i := by
  unfold emN ndN
  rw [ms_2, ma_s, ma_o (show 43 ≠ 42 by decide), ma_o (show 43 ≠ 45 by decide), ma_o (show 43 ≠ 44 by decide), ma_s, ma_o (show 44 ≠ 42 by decide), ma_o (show 44 ≠ 45 by decide), ma_s, ma_o (show 45 ≠ 42 by decide), ma_s, ma_o (show 42 ≠ 45 by decide), ma_o (show 42 ≠ 44 by decide), ma_o (show 42 ≠ 43 by decide), ma_o (show 44 ≠ 43 by decide), ma_o (show 45 ≠ 44 by decide), ma_o (show 45 ≠ 43 by decide)]
  split <;> rfl
/-- a yes fact, a meaning -/
theorem m_yes {m : Mu} {v1 v2 : Int} (h46 : 0 ≤ m.1 46 ∧ m.1 46 ≤ 4090) (h1 : v1 = -1 ∨ (0 ≤ v1 ∧ v1 < 8)) (h2 : v2 = -1 ∨ (0 ≤ v2 ∧ v2 < 12)) (ho : 0 ≤ v1 ∨ 0 ≤ v2) : m5_part_b100 v1 v2 0 0 m = some (emN m (if 0 ≤ v1 then (0, v1, 0, 1) else (1, v2, 0, 1))) := by
  unfold m5_part_b100 m5_part_b134 m5_part_b166
  rw [if_pos (by decide), if_pos (by decide)]
  have i1 : ((m.1 46).toNat : Int) = m.1 46 := by omega
  have key : ∀ (v T : Int), (0 ≤ v ∧ v < 100) → (0 ≤ T ∧ T ≤ 4) → ((mast m 43 4100 (m.1 46) (w8 (w8 v))).bind fun u1 => (mast u1 44 4100 (u1.1 46) (w8 0)).bind fun u2 => (mast u2 45 4100 (u2.1 46) 1).bind fun u3 => (m5_emit T u3).bind fun u1 => some u1) = some (emN m (T, v, 0, 1)) := fun v T hv hT => by
    rw [w8_id (x := v) (by omega) (by omega), w8_id (x := v) (by omega) (by omega), mast_e (m.1 46).toNat i1.symm (by omega) (by omega), Option.bind_some, ma_1, mast_e (m.1 46).toNat i1.symm (by omega) (by omega), Option.bind_some, ma_1, ma_1, mast_e (m.1 46).toNat i1.symm (by omega) (by omega), Option.bind_some, m_emit (m := ma (ma (ma m 43 (m.1 46).toNat v) 44 (m.1 46).toNat (w8 0)) 45 (m.1 46).toNat 1) (by omega) h46.1 (by show m.1 46 < 4100; omega), Option.bind_some]
    rfl
  rcases h1 with rfl | h1
  · rw [if_neg (by decide), if_neg (by decide)]
    simp only [if_neg (show ¬ (0 ≤ w32 (-1)) by decide)]
    exact key v2 1 (by omega) (by decide)
  · rw [w32_id (x := v1) (by omega) (by omega)]
    simp only [if_pos h1.1]
    exact key v1 0 (by omega) (by decide)
theorem c_number {G : CG} {L : Ly} {t : Sg} {m : Mu} {r : Nat} (h : R7 G L t m r) {lo hi : Int} (hl : 0 ≤ lo ∧ lo ≤ 1000000000) (hh : 0 ≤ hi ∧ hi ≤ 999999999) : (m.1 4 ≠ 2 ∧ ∃ e t', f7_number G (some r) lo hi t = some ((.inl e, t'), 1, 8) ∧ TH7 r t (m.1 5) e t' 1 8 2 (m.1 5)) ∨ (m.1 4 = 2 ∧ (m.1 7 < lo ∨ hi < m.1 7) ∧ ∃ e t', f7_number G (some r) lo hi t = some ((.inl e, t'), 1, 8) ∧ TH7 r t (m.1 5) e t' 1 8 5 (m.1 5)) ∨ (m.1 4 = 2 ∧ lo ≤ m.1 7 ∧ m.1 7 ≤ hi ∧ (∀ t', f7_next G (some r) t = some ((.inr (), t'), 0, 0) → f7_number G (some r) lo hi t = some ((.inr (m.1 7), t'), 0, 0)) ∧ ∀ e t', zT t' e = 9 → f7_next G (some r) t = some ((.inl e, t'), 1, 8) → f7_number G (some r) lo hi t = some ((.inl e, t'), 1, 8)) := by
  unfold f7_number
  rw [ztg_e h.1.1.1, Option.bind_some]
  rcases want_kind h (K := 2) (by decide) with ⟨k4, ek⟩ | ⟨k4, e, t', ek, hth⟩
  · right
    have g7 : zI t r 284 = m.1 7 ∧ 0 ≤ m.1 7 ∧ m.1 7 ≤ 999999999 := by
      rcases h.2.2.1.2.2.2.2.2 with z | ⟨-, z | z | z | z⟩
      · exact absurd z.2.1 (by omega)
      · exact absurd z.2.1 (by omega)
      · exact ⟨z.2.2.1, z.2.2.2⟩
      · exact absurd z.2.1 (by omega)
      · exact absurd z.2.1 (by omega)
    have w7 : w32 (m.1 7) = m.1 7 := w32_id (by omega) (by omega)
    rw [ek, te_ok]
    dsimp only
    rw [gfI_v h.1.1.1 g7.1, Option.bind_some, w7, w32_id (x := lo) (by omega) (by omega)]
    have thr5 : ∃ e t', f7_number_b21 G (some r) t = some ((.inl e, t'), 1, 8) ∧ TH7 r t (m.1 5) e t' 1 8 5 (m.1 5) := by
      obtain ⟨t', e, hth⟩ := c_throw (α := Int) h 5
      exact ⟨_, t', e, hth⟩
    by_cases z : m.1 7 < lo
    · rw [if_pos z]; exact Or.inl ⟨k4, Or.inl z, thr5⟩
    · rw [if_neg z, Option.bind_some, w7, w32_id (x := hi) (by omega) (by omega)]
      by_cases z2 : m.1 7 ≤ hi
      · right
        rw [if_pos z2, Option.bind_some, ztg_e h.1.1.1, Option.bind_some]
        refine ⟨k4, by omega, z2, fun t' e => ?_, fun e t' hT en => ?_⟩
        · rw [e, te_ok]
        · rw [en, xt_tel hT]
      · left; rw [if_neg z2]; exact ⟨k4, Or.inr (by omega), thr5⟩
  · left
    refine ⟨k4, e, t', ?_, hth⟩
    rw [ek, xt_tel hth.1]
/-- a name was read: the twin has one node more -/
def NO1 (G : CG) (L : Ly) (r : Nat) (W : Wv) (d : Int) (t : Sg) (m : Mu) (c : Nat) (t' : Sg) (m1 : Mu) : Prop := R7 G L t' m1 r ∧ fr7 r t t' ∧ zI t' r 287 = zI t r 287 ∧ mfr [3, 4, 5, 6, 7, 46, 52] [42, 43, 44, 45] m m1 ∧ m1.1 46 = m.1 46 + 1 ∧ (∀ i, i ≠ (m.1 46).toNat → ndN m1 i = ndN m i) ∧ CA (FN (zN t) W t') G t' 1 c [ndN m1 (m.1 46).toNat] ∧ okN (nF W) (nM W) (ndN m1 (m.1 46).toNat) ∧ m1.1 52 = m.1 52 + d ∧ m1.1 52 ≤ m1.1 5 ∧ m.1 5 < m1.1 5
/-- the twin stands at a bad token -/
def BDT (m m1 : Mu) (P : Int) : Prop := m1.1 8 = 0 ∧ m1.1 4 = 5 ∧ m1.1 5 = P ∧ mfr [3, 4, 5, 6, 7, 46, 52] [42, 43, 44, 45] m m1 ∧ m.1 46 ≤ m1.1 46 ∧ m1.1 46 ≤ m.1 46 + 1
/-- the class goes on with the sign of a test at hand, behind md -/
def DM (G : CG) (L : Ly) (r : Nat) (t : Sg) (c : Nat) (t' : Sg) (md : Mu) : Prop := R7 G L t' md r ∧ tst md ∧ fr7 r t t' ∧ zI t' r 287 = zI t r 287 ∧ zT t' c ∈ OT ∧ c < zN t'
theorem TH7_tr {r : Nat} {t t1 t' : Sg} {w w1 K P : Int} {e c n c1 n1 : Nat} (h : fr7 r t t1) (hw : w ≤ w1) (k : TH7 r t1 w1 e t' c n K P) (hc : (c1 : Int) ≤ c + 20 * (w1 - w)) (hn : (n1 : Int) ≤ n + 600 * (w1 - w)) : TH7 r t w e t' c1 n1 K P := by
  obtain ⟨q1, q2, q3, q4, q5, q6, q7, q8⟩ := k
  exact ⟨q1, q2, q3, q4, fr7_tr h q5, by omega, by omega, by omega⟩
theorem is3 {G : CG} {L : Ly} {t : Sg} {m : Mu} {r : Nat} (h : R7 G L t m r) : ∀ {α : Type} (x y : α), (if w32 (m.1 4) = 3 then (if 5 < w32 (m.1 7) then x else y) else x) = if tst m then y else x := by
  intro α x y
  obtain ⟨k1, k2⟩ := tk_w h.2.2.1
  rw [k1.2.2.1]
  by_cases z : m.1 4 = 3
  · rw [if_pos z, (k2 (by omega)).1]
    by_cases q : 5 < m.1 7
    · rw [if_pos q, if_neg (fun z => by have := z.2; omega)]
    · rw [if_neg q, if_pos ⟨z, by omega⟩]
  · rw [if_neg z, if_neg (fun q => z q.1)]
