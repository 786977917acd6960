/-! THE READER: the choices of a fact -/
theorem wN_any {lo hi : Int} {m m2 : Mu} {K P : Int} (hK : 1 ≤ K ∧ K ≤ 6) (h : MFI m m2 K P) : ∃ m', m5_wantsNumber lo hi m2 = some (lo, m') ∧ MFI m m' K P := by
  obtain ⟨h1 | ⟨rfl, h2, h3, h4⟩, h5⟩ := h
  · exact ⟨m2, wN_f (by rw [h1.1]; exact hK), Or.inl h1, h5⟩
  · obtain ⟨m', e, hm⟩ := wN_b h2 h3
    rw [h4] at hm
    exact ⟨m', e, Or.inl ⟨hm.1, hm.2.1⟩, MI_tr h5 (MI_7 hm.2.2)⟩
theorem wW_any {v : Int} {m m2 : Mu} {K P : Int} (hv : 0 ≤ v ∧ v < 100) (hK : 1 ≤ K ∧ K ≤ 6) (h : MFI m m2 K P) : ∃ m', m5_wantsWord v m2 = some m' ∧ MFI m m' K P := by
  obtain ⟨h1 | ⟨rfl, h2, h3, h4⟩, h5⟩ := h
  · exact ⟨m2, wW_f (by rw [h1.1]; exact hK), Or.inl h1, h5⟩
  · obtain ⟨m', e, hm⟩ := wW_b hv h2 h3
    rw [h4] at hm
    exact ⟨m', e, Or.inl ⟨hm.1, hm.2.1⟩, MI_tr h5 (MI_7 hm.2.2)⟩
theorem MNw_n {n : Nat} {m1 m m' : Mu} (h : MNw n m1 m) (h5 : m.1 5 ≤ m'.1 5) (h2 : m'.2 = m.2) (hk : ∀ k, (k < 3 ∨ 7 < k) → m'.1 k = m.1 k) : MNw n m1 m' := by
  obtain ⟨k1, k2, k3, k4, k5, k6⟩ := h
  exact ⟨fun k q => (hk k q).trans (k1 k q), by omega, by rw [h2]; exact k3, by rw [h2]; exact k4, by rw [h2]; exact k5, by rw [h2]; exact k6⟩
theorem MNw_a {n k : Nat} {m1 m : Mu} {v : Int} (h : MNw n m1 m) (hk : 13 ≤ k ∧ k ≤ 18 ∧ k ≠ 16) : MNw n m1 (ma m k n v) := by
  obtain ⟨k1, k2, k3, k4, k5, k6⟩ := h
  refine ⟨k1, k2, fun j hj => by rw [ma_o (by omega)]; exact k3 j hj, fun j i h1 h2 hi => ?_, fun i hi => by rw [ma_o (by omega)]; exact k5 i hi, by rw [ma_o (by omega)]; exact k6⟩
  rw [ma_2]
  by_cases z : j = k
  · rw [if_pos z, up_o hi, ← z]; exact k4 j i h1 h2 hi
  · rw [if_neg z]; exact k4 j i h1 h2 hi
theorem MNw_c {n k : Nat} {m1 m : Mu} {v : Int} (h : MNw n m1 m) : MNw n m1 (ma m 16 (6 * n + k) v) := by
  obtain ⟨k1, k2, k3, k4, k5, k6⟩ := h
  refine ⟨k1, k2, fun j hj => by rw [ma_o (by omega)]; exact k3 j hj, fun j i h1 h2 hi => by rw [ma_o h2]; exact k4 j i h1 h2 hi, fun i hi => by rw [ma_s, if_neg (by omega)]; exact k5 i hi, by rw [ma_o (by omega)]; exact k6⟩
/-- choices under way: k of them -/
def CI (G : CG) (L : Ly) (r N0 n b c : Nat) (x y : Int) (t1 : Sg) (m1 : Mu) (t : Sg) (m : Mu) (k : Nat) : Prop := (R7 G L t m r ∧ m.1 52 ≤ m.1 5 ∧ fr7 r t1 t ∧ zI t r 287 = 0) ∧ MNw n m1 m ∧ MI m1 m ∧ FNw t (zN t1) b c x 1 k 0 (if k = 0 then 0 else (k : Int) - 1) ∧ (m.2 14 n = 1 ∧ m.2 15 n = (k : Int) ∧ m.2 13 n = y) ∧ k ≤ 6 ∧ ∀ j, j < k → NM (zA t c j) (m.2 16 (6 * n + j))
theorem CI_n {G : CG} {L : Ly} {r N0 n b c k : Nat} {x y : Int} {t1 t t' : Sg} {m1 m m' : Mu} (h : CI G L r N0 n b c x y t1 m1 t m k) (hr : r < zN t1) (q : NX7 G L r t m t' m') : CI G L r N0 n b c x y t1 m1 t' m' k := by
  obtain ⟨⟨h1, h2, h3, h4⟩, h5, h6, h7, h8, h9, h10⟩ := h
  obtain ⟨g1, g2, g3, g4, g5, g6, g7, g8⟩ := q
  obtain ⟨f1, f2⟩ := FNw_k h7 g3 hr
  refine ⟨⟨g1, g2, fr7_tr h3 g3, by rw [g5 287 (by omega)]; exact h4⟩, MNw_n h5 (by omega) g7 g8, MI_tr h6 (MI_7 ⟨fun k hk => g8 k (by simp only [CS7, List.mem_cons, List.not_mem_nil, or_false] at hk; omega), fun k _ => by rw [g7]⟩), f1, by rw [g7]; exact h8, h9, fun j hj => ?_⟩
  rw [f2.2.2.2.2.1, g7]; exact h10 j hj
/-- one choice more -/
theorem CI_a {G : CG} {L : Ly} {r N0 n b c k : Nat} {x y nm : Int} {t1 t : Sg} {m1 m : Mu} (h : CI G L r N0 n b c x y t1 m1 t m k) (hr : r < zN t1) (hL : L.1 3 < zN t1 ∧ L.1 100 < zN t1 ∧ L.1 101 < zN t1) (hn : n < 8) (hk : k < 6) (hx : NM nm (m.1 6)) : CI G L r N0 n b c x y t1 m1 (zsI (zsA (zsI t b 363 ((k : Int) + 1)) c k nm) b 365 ((k : Int) + 1 - 1)) (ma (ma m 16 (6 * n + k) (m.1 6)) 15 n ((k : Int) + 1)) (k + 1) := by
  obtain ⟨⟨h1, h2, h3, h4⟩, h5, h6, h7, h8, h9, h10⟩ := h
  obtain ⟨⟨q1, q2, q3, q4, q5⟩, a1, a2, a3, a4, a5, a6, a7, a8, a9⟩ := h7
  obtain ⟨t3, ht3⟩ : ∃ t3, t3 = zsI (zsA (zsI t b 363 ((k : Int) + 1)) c k nm) b 365 ((k : Int) + 1 - 1) := ⟨_, rfl⟩
  rw [← ht3]
  have ss : ∀ q, q ≠ b → q ≠ c → sam t t3 q := fun q h1 h2 => by
    rw [ht3]
    refine ⟨rfl, rfl, ?_, rfl, ?_, rfl⟩
    · funext j; rw [zsI_I, if_neg (fun e => h1 e.1)]; show zI (zsI t b 363 ((k : Int) + 1)) q j = _; rw [zsI_I, if_neg (fun e => h1 e.1)]
    · funext j; show zA (zsA (zsI t b 363 ((k : Int) + 1)) c k nm) q j = _; rw [zsA_A, if_neg (fun e => h2 e.1)]; rfl
  have gg : gro t t3 := by rw [ht3]; exact ⟨Nat.le_refl _, fun _ _ => ⟨rfl, rfl⟩⟩
  have ib : ∀ j, zI t3 b j = if j = 365 then (k : Int) + 1 - 1 else if j = 363 then (k : Int) + 1 else zI t b j := fun j => by
    rw [ht3, zsI_I]
    by_cases z : j = 365
    · rw [if_pos ⟨rfl, z⟩, if_pos z]
    · rw [if_neg (fun e => z e.2), if_neg z]
      show zI (zsI t b 363 ((k : Int) + 1)) b j = _
      rw [zsI_I]
      by_cases z2 : j = 363
      · rw [if_pos ⟨rfl, z2⟩, if_pos z2]
      · rw [if_neg (fun e => z2 e.2), if_neg z2]
  have ac : ∀ j, zA t3 c j = if j = k then nm else zA t c j := fun j => by
    rw [ht3]
    show zA (zsA (zsI t b 363 ((k : Int) + 1)) c k nm) c j = _
    rw [zsA_A]
    by_cases z : j = k
    · rw [if_pos ⟨rfl, z⟩, if_pos z]
    · rw [if_neg (fun e => z e.2), if_neg z]; rfl
  have sr := ss r (by omega) (by omega)
  have fr : fr7 r t1 t3 := fr7_add h3 hr (fun q hq => ss q (by omega) (by omega)) gg
  have R3 : R7 G L t3 m r := by
    refine R7_z h1 (fun q hq => ?_) gg
    rcases hq with rfl | rfl | rfl | rfl
    · exact sr
    · exact ss _ (by omega) (by omega)
    · exact ss _ (by omega) (by omega)
    · exact ss _ (by omega) (by omega)
  have sc : ∀ k', k' ≠ 15 → k' ≠ 16 → (ma (ma m 16 (6 * n + k) (m.1 6)) 15 n ((k : Int) + 1)).2 k' = m.2 k' := fun k' e1 e2 => by rw [ma_o e1, ma_o e2]
  refine ⟨⟨R7_a R3 rfl (sc 0 (by decide) (by decide)) (sc 1 (by decide) (by decide)), h2, fr, by rw [sr.2.2.1]; exact h4⟩, MNw_a (MNw_c h5) (by omega), MI_tr h6 (MI_tr (MI_ma (by decide) (Or.inr (by show 6 * n + k < 48; omega))) (MI_ma (by decide) (Or.inr (by show n < 8; omega)))), ⟨⟨q1, Nat.lt_of_lt_of_le q2 gg.1, q3, Nat.lt_of_lt_of_le q4 gg.1, q5⟩, by rw [ht3]; exact a1, ?_, ?_, ?_, ?_, ?_, by rw [ht3]; exact a7, by rw [ht3]; exact a8, by rw [ht3]; exact a9⟩, ⟨by rw [sc 14 (by decide) (by decide)]; exact h8.1, by rw [ma_s, if_pos rfl]; omega, by rw [sc 13 (by decide) (by decide)]; exact h8.2.2⟩, by omega, fun j hj => ?_⟩
  · rw [ib, if_neg (by decide), if_neg (by decide)]; exact a2
  · rw [ib, if_neg (by decide), if_neg (by decide)]; exact a3
  · rw [ib, if_neg (by decide), if_pos rfl]; omega
  · rw [ib, if_neg (by decide), if_neg (by decide)]; exact a5
  · rw [ib, if_pos rfl, if_neg (by omega)]; omega
  · rw [ac, ma_o (by decide), ma_s]
    by_cases z : j = k
    · rw [if_pos z, if_pos (by omega)]; exact hx
    · rw [if_neg z, if_neg (by omega)]; exact h10 j (by omega)
