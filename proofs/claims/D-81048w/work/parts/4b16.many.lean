/-! THE READER: ands and ors: the twin's step; what add keeps -/
theorem R7_y {G : CG} {L : Ly} {u u2 : Sg} {m : Mu} {r N0 : Nat} (h : R7 G L u m r) (hs : ∀ q, q < N0 → sam u u2 q) (hg : gro u u2) (h0 : r < N0 ∧ L.1 3 < N0 ∧ L.1 100 < N0 ∧ L.1 101 < N0) : R7 G L u2 m r := by
  obtain ⟨h1, h2, h3, h4, h5, h6⟩ := h
  obtain ⟨⟨a1, a2, a3, a4⟩, ⟨b1, b2, b3, b4, b5, b6, b7, b8⟩, ⟨c1, c2, c3, c4⟩⟩ := h1
  have sr := hs r h0.1
  have s3 := hs _ h0.2.1
  have s0 := hs _ h0.2.2.1
  have s1 := hs _ h0.2.2.2
  have hN := hg.1
  refine ⟨⟨⟨by rw [sr.1]; exact a1, a2, by rw [sr.2.2.2.1]; exact a3, a4⟩, ⟨by rw [s3.1]; exact b1, by rw [s3.2.2.1]; exact b2, b3, b4, by rw [s3.2.2.2.1]; exact b5, by rw [s1.1]; exact b6, by rw [s1.2.1]; exact b7, fun i hi => by rw [s1.2.2.2.2.1]; exact b8 i hi⟩, ⟨by rw [s3.2.2.2.1]; exact c1, by rw [s0.1]; exact c2, by rw [s0.2.1]; exact c3, fun i hi => by rw [s0.2.2.2.2.1]; exact c4 i hi⟩⟩, ⟨by omega, by omega, by omega, by omega, by omega, h2.2.2.2.2.2⟩, by rw [sr.2.2.1]; exact h3, by rw [sr.2.2.1]; exact h4, by rw [sr.2.2.1]; exact h5, h6⟩
theorem fr7_add {r : Nat} {t u u2 : Sg} (h : fr7 r t u) (hr : r < zN t) (hs : ∀ q, q < zN t → sam u u2 q) (hg : gro u u2) : fr7 r t u2 := by
  have sr := hs r hr
  exact ⟨gro_tr h.1 hg, fun a h1 h2 => sam_tr (h.2.1 a h1 h2) (hs a h1), by rw [sr.1]; exact h.2.2.1, by rw [sr.2.2.2.1]; exact h.2.2.2.1, by rw [sr.2.2.1]; exact h.2.2.2.2⟩
def pshO (m : Mu) (v : Int) : Mu := ms (ma m 48 (m.1 49).toNat v) 49 (m.1 49 + 1)
theorem pshO_fr {m : Mu} {v : Int} : mfr [49] [48] m (pshO m v) := mfr_ms (mfr_ma mfr_rf (by simp)) (by simp)
theorem pshO_49 {m : Mu} {v : Int} : (pshO m v).1 49 = m.1 49 + 1 := by unfold pshO; rw [ms_1, if_pos rfl]
theorem pshO_48 {m : Mu} {v : Int} (i : Nat) : (pshO m v).2 48 i = if i = (m.1 49).toNat then v else m.2 48 i := by unfold pshO; rw [ms_2, ma_s]
/-- the operator of a level, its word -/
abbrev opL (lv : Nat) : Int := ((3 + lv : Nat) : Int)
abbrev woL (lv : Nat) : Int := ((22 - lv : Nat) : Int)
/-- at an operator: node, operators off, operator on, next -/
theorem tw_op {G : CG} {L : Ly} {t : Sg} {m m1 : Mu} {r lv : Nat} {pend S : List Int} (h : R7 G L t m r) (hlv : lv ≤ 1) (hw : m.1 4 = 4 ∧ m.1 7 = woL lv) (hc : m5_countNode m = some m1) (hP : PM m1 (pend ++ S)) (hp : okP (lv + 1) pend) (hS : S.head? ≠ some 3 ∧ (lv = 1 → S.head? ≠ some 4)) : ∀ n, m5_cond_l12 (n + 1) 0 m = (m5_next (pshO (popL m1 pend) (opL lv))).bind fun u3 => m5_cond_l12 n 1 u3 := fun n => by
  have hl := hP.2.2.2.2
  have hl0 := hP.2.2.2.1
  rw [List.length_append] at hl
  obtain ⟨eP, z1, z2, z3, z4, z5, z6⟩ := popL_ok pend S m1 hP
  have h49 := z2.1
  have h46 := z2.2.2.2.2
  have b199 : ∀ (v : Int) (kh : Int → Mu → Option (Mu ⊕ Mu ⊕ Mu)), m5_cond_b199 kh ((popL m1 pend).1 49) v (popL m1 pend) = (m5_next (pshO (popL m1 pend) v)).bind fun u3 => kh 1 u3 := fun v kh => by
    unfold m5_cond_b199
    rw [mast_e ((popL m1 pend).1 49).toNat (by omega) (by omega) (by omega), Option.bind_some, ma_1, Option.bind_some]
    rfl
  have hlv2 : lv = 0 ∨ lv = 1 := by omega
  rw [m5_cond_l12.eq_2]
  rw [h.2.2.2.2.2, if_pos (by decide), if_pos (by decide), m_w7 h _ (by decide), Option.bind_some]
  rcases hlv2 with rfl | rfl
  · have hw' : m.1 4 = 4 ∧ m.1 7 = 22 := hw
    rw [decide_eq_true hw', if_neg (by decide)]
    unfold m5_cond_b123 m5_cond_b182
    rw [m_w7 h _ (by decide), Option.bind_some, hc, Option.bind_some, decide_eq_true hw', m_pop134 (b := true) pend S m1 NN hP (fun x hx => Or.inl (hp.2.1 (by omega) x hx)) ⟨hS.1, fun q => by cases q⟩ (NN_gt (by omega)), Option.bind_some, if_neg (by decide), b199]
    rfl
  · have hw' : m.1 4 = 4 ∧ m.1 7 = 21 := hw
    rw [decide_eq_false (by omega), if_pos (by rfl), m_w7 h _ (by decide), Option.bind_some, decide_eq_true hw', if_neg (by decide)]
    unfold m5_cond_b123 m5_cond_b182
    rw [m_w7 h _ (by decide), Option.bind_some, hc, Option.bind_some, decide_eq_false (by omega), m_pop134 (b := false) pend S m1 NN hP (fun x hx => by rcases hp.1 x hx with q | q; exact Or.inl q; exact Or.inr ⟨rfl, q⟩) ⟨hS.1, fun _ => hS.2 rfl⟩ (NN_gt (by omega)), Option.bind_some, if_pos (by rfl), b199]
    rfl
theorem CA_OT {F : Nat → Prop} {G : CG} {u : Sg} {d c : Nat} {ns : List Nd} (h : CA F G u d c ns) : zT u c ∈ OT ∧ F c := by
  cases d with
  | zero => exact absurd h (by simp [CA])
  | succ d =>
    obtain ⟨h1, h2⟩ := h
    refine ⟨?_, h1⟩
    rcases h2 with ⟨q, -⟩ | ⟨q, -⟩ | ⟨q, -⟩ | ⟨q, -⟩ | ⟨q, -⟩ <;> rw [q] <;> decide
/-- the class's list of parts, and what the twin has made of them -/
def LI (G : CG) (W : Wv) (N0 lv d : Nat) (u : Sg) (x l b n : Nat) (el : Nat → Nat) (pend : List Int) (ns : List Nd) : Prop := (zT u x = 16 ∧ zR u x 601 = some l ∧ zI u x 600 = (lv : Int) ∧ N0 ≤ x ∧ x < zN u) ∧ (LA u l b n ∧ LW G u l b ∧ N0 ≤ l ∧ N0 ≤ b ∧ 1 ≤ n) ∧ (∀ i, i < n → zB u b i = some (el i)) ∧ ∀ qz : List Nd, qz.map (fun q => q.1) = pend → ∃ (rows : Nat → List Nd) (qs : Nat → Nd), (∀ i, i < n → CA (fun q => FN N0 W u q ∧ q ≠ l ∧ q ≠ b) G u d (el i) (rows i)) ∧ (∀ i, 1 ≤ i → (qs i).1 = opL lv) ∧ ns ++ qz = mrow rows qs (n - 1)
theorem LI_CA {G : CG} {W : Wv} {N0 lv d : Nat} {u : Sg} {x l b n : Nat} {el : Nat → Nat} {pend : List Int} {ns : List Nd} (hlv : lv ≤ 1) (hn : n ≤ 5000) (h : LI G W N0 lv d u x l b n el pend ns) : ∀ qz : List Nd, qz.map (fun q => q.1) = pend → CA (FN N0 W u) G u (d + 1) x (ns ++ qz) := fun qz hq => by
  obtain ⟨⟨h1, h2, h3, h4, h5⟩, ⟨l1, l2, l3, l4, l5⟩, h6, h7⟩ := h
  obtain ⟨rows, qs, r1, r2, r3⟩ := h7 qz hq
  have hT6 := l1.1
  have hT5 := l1.2.2.2.1
  refine ⟨⟨h4, h5, fun q => absurd (h1.symm.trans q) (by decide)⟩, Or.inr (Or.inr (Or.inr (Or.inr ⟨h1, by rw [h3]; omega, l, b, n, el, rows, qs, h2, l1, ⟨l3, l1.2.2.2.2.2.2.1, fun q => absurd (hT6.symm.trans q) (by decide)⟩, ⟨l4, l1.2.2.2.2.2.2.2.1, fun q => absurd (hT5.symm.trans q) (by decide)⟩, l5, hn, fun i hi => ⟨h6 i hi, CA_mono (fun q hq => hq.1) (r1 i hi)⟩, fun i hi => ?_, r3⟩)))⟩
  rw [r2 i hi, h3]
  have hlv2 : lv = 0 ∨ lv = 1 := by omega
  rcases hlv2 with rfl | rfl <;> rfl
