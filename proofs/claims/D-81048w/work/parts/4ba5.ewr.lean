/-! ENDORSE: the new wording as it lies in the heap -/
def AL2 (P : Nat → Int × List Nd → Prop) : List Nat → List (Int × List Nd) → Prop
  | [], [] => True
  | a :: l, b :: l' => P a b ∧ AL2 P l l'
  | _, _ => False
theorem AL2_app {P : Nat → Int × List Nd → Prop} : ∀ {l l1 : List Nat} {k k1 : List (Int × List Nd)}, AL2 P l k → AL2 P l1 k1 → AL2 P (l ++ l1) (k ++ k1) := by
  intro l
  induction l with
  | nil =>
    intro l1 k k1 h h1
    cases k with
    | nil => exact h1
    | cons b k => exact h.elim
  | cons a l ih =>
    intro l1 k k1 h h1
    cases k with
    | nil => exact h.elim
    | cons b k => exact ⟨h.1, ih h.2 h1⟩
theorem AL2_len {P : Nat → Int × List Nd → Prop} : ∀ {l : List Nat} {k : List (Int × List Nd)}, AL2 P l k → l.length = k.length := by
  intro l
  induction l with
  | nil =>
    intro k h
    cases k with
    | nil => rfl
    | cons b k => exact h.elim
  | cons a l ih =>
    intro k h
    cases k with
    | nil => exact h.elim
    | cons b k => simp only [List.length_cons]; rw [ih h.2]
theorem AL2_get {P : Nat → Int × List Nd → Prop} : ∀ {l : List Nat} {k : List (Int × List Nd)}, AL2 P l k → ∀ i, i < l.length → ∃ a b, l[i]? = some a ∧ k[i]? = some b ∧ P a b := by
  intro l
  induction l with
  | nil => intro k _ i hi; exact absurd hi (Nat.not_lt_zero _)
  | cons a l ih =>
    intro k h i hi
    cases k with
    | nil => exact h.elim
    | cons b k =>
      cases i with
      | zero => exact ⟨a, b, rfl, rfl, h.1⟩
      | succ i => exact ih h.2 i (by simp only [List.length_cons] at hi; omega)
theorem AL2_mem {P : Nat → Int × List Nd → Prop} {Q : Int × List Nd → Prop} (hQ : ∀ a b, P a b → Q b) : ∀ {l : List Nat} {k : List (Int × List Nd)}, AL2 P l k → ∀ q ∈ k, Q q := by
  intro l
  induction l with
  | nil =>
    intro k h q hq
    cases k with
    | nil => cases hq
    | cons b k => exact h.elim
  | cons a l ih =>
    intro k h q hq
    cases k with
    | nil => exact h.elim
    | cons b k =>
      rcases List.mem_cons.mp hq with e | e
      · rw [e]; exact hQ a b h.1
      · exact ih h.2 q e
/-- the cells of all clauses go with their values -/
theorem AL2_O {P : Nat → Int × List Nd → Prop} {W : Wv} {m : Mu} {oel ec : Nat → Nat} {n nc : Nat} (h1 : ∀ k, k < n → P (oel k) (W 24 k, (seg W (W 25 k) (W 26 k)).map w8n)) (h2 : ∀ j, j < nc → P (ec j) (newC m j)) (hst : ∀ k, k < n → m.2 57 k = -1 ∨ m.2 57 k = -2 ∨ (0 ≤ m.2 57 k ∧ m.2 57 k < (nc : Int))) : AL2 P (ceO oel ec m n) (csO W m n) := by
  induction n with
  | zero => exact trivial
  | succ n ih =>
    simp only [ceO, csO]
    refine AL2_app (ih (fun k hk => h1 k (by omega)) (fun k hk => hst k (by omega))) ?_
    have := hst n (by omega)
    by_cases z1 : m.2 57 n = -1
    · rw [if_pos z1, if_pos z1]; exact ⟨h1 n (by omega), trivial⟩
    · rw [if_neg z1, if_neg z1]
      by_cases z2 : m.2 57 n < 0
      · rw [if_pos z2, if_pos z2]; exact trivial
      · rw [if_neg z2, if_neg z2]; exact ⟨h2 _ (by omega), trivial⟩
theorem AL2_N {P : Nat → Int × List Nd → Prop} {m : Mu} {ec : Nat → Nat} {nc : Nat} (h2 : ∀ j, j < nc → P (ec j) (newC m j)) : ∀ n, n ≤ nc → AL2 P (ceN ec m n) (csN m n) := by
  intro n
  induction n with
  | zero => intro _; exact trivial
  | succ n ih =>
    intro hn
    simp only [ceN, csN]
    refine AL2_app (ih (by omega)) ?_
    by_cases z : m.2 58 n = 0
    · rw [if_pos z, if_pos z]; exact ⟨h2 n (by omega), trivial⟩
    · rw [if_neg z, if_neg z]; exact trivial
/-- a clause in the heap -/
def QE (G : CG) (L : Ly) (t : Sg) (W : Wv) (c : Nat) (q : Int × List Nd) : Prop := (L.2 c = 1 ∧ zT t c = 17 ∧ zI t c 640 = q.1 ∧ zI t c 642 = (q.2.length : Int) ∧ ∃ d, zR t c 641 = some d ∧ CA (FW L t W) G t 100 d q.2) ∧ (0 ≤ q.1 ∧ q.1 ≤ 2) ∧ isC q.2 ∧ ∀ x ∈ q.2, okN (nF W) (nM W) x
theorem FW_w {L : Ly} {t : Sg} {W W2 : Wv} (h : W2 14 = W 14) {G : CG} {c : Nat} {ns : List Nd} (k : CA (FW L t W) G t 100 c ns) : CA (FW L t W2) G t 100 c ns := CA_mono (fun q hq => ⟨hq.1, by rw [h]; exact hq.2⟩) k
theorem e_WR {G : CG} {L' : Ly} {t : Sg} {N bE b4 : Nat} {W W2 : Wv} {e1 e2 e3 e5 : Nat → Nat} {cs : List (Int × List Nd)} {cl : List Nat} (hM : WM W) (hJ : WJ W W2 cs) (hz : ∀ j, 8 ≤ j → W2 14 j = W 14 j) (hT : TKD G t N bE W e1 e2 e3 e5) (hbE : L'.2 bE = 1) (hN8 : N + 8 ≤ zN t) (hc2 : ∀ q, N + 1 ≤ q → q ≠ N + 7 → q < zN t → L'.2 q = 1) (h1 : ∀ f, f < nF W → FA L' t W (e1 f) f) (h2 : ∀ k, k < nM W → L'.2 (e2 k) = 1 ∧ zT t (e2 k) = 29 ∧ NM (zI t (e2 k) 1120) (W 20 k)) (h3 : ∀ k, k < nM W → CA (FW L' t W) G t 100 (e3 k) (seg W (W 21 k) (W 22 k))) (h5 : ∀ k, k < nP W → L'.2 (e5 k) = 1 ∧ zT t (e5 k) = 18 ∧ zI t (e5 k) 680 + 15 = W 28 k ∧ zI t (e5 k) 681 = W 29 k ∧ ((zR t (e5 k) 682 = none ∧ W 30 k = W 31 k) ∨ (W 30 k < W 31 k ∧ ∃ c, zR t (e5 k) 682 = some c ∧ CA (FW L' t W) G t 100 c (seg W (W 30 k) (W 31 k))))) (h4 : LA t (N + 4) b4 cl.length ∧ (b4 = bE ∨ N + 8 ≤ b4) ∧ ∀ i, i < cl.length → zB t b4 i = cl[i]?) (h6 : AL2 (QE G L' t W) cl cs) : WR G L' t N W2 := by
  obtain ⟨j1, j2, ⟨j3, j4⟩, j5⟩ := hJ
  obtain ⟨t0, tR, ⟨x1, a1, a1w, a1b, a1e⟩, ⟨x2, a2, a2w, a2b, a2e⟩, ⟨x3, a3, a3w, a3b, a3e⟩, ⟨x5, a5, a5w, a5b, a5e⟩, ⟨i1, i2, i3⟩, i4, i5, i6⟩ := hT
  have hM1 := hM.1
  have e12 := (nF_e hM).1
  have f8 := (nF_e hM).2
  have e19 : W 19 0 = (nM W : Int) := by unfold nM; omega
  have m12 : nM W ≤ 12 := by unfold nM; omega
  have p24 : nP W ≤ 24 := by unfold nP; omega
  have eF : nF W2 = nF W := by show (W2 12 0).toNat = _; rw [j1 12 (by decide) 0 (by decide)]
  have eM : nM W2 = nM W := by show (W2 19 0).toNat = _; rw [j1 19 (by decide) 0 (by decide)]
  have eP : nP W2 = nP W := by show (W2 27 0).toNat = _; rw [j1 27 (by decide) 0 (by decide)]
  have eC : nC W2 = cs.length := by show (W2 23 0).toNat = _; rw [j3]; simp
  have hlen := AL2_len h6
  have w14 : W2 14 = W 14 := by
    funext j
    by_cases z : j < 8
    · exact j1 14 (by decide) j z
    · exact hz j (by omega)
  have k8 : ∀ f, f < nF W → W2 13 f = W 13 f ∧ W2 15 f = W 15 f ∧ W2 17 f = W 17 f ∧ W2 18 f = W 18 f := fun f hf => by
    have : f < 8 := by omega
    exact ⟨j1 13 (by decide) f this, j1 15 (by decide) f this, j1 17 (by decide) f this, j1 18 (by decide) f this⟩
  have fe : fE N 240 = some (N + 1) ∧ fE N 241 = some (N + 2) ∧ fE N 242 = some (N + 3) ∧ fE N 243 = some (N + 4) ∧ fE N 244 = some (N + 5) ∧ fE N 247 = some (N + 6) := by unfold fE; simp
  have cb : ∀ x, (x = bE ∨ N + 8 ≤ x) → x < zN t → L'.2 x = 1 := fun x hx hN => by
    rcases hx with e | e
    · rw [e]; exact hbE
    · exact hc2 x (by omega) (by omega) hN
  have LFm : ∀ {l b n : Nat} {el : Nat → Nat}, LA t l b n → N + 1 ≤ l → l ≠ N + 7 → (b = bE ∨ N + 8 ≤ b) → (∀ i, i < n → zB t b i = some (el i)) → LF L' t l n el := fun {l b n el} q1 q2 q3 q4 q5 => ⟨b, q1, hc2 l q2 q3 q1.2.2.2.2.2.2.1, cb b q4 q1.2.2.2.2.2.2.2.1, q5⟩
  have sgM : ∀ {k nm : Nat} {i j : Int}, nm ≤ 12 → sgO W nm i j → ∀ q ∈ seg W i j, okN (nF W) (nm : Int) q := fun {k nm i j} _ s q hq => by have := s.2.2.2.2 q hq; rw [e12] at this; exact this
  refine ⟨t0, ⟨N + 1, e1, by rw [tR]; exact fe.1, by rw [eF]; exact LFm a1 (by omega) (by omega) a1b a1e, fun f hf => ?_⟩, ⟨N + 2, e2, by rw [tR]; exact fe.2.1, by rw [eM]; exact LFm a2 (by omega) (by omega) a2b a2e, fun k hk => ?_⟩, ⟨N + 3, e3, by rw [tR]; exact fe.2.2.1, by rw [eM]; exact LFm a3 (by omega) (by omega) a3b a3e, fun k hk => ?_⟩, ⟨N + 4, fun i => (cl[i]?).getD 0, by rw [tR]; exact fe.2.2.2.1, by rw [eC, ← hlen]; exact LFm h4.1 (by omega) (by omega) h4.2.1 (fun i hi => by rw [h4.2.2 i hi, List.getElem?_eq_getElem hi]; rfl), fun k hk => ?_⟩, ⟨N + 5, e5, by rw [tR]; exact fe.2.2.2.2.1, by rw [eP]; exact LFm a5 (by omega) (by omega) a5b a5e, fun k hk => ?_⟩, ⟨by rw [i1, j1 32 (by decide) 0 (by decide)], by rw [i2, j1 32 (by decide) 1 (by decide)], N + 6, by rw [tR]; exact fe.2.2.2.2.2, ⟨hc2 _ (by omega) (by omega) ?_, i4, i5⟩, fun k hk => by rw [i6 k hk, j1 32 (by decide) (2 + k) (by show 2 + k < 5; omega)]⟩, ?_⟩
  · rw [eF] at hf
    obtain ⟨q1, q2, q3, q4, q5, q6, q7, c, q8, q9, q10⟩ := h1 f hf
    obtain ⟨z1, z2, z3, z4⟩ := k8 f hf
    refine ⟨q1, q2, by rw [z1]; exact q3, by rw [w14]; exact q4, by rw [z2]; exact q5, by rw [z3]; exact q6, by rw [z4]; exact q7, c, q8, q9, fun k hk => ?_⟩
    rw [z2] at hk
    have hm := (hM.2.1 f hf).2.2.2.1
    rw [j1 16 (by decide) (6 * f + k) (by show 6 * f + k < 48; omega)]
    exact q10 k hk
  · rw [eM] at hk
    obtain ⟨q1, q2, q3⟩ := h2 k hk
    exact ⟨q1, q2, by rw [j1 20 (by decide) k (by show k < 12; omega)]; exact q3⟩
  · rw [eM] at hk
    rw [(j2 k hk).1]
    have s := hM.2.2.1 k hk
    exact FW_w w14 (CA_w8 (by omega) (show ((k : Nat) : Int) ≤ 12 by omega) _ _ _ (h3 k hk) (sgM (k := 0) (nm := k) (by omega) s))
  · rw [eC] at hk
    obtain ⟨c, q, g1, g2, ⟨g3, g4, g5, g6, d, g7, g8⟩, -⟩ := AL2_get h6 k (by omega)
    obtain ⟨p1, p2⟩ := j4 k hk
    rw [g2] at p1
    have p1 := Option.some.inj p1
    have hq1 : q.1 = W2 24 k := by rw [p1]
    have hq2 : q.2 = seg W2 (W2 25 k) (W2 26 k) := by rw [p1]
    show L'.2 ((cl[k]?).getD 0) = 1 ∧ zT t ((cl[k]?).getD 0) = 17 ∧ zI t ((cl[k]?).getD 0) 640 = W2 24 k ∧ zI t ((cl[k]?).getD 0) 642 = W2 26 k - W2 25 k ∧ ∃ c, zR t ((cl[k]?).getD 0) 641 = some c ∧ CA (FW L' t W2) G t 100 c (seg W2 (W2 25 k) (W2 26 k))
    rw [g1]
    show L'.2 c = 1 ∧ zT t c = 17 ∧ zI t c 640 = W2 24 k ∧ zI t c 642 = W2 26 k - W2 25 k ∧ ∃ d, zR t c 641 = some d ∧ CA (FW L' t W2) G t 100 d (seg W2 (W2 25 k) (W2 26 k))
    rw [p2, ← hq1, ← hq2]
    exact ⟨g3, g4, g5, g6, d, g7, FW_w w14 g8⟩
  · rw [eP] at hk
    obtain ⟨q1, q2, q3, q4, q5⟩ := h5 k hk
    have hk24 : k < 24 := by omega
    rw [j1 28 (by decide) k hk24, j1 29 (by decide) k hk24]
    refine ⟨q1, q2, q3, q4, ?_⟩
    have j5' := j5 k hk
    rcases q5 with q5 | ⟨q5, c, q6, q7⟩
    · exact Or.inl ⟨q5.1, by omega⟩
    · refine Or.inr ⟨by omega, c, q6, ?_⟩
      rw [j5'.1]
      have s := hM.2.2.2.2.1 k hk
      rcases s.2.2.2.2 with s | ⟨-, s⟩
      · omega
      · rw [e19] at s
        exact FW_w w14 (CA_w8 (by omega) (show ((nM W : Nat) : Int) ≤ 12 by omega) _ _ _ q7 (sgM (k := 0) (nm := nM W) (by omega) s))
  · omega
  · rw [i3, eM, eP]
    congr 1
    · exact congrArg List.sum (List.map_congr_left (fun k hk => by have := List.mem_range.mp hk; rw [(j2 k this).2]))
    · exact congrArg List.sum (List.map_congr_left (fun k hk => by have := List.mem_range.mp hk; rw [(j5 k this).2]))
