/-! THE CALL endorse: small things, the twin's end -/
theorem sim_mapU {G : CG} {L : Ly} {C0 S0 C S c n : Nat} {Y : Option ((Int × Sg) × Nat × Nat)} {y : Option (Int × Mu)} (h : sim Y y (aftU G L C0 S0)) (hc : C0 + c ≤ C) (hs : S0 + n ≤ S) : sim (Y.map fun r => (r.1, r.2.1 + c, r.2.2 + n)) y (aftU G L C S) := by
  obtain ⟨⟨a, c1, n1⟩, b, e1, e2, q1, q2, q3, q4⟩ := h
  dsimp only at q2 q3
  refine ⟨(a, c1 + c, n1 + n), b, by rw [e1]; rfl, e2, q1, ?_, ?_, q4⟩
  · show c1 + c ≤ C; omega
  · show n1 + n ≤ S; omega
theorem aftU_mono {G : CG} {L : Ly} {C0 S0 C S : Nat} {Y : Option ((Int × Sg) × Nat × Nat)} {y : Option (Int × Mu)} (h : sim Y y (aftU G L C0 S0)) (hc : C0 ≤ C) (hs : S0 ≤ S) : sim Y y (aftU G L C S) := by
  obtain ⟨a, b, e1, e2, q1, q2, q3, q4⟩ := h
  exact ⟨a, b, e1, e2, q1, Nat.le_trans q2 hc, Nat.le_trans q3 hs, q4⟩
theorem eb78 {G : CG} {v0 s0 : Option Nat} {u : Sg} : f0_endorse_b78 G v0 s0 u = f0_wording_b54 G v0 s0 u := rfl
theorem eb303 {v : Int} {m : Mu} : m5_endorse_b303 v m = m5_wording_b267 v m := rfl
/-- how long the clauses are -/
theorem szC_1 {q : Int × List Nd} : szC [q] = q.2.length := by unfold szC; simp
theorem newC_len {m : Mu} {j : Nat} (h : 0 ≤ m.2 54 j ∧ m.2 54 j ≤ m.2 55 j) : ((newC m j).2.length : Int) = m.2 55 j - m.2 54 j := by
  show (((sgNw m (m.2 54 j) (m.2 55 j)).map w8n).length : Int) = _
  rw [List.length_map, sgNw_len]; omega
theorem szO_e {W : Wv} {m : Mu} {nc : Nat} (h2 : ∀ j, j < nc → 0 ≤ m.2 54 j ∧ m.2 54 j ≤ m.2 55 j) : ∀ n, (∀ k, k < n → m.2 57 k = -1 ∨ m.2 57 k = -2 ∨ (0 ≤ m.2 57 k ∧ m.2 57 k < (nc : Int))) → (∀ k, k < n → 0 ≤ W 25 k ∧ W 25 k ≤ W 26 k) → (szC (csO W m n) : Int) = lsm (fun k => if m.2 57 k = -1 then W 26 k - W 25 k else 0) n + lsm (fun k => if 0 ≤ m.2 57 k then m.2 55 (m.2 57 k).toNat - m.2 54 (m.2 57 k).toNat else 0) n := by
  intro n
  induction n with
  | zero => intro _ _; rfl
  | succ n ih =>
    intro hst hW
    have i1 := ih (fun k hk => hst k (by omega)) (fun k hk => hW k (by omega))
    have st := hst n (by omega)
    have w := hW n (by omega)
    simp only [csO]
    rw [szC_a, lsm_s, lsm_s]
    by_cases z1 : m.2 57 n = -1
    · rw [if_pos z1, if_pos z1, if_neg (by omega), szC_1]
      have : (((seg W (W 25 n) (W 26 n)).map w8n).length : Int) = W 26 n - W 25 n := by rw [List.length_map, seg_len]; omega
      push_cast
      show _ + (((seg W (W 25 n) (W 26 n)).map w8n).length : Int) = _
      omega
    · rw [if_neg z1, if_neg z1]
      by_cases z2 : m.2 57 n < 0
      · rw [if_pos z2, if_neg (by omega)]
        have : szC [] = 0 := rfl
        omega
      · rw [if_neg z2, if_pos (by omega), szC_1]
        have := newC_len (m := m) (j := (m.2 57 n).toNat) (h2 _ (by omega))
        omega
theorem szN_e {m : Mu} {nc : Nat} (h2 : ∀ j, j < nc → 0 ≤ m.2 54 j ∧ m.2 54 j ≤ m.2 55 j) : ∀ n, n ≤ nc → (szC (csN m n) : Int) = lsm (fun j => if m.2 58 j = 0 then m.2 55 j - m.2 54 j else 0) n := by
  intro n
  induction n with
  | zero => intro _; rfl
  | succ n ih =>
    intro hn
    have i1 := ih (by omega)
    simp only [csN]
    rw [szC_a, lsm_s]
    by_cases z : m.2 58 n = 0
    · rw [if_pos z, if_pos z, szC_1]
      have := newC_len (h2 n (by omega))
      omega
    · rw [if_neg z, if_neg z]
      have : szC [] = 0 := rfl
      omega
theorem szC_lsm {P : Nat → Int × List Nd → Prop} {f : Nat → Int} (hP : ∀ a b, P a b → f a = (b.2.length : Int)) : ∀ {l : List Nat} {k : List (Int × List Nd)}, AL2 P l k → lsm (fun i => f ((l[i]?).getD 0)) l.length = (szC k : Int) := by
  intro l k h
  have key : ∀ n, n ≤ l.length → lsm (fun i => f ((l[i]?).getD 0)) n = (szC (k.take n) : Int) := by
    intro n
    induction n with
    | zero => intro _; rw [List.take_zero]; rfl
    | succ n ih =>
      intro hn
      obtain ⟨a, b, e1, e2, e3⟩ := AL2_get h n (by omega)
      rw [lsm_s, ih (by omega), List.take_succ, e2, szC_a, e1]
      have := hP a b e3
      show (szC (List.take n k) : Int) + f a = ((szC (List.take n k) + szC [b] : Nat) : Int)
      rw [szC_1, this]; omega
  rw [key l.length (Nat.le_refl _), AL2_len h, List.take_length]
/-- what the reader sees of a wording that took over -/
theorem LK_tkd {G : CG} {L : Ly} {t1 t2 : Sg} {N bE N2 : Nat} {W : Wv} {el1 el2 el3 el5 : Nat → Nat} (hM : WM W) (hT : TKD G t2 N bE W el1 el2 el3 el5) (f1 : ∀ f, f < nF W → FA L t1 W (el1 f) f) (f2 : ∀ k, k < nM W → L.2 (el2 k) = 1 ∧ zT t1 (el2 k) = 29 ∧ NM (zI t1 (el2 k) 1120) (W 20 k)) (hs : ∀ q, L.2 q = 1 → sam t1 t2 q ∧ q < N2) (hN : N + 8 ≤ N2) (hz : zN t2 ≤ N2) : LK (fun q => q < N2) t2 N W := by
  obtain ⟨t0, tR, ⟨x1, a1, a1w, a1b, a1e⟩, ⟨x2, a2, a2w, a2b, a2e⟩, -⟩ := hT
  have hM1 := hM.1
  have fe : fE N 240 = some (N + 1) ∧ fE N 241 = some (N + 2) := by unfold fE; simp
  have z1 := a1.2.2.2.2.2.2.2.1
  have z2 := a2.2.2.2.2.2.2.2.1
  refine ⟨⟨by show N < N2; omega, t0⟩, ⟨by show _ = ((W 12 0).toNat : Int); omega, by show (W 12 0).toNat ≤ 8; omega, by show _ = ((W 19 0).toNat : Int); omega, by show (W 19 0).toNat ≤ 12; omega⟩, ⟨N + 1, x1, el1, by rw [tR]; exact fe.1, a1, by show N + 1 < N2; omega, by show x1 < N2; omega, a1e, fun f hf => ?_⟩, ⟨N + 2, x2, el2, by rw [tR]; exact fe.2, a2, by show N + 2 < N2; omega, by show x2 < N2; omega, a2e, fun k hk => ?_⟩⟩
  · obtain ⟨q1, q2, q3, q4, q5, q6, q7, c, q8, ⟨q9, q10, q11⟩, q12⟩ := f1 f hf
    obtain ⟨se, ze⟩ := hs _ q1
    obtain ⟨sc, zc⟩ := hs c q9
    obtain ⟨m1, m2, m3, m4, -⟩ := hM.2.1 f hf
    exact ⟨ze, by rw [se.1]; exact q2, by rw [se.2.2.1]; exact q3, by rw [se.2.2.1]; exact q4, by rw [se.2.2.1]; exact q5, by rw [se.2.2.1]; exact q6, by rw [se.2.2.1]; exact q7, ⟨m1, m2, m3, m4⟩, c, by rw [se.2.2.2.1]; exact q8, zc, by rw [sc.1]; exact q10, by rw [sc.2.1]; exact q11, fun k hk => by rw [sc.2.2.2.2.1]; exact q12 k hk⟩
  · obtain ⟨q1, q2, q3⟩ := f2 k hk
    obtain ⟨se, ze⟩ := hs _ q1
    exact ⟨ze, by rw [se.1]; exact q2, by rw [se.2.2.1]; exact q3⟩
/-- what took over stays when nothing of it changes but the clauses' list -/
theorem TKD_k {G : CG} {t t' : Sg} {N bE : Nat} {W : Wv} {e1 e2 e3 e5 : Nat → Nat} (h : TKD G t N bE W e1 e2 e3 e5) (hg : gro t t') (hs : ∀ q, q < zN t → q ≠ N → q ≠ N + 4 → sam t t' q) (hN : zT t' N = 7 ∧ zR t' N = zR t N ∧ ∀ j, j ≠ 249 → zI t' N j = zI t N j) (hb : bE ≠ N ∧ bE ≠ N + 4) (h8 : N + 8 ≤ zN t) : TKD G t' N bE W e1 e2 e3 e5 := by
  obtain ⟨t0, tR, E1, E2, E3, E5, ⟨i1, i2, i3⟩, i4, i5, i6⟩ := h
  have k : ∀ {l n el}, l ≠ N → l ≠ N + 4 → LNE G t (N + 8) l bE n el → LNE G t' (N + 8) l bE n el := fun h1 h2 hl => LNE_k hl hg (fun q q1 q2 => hs q q1 (by omega) (by omega))
  have s6 := hs (N + 6) (by omega) (by omega) (by omega)
  exact ⟨hN.1, fun j => by rw [hN.2.1]; exact tR j, k (by omega) (by omega) E1, k (by omega) (by omega) E2, k (by omega) (by omega) E3, k (by omega) (by omega) E5, ⟨by rw [hN.2.2 245 (by decide)]; exact i1, by rw [hN.2.2 246 (by decide)]; exact i2, by rw [hN.2.2 248 (by decide)]; exact i3⟩, by rw [s6.1]; exact i4, by rw [s6.2.1]; exact i5, fun k hk => by rw [s6.2.2.2.2.1]; exact i6 k hk⟩
