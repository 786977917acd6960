/-! THE CLASS'S walk: the claims of a policy in order of date and number -/
theorem cl_geti {G : CG} {L : Ly} {u : Sg} {m : Mu} (h : RC G L u m) {c : Nat} (c1 : 1 ≤ c) (c2 : (c : Int) ≤ m.1 87) {i : Int} (hi : i = (c : Int) - 1) : fJ2_get G (some (L.1 108)) i u = some (some (L.1 (4000 + 8 * c))) := by
  have hK := h.2.2.2.2.2.2.2
  have := ml_get (i := i) hK.2.2.1 (c - 1) (by omega) (by omega)
  rw [this, show 4008 + 8 * (c - 1) = 4000 + 8 * c by omega]
theorem cl_sz {G : CG} {L : Ly} {u : Sg} {m : Mu} (h : RC G L u m) : fJ2_size G (some (L.1 108)) u = some (m.1 87) := sz_int h.2.2.2.2.2.2.2.1 h.2.2.2.2.2.2.2.2.2.1
theorem cl_T {G : CG} {L : Ly} {u : Sg} {m : Mu} (h : RC G L u m) : zT u (L.1 108) = 6 := h.2.2.2.2.2.2.2.2.2.1.1.1
theorem c_ins {G : CG} {L : Ly} {u : Sg} {m : Mu} (h : RC G L u m) {n : Nat} {O : Nat → Nat} {c : Nat} (hn : n < 40) (c1 : 1 ≤ c) (c2 : (c : Int) ≤ m.1 87) (hO : ∀ j, j < n → 1 ≤ O j ∧ (O j : Int) ≤ m.1 87) (hA : ∀ j, j < n → zA u (L.1 117) j = (O j : Int) - 1) {v1 v2 v3 v4 : Int} : ∃ (j : Nat) (u' : Sg), f0_walk_l62 G (some (L.1 3)) v1 v2 v3 v4 (some (L.1 (4000 + 8 * c))) NN (n : Int) u = some ((j : Int), u') ∧ j ≤ n ∧ scp L u u' ∧ zA u' (L.1 116) = zA u (L.1 116) ∧ (∀ i, i < j → zA u' (L.1 117) i = (O i : Int) - 1) ∧ (∀ i, j ≤ i → i < n → zA u' (L.1 117) (i + 1) = (O i : Int) - 1 ∧ m.2 90 c < m.2 90 (O i)) ∧ (0 < j → m.2 90 (O (j - 1)) ≤ m.2 90 c) := by
  have key := loop_ind (fun q (s : Nat × Sg) => f0_walk_l62 G (some (L.1 3)) v1 v2 v3 v4 (some (L.1 (4000 + 8 * c))) q (s.1 : Int) s.2) (fun s => s.1) (fun s => s.1 ≤ n ∧ scp L u s.2 ∧ zA s.2 (L.1 116) = zA u (L.1 116) ∧ (∀ i, i < s.1 → zA s.2 (L.1 117) i = (O i : Int) - 1) ∧ (∀ i, s.1 ≤ i → i < n → zA s.2 (L.1 117) (i + 1) = (O i : Int) - 1 ∧ m.2 90 c < m.2 90 (O i))) (fun _ r => ∃ j : Nat, r.1 = (j : Int) ∧ j ≤ n ∧ scp L u r.2 ∧ zA r.2 (L.1 116) = zA u (L.1 116) ∧ (∀ i, i < j → zA r.2 (L.1 117) i = (O i : Int) - 1) ∧ (∀ i, j ≤ i → i < n → zA r.2 (L.1 117) (i + 1) = (O i : Int) - 1 ∧ m.2 90 c < m.2 90 (O i)) ∧ (0 < j → m.2 90 (O (j - 1)) ≤ m.2 90 c)) (by
    rintro q ⟨j, t⟩ ⟨hj, hs, h6, hlo, hhi⟩ ih
    dsimp only at hj hs h6 hlo hhi ⊢
    show ok (f0_walk_l62 G (some (L.1 3)) v1 v2 v3 v4 (some (L.1 (4000 + 8 * c))) (q + 1) (j : Int) t) _
    unfold f0_walk_l62
    have ht := RC_scp h hs
    have hR := ht.1
    rw [w32_n (by omega)]
    refine ok_ite (fun hz => ok_some ⟨j, rfl, hj, hs, h6, hlo, hhi, fun z => by omega⟩) (fun hz => ?_)
    obtain ⟨k, rfl⟩ : ∃ k, j = k + 1 := ⟨j - 1, by omega⟩
    have hOk := hO k (by omega)
    have l117 := rL117 hR
    refine ok_eq (gfR_v (rT3 hR) (rR3_8 hR)) (ok_eq (gfR_v (rT3 hR) (rR3_17 hR)) (ok_eq (alI_e k (rT117 hR) (by omega) (by omega) (by omega)) (ok_eq (ztg_e (cl_T ht)) ?_)))
    rw [hlo k (by omega)]
    have hKk := ht.2.2.2.2.2.2.2.2.2.2.1 (O k) hOk.1 hOk.2
    have hKc := ht.2.2.2.2.2.2.2.2.2.2.1 c c1 c2
    obtain ⟨a1, -, -, -, -, -, -, -, -, a10, a11, a12, -⟩ := hKk
    obtain ⟨b1, -, -, -, -, -, -, -, -, b10, b11, b12, -⟩ := hKc
    refine ok_eq (cl_geti ht hOk.1 hOk.2 rfl) (ok_eq (zcast_1 a1) (ok_eq (gfI_v a1 a10) (ok_eq (gfI_v b1 b10) ?_)))
    rw [w32_id (x := m.2 90 (O k)) (by omega) (by omega), w32_id (x := m.2 90 c) (by omega) (by omega)]
    refine ok_ite (fun hz2 => ok_some ⟨k + 1, rfl, hj, hs, h6, hlo, hhi, fun _ => hz2⟩) (fun hz2 => ?_)
    refine ok_eq (gfR_v (rT3 hR) (rR3_17 hR)) (ok_eq (gfR_v (rT3 hR) (rR3_17 hR)) (ok_eq (alI_e k (rT117 hR) (by omega) (by omega) (by omega)) (ok_eq (asI_e (k + 1) (rT117 hR) (rG117 hR) rfl (by omega) (by omega)) ?_)))
    rw [hlo k (by omega), show ((k + 1 : Nat) : Int) + (-1) = ((k : Nat) : Int) by omega]
    refine ih (k, zsA t (L.1 117) (k + 1) ((O k : Int) - 1)) ⟨by show k ≤ n; omega, scp_A hs (by rw [rC117 hR]; decide), ?_, fun i hi => ?_, fun i h1 h2 => ?_⟩ (by show k < k + 1; omega)
    · show zA (zsA t (L.1 117) (k + 1) ((O k : Int) - 1)) (L.1 116) = _
      rw [zA_ne (rne (rC116 hR) (rC117 hR) (by decide))]; exact h6
    · show zA (zsA t (L.1 117) (k + 1) ((O k : Int) - 1)) (L.1 117) i = _
      dsimp only at hi
      rw [zsA_A, if_neg (fun z => by have := z.2; omega)]; exact hlo i (by omega)
    · show zA (zsA t (L.1 117) (k + 1) ((O k : Int) - 1)) (L.1 117) (i + 1) = _ ∧ _
      dsimp only at h1
      rw [zsA_A]
      by_cases hik : i = k
      · rw [hik, if_pos ⟨rfl, rfl⟩]; exact ⟨rfl, by omega⟩
      · rw [if_neg (fun z => by have := z.2; omega)]; exact hhi i (by omega) h2) NN (n, u) ⟨Nat.le_refl _, scp_rf, rfl, hA, fun i h1 h2 => (by dsimp only at h1; omega)⟩ (NN_gt (by show n < 100000; omega))
  obtain ⟨⟨r1, r2⟩, e, j, rfl, k⟩ := key
  exact ⟨j, r2, e, k⟩
/-- the order of the claims 1 .. c that may be paid -/
def ORD (m : Mu) (p : Nat) (day : Int) (c n : Nat) (O : Nat → Nat) : Prop := n ≤ c ∧ (∀ j, j < n → 1 ≤ O j ∧ O j ≤ c ∧ elg m p day (O j)) ∧ (∀ i j, i < j → j < n → m.2 90 (O i) < m.2 90 (O j) ∨ (m.2 90 (O i) = m.2 90 (O j) ∧ O i < O j)) ∧ ∀ x, 1 ≤ x → x ≤ c → elg m p day x → ∃ j, j < n ∧ O j = x
theorem ORD_skip {m : Mu} {p : Nat} {day : Int} {c n : Nat} {O : Nat → Nat} (h : ORD m p day c n O) (hc : ¬ elg m p day (c + 1)) : ORD m p day (c + 1) n O :=
  ⟨by have := h.1; omega, fun j hj => ⟨(h.2.1 j hj).1, by have := (h.2.1 j hj).2.1; omega, (h.2.1 j hj).2.2⟩, h.2.2.1, fun x h1 h2 h3 => by
    by_cases hx : x = c + 1
    · rw [hx] at h3; exact absurd h3 hc
    · exact h.2.2.2 x h1 (by omega) h3⟩
theorem ORD_ins {m : Mu} {p : Nat} {day : Int} {c n j : Nat} {O : Nat → Nat} (h : ORD m p day c n O) (hc : elg m p day (c + 1)) (hj : j ≤ n) (hhi : ∀ i, j ≤ i → i < n → m.2 90 (c + 1) < m.2 90 (O i)) (hlo : 0 < j → m.2 90 (O (j - 1)) ≤ m.2 90 (c + 1)) : ORD m p day (c + 1) (n + 1) (fun i => if i < j then O i else if i = j then c + 1 else O (i - 1)) := by
  obtain ⟨h1, h2, h3, h4⟩ := h
  refine ⟨by omega, fun i hi => ?_, fun a b hab hb => ?_, fun x x1 x2 x3 => ?_⟩
  · dsimp only
    by_cases q1 : i < j
    · rw [if_pos q1]; have := h2 i (by omega); exact ⟨this.1, by omega, this.2.2⟩
    · rw [if_neg q1]
      by_cases q2 : i = j
      · rw [if_pos q2]; exact ⟨by omega, Nat.le_refl _, hc⟩
      · rw [if_neg q2]; have := h2 (i - 1) (by omega); exact ⟨this.1, by omega, this.2.2⟩
  · dsimp only
    have low : ∀ i, i < j → m.2 90 (O i) ≤ m.2 90 (c + 1) := fun i hi => by
      have l1 := hlo (by omega)
      by_cases q : i = j - 1
      · rw [q]; exact l1
      · rcases h3 i (j - 1) (by omega) (by omega) with z | z
        · omega
        · have := z.1; omega
    by_cases q1 : b < j
    · rw [if_pos q1, if_pos (show a < j by omega)]; exact h3 a b hab (by omega)
    · rw [if_neg q1]
      by_cases q2 : b = j
      · rw [if_pos q2, if_pos (show a < j by omega)]
        have l1 := low a (by omega)
        have l2 := (h2 a (by omega)).2.1
        by_cases q : m.2 90 (O a) = m.2 90 (c + 1)
        · exact Or.inr ⟨q, by omega⟩
        · left; omega
      · rw [if_neg q2]
        have hb' := hhi (b - 1) (by omega) (by omega)
        by_cases q3 : a < j
        · rw [if_pos q3]; have := low a q3; left; omega
        · rw [if_neg q3]
          by_cases q4 : a = j
          · rw [if_pos q4]; exact Or.inl hb'
          · rw [if_neg q4]; exact h3 (a - 1) (b - 1) (by omega) (by omega)
  · by_cases hx : x = c + 1
    · refine ⟨j, by omega, ?_⟩
      dsimp only
      rw [if_neg (by omega), if_pos rfl, hx]
    · obtain ⟨i, i1, i2⟩ := h4 x x1 (by omega) x3
      by_cases q : i < j
      · refine ⟨i, by omega, ?_⟩
        dsimp only
        rw [if_pos q, i2]
      · refine ⟨i + 1, by omega, ?_⟩
        dsimp only
        rw [if_neg (by omega), if_neg (by omega)]
        exact i2
theorem c_walk {G : CG} {L : Ly} {u : Sg} {m : Mu} (h : RC G L u m) {p : Nat} (hp : p ≤ 12) {day : Int} (hday : w32 day = day) : ∃ (n : Nat) (O : Nat → Nat) (u' : Sg), f0_walk G (some (L.1 3)) p day u = some ((n : Int), u') ∧ scp L u u' ∧ zA u' (L.1 116) = zA u (L.1 116) ∧ ORD m p day (m.1 87).toNat n O ∧ ∀ i, i < n → zA u' (L.1 117) i = (O i : Int) - 1 := by
  have hRK := h.2.2.2.2.2.2.2
  obtain ⟨N, hN⟩ : ∃ N : Nat, m.1 87 = N := ⟨(m.1 87).toNat, by have := hRK.1; omega⟩
  have n40 := hRK.2.1
  have p81 := h.2.2.2.2.2.2.1.2.1
  have key := loop_ind (fun q (s : Nat × Nat × Sg) => f0_walk_l5 G (some (L.1 3)) p day q (s.1 : Int) (s.2.1 : Int) s.2.2) (fun s => N - s.2.1) (fun s => s.2.1 ≤ N ∧ scp L u s.2.2 ∧ zA s.2.2 (L.1 116) = zA u (L.1 116) ∧ ∃ O, ORD m p day s.2.1 s.1 O ∧ ∀ i, i < s.1 → zA s.2.2 (L.1 117) i = (O i : Int) - 1) (fun _ r => ∃ n : Nat, r.1 = (n : Int) ∧ scp L u r.2 ∧ zA r.2 (L.1 116) = zA u (L.1 116) ∧ ∃ O, ORD m p day N n O ∧ ∀ i, i < n → zA r.2 (L.1 117) i = (O i : Int) - 1) (by
    rintro q ⟨n, c, t⟩ ⟨hc, hs, h6, O, hO, hA⟩ ih
    dsimp only at hc hs h6 hO hA ⊢
    show ok (f0_walk_l5 G (some (L.1 3)) p day (q + 1) (n : Int) (c : Int) t) _
    unfold f0_walk_l5
    have ht := RC_scp h hs
    have hR := ht.1
    refine ok_eq (gfR_v (rT3 hR) (rR3_8 hR)) (ok_eq (ztg_e (cl_T ht)) (ok_eq (cl_sz ht) ?_))
    rw [hN, w32_n (by omega), w32_n (by omega)]
    refine ok_ite (fun hz => ok_some ⟨n, rfl, hs, h6, O, by rw [show N = c by omega]; exact hO, hA⟩) (fun hz => ?_)
    have k1 : (1 : Nat) ≤ c + 1 := by omega
    have k2 : ((c + 1 : Nat) : Int) ≤ m.1 87 := by omega
    have hKc := ht.2.2.2.2.2.2.2.2.2.2.1 (c + 1) k1 k2
    obtain ⟨b1, -, -, b4, b5, b6, -, -, -, b10, b11, b12, b13, b14, b15, -⟩ := hKc
    refine ok_eq (gfR_v (rT3 hR) (rR3_8 hR)) (ok_eq (ztg_e (cl_T ht)) (ok_eq (cl_geti ht k1 k2 (by omega)) (ok_eq (zcast_1 b1) (ok_eq (gfI_v b1 b4) ?_))))
    rw [w32_id (x := m.2 88 (c + 1)) (by omega) (by omega), w32_n (by omega)]
    have skip : ¬ elg m p day (c + 1) → ok (f0_walk_l5 G (some (L.1 3)) p day q (n : Int) ((c : Int) + 1) t) (fun r => ∃ n : Nat, r.1 = (n : Int) ∧ scp L u r.2 ∧ zA r.2 (L.1 116) = zA u (L.1 116) ∧ ∃ O, ORD m p day N n O ∧ ∀ i, i < n → zA r.2 (L.1 117) i = (O i : Int) - 1) := fun he =>
      ih (n, c + 1, t) ⟨by show c + 1 ≤ N; omega, hs, h6, O, ORD_skip hO he, hA⟩ (by show N - (c + 1) < N - c; omega)
    refine ok_ite (fun he1 => ok_eq (gfI_v b1 b13) ?_) (fun he1 => skip (fun z => he1 z.1))
    rw [w32_id (x := m.2 91 (c + 1)) (by omega) (by omega), hday]
    refine ok_ite (fun he2 => ?_) (fun he2 => skip (fun z => he2 z.2))
    have hnc := hO.1
    obtain ⟨j, t2, e2, j1, s2, g6, glo, ghi, gj⟩ := c_ins ht (n := n) (O := O) (c := c + 1) (by omega) k1 k2 (fun j hj => ⟨(hO.2.1 j hj).1, by have := (hO.2.1 j hj).2.1; omega⟩) hA (v1 := p) (v2 := day) (v3 := (n : Int) + 1) (v4 := (c : Int))
    refine ok_eq e2 ?_
    unfold f0_walk_b121
    have hs2 := scp_tr hs s2
    have ht2 := RC_scp h hs2
    have hR2 := ht2.1
    have l117 := rL117 hR2
    refine ok_eq (gfR_v (rT3 hR2) (rR3_17 hR2)) (ok_eq (asI_e j (rT117 hR2) (rG117 hR2) rfl (by show j < zL t2 _; omega) (by show zL t2 _ ≤ _; omega)) ?_)
    refine ih (n + 1, c + 1, zsA t2 (L.1 117) j (c : Int)) ⟨by show c + 1 ≤ N; omega, scp_A hs2 (by rw [rC117 hR]; decide), ?_, _, ORD_ins hO ⟨he1, he2⟩ j1 (fun i q1 q2 => (ghi i q1 q2).2) gj, fun i hi => ?_⟩ (by show N - (c + 1) < N - c; omega)
    · show zA (zsA t2 (L.1 117) j (c : Int)) (L.1 116) = _
      rw [zA_ne (rne (rC116 hR) (rC117 hR) (by decide)), g6]; exact h6
    · show zA (zsA t2 (L.1 117) j (c : Int)) (L.1 117) i = _
      dsimp only at hi ⊢
      rw [zsA_A]
      by_cases q1 : i < j
      · rw [if_neg (fun z => by have := z.2; omega), if_pos q1]; exact glo i q1
      · rw [if_neg q1]
        by_cases q2 : i = j
        · rw [if_pos ⟨rfl, q2⟩, if_pos q2]; omega
        · rw [if_neg (fun z => q2 z.2), if_neg q2]
          have := (ghi (i - 1) (by omega) (by omega)).1
          rw [show i - 1 + 1 = i by omega] at this
          exact this) NN (0, 0, u) ⟨Nat.zero_le _, scp_rf, rfl, fun i => i, ⟨Nat.le_refl _, fun j hj => (by omega), fun i j _ hj => (by omega), fun x h1 h2 => (by dsimp only at h2; omega)⟩, fun i hi => (by dsimp only at hi; omega)⟩ (NN_gt (by show N - 0 < 100000; omega))
  obtain ⟨⟨r1, r2⟩, e, n, rfl, s, g6, O, hO, hA⟩ := key
  refine ⟨n, O, r2, ?_, s, g6, by rw [hN]; exact hO, hA⟩
  unfold f0_walk
  have e : f0_walk_l5 G (some (L.1 3)) p day NN 0 0 u = some ((n : Int), r2) := e
  rw [e]; rfl
/-- the run follows the order -/
theorem run_ord {m : Mu} {p : Nat} {day : Int} {n : Nat} {O : Nat → Nat} (h : ORD m p day (m.1 87).toNat n O) : ∀ k, k ≤ n → (∀ j, j < k → pk m p day j = O j) ∧ ∀ c, (run m p day k).1 c = true ↔ ∃ j, j < k ∧ O j = c := by
  obtain ⟨h1, h2, h3, h4⟩ := h
  have inj : ∀ i j, i < n → j < n → O i = O j → i = j := fun i j hi hj e => by
    rcases Nat.lt_trichotomy i j with z | z | z
    · rcases h3 i j z hj with y | y
      · rw [e] at y; omega
      · omega
    · exact z
    · rcases h3 j i z hi with y | y
      · rw [e] at y; omega
      · omega
  intro k
  induction k with
  | zero => intro _; exact ⟨fun j hj => by omega, fun c => ⟨fun z => (by cases z), fun ⟨j, hj, _⟩ => by omega⟩⟩
  | succ k ih =>
    intro hk
    obtain ⟨i1, i2⟩ := ih (by omega)
    have hpk : pk m p day k = O k := by
      obtain ⟨a1, a2, a3⟩ := pkA_in (M := m) (p := p) (day := day) (D := (run m p day k).1) (m.1 87).toNat
      have hk2 := h2 k (by omega)
      have nd : (run m p day k).1 (O k) = false := by
        cases hh : (run m p day k).1 (O k)
        · rfl
        · obtain ⟨j, j1, j2⟩ := (i2 _).mp hh
          have := inj j k (by omega) (by omega) j2
          omega
      by_cases hz : pkA m p day (run m p day k).1 (m.1 87).toNat = 0
      · have := a3 hz (O k) hk2.1 hk2.2.1 hk2.2.2
        rw [nd] at this; cases this
      · obtain ⟨b1, b2, b3⟩ := a2 hz
        obtain ⟨j, j1, j2⟩ := h4 _ (Nat.pos_of_ne_zero hz) a1 b1
        have hjk : k ≤ j := by
          by_cases q : k ≤ j
          · exact q
          · have := (i2 _).mpr ⟨j, by omega, j2⟩
            rw [b2] at this; cases this
        show pkA m p day (run m p day k).1 (m.1 87).toNat = O k
        rcases b3 (O k) hk2.1 hk2.2.1 hk2.2.2 nd with y | y
        · rw [← j2] at y
          by_cases q : j = k
          · rw [← j2, q]
          · rcases h3 k j (by omega) j1 with z | z <;> omega
        · rw [← j2] at y
          by_cases q : j = k
          · rw [← j2, q]
          · rcases h3 k j (by omega) j1 with z | z <;> omega
    have hk2 := h2 k (by omega)
    refine ⟨fun j hj => ?_, fun c => ?_⟩
    · by_cases q : j = k
      · rw [q]; exact hpk
      · exact i1 j (by omega)
    · rw [run_S, if_neg (by rw [hpk]; omega), hpk]
      show ((run m p day k).1 c || decide (c = O k)) = true ↔ _
      rw [Bool.or_eq_true, decide_eq_true_iff, i2]
      constructor
      · rintro (⟨j, j1, j2⟩ | z)
        · exact ⟨j, by omega, j2⟩
        · exact ⟨k, by omega, z.symm⟩
      · rintro ⟨j, j1, j2⟩
        by_cases q : j = k
        · right; rw [← j2, q]
        · left; exact ⟨j, by omega, j2⟩
theorem run_ordE {m : Mu} {p : Nat} {day : Int} {n : Nat} {O : Nat → Nat} (h : ORD m p day (m.1 87).toNat n O) : pk m p day n = 0 := by
  obtain ⟨a1, a2, a3⟩ := pkA_in (M := m) (p := p) (day := day) (D := (run m p day n).1) (m.1 87).toNat
  have i2 := (run_ord h n (Nat.le_refl _)).2
  show pkA m p day (run m p day n).1 (m.1 87).toNat = 0
  refine Classical.byContradiction fun hz => ?_
  obtain ⟨b1, b2, b3⟩ := a2 hz
  obtain ⟨j, j1, j2⟩ := h.2.2.2 _ (Nat.pos_of_ne_zero hz) a1 b1
  have := (i2 _).mpr ⟨j, j1, j2⟩
  rw [b2] at this; cases this
