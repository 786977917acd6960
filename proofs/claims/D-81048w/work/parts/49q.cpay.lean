/-! THE CLASS'S payAll -/
theorem dv365 {z : Int} (z1 : 0 ≤ z) (z2 : z ≤ 9999) : w32 (div32 z 365) = z / 365 := by
  obtain ⟨n, rfl⟩ : ∃ n : Nat, z = n := ⟨z.toNat, by omega⟩
  rw [show (365 : Int) = ((365 : Nat) : Int) from rfl, div32_n (by omega) (by omega), w32_n (by have := Nat.div_le_self n 365; omega)]
  rfl
theorem sumD_cg {D D' : Nat → Bool} {P P' : Nat → Int} : ∀ n, (∀ c, 1 ≤ c → c ≤ n → D c = D' c ∧ (D c = true → P c = P' c)) → sumD D P n = sumD D' P' n := by
  intro n
  induction n with
  | zero => intro _; rfl
  | succ n ih =>
    intro h
    simp only [sumD]
    rw [ih (fun c c1 c2 => h c c1 (by omega))]
    obtain ⟨e1, e2⟩ := h (n + 1) (by omega) (Nat.le_refl _)
    rw [← e1]
    by_cases hd : D (n + 1) = true
    · rw [if_pos hd, if_pos hd, e2 hd]
    · rw [if_neg hd, if_neg hd]
theorem sumD_add {D : Nat → Bool} {P : Nat → Int} {c : Nat} {v : Int} (h : D c = false) (hc : 1 ≤ c) : ∀ n, sumD (fun j => D j || decide (j = c)) (va_up P c v) n = sumD D P n + if c ≤ n then v else 0 := by
  intro n
  induction n with
  | zero => simp [sumD]; omega
  | succ n ih =>
    simp only [sumD]
    rw [ih, va_up_e]
    by_cases hcn : c = n + 1
    · subst hcn
      rw [if_neg (show ¬ n + 1 ≤ n by omega), if_pos (Nat.le_refl _)]
      simp [h]
    · have : ¬ n + 1 = c := fun q => hcn q.symm
      simp only [this, decide_false, Bool.or_false, if_false]
      by_cases hle : c ≤ n
      · rw [if_pos hle, if_pos (show c ≤ n + 1 by omega)]; omega
      · rw [if_neg hle, if_neg (show ¬ c ≤ n + 1 by omega)]; omega
theorem sumD_add2 {D q : Nat → Bool} {P : Nat → Int} {c : Nat} (h : D c = false) (hc : 1 ≤ c) : ∀ n, sumD (fun j => (D j || decide (j = c)) && q j) P n = sumD (fun j => D j && q j) P n + if c ≤ n ∧ q c = true then P c else 0 := by
  intro n
  induction n with
  | zero => simp [sumD]; omega
  | succ n ih =>
    simp only [sumD]
    rw [ih]
    by_cases hcn : c = n + 1
    · subst hcn
      rw [if_neg (show ¬ (n + 1 ≤ n ∧ q (n + 1) = true) from fun z => by have := z.1; omega)]
      simp [h]
    · have : ¬ n + 1 = c := fun q => hcn q.symm
      simp only [this, decide_false, Bool.or_false]
      generalize (if (D (n + 1) && q (n + 1)) = true then P (n + 1) else 0) = X
      by_cases hq : q c = true
      · by_cases hle : c ≤ n
        · rw [if_pos ⟨hle, hq⟩, if_pos ⟨show c ≤ n + 1 by omega, hq⟩]; omega
        · rw [if_neg (fun z => hle z.1), if_neg (fun z => hle (by have := z.1; omega))]; omega
      · rw [if_neg (fun z => hq z.2), if_neg (fun z => hq z.2)]; omega
/-- sums along the order -/
def sS (O : Nat → Nat) (P : Nat → Int) (q : Nat → Bool) : Nat → Int
  | 0 => 0
  | k + 1 => sS O P q k + if q (O k) then P (O k) else 0
theorem sS_D {O : Nat → Nat} {P : Nat → Int} {q : Nat → Bool} {N : Nat} : ∀ (k : Nat) (D : Nat → Bool), (∀ i j, i < k → j < k → O i = O j → i = j) → (∀ j, j < k → 1 ≤ O j ∧ O j ≤ N) → (∀ c, D c = true ↔ ∃ j, j < k ∧ O j = c) → sumD (fun c => D c && q c) P N = sS O P q k := by
  intro k
  induction k with
  | zero =>
    intro D _ _ hD
    have : ∀ n, sumD (fun c => D c && q c) P n = 0 := by
      intro n
      induction n with
      | zero => rfl
      | succ n ih =>
        simp only [sumD]
        rw [ih]
        have : D (n + 1) = false := by
          cases hh : D (n + 1)
          · rfl
          · obtain ⟨j, j1, _⟩ := (hD _).mp hh; omega
        simp [this]
    exact this N
  | succ k ih =>
    intro D inj hO hD
    obtain ⟨D', hD'⟩ : ∃ D' : Nat → Bool, ∀ c, D' c = true ↔ ∃ j, j < k ∧ O j = c := ⟨fun c => @decide (∃ j, j < k ∧ O j = c) (Classical.propDecidable _), fun c => by simp⟩
    have hf : D' (O k) = false := by
      cases hh : D' (O k)
      · rfl
      · obtain ⟨j, j1, j2⟩ := (hD' _).mp hh
        have := inj j k (by omega) (by omega) j2
        omega
    have e : (fun c => D c && q c) = (fun c => (D' c || decide (c = O k)) && q c) := by
      funext c
      congr 1
      rw [Bool.eq_iff_iff, Bool.or_eq_true, decide_eq_true_iff, hD, hD']
      constructor
      · rintro ⟨j, j1, j2⟩
        by_cases z : j = k
        · right; rw [← j2, z]
        · left; exact ⟨j, by omega, j2⟩
      · rintro (⟨j, j1, j2⟩ | z)
        · exact ⟨j, by omega, j2⟩
        · exact ⟨k, by omega, z.symm⟩
    have hk := hO k (by omega)
    rw [e, sumD_add2 hf hk.1, ih D' (fun i j hi hj => inj i j (by omega) (by omega)) (fun j hj => hO j (by omega)) hD']
    simp only [sS]
    by_cases hq : q (O k) = true
    · rw [if_pos ⟨hk.2, hq⟩, if_pos hq]
    · rw [if_neg (fun z => hq z.2), if_neg hq]
theorem c_pay0 {G : CG} {L : Ly} {u : Sg} {m : Mu} (h : RC G L u m) {p : Nat} (hp : p ≤ 12) {day : Int} : ∃ u', f0_payAll_l2 G (some (L.1 3)) p day NN 0 u = some u' ∧ scp L u u' ∧ ∀ c : Nat, 1 ≤ c → (c : Int) ≤ m.1 87 → zA u' (L.1 116) (c - 1) = if m.2 88 c = (p : Int) then 0 else zA u (L.1 116) (c - 1) := by
  have hRK := h.2.2.2.2.2.2.2
  obtain ⟨N, hN⟩ : ∃ N : Nat, m.1 87 = N := ⟨(m.1 87).toNat, by have := hRK.1; omega⟩
  have n40 := hRK.2.1
  have p81 := h.2.2.2.2.2.2.1.2.1
  have key := loop_ind (fun q (s : Nat × Sg) => f0_payAll_l2 G (some (L.1 3)) p day q (s.1 : Int) s.2) (fun s => N - s.1) (fun s => s.1 ≤ N ∧ scp L u s.2 ∧ ∀ c : Nat, 1 ≤ c → (c : Int) ≤ m.1 87 → zA s.2 (L.1 116) (c - 1) = if m.2 88 c = (p : Int) ∧ c ≤ s.1 then 0 else zA u (L.1 116) (c - 1)) (fun _ r => scp L u r ∧ ∀ c : Nat, 1 ≤ c → (c : Int) ≤ m.1 87 → zA r (L.1 116) (c - 1) = if m.2 88 c = (p : Int) then 0 else zA u (L.1 116) (c - 1)) (by
    rintro q ⟨i, t⟩ ⟨hi, hs, hI⟩ ih
    dsimp only at hi hs hI ⊢
    show ok (f0_payAll_l2 G (some (L.1 3)) p day (q + 1) (i : Int) t) _
    unfold f0_payAll_l2
    have ht := RC_scp h hs
    have hR := ht.1
    refine ok_eq (gfR_v (rT3 hR) (rR3_8 hR)) (ok_eq (ztg_e (cl_T ht)) (ok_eq (cl_sz ht) ?_))
    rw [show w32 (m.1 87) = (N : Int) by rw [hN]; exact w32_n (by omega), w32_n (by omega)]
    refine ok_ite (fun hz => ok_some ⟨hs, fun c c1 c2 => ?_⟩) (fun hz => ?_)
    · rw [hI c c1 c2]
      by_cases q1 : m.2 88 c = (p : Int)
      · rw [if_pos ⟨q1, by omega⟩, if_pos q1]
      · rw [if_neg (fun z => q1 z.1), if_neg q1]
    have k1 : (1 : Nat) ≤ i + 1 := by omega
    have k2 : ((i + 1 : Nat) : Int) ≤ m.1 87 := by omega
    obtain ⟨b1, -, -, b4, b5, b6, -⟩ := ht.2.2.2.2.2.2.2.2.2.2.1 (i + 1) k1 k2
    have l116 := rL116 hR
    refine ok_eq (gfR_v (rT3 hR) (rR3_16 hR)) (ok_eq (gfR_v (rT3 hR) (rR3_8 hR)) (ok_eq (ztg_e (cl_T ht)) (ok_eq (cl_geti ht k1 k2 (by omega)) (ok_eq (zcast_1 b1) (ok_eq (gfI_v b1 b4) ?_)))))
    rw [w32_id (x := m.2 88 (i + 1)) (by omega) (by omega), w32_n (by omega)]
    refine ok_ite (fun he => ?_) (fun he => ?_)
    · refine ok_eq (asI_e i (rT116 hR) (rG116 hR) rfl (by omega) (by omega)) ?_
      refine ih (i + 1, zsA t (L.1 116) i 0) ⟨by show i + 1 ≤ N; omega, scp_A hs (by rw [rC116 hR]; decide), fun c c1 c2 => ?_⟩ (by show N - (i + 1) < N - i; omega)
      show zA (zsA t (L.1 116) i 0) (L.1 116) (c - 1) = if m.2 88 c = (p : Int) ∧ c ≤ i + 1 then 0 else _
      rw [zsA_A]
      by_cases q1 : c = i + 1
      · rw [if_pos ⟨rfl, by omega⟩, q1, if_pos ⟨he, Nat.le_refl _⟩]
      · rw [if_neg (fun z => q1 (by have := z.2; omega)), hI c c1 c2]
        by_cases q2 : m.2 88 c = (p : Int) ∧ c ≤ i
        · rw [if_pos q2, if_pos ⟨q2.1, by omega⟩]
        · rw [if_neg q2, if_neg (fun z => q2 ⟨z.1, by omega⟩)]
    · refine ok_eq (gfR_v (rT3 hR) (rR3_16 hR)) (ok_eq (alI_e i (rT116 hR) rfl (by omega) (by omega)) (ok_eq (asI_e i (rT116 hR) (rG116 hR) rfl (by omega) (by omega)) ?_))
      refine ih (i + 1, zsA t (L.1 116) i (zA t (L.1 116) i)) ⟨by show i + 1 ≤ N; omega, scp_A hs (by rw [rC116 hR]; decide), fun c c1 c2 => ?_⟩ (by show N - (i + 1) < N - i; omega)
      show zA (zsA t (L.1 116) i (zA t (L.1 116) i)) (L.1 116) (c - 1) = if m.2 88 c = (p : Int) ∧ c ≤ i + 1 then 0 else _
      rw [zsA_A]
      by_cases q1 : c = i + 1
      · subst q1
        rw [if_pos ⟨rfl, by omega⟩]
        have := hI (i + 1) c1 c2
        rw [show i + 1 - 1 = i by omega] at this ⊢
        rw [this, if_neg (fun z => he z.1), if_neg (fun z => he z.1)]
      · rw [if_neg (fun z => q1 (by have := z.2; omega)), hI c c1 c2]
        by_cases q2 : m.2 88 c = (p : Int) ∧ c ≤ i
        · rw [if_pos q2, if_pos ⟨q2.1, by omega⟩]
        · rw [if_neg q2, if_neg (fun z => q2 ⟨z.1, by omega⟩)]) NN (0, u) ⟨Nat.zero_le _, scp_rf, fun c c1 c2 => by rw [if_neg (fun z => by have := z.2; dsimp only at this; omega)]⟩ (NN_gt (by show N - 0 < 100000; omega))
  obtain ⟨r, e, k⟩ := key
  exact ⟨r, e, k⟩
theorem c_year {G : CG} {L : Ly} {u : Sg} {m : Mu} (h : RC G L u m) {k c : Nat} {O : Nat → Nat} {P : Nat → Int} (hk : k < 40) (c1 : 1 ≤ c) (c2 : (c : Int) ≤ m.1 87) (hO : ∀ j, j < k → 1 ≤ O j ∧ (O j : Int) ≤ m.1 87) (hA : ∀ j, j < k → zA u (L.1 117) j = (O j : Int) - 1) (hP : ∀ j, j < k → zA u (L.1 116) (O j - 1) = P (O j)) (hB : ∀ j, j < k → 0 ≤ P (O j) ∧ P (O j) ≤ 99999999) {v1 v2 v3 v4 : Int} : f0_payAll_l103 G (some (L.1 3)) v1 v2 v3 v4 (k : Int) (some (L.1 (4000 + 8 * c))) u NN 0 0 = some (sS O P (fun x => decide (m.2 90 x / 365 = m.2 90 c / 365)) k) := by
  have n40 := h.2.2.2.2.2.2.2.2.1
  have hR := h.1
  have l117 := rL117 hR
  have l116 := rL116 hR
  obtain ⟨b1, -, -, -, -, -, -, -, -, b10, b11, b12, -⟩ := h.2.2.2.2.2.2.2.2.2.2.1 c c1 c2
  have key := loop_ind (fun q (j : Nat) => f0_payAll_l103 G (some (L.1 3)) v1 v2 v3 v4 (k : Int) (some (L.1 (4000 + 8 * c))) u q (sS O P (fun x => decide (m.2 90 x / 365 = m.2 90 c / 365)) j) (j : Int)) (fun j => k - j) (fun j => j ≤ k) (fun _ r => r = sS O P (fun x => decide (m.2 90 x / 365 = m.2 90 c / 365)) k) (by
    intro q j hj ih
    show ok (f0_payAll_l103 G (some (L.1 3)) v1 v2 v3 v4 (k : Int) (some (L.1 (4000 + 8 * c))) u (q + 1) (sS O P (fun x => decide (m.2 90 x / 365 = m.2 90 c / 365)) j) (j : Int)) _
    unfold f0_payAll_l103
    rw [w32_n (by omega), w32_n (by omega)]
    refine ok_ite (fun hz => ok_some (by rw [show j = k by omega])) (fun hz => ?_)
    have hOj := hO j (by omega)
    obtain ⟨a1, -, -, -, -, -, -, -, -, a10, a11, a12, -⟩ := h.2.2.2.2.2.2.2.2.2.2.1 (O j) hOj.1 hOj.2
    refine ok_eq (gfR_v (rT3 hR) (rR3_8 hR)) (ok_eq (gfR_v (rT3 hR) (rR3_17 hR)) (ok_eq (alI_e j (rT117 hR) rfl (by omega) (by omega)) (ok_eq (ztg_e (cl_T h)) ?_)))
    rw [hA j (by omega)]
    refine ok_eq (cl_geti h hOj.1 hOj.2 rfl) (ok_eq (zcast_1 a1) (ok_eq (gfI_v a1 a10) (ok_eq (gfI_v b1 b10) ?_)))
    rw [dv365 a11 a12, dv365 b11 b12]
    have hrec := ih (j + 1) (by omega) (by omega)
    simp only [sS] at hrec
    refine ok_ite (fun he => ?_) (fun he => ?_)
    · refine ok_eq (gfR_v (rT3 hR) (rR3_16 hR)) (ok_eq (gfR_v (rT3 hR) (rR3_17 hR)) (ok_eq (alI_e j (rT117 hR) rfl (by omega) (by omega)) (ok_eq (alI_e (O j - 1) (rT116 hR) (by rw [hA j (by omega)]; omega) (by omega) (by omega)) ?_)))
      rw [hP j (by omega)]
      have hb := hB j (by omega)
      rw [w32_id (x := P (O j)) (by omega) (by omega)]
      rw [if_pos (decide_eq_true he)] at hrec
      exact hrec
    · rw [if_neg (fun z => he (of_decide_eq_true z))] at hrec
      exact hrec) NN 0 (Nat.zero_le _) (NN_gt (by omega))
  obtain ⟨r, e, rfl⟩ := key
  exact e
theorem c_payAll {G : CG} {L : Ly} {u : Sg} {m : Mu} (h : RC G L u m) {p : Nat} (p1 : 1 ≤ p) (p2 : (p : Int) ≤ m.1 81) {day : Int} (hday : w32 day = day) : ∃ u', f0_payAll G (some (L.1 3)) p day u = some u' ∧ scp L u u' ∧ ∀ c : Nat, 1 ≤ c → (c : Int) ≤ m.1 87 → zA u' (L.1 116) (c - 1) = if m.2 88 c = (p : Int) then PVc m p day c else zA u (L.1 116) (c - 1) := by
  have hRK := h.2.2.2.2.2.2.2
  have n0 := hRK.1
  have n40 := hRK.2.1
  have p12 := h.2.2.2.2.2.2.1.2.1
  obtain ⟨u1, e1, s1, g1⟩ := c_pay0 h (p := p) (by omega) (day := day)
  have h1 := RC_scp h s1
  obtain ⟨n, O, u2, e2, s2, g2, hO, hA⟩ := c_walk h1 (p := p) (by omega) hday
  have hro := run_ord hO
  have hnN := hO.1
  have inj : ∀ i j, i < n → j < n → O i = O j → i = j := fun i j hi hj e => by
    rcases Nat.lt_trichotomy i j with z | z | z
    · rcases hO.2.2.1 i j z hj with y | y
      · rw [e] at y; omega
      · omega
    · exact z
    · rcases hO.2.2.1 j i z hi with y | y
      · rw [e] at y; omega
      · omega
  have key := loop_ind (fun q (s : Nat × Sg) => f0_payAll_l70 G (some (L.1 3)) p day n q (sumD (run m p day s.1).1 (run m p day s.1).2 (m.1 87).toNat) (s.1 : Int) s.2) (fun s => n - s.1) (fun s => s.1 ≤ n ∧ scp L u s.2 ∧ (∀ i, i < n → zA s.2 (L.1 117) i = (O i : Int) - 1) ∧ ∀ c : Nat, 1 ≤ c → (c : Int) ≤ m.1 87 → zA s.2 (L.1 116) (c - 1) = if m.2 88 c = (p : Int) then (run m p day s.1).2 c else zA u (L.1 116) (c - 1)) (fun _ r => scp L u r ∧ ∀ c : Nat, 1 ≤ c → (c : Int) ≤ m.1 87 → zA r (L.1 116) (c - 1) = if m.2 88 c = (p : Int) then (run m p day n).2 c else zA u (L.1 116) (c - 1)) (by
    rintro q ⟨k, t⟩ ⟨hk, hs, hA, hI⟩ ih
    dsimp only at hk hs hA hI ⊢
    show ok (f0_payAll_l70 G (some (L.1 3)) p day n (q + 1) (sumD (run m p day k).1 (run m p day k).2 (m.1 87).toNat) (k : Int) t) _
    unfold f0_payAll_l70
    have ht := RC_scp h hs
    have hR := ht.1
    rw [w32_n (by omega), w32_n (by omega)]
    refine ok_ite (fun hz => ok_some ⟨hs, by rw [show n = k by omega]; exact hI⟩) (fun hz => ?_)
    have hkn : k < n := by omega
    obtain ⟨hr1, hr2⟩ := hro k (by omega)
    have hpk := (hro (k + 1) (by omega)).1 k (by omega)
    have hOk := hO.2.1 k hkn
    have c2 : ((O k : Nat) : Int) ≤ m.1 87 := by omega
    have l117 := rL117 hR
    have l116 := rL116 hR
    obtain ⟨a1, -⟩ := ht.2.2.2.2.2.2.2.2.2.2.1 (O k) hOk.1 c2
    refine ok_eq (gfR_v (rT3 hR) (rR3_8 hR)) (ok_eq (gfR_v (rT3 hR) (rR3_17 hR)) (ok_eq (alI_e k (rT117 hR) rfl (by omega) (by omega)) (ok_eq (ztg_e (cl_T ht)) ?_)))
    rw [hA k hkn]
    refine ok_eq (cl_geti ht hOk.1 c2 rfl) (ok_eq (zcast_1 a1) ?_)
    have ri := run_inv h (p := p) hday k
    have hin : ∀ j, j < k → (run m p day k).1 (O j) = true := fun j hj => (hr2 _).mpr ⟨j, hj, rfl⟩
    have hyr := c_year ht (k := k) (c := O k) (O := O) (P := (run m p day k).2) (by omega) hOk.1 c2 (fun j hj => ⟨(hO.2.1 j (by omega)).1, by have := (hO.2.1 j (by omega)).2.1; omega⟩) (fun j hj => hA j (by omega)) (fun j hj => by
      have := hO.2.1 j (by omega)
      rw [hI (O j) this.1 (by omega), if_pos this.2.2.1]) (fun j hj => (ri.1 _ (hin j hj)).2.2.2) (v1 := p) (v2 := day) (v3 := n) (v4 := sumD (run m p day k).1 (run m p day k).2 (m.1 87).toNat)
    rw [← sS_D (N := (m.1 87).toNat) k (run m p day k).1 (fun i j hi hj => inj i j (by omega) (by omega)) (fun j hj => ⟨(hO.2.1 j (by omega)).1, (hO.2.1 j (by omega)).2.1⟩) hr2] at hyr
    refine ok_eq hyr (ok_eq (gfR_v (rT3 hR) (rR3_7 hR)) (ok_eq (ztg_e ht.2.2.2.2.2.2.1.2.2.1.1.1) (ok_eq (pol_get ht p1 p2) (ok_eq (zcast_1 (ht.2.2.2.2.2.2.1.2.2.2 p p1 p2).1) (ok_eq (ztg_e (rT3 hR)) ?_)))))
    have bt := sumD_bd (fun c hc => (ri.1 c hc).2.2.2) (m.1 87).toNat
    have by' := sumD_bd (D := fun j => (run m p day k).1 j && decide (m.2 90 j / 365 = m.2 90 (O k) / 365)) (P := (run m p day k).2) (fun j hj => (ri.1 j (by simp at hj; exact hj.1)).2.2.2) (m.1 87).toNat
    obtain ⟨t2, e3, s3, b1, b2⟩ := c_worth ht (c := O k) (p := p) hOk.1 c2 hOk.2.2.1 hday (tot := sumD (run m p day k).1 (run m p day k).2 (m.1 87).toNat) (by omega) (yr := sumD (fun j => (run m p day k).1 j && decide (m.2 90 j / 365 = m.2 90 (O k) / 365)) (run m p day k).2 (m.1 87).toNat) (by omega)
    obtain ⟨v, hv⟩ : ∃ v, dueV m p day (O k) (sumD (run m p day k).1 (run m p day k).2 (m.1 87).toNat) (sumD (fun j => (run m p day k).1 j && decide (m.2 90 j / 365 = m.2 90 (O k) / 365)) (run m p day k).2 (m.1 87).toNat) = v := ⟨_, rfl⟩
    rw [hv] at e3 b1 b2
    refine ok_eq e3 ?_
    have hs3 := scp_tr hs (scr_p s3)
    have ht3 := RC_scp h hs3
    have hR3 := ht3.1
    have l117' := rL117 hR3
    have l116' := rL116 hR3
    have k117 : zA t2 (L.1 117) = zA t (L.1 117) := (s3.2.2.2.2.2 _ (by rw [rC117 hR]; decide)).1
    have k116 : zA t2 (L.1 116) = zA t (L.1 116) := (s3.2.2.2.2.2 _ (by rw [rC116 hR]; decide)).1
    refine ok_eq (gfR_v (rT3 hR3) (rR3_16 hR3)) (ok_eq (gfR_v (rT3 hR3) (rR3_17 hR3)) (ok_eq (alI_e k (rT117 hR3) rfl (by show k < zL t2 _; omega) (by show zL t2 _ ≤ _; omega)) ?_))
    show ok ((asI G.2.2.2.1 t2 1 (some (L.1 116)) (zA t2 (L.1 117) k) v).bind _) _
    refine ok_eq (asI_e (O k - 1) (rT116 hR3) (rG116 hR3) (by rw [k117, hA k hkn]; omega) (by omega) (by omega)) ?_
    have nd : (run m p day k).1 (O k) = false := by
      cases hh : (run m p day k).1 (O k)
      · rfl
      · obtain ⟨j, j1, j2⟩ := (hr2 _).mp hh
        have := inj j k (by omega) (by omega) j2
        omega
    have hS : run m p day (k + 1) = (fun j => (run m p day k).1 j || decide (j = O k), va_up (run m p day k).2 (O k) v) := by
      rw [run_S, if_neg (by rw [hpk]; omega), hpk, hv]
    have hsum : sumD (run m p day (k + 1)).1 (run m p day (k + 1)).2 (m.1 87).toNat = sumD (run m p day k).1 (run m p day k).2 (m.1 87).toNat + v := by
      rw [hS]
      show sumD (fun j => (run m p day k).1 j || decide (j = O k)) (va_up (run m p day k).2 (O k) v) (m.1 87).toNat = _
      rw [sumD_add nd hOk.1, if_pos hOk.2.1]
    have hrec := ih (k + 1, zsA t2 (L.1 116) (O k - 1) v) ⟨by show k + 1 ≤ n; omega, scp_A hs3 (by rw [rC116 hR]; decide), fun i hi => ?_, fun c c1 c2 => ?_⟩ (by show n - (k + 1) < n - k; omega)
    · dsimp only at hrec
      rw [hsum] at hrec
      exact hrec
    · show zA (zsA t2 (L.1 116) (O k - 1) v) (L.1 117) i = _
      rw [zA_ne (rne (rC117 hR) (rC116 hR) (by decide)), k117]; exact hA i hi
    · show zA (zsA t2 (L.1 116) (O k - 1) v) (L.1 116) (c - 1) = if m.2 88 c = (p : Int) then (run m p day (k + 1)).2 c else _
      rw [hS, zsA_A, k116]
      show _ = if m.2 88 c = (p : Int) then va_up (run m p day k).2 (O k) v c else _
      rw [va_up_e]
      by_cases q1 : c = O k
      · rw [if_pos ⟨rfl, by omega⟩, if_pos q1, if_pos (by rw [q1]; exact hOk.2.2.1)]
      · rw [if_neg (fun z => q1 (by have := z.2; omega)), if_neg q1]; exact hI c c1 c2) NN (0, u2) ⟨Nat.zero_le _, scp_tr s1 s2, hA, fun c c1 c2 => by
        dsimp only
        rw [g2, g1 c c1 c2]
        rfl⟩ (NN_gt (by show n - 0 < 100000; omega))
  obtain ⟨r, e3, s3, k⟩ := key
  have h0 : sumD (run m p day 0).1 (run m p day 0).2 (m.1 87).toNat = 0 := by
    have : ∀ x, sumD (run m p day 0).1 (run m p day 0).2 x = 0 := by
      intro x
      induction x with
      | zero => rfl
      | succ x ih => simp only [sumD]; rw [ih]; rfl
    exact this _
  dsimp only at e3
  rw [h0] at e3
  have hend := PVc_end n40 (fun j hj => by rw [(hro n (Nat.le_refl _)).1 j hj]; have := (hO.2.1 j hj).1; omega) (run_ordE hO)
  refine ⟨r, ?_, s3, fun c c1 c2 => by rw [k c c1 c2, hend.2 c]⟩
  unfold f0_payAll
  have e3 : f0_payAll_l70 G (some (L.1 3)) p day n NN 0 0 u2 = some r := e3
  rw [e1, Option.bind_some, ztg_e (rT3 h1.1), Option.bind_some, e2, Option.bind_some, e3, Option.bind_some]
