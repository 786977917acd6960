/-! THE TWIN'S payAll -/
theorem m_pay0 {m : Mu} {p : Nat} {day : Int} (hn : 0 ≤ m.1 87 ∧ m.1 87 ≤ 40) (hb : ∀ c : Nat, 1 ≤ c → (c : Int) ≤ m.1 87 → w32 (m.2 88 c) = m.2 88 c) (hp : p ≤ 12) : ∃ m1, m5_payAll_l2 p day NN 1 m = some m1 ∧ mfr [] [95, 96] m m1 ∧ ∀ c : Nat, 1 ≤ c → (c : Int) ≤ m.1 87 → m1.2 95 c = (if m.2 88 c = (p : Int) then 0 else m.2 95 c) ∧ (m.2 88 c = (p : Int) → m1.2 96 c = 0) := by
  obtain ⟨N, hN⟩ : ∃ N : Nat, m.1 87 = N := ⟨(m.1 87).toNat, by omega⟩
  rw [hN] at hn hb ⊢
  have key := loop_ind (fun q (s : Nat × Mu) => m5_payAll_l2 p day q ((s.1 : Int) + 1) s.2) (fun s => N - s.1) (fun s => s.1 ≤ N ∧ mfr [] [95, 96] m s.2 ∧ ∀ c : Nat, 1 ≤ c → (c : Int) ≤ (N : Int) → s.2.2 95 c = (if m.2 88 c = (p : Int) ∧ c ≤ s.1 then 0 else m.2 95 c) ∧ (m.2 88 c = (p : Int) → c ≤ s.1 → s.2.2 96 c = 0)) (fun _ r => mfr [] [95, 96] m r ∧ ∀ c : Nat, 1 ≤ c → (c : Int) ≤ (N : Int) → r.2 95 c = (if m.2 88 c = (p : Int) then 0 else m.2 95 c) ∧ (m.2 88 c = (p : Int) → r.2 96 c = 0)) (by
    rintro q ⟨i, t⟩ ⟨hi, fr, hI⟩ ih
    dsimp only at hi fr hI ⊢
    show ok (m5_payAll_l2 p day (q + 1) ((i : Int) + 1) t) _
    unfold m5_payAll_l2
    rw [fr.1 87 (by simp), hN, w32_n (by omega), w32_id (x := (i : Int) + 1) (by omega) (by omega)]
    refine ok_ite (fun hc => ok_some ⟨fr, fun c c1 c2 => ?_⟩) (fun hc => ?_)
    · have : i = N := by omega
      subst this
      have := hI c c1 c2
      refine ⟨?_, fun z => this.2 z (by omega)⟩
      rw [this.1]
      by_cases hz : m.2 88 c = (p : Int)
      · rw [if_pos ⟨hz, by omega⟩, if_pos hz]
      · rw [if_neg (fun q => hz q.1), if_neg hz]
    · have w88 := hb (i + 1) (by omega) (by omega)
      have ei : (i : Int) + 1 = ((i + 1 : Nat) : Int) := by omega
      rw [ei]
      refine ok_mald (i + 1) rfl (by omega) (by omega) ?_
      rw [fr.2 88 (by simp), w88, w32_n (by omega)]
      refine ok_ite (fun hpp => ?_) (fun hpp => ?_)
      · refine ok_mast (i + 1) rfl (by omega) (by omega) (ok_mast (i + 1) rfl (by omega) (by omega) ?_)
        refine ih (i + 1, ma (ma t 95 (i + 1) 0) 96 (i + 1) (nz 0)) ⟨by show i + 1 ≤ N; omega, mfr_ma (mfr_ma fr (by simp)) (by simp), fun c c1 c2 => ?_⟩ (by show N - (i + 1) < N - i; omega)
        have hc' := hI c c1 c2
        show (ma (ma t 95 (i + 1) 0) 96 (i + 1) (nz 0)).2 95 c = (if m.2 88 c = (p : Int) ∧ c ≤ i + 1 then 0 else m.2 95 c) ∧ (m.2 88 c = (p : Int) → c ≤ i + 1 → (ma (ma t 95 (i + 1) 0) 96 (i + 1) (nz 0)).2 96 c = 0)
        rw [ma_o (by decide), ma_s, ma_s, ma_o (by decide)]
        by_cases hci : c = i + 1
        · subst hci
          rw [if_pos rfl, if_pos ⟨hpp, Nat.le_refl _⟩, if_pos rfl]
          exact ⟨rfl, fun _ _ => by decide⟩
        · rw [if_neg hci, if_neg hci]
          refine ⟨?_, fun z1 z2 => hc'.2 z1 (by omega)⟩
          rw [hc'.1]
          by_cases hz : m.2 88 c = (p : Int) ∧ c ≤ i
          · rw [if_pos hz, if_pos ⟨hz.1, by omega⟩]
          · rw [if_neg hz, if_neg (fun q => hz ⟨q.1, by omega⟩)]
      · refine ih (i + 1, t) ⟨by show i + 1 ≤ N; omega, fr, fun c c1 c2 => ?_⟩ (by show N - (i + 1) < N - i; omega)
        have hc' := hI c c1 c2
        show t.2 95 c = (if m.2 88 c = (p : Int) ∧ c ≤ i + 1 then 0 else m.2 95 c) ∧ (m.2 88 c = (p : Int) → c ≤ i + 1 → t.2 96 c = 0)
        by_cases hci : c = i + 1
        · subst hci
          refine ⟨?_, fun z => absurd z hpp⟩
          rw [hc'.1, if_neg (fun q => hpp q.1), if_neg (fun q => hpp q.1)]
        · refine ⟨?_, fun z1 z2 => hc'.2 z1 (by omega)⟩
          rw [hc'.1]
          by_cases hz : m.2 88 c = (p : Int) ∧ c ≤ i
          · rw [if_pos hz, if_pos ⟨hz.1, by omega⟩]
          · rw [if_neg hz, if_neg (fun q => hz ⟨q.1, by omega⟩)]) NN (0, m) ⟨Nat.zero_le _, mfr_rf, fun c c1 c2 => ⟨by rw [if_neg (fun q => by have := q.2; dsimp only at this; omega)], fun _ z => by dsimp only at z; omega⟩⟩ (NN_gt (by show N - 0 < 100000; omega))
  obtain ⟨r, e, k⟩ := key
  exact ⟨r, e, k⟩
theorem pkA_cg {m m' : Mu} {p : Nat} {day : Int} {D : Nat → Bool} (h1 : m'.2 88 = m.2 88) (h2 : m'.2 90 = m.2 90) (h3 : m'.2 91 = m.2 91) : ∀ n, pkA m' p day D n = pkA m p day D n := by
  intro n
  induction n with
  | zero => rfl
  | succ n ih => simp only [pkA]; rw [ih, h1, h2, h3]
theorem m_payAll {G : CG} {L : Ly} {u : Sg} {m : Mu} (h : RC G L u m) {p : Nat} (hp : p ≤ 12) {day : Int} (hday : w32 day = day) : ∃ m', m5_payAll p day m = some m' ∧ mfr [] [76, 77, 95, 96] m m' ∧ ∀ c : Nat, 1 ≤ c → (c : Int) ≤ m.1 87 → m'.2 95 c = if m.2 88 c = (p : Int) then PVc m p day c else m.2 95 c := by
  have hRK := h.2.2.2.2.2.2.2
  have n0 := hRK.1
  have n40 := hRK.2.1
  have p12 := h.2.2.2.2.2.2.1.2.1
  have kb : ∀ c : Nat, 1 ≤ c → (c : Int) ≤ m.1 87 → w32 (m.2 88 c) = m.2 88 c ∧ w32 (m.2 90 c) = m.2 90 c ∧ w32 (m.2 91 c) = m.2 91 c := fun c c1 c2 => by
    obtain ⟨-, -, -, -, k5, k6, -, -, -, -, k11, k12, -, k14, k15, -⟩ := hRK.2.2.2.1 c c1 c2
    exact ⟨w32_id (by omega) (by omega), w32_id (by omega) (by omega), w32_id (by omega) (by omega)⟩
  obtain ⟨m1, e1, f1, g1⟩ := m_pay0 (m := m) (p := p) (day := day) ⟨n0, n40⟩ (fun c c1 c2 => (kb c c1 c2).1) hp
  have key := loop_ind (fun q (s : Bool × Nat × Mu) => m5_payAll_l42 p day q (b2i s.1) s.2.2) (fun s => if s.1 then 50 - s.2.1 else 0) (fun s => (∀ j, j < s.2.1 → pk m p day j ≠ 0) ∧ (s.1 = false → pk m p day s.2.1 = 0) ∧ mfr [] [76, 77, 95, 96] m s.2.2 ∧ DQ s.2.2 p (run m p day s.2.1).1 (run m p day s.2.1).2 ∧ ∀ c : Nat, 1 ≤ c → (c : Int) ≤ m.1 87 → m.2 88 c ≠ (p : Int) → s.2.2.2 95 c = m.2 95 c) (fun _ r => mfr [] [76, 77, 95, 96] m r ∧ ∀ c : Nat, 1 ≤ c → (c : Int) ≤ m.1 87 → r.2 95 c = if m.2 88 c = (p : Int) then PVc m p day c else m.2 95 c) (by
    rintro q ⟨b, k, t⟩ ⟨hk, hb, fr, hQ, hO⟩ ih
    dsimp only at hk hb fr hQ hO ⊢
    show ok (m5_payAll_l42 p day (q + 1) (b2i b) t) _
    unfold m5_payAll_l42
    rw [w32_b2i]
    have k40 := run_lt n40 hk
    cases b with
    | false =>
      rw [if_pos (show b2i false = 0 from rfl)]
      refine ok_some ⟨fr, fun c c1 c2 => ?_⟩
      by_cases hz : m.2 88 c = (p : Int)
      · rw [if_pos hz, (PVc_end n40 hk (hb rfl)).2 c]
        exact (hQ c c1 (by rw [fr.1 87 (by simp)]; exact c2) (by rw [fr.2 88 (by simp)]; exact hz)).2
      · rw [if_neg hz]; exact hO c c1 c2 hz
    | true =>
      rw [if_neg (by decide)]
      have hpk : m5_payAll_l52 p day t NN 0 1 = some ((pk m p day k : Nat) : Int) := by
        rw [m_pick (m := t) (D := (run m p day k).1) (P := (run m p day k).2) (by rw [fr.1 87 (by simp)]; exact ⟨n0, n40⟩) (by rw [fr.1 87 (by simp), fr.2 88 (by simp), fr.2 90 (by simp), fr.2 91 (by simp)]; exact kb) hp hday hQ]
        rw [pkA_cg (m := m) (fr.2 88 (by simp)) (fr.2 90 (by simp)) (fr.2 91 (by simp)), fr.1 87 (by simp)]
        rfl
      refine ok_eq hpk ?_
      obtain ⟨i1, i2, -⟩ := pkA_in (M := m) (p := p) (day := day) (D := (run m p day k).1) (m.1 87).toNat
      have i1 : pk m p day k ≤ (m.1 87).toNat := i1
      rw [w32_n (by omega)]
      refine ok_ite (fun hz => ?_) (fun hz => ?_)
      · have hz : pk m p day k = 0 := by omega
        unfold m5_payAll_b135
        rw [if_pos (by decide)]
        exact ih (false, k, t) ⟨hk, fun _ => hz, fr, hQ, hO⟩ (by show 0 < 50 - k; omega)
      · have hz : pk m p day k ≠ 0 := by omega
        obtain ⟨j1, j2, -⟩ := i2 hz
        have j1 : elg m p day (pk m p day k) := j1
        unfold m5_payAll_b135
        rw [if_neg (by decide)]
        have ht : RC G L u t := RC_msc h (mfr_up fr (by simp) (by decide))
        have ri := run_inv h (p := p) hday k
        obtain ⟨t2, e2, f2⟩ := m_due ht (c := pk m p day k) (p := p) (by omega) (by rw [fr.1 87 (by simp)]; omega) (by rw [fr.2 88 (by simp)]; exact j1.1) hday (D := (run m p day k).1) (P := (run m p day k).2) (fun c c1 c2 c3 => ⟨(hQ c c1 c2 c3).1, fun _ => (hQ c c1 c2 c3).2⟩) (fun c hc => by rw [fr.2 88 (by simp)]; exact (ri.1 c hc).2.2.1.1) (fun c hc => (ri.1 c hc).2.2.2)
        rw [dueV_fr (mfr_up fr (by simp) (by decide)), fr.1 87 (by simp), fr.2 90 (by simp)] at e2
        obtain ⟨v, hv⟩ : ∃ v, dueV m p day (pk m p day k) (sumD (run m p day k).1 (run m p day k).2 (m.1 87).toNat) (sumD (fun j => (run m p day k).1 j && decide (m.2 90 j / 365 = m.2 90 (pk m p day k) / 365)) (run m p day k).2 (m.1 87).toNat) = v := ⟨_, rfl⟩
        rw [hv] at e2
        refine ok_eq e2 (ok_mast (pk m p day k) rfl (by omega) (by omega) (ok_mast (pk m p day k) rfl (by omega) (by omega) ?_))
        show ok (m5_payAll_l42 p day q 1 (ma (ma t2 95 (pk m p day k) v) 96 (pk m p day k) (nz 1))) _
        have frn : mfr [] [76, 77, 95, 96] m (ma (ma t2 95 (pk m p day k) v) 96 (pk m p day k) (nz 1)) := mfr_ma (mfr_ma (mfr_tr fr (mfr_up f2 (by simp) (by simp))) (by simp)) (by simp)
        refine ih (true, k + 1, ma (ma t2 95 (pk m p day k) v) 96 (pk m p day k) (nz 1)) ⟨fun j hj => ?_, fun z => (by cases z), frn, ?_, fun c c1 c2 c3 => ?_⟩ (by show 50 - (k + 1) < 50 - k; omega)
        · by_cases hjk : j = k
          · rw [hjk]; exact hz
          · exact hk j (by dsimp only at hj; omega)
        · show DQ _ p (run m p day (k + 1)).1 (run m p day (k + 1)).2
          rw [run_S, if_neg hz, hv]
          intro c c1 c2 c3
          dsimp only at c2 c3
          rw [frn.1 87 (by simp)] at c2
          rw [frn.2 88 (by simp)] at c3
          have hq := hQ c c1 (by rw [fr.1 87 (by simp)]; exact c2) (by rw [fr.2 88 (by simp)]; exact c3)
          show (ma (ma t2 95 _ _) 96 _ (nz 1)).2 96 c = b2i ((run m p day k).1 c || decide (c = pk m p day k)) ∧ (ma (ma t2 95 _ _) 96 _ (nz 1)).2 95 c = va_up (run m p day k).2 (pk m p day k) _ c
          rw [ma_s, ma_o (by decide), ma_o (by decide), ma_s, va_up_e, f2.2 95 (by simp), f2.2 96 (by simp)]
          by_cases hcp : c = pk m p day k
          · rw [if_pos hcp, if_pos hcp, if_pos hcp]
            refine ⟨?_, rfl⟩
            rw [decide_eq_true hcp, Bool.or_true]; decide
          · rw [if_neg hcp, if_neg hcp, if_neg hcp, decide_eq_false hcp, Bool.or_false]
            exact hq
        · show (ma (ma t2 95 _ _) 96 _ (nz 1)).2 95 c = m.2 95 c
          rw [ma_o (by decide), ma_s, if_neg (fun z => c3 (by rw [z]; exact j1.1)), f2.2 95 (by simp)]
          exact hO c c1 c2 c3) NN (true, 0, m1) ⟨fun j hj => (by dsimp only at hj; omega), fun z => (by cases z), mfr_up f1 (by simp) (by simp), fun c c1 c2 c3 => by
            dsimp only at c2 c3
            rw [f1.1 87 (by simp)] at c2
            rw [f1.2 88 (by simp)] at c3
            have := g1 c c1 c2
            rw [if_pos c3] at this
            exact ⟨this.2 c3, this.1⟩, fun c c1 c2 c3 => by
            have := g1 c c1 c2
            rw [if_neg c3] at this
            exact this.1⟩ (NN_gt (by show 50 - 0 < 100000; omega))
  obtain ⟨r, e2, k⟩ := key
  refine ⟨r, ?_, k⟩
  unfold m5_payAll
  rw [e1, Option.bind_some]
  have e2 : m5_payAll_l42 p day NN 1 m1 = some r := e2
  rw [e2]; rfl
